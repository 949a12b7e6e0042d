/-! part 46a: lowestOneBit; the component's Piece.from: the least number of a pattern from a on -/
theorem least_ex (p : Nat → Bool) : ∀ k, p k = true → ∃ l, l ≤ k ∧ p l = true ∧ ∀ j, j < l → p j = false := by
  intro k
  induction k using Nat.strongRecOn with
  | ind k ih =>
    intro h
    by_cases c : ∃ j, j < k ∧ p j = true
    · obtain ⟨j, h1, h2⟩ := c
      obtain ⟨l, a1, a2, a3⟩ := ih j h1 h2
      exact ⟨l, by omega, a2, a3⟩
    · refine ⟨k, Nat.le_refl _, h, fun j hj => ?_⟩
      cases e : p j with
      | false => rfl
      | true => exact absurd ⟨j, hj, e⟩ c
theorem ex_bit {x : Int64} (h : x ≠ 0) : ∃ k, tb x k = true := by
  refine Classical.byContradiction fun c => h (tb_ext fun j _ => ?_)
  rw [tb_zero]
  cases e : tb x j with
  | false => rfl
  | true => exact absurd ⟨j, e⟩ c
theorem tb_neg (x : Int64) (j : Nat) : tb (-x) j = Bool.xor (tb x j) (decide (j < 64) && decide (∃ i, i < j ∧ tb x i = true)) := by
  unfold tb
  rw [Int64.toBitVec_neg, BitVec.getLsbD_neg]
theorem lob_0 : g_Long_lowestOneBit 0 = 0 := by decide
theorem tb_lt {x : Int64} {k : Nat} (h : tb x k = true) : k < 64 := Nat.not_le.mp fun z => by rw [tb_ge z] at h; exact Bool.noConfusion h
theorem lob {x : Int64} (hx : x ≠ 0) : ∃ l, l < 64 ∧ tb x l = true ∧ (∀ j, j < l → tb x j = false) ∧ un (g_Long_lowestOneBit x) = 2 ^ l ∧ ∀ j, tb (g_Long_lowestOneBit x) j = decide (j = l) := by
  obtain ⟨k, hk⟩ := ex_bit hx
  obtain ⟨l, -, h1, h2⟩ := least_ex (tb x) k hk
  have ht : ∀ j, tb (g_Long_lowestOneBit x) j = decide (j = l) := by
    intro j
    unfold g_Long_lowestOneBit g_Long_lowestOneBit_0
    rw [tb_and, tb_neg]
    rcases Nat.lt_trichotomy j l with e | e | e
    · rw [h2 j e]
      have : j ≠ l := by omega
      simp [this]
    · have hn : ¬ ∃ i, i < j ∧ tb x i = true := by
        rintro ⟨i, hi, hi2⟩
        rw [h2 i (by omega)] at hi2
        cases hi2
      rw [e] at hn ⊢
      rw [h1]
      simp [hn]
    · have hy : ∃ i, i < j ∧ tb x i = true := ⟨l, e, h1⟩
      have hne : j ≠ l := by omega
      cases hxj : tb x j with
      | false => simp [hne]
      | true =>
        have := tb_lt hxj
        simp [hy, hne, this]
  refine ⟨l, tb_lt h1, h1, h2, Nat.eq_of_testBit_eq fun j => ?_, ht⟩
  rw [← tb_un, ht j, Nat.testBit_two_pow]
  by_cases e : j = l
  · simp [e]
  · have e' : ¬ l = j := fun z => e z.symm
    simp [e, e']
/-- one less than a power of two -/
theorem tb_pred {t : Int64} {h : Nat} (hh : h < 64) (ht : un t = 2 ^ h) (j : Nat) : tb (t - 1) j = decide (j < h) := by
  have hp := Nat.two_pow_pos h
  have hlt : 2 ^ h < 18446744073709551616 := by rw [← ht]; exact un_lt t
  have e : un (t - 1) = 2 ^ h - 1 := by
    rw [un_sub, show un 1 = 1 from rfl, ht]; omega
  rw [tb_un, e, Nat.testBit_two_pow_sub_one]
theorem tb_mask {t : Int64} {h : Nat} (hh : h < 64) (ht : un t = 2 ^ h) (hb : ∀ j, tb t j = decide (j = h)) (j : Nat) : tb (t ||| (t - 1)) j = decide (j ≤ h) := by
  rw [tb_or, hb j, tb_pred hh ht j]
  by_cases e : j = h
  · simp [e]
  · by_cases f : j < h
    · simp [e, f, Nat.le_of_lt f]
    · have : ¬ j ≤ h := by omega
      simp [e, f, this]
theorem xor_f {p q : Bool} (h : false = (Bool.xor p q && !false)) : p = q := by cases p <;> cases q <;> first | rfl | cases h
/-- what from answers: the number, whether there is one -/
def IsFrom (a v u r : Int64) (f : Int32) : Prop :=
  (f = 1 ∧ Ag u v r ∧ un a ≤ un r ∧ ∀ x, Ag u v x → un a ≤ un x → un r ≤ un x) ∨ (f = 0 ∧ ∀ x, Ag u v x → ¬ un a ≤ un x)
/-- only the flag of the piece changes -/
def OnlyI (x0 k : Nat) (M M' : XM) : Prop := M'.2 = M.2 ∧ ∀ b j, ¬ (b = x0 ∧ j = k) → mI M' b j = mI M b j
theorem OnlyI.one {x0 k : Nat} {M : XM} {s : Int32} : OnlyI x0 k M (wI M x0 k s) := ⟨rfl, fun b j h => by rw [mI_wI, if_neg h]⟩
theorem OnlyI.trans {x0 k : Nat} {M M1 M2 : XM} (h : OnlyI x0 k M M1) (h' : OnlyI x0 k M1 M2) : OnlyI x0 k M M2 := ⟨h'.1.trans h.1, fun b j z => (h'.2 b j z).trans (h.2 b j z)⟩
theorem mI_same {M : XM} {r k : Nat} {v : Int32} : mI (wI M r k v) r k = v := by rw [mI_wI, if_pos ⟨rfl, rfl⟩]
theorem from_ok {a v u : Int64} (h : v &&& u = 0) (x0 : Nat) (M : XM) : IsFrom a v u (g_Piece_from x0 a v u M).1 (mI (g_Piece_from x0 a v u M).2 x0 3) ∧ OnlyI x0 3 M (g_Piece_from x0 a v u M).2 := by
  have hvu := and_0.mp h
  unfold g_Piece_from g_Piece_from_0 g_Piece_from_12
  have hw : ∀ j, tb ((a ^^^ v) &&& (u ^^^ (-1))) j = (Bool.xor (tb a j) (tb v j) && !tb u j) := by
    intro j
    rw [tb_and, tb_xor, tb_cpl]
    by_cases hj : j < 64
    · simp [hj]
    · simp [tb_ge (a := a) (Nat.not_lt.mp hj), tb_ge (a := v) (Nat.not_lt.mp hj)]
  generalize (a ^^^ v) &&& (u ^^^ (-1)) = w at hw ⊢
  by_cases hz : lg_cmp w 0 = 0
  · rw [if_pos hz]
    have hw0 := cmp_eq.mp hz
    refine ⟨Or.inl ⟨mI_same, fun j hj => ?_, Nat.le_refl _, fun x _ hx => hx⟩, OnlyI.one⟩
    have := hw j
    rw [hw0, tb_zero, hj] at this
    exact xor_f this
  · rw [if_neg hz]
    have hw0 : w ≠ 0 := fun z => hz (cmp_eq.mpr z)
    obtain ⟨t, ht, hwt, habove, hun, hbit⟩ := hob hw0
    have hwt' := hw t
    rw [hwt] at hwt'
    have hut : tb u t = false := by
      cases e : tb u t with
      | false => rfl
      | true => rw [e] at hwt'; simp at hwt'
    have hav : tb a t ≠ tb v t := by
      intro e
      rw [e] at hwt'; simp at hwt'
    have hup : ∀ j, t < j → tb u j = false → tb a j = tb v j := by
      intro j hj huj
      have h1 := hw j
      rw [habove j hj, huj] at h1
      exact xor_f h1
    unfold g_Piece_from_33 g_Piece_from_42
    have hbel := tb_mask ht hun hbit
    generalize g_Long_highestOneBit w = top at hun hbit hbel ⊢
    generalize top ||| (top - 1) = bel at hbel ⊢
    by_cases hc : lg_cmp (v &&& top) 0 = 0
    · rw [if_pos hc]
      have hvt : tb v t = false := by
        cases e : tb v t with
        | false => rfl
        | true => exact absurd ⟨e, by rw [hbit t]; simp⟩ (and_0.mp (cmp_eq.mp hc) t)
      have hat : tb a t = true := by
        cases e : tb a t with
        | true => rfl
        | false => exact absurd (e.trans hvt.symm) hav
      have hzz : ∀ j, tb ((u &&& (a ^^^ (-1))) &&& (bel ^^^ (-1))) j = (tb u j && !tb a j && decide (t < j)) := by
        intro j
        rw [tb_and, tb_and, tb_cpl, tb_cpl, hbel j]
        by_cases hj : j < 64
        · by_cases e : t < j
          · have : ¬ j ≤ t := by omega
            simp [hj, e, this]
          · have : j ≤ t := by omega
            simp [hj, e, this]
        · simp [tb_ge (a := u) (Nat.not_lt.mp hj)]
      generalize (u &&& (a ^^^ (-1))) &&& (bel ^^^ (-1)) = z at hzz ⊢
      -- a number of the pattern that isn't below a: where it first exceeds a
      have hex : ∀ x, Ag u v x → un a ≤ un x → ∃ k, tb a k = false ∧ tb x k = true ∧ (∀ j, k < j → tb a j = tb x j) ∧ t < k ∧ tb z k = true := by
        intro x hx hax
        have hxt : tb x t = false := (hx t hut).trans hvt
        have hne : un a ≠ un x := fun e => by
          have := un_inj e
          rw [this, hxt] at hat
          cases hat
        obtain ⟨k, k0, k1, k2⟩ := ult_ex (Nat.lt_of_le_of_ne hax hne)
        have htk : t < k := by
          rcases Nat.lt_trichotomy t k with e | e | e
          · exact e
          · rw [← e, ← tb_un, hat] at k0; cases k0
          · have := k2 t e
            rw [← tb_un, ← tb_un, hat, hxt] at this
            cases this
        refine ⟨k, k0, k1, k2, htk, ?_⟩
        have huk : tb u k = true := by
          cases e : tb u k with
          | true => rfl
          | false =>
            have h1 := hup k htk e
            have h2 := hx k e
            rw [← tb_un] at k0 k1
            rw [k0] at h1
            rw [k1] at h2
            rw [← h1] at h2
            cases h2
        rw [hzz k, huk, show tb a k = false from k0]
        simp [htk]
      by_cases hz0 : z = 0
      · have hl0 : g_Long_lowestOneBit z = 0 := by rw [hz0]; exact lob_0
        rw [hl0]
        unfold g_Piece_from_85
        rw [if_pos (cmp_eq.mpr rfl)]
        unfold g_Piece_from_98
        refine ⟨Or.inr ⟨mI_same, fun x hx hax => ?_⟩, OnlyI.one.trans OnlyI.one⟩
        obtain ⟨k, -, -, -, -, hk⟩ := hex x hx hax
        rw [hz0, tb_zero] at hk
        cases hk
      · obtain ⟨l, hl, hzl, hbelow, hlun, hlbit⟩ := lob hz0
        have hlm := tb_mask hl hlun hlbit
        have hlp := tb_pred hl hlun
        generalize g_Long_lowestOneBit z = up at hlun hlbit hlm hlp ⊢
        have hup0 : up ≠ 0 := fun e => by
          have := hlbit l
          rw [e, tb_zero] at this
          simp at this
        unfold g_Piece_from_85
        rw [if_neg (fun e => hup0 (cmp_eq.mp e))]
        unfold g_Piece_from_98
        have hzl' := hzz l
        rw [hzl] at hzl'
        have hul : tb u l = true := by
          cases e : tb u l with
          | true => rfl
          | false => rw [e] at hzl'; simp at hzl'
        have hal : tb a l = false := by
          cases e : tb a l with
          | false => rfl
          | true => rw [e] at hzl'; simp at hzl'
        have htl : t < l := by
          refine Nat.not_le.mp fun e => ?_
          have : ¬ t < l := by omega
          rw [decide_eq_false this] at hzl'
          simp at hzl'
        have hr : ∀ j, tb (((a &&& ((up ||| (up - 1)) ^^^ (-1))) ||| up) ||| (v &&& (up - 1))) j = if l < j then tb a j else if j = l then true else tb v j := by
          intro j
          rw [tb_or, tb_or, tb_and, tb_and, tb_cpl, hlm j, hlbit j, hlp j]
          rcases Nat.lt_trichotomy j l with e | e | e
          · have e1 : j ≤ l := by omega
            have e2 : ¬ l < j := by omega
            have e3 : j ≠ l := by omega
            simp [e, e1, e2, e3]
          · simp [e]
          · have e1 : ¬ j ≤ l := by omega
            have e2 : ¬ j < l := by omega
            have e3 : j ≠ l := by omega
            by_cases hj : j < 64
            · simp [e, e1, e2, e3, hj]
            · simp [e, e1, e2, e3, hj, tb_ge (a := a) (Nat.not_lt.mp hj)]
        show IsFrom a v u (((a &&& ((up ||| (up - 1)) ^^^ (-1))) ||| up) ||| (v &&& (up - 1))) _ ∧ _
        generalize ((a &&& ((up ||| (up - 1)) ^^^ (-1))) ||| up) ||| (v &&& (up - 1)) = r at hr ⊢
        refine ⟨Or.inl ⟨mI_same, fun j hj => ?_, ?_, fun x hx hax => ?_⟩, OnlyI.one.trans OnlyI.one⟩
        · rw [hr j]
          rcases Nat.lt_trichotomy j l with e | e | e
          · rw [if_neg (by omega), if_neg (by omega)]
          · rw [e, hul] at hj; cases hj
          · rw [if_pos e]; exact hup j (by omega) hj
        · refine Nat.le_of_lt (ult_of (k := l) hal ?_ fun j hj => ?_)
          · rw [← tb_un, hr l, if_neg (Nat.lt_irrefl _), if_pos rfl]
          · rw [← tb_un, ← tb_un, hr j, if_pos hj]
        · refine Nat.not_lt.mp fun hlt => ?_
          obtain ⟨k, k0, k1, k2, htk, hzk⟩ := hex x hx hax
          have hlk : l ≤ k := Nat.not_lt.mp fun e => by rw [hbelow k e] at hzk; cases hzk
          obtain ⟨q, q0, q1, q2⟩ := ult_ex hlt
          rw [← tb_un] at q0 q1
          rw [hr q] at q1
          rcases Nat.lt_trichotomy q l with e | e | e
          · rw [if_neg (by omega), if_neg (by omega)] at q1
            have huq : tb u q = false := by
              cases e2 : tb u q with
              | false => rfl
              | true => exact absurd ⟨q1, e2⟩ (hvu q)
            rw [hx q huq, q1] at q0
            cases q0
          · rcases Nat.lt_or_eq_of_le hlk with e2 | e2
            · have := q2 k (by omega)
              rw [← tb_un, ← tb_un, hr k, if_pos e2, k0, k1] at this
              cases this
            · rw [e, e2, k1] at q0
              cases q0
          · rw [if_pos e] at q1
            rcases Nat.lt_trichotomy k q with e2 | e2 | e2
            · rw [k2 q e2, q0] at q1
              cases q1
            · rw [← e2, k0] at q1
              cases q1
            · have := q2 k e2
              rw [← tb_un, ← tb_un, hr k, if_pos (by omega), k0, k1] at this
              cases this
    · rw [if_neg hc]
      have hvt : tb v t = true := by
        cases e : tb v t with
        | true => rfl
        | false =>
          refine absurd (cmp_eq.mpr (and_0.mpr fun j => ?_)) hc
          rw [hbit j]
          rintro ⟨h1, h2⟩
          rw [of_decide_eq_true h2, e] at h1
          cases h1
      have hat : tb a t = false := by
        cases e : tb a t with
        | false => rfl
        | true => exact absurd (e.trans hvt.symm) hav
      have hr : ∀ j, tb ((a &&& (bel ^^^ (-1))) ||| (v &&& bel)) j = if j ≤ t then tb v j else tb a j := by
        intro j
        rw [tb_or, tb_and, tb_and, tb_cpl, hbel j]
        by_cases e : j ≤ t
        · simp [e]
        · by_cases hj : j < 64
          · simp [e, hj]
          · simp [e, hj, tb_ge (a := a) (Nat.not_lt.mp hj)]
      show IsFrom a v u ((a &&& (bel ^^^ (-1))) ||| (v &&& bel)) _ ∧ _
      generalize (a &&& (bel ^^^ (-1))) ||| (v &&& bel) = r at hr ⊢
      refine ⟨Or.inl ⟨mI_same, fun j hj => ?_, ?_, fun x hx hax => ?_⟩, OnlyI.one⟩
      · rw [hr j]
        by_cases e : j ≤ t
        · rw [if_pos e]
        · rw [if_neg e]; exact hup j (by omega) hj
      · refine Nat.le_of_lt (ult_of (k := t) hat ?_ fun j hj => ?_)
        · rw [← tb_un, hr t, if_pos (Nat.le_refl _)]; exact hvt
        · rw [← tb_un, ← tb_un, hr j, if_neg (by omega)]
      · refine Nat.not_lt.mp fun hlt => ?_
        obtain ⟨q, q0, q1, q2⟩ := ult_ex hlt
        rw [← tb_un] at q0 q1
        rw [hr q] at q1
        by_cases e : q ≤ t
        · rw [if_pos e] at q1
          have huq : tb u q = false := by
            cases e2 : tb u q with
            | false => rfl
            | true => exact absurd ⟨q1, e2⟩ (hvu q)
          rw [hx q huq, q1] at q0
          cases q0
        · rw [if_neg e] at q1
          have : un x < un a := ult_of (k := q) q0 q1 fun j hj => by
            rw [q2 j hj, ← tb_un, hr j, if_neg (by omega)]; rfl
          omega
