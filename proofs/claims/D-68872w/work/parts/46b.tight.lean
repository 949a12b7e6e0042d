/-! part 46b: what a six-tuple says of numbers; its tight form is one -/
/-- known bits, unknown ones, bounds without sign, bounds with it -/
abbrev AV : Type := Int64 × Int64 × Int64 × Int64 × Int64 × Int64
abbrev AV.b (v : AV) : Int64 := v.1
abbrev AV.u (v : AV) : Int64 := v.2.1
abbrev AV.lo (v : AV) : Int64 := v.2.2.1
abbrev AV.hi (v : AV) : Int64 := v.2.2.2.1
abbrev AV.le (v : AV) : Int64 := v.2.2.2.2.1
abbrev AV.gr (v : AV) : Int64 := v.2.2.2.2.2
def vin (v : AV) (x : Int64) : Prop := Ag v.u v.b x ∧ un v.lo ≤ un x ∧ un x ≤ un v.hi ∧ v.le.toInt ≤ x.toInt ∧ x.toInt ≤ v.gr.toInt
/-- w is the tight form of what S holds -/
def IsT (S : Int64 → Prop) (w : AV) : Prop :=
  (S w.lo ∧ ∀ x, S x → un w.lo ≤ un x) ∧ (S w.hi ∧ ∀ x, S x → un x ≤ un w.hi) ∧ (S w.le ∧ ∀ x, S x → w.le.toInt ≤ x.toInt) ∧ (S w.gr ∧ ∀ x, S x → x.toInt ≤ w.gr.toInt) ∧
  (∀ j, tb w.u j = true → ∃ x y, S x ∧ S y ∧ tb x j ≠ tb y j) ∧ (w.b &&& w.u = 0) ∧ ∀ x, S x → Ag w.u w.b x
theorem IsT.one {S : Int64 → Prop} {w w' : AV} (h : IsT S w) (h' : IsT S w') : w = w' := by
  obtain ⟨a1, a2, a3, a4, a5, a6, a7⟩ := h
  obtain ⟨b1, b2, b3, b4, b5, b6, b7⟩ := h'
  have e1 : w.lo = w'.lo := un_inj (Nat.le_antisymm (a1.2 _ b1.1) (b1.2 _ a1.1))
  have e2 : w.hi = w'.hi := un_inj (Nat.le_antisymm (b2.2 _ a2.1) (a2.2 _ b2.1))
  have e3 : w.le = w'.le := Int64.toInt_inj.mp (Int.le_antisymm (a3.2 _ b3.1) (b3.2 _ a3.1))
  have e4 : w.gr = w'.gr := Int64.toInt_inj.mp (Int.le_antisymm (b4.2 _ a4.1) (a4.2 _ b4.1))
  have key : ∀ {w w' : AV}, (∀ j, tb w.u j = true → ∃ x y, S x ∧ S y ∧ tb x j ≠ tb y j) → (∀ x, S x → Ag w'.u w'.b x) → ∀ j, tb w.u j = true → tb w'.u j = true := by
    intro w w' c1 c2 j hj
    cases e : tb w'.u j with
    | true => rfl
    | false =>
      obtain ⟨x, y, hx, hy, hxy⟩ := c1 j hj
      exact absurd ((c2 x hx j e).trans (c2 y hy j e).symm) hxy
  have e5 : w.u = w'.u := tb_ext fun j _ => by
    have k1 := key a5 b7 j
    have k2 := key b5 a7 j
    cases c1 : tb w.u j <;> cases c2 : tb w'.u j
    · rfl
    · rw [k2 c2] at c1; cases c1
    · rw [k1 c1] at c2; cases c2
    · rfl
  have e6 : w.b = w'.b := tb_ext fun j _ => by
    cases c : tb w.u j with
    | true =>
      have c' : tb w'.u j = true := by rw [← e5]; exact c
      have d1 : tb w.b j = false := by
        cases q : tb w.b j with
        | false => rfl
        | true => exact absurd ⟨q, c⟩ (and_0.mp a6 j)
      have d2 : tb w'.b j = false := by
        cases q : tb w'.b j with
        | false => rfl
        | true => exact absurd ⟨q, c'⟩ (and_0.mp b6 j)
      rw [d1, d2]
    | false => exact (a7 _ a1.1 j c).symm.trans (b7 _ a1.1 j (by rw [← e5]; exact c))
  obtain ⟨w1, w2, w3, w4, w5, w6⟩ := w
  obtain ⟨v1, v2, v3, v4, v5, v6⟩ := w'
  simp only [AV.b, AV.u, AV.lo, AV.hi, AV.le, AV.gr] at e1 e2 e3 e4 e5 e6
  rw [e1, e2, e3, e4, e5, e6]
theorem IsT.iff {S S' : Int64 → Prop} {w : AV} (h : IsT S w) (e : ∀ x, S x ↔ S' x) : IsT S' w := by
  have : S = S' := funext fun x => propext (e x)
  rw [← this]; exact h
/-- the tight form says the same -/
theorem IsT.same {v w : AV} (h : IsT (vin v) w) (x : Int64) : vin v x ↔ vin w x := by
  obtain ⟨a1, a2, a3, a4, a5, a6, a7⟩ := h
  constructor
  · intro hx
    exact ⟨a7 x hx, a1.2 x hx, a2.2 x hx, a3.2 x hx, a4.2 x hx⟩
  · rintro ⟨b1, b2, b3, b4, b5⟩
    refine ⟨fun j hj => ?_, Nat.le_trans a1.1.2.1 b2, Nat.le_trans b3 a2.1.2.2.1, Int.le_trans a3.1.2.2.2.1 b4, Int.le_trans b5 a4.1.2.2.2.2⟩
    have hwu : tb w.u j = false := by
      cases c : tb w.u j with
      | false => rfl
      | true =>
        obtain ⟨y, z, hy, hz, hyz⟩ := a5 j c
        exact absurd ((hy.1 j hj).trans (hz.1 j hj).symm) hyz
    rw [b1 j hwu, ← a7 _ a1.1 j hwu]
    exact a1.1.1 j hj
/-- tight -/
def Tt (w : AV) : Prop := IsT (vin w) w
theorem IsT.tt {v w : AV} (h : IsT (vin v) w) : Tt w := h.iff h.same
theorem Tt.one {v w : AV} (h : IsT (vin v) w) (hv : Tt v) : w = v := h.one hv
theorem Tt.bu {w : AV} (h : Tt w) : w.b &&& w.u = 0 := h.2.2.2.2.2.1
theorem Tt.ex {w : AV} (h : Tt w) : ∃ x, vin w x := ⟨_, h.1.1⟩
/-- bounds without sign of numbers of one half are those with it -/
theorem toInt_nn {x : Int64} (h : un x < 9223372036854775808) : x.toInt = un x := by rw [toInt_un, if_pos h]
theorem toInt_ng {x : Int64} (h : ¬ un x < 9223372036854775808) : x.toInt = (un x : Int) - 18446744073709551616 := by rw [toInt_un, if_neg h]
/-- the numbers of a pattern between two bounds: the first, the last -/
def IsP (a b v u f l : Int64) : Prop := Ag u v f ∧ Ag u v l ∧ un a ≤ un f ∧ un l ≤ un b ∧ un f ≤ un l ∧ ∀ x, Ag u v x → un a ≤ un x → un x ≤ un b → un f ≤ un x ∧ un x ≤ un l
def NoP (a b v u : Int64) : Prop := ∀ x, Ag u v x → un a ≤ un x → ¬ un x ≤ un b
/-- bits that differ among the numbers of a pattern between two of them -/
theorem IsP.opens {a b v u f l : Int64} (h : IsP a b v u f l) (hvu : v &&& u = 0) (hfl : f ≠ l) : ∃ t, t < 64 ∧ un (g_Long_highestOneBit (f ^^^ l)) = 2 ^ t ∧ (∀ j, tb (g_Long_highestOneBit (f ^^^ l)) j = decide (j = t)) ∧ (∀ j, t < j → tb f j = tb l j) ∧ tb u t = true ∧
    ∀ j, j ≤ t → tb u j = true → ∃ x y, (Ag u v x ∧ un a ≤ un x ∧ un x ≤ un b) ∧ (Ag u v y ∧ un a ≤ un y ∧ un y ≤ un b) ∧ tb x j ≠ tb y j := by
  obtain ⟨p1, p2, p3, p4, p5, p6⟩ := h
  have hx : f ^^^ l ≠ 0 := fun z => hfl (tb_ext fun j _ => by
    have := tb_xor f l j
    rw [z, tb_zero] at this
    cases c1 : tb f j <;> cases c2 : tb l j <;> first | rfl | (rw [c1, c2] at this; cases this))
  obtain ⟨t, t1, t2, t3, t4, t5⟩ := hob hx
  rw [tb_xor] at t2
  have hsame : ∀ j, t < j → tb f j = tb l j := by
    intro j hj
    have := t3 j hj
    rw [tb_xor] at this
    cases c1 : tb f j <;> cases c2 : tb l j <;> first | rfl | (rw [c1, c2] at this; cases this)
  have hlt : un f < un l := Nat.lt_of_le_of_ne p5 (fun z => hfl (un_inj z))
  have hft : tb f t = false ∧ tb l t = true := by
    cases c1 : tb f t <;> cases c2 : tb l t
    · rw [c1, c2] at t2; cases t2
    · exact ⟨rfl, rfl⟩
    · exfalso
      have : un l < un f := ult_of (k := t) c2 c1 fun j hj => (hsame j hj).symm
      omega
    · rw [c1, c2] at t2; cases t2
  have hut : tb u t = true := by
    cases c : tb u t with
    | true => rfl
    | false =>
      have := (p1 t c).trans (p2 t c).symm
      rw [hft.1, hft.2] at this
      cases this
  refine ⟨t, t1, t4, t5, hsame, hut, fun j hj huj => ?_⟩
  -- e1: bit t is 0, all open bits below are 1; e2: bit t is 1, all open bits below are 0
  have hm := tb_mask t1 t4 t5
  have hq := tb_pred t1 t4
  generalize g_Long_highestOneBit (f ^^^ l) = top at t4 t5 hm hq ⊢
  rcases Nat.lt_or_eq_of_le hj with hj' | rfl
  · have he1 : ∀ k, tb (f ||| (u &&& (top - 1))) k = (tb f k || (tb u k && decide (k < t))) := fun k => by rw [tb_or, tb_and, hq k]
    have he2 : ∀ k, tb (l &&& ((u &&& (top - 1)) ^^^ (-1))) k = (tb l k && !(tb u k && decide (k < t))) := fun k => by
      rw [tb_and, tb_cpl, tb_and, hq k]
      by_cases h64 : k < 64
      · simp [h64]
      · simp [tb_ge (a := l) (Nat.not_lt.mp h64)]
    refine ⟨f ||| (u &&& (top - 1)), l &&& ((u &&& (top - 1)) ^^^ (-1)), ⟨?_, ?_, ?_⟩, ⟨?_, ?_, ?_⟩, ?_⟩
    · intro k hk
      rw [he1 k, hk, p1 k hk]; simp
    · exact Nat.le_trans p3 (tb_le fun k hk => by rw [he1 k, hk]; rfl)
    · refine Nat.le_trans (Nat.le_of_lt (ult_of (k := t) ?_ hft.2 fun k hk => ?_)) p4
      · rw [← tb_un, he1 t, hft.1]; simp
      · have e : ¬ k < t := by omega
        show tb (f ||| (u &&& (top - 1))) k = tb l k
        rw [he1 k, hsame k hk]; simp [e]
    · intro k hk
      rw [he2 k, hk, p2 k hk]; simp
    · refine Nat.le_trans p3 (Nat.le_of_lt (ult_of (k := t) hft.1 ?_ fun k hk => ?_))
      · rw [← tb_un, he2 t, hft.2]; simp
      · have e : ¬ k < t := by omega
        rw [← tb_un, ← tb_un, he2 k, hsame k hk]; simp [e]
    · exact Nat.le_trans (tb_le fun k hk => by rw [he2 k, Bool.and_eq_true] at hk; exact hk.1) p4
    · rw [he1 j, he2 j, huj]; simp [hj']
  · refine ⟨f, l, ⟨p1, p3, Nat.le_trans p5 p4⟩, ⟨p2, Nat.le_trans p3 p5, p4⟩, ?_⟩
    rw [hft.1, hft.2]; decide
