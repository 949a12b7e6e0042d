/-! part 45: the twin's upFrom and downFrom: the least (greatest) number of a pattern that keeps a bound -/
theorem tb_le {x y : Int64} (h : ∀ j, tb x j = true → tb y j = true) : un x ≤ un y := by
  refine Nat.not_lt.mp fun z => ?_
  obtain ⟨k, h0, h1, -⟩ := ult_ex z
  rw [← tb_un] at h0 h1
  rw [h k h1] at h0
  cases h0
theorem bit_un : ∀ k : Fin 64, un (j_lshl 1 (Int32.ofNat k.val)) = 2 ^ k.val := by decide +kernel
theorem tb_bit {k : Nat} (hk : k < 64) (j : Nat) : tb (j_lshl 1 (Int32.ofNat k)) j = decide (j = k) := by
  rw [tb_un, bit_un ⟨k, hk⟩, Nat.testBit_two_pow]
  by_cases h : j = k
  · simp [h]
  · have h' : ¬ k = j := fun z => h z.symm
    simp [h, h']
theorem tb_ones (j : Nat) : tb (-1) j = decide (j < 64) := by
  by_cases h : j < 64
  · rw [tb_un, show un (-1) = 2 ^ 64 - 1 from rfl, Nat.testBit_two_pow_sub_one]
  · rw [tb_ge (by omega)]; simp [h]
/-- the program's complement -/
theorem tb_cpl (a : Int64) (j : Nat) : tb (a ^^^ (-1)) j = (decide (j < 64) && !tb a j) := by
  rw [tb_xor, tb_ones]
  by_cases h : j < 64
  · simp [h]
  · simp [h, tb_ge (a := a) (Nat.not_lt.mp h)]
theorem and_0 {a b : Int64} : a &&& b = 0 ↔ ∀ j, ¬ (tb a j = true ∧ tb b j = true) := by
  constructor
  · intro h j ⟨h1, h2⟩
    have := tb_and a b j
    rw [h, tb_zero, h1, h2] at this
    cases this
  · intro h
    refine tb_ext fun j _ => ?_
    rw [tb_and, tb_zero]
    have := h j
    cases h1 : tb a j <;> cases h2 : tb b j <;> simp_all
theorem i32_down : ∀ k : Fin 64, Int32.ofNat (k.val + 1) + (-1) = Int32.ofNat k.val := by decide +kernel
theorem i32_nn : ∀ k : Fin 64, ¬ Int32.ofNat k.val < 0 := by decide +kernel
/-- agrees outside some bits -/
def Ag (left n x : Int64) : Prop := ∀ j, tb left j = false → tb x j = tb n j
theorem up_loop (b : Int64) : ∀ (k f : Nat) (n left : Int64), k ≤ 64 → k < f → (∀ j, tb left j = true → j < k ∧ tb n j = false) →
    K_Sets_upFrom_10 f b n left (Int32.ofNat k + (-1)) ∧ Ag left n (g_Sets_upFrom_10 f b n left (Int32.ofNat k + (-1))) ∧
    ∀ x, Ag left n x → un b ≤ un x → un b ≤ un (g_Sets_upFrom_10 f b n left (Int32.ofNat k + (-1))) ∧ un (g_Sets_upFrom_10 f b n left (Int32.ofNat k + (-1))) ≤ un x
  | 0, f, n, left, _, hf, hl => by
    obtain ⟨f, rfl⟩ : ∃ g, f = g + 1 := ⟨f - 1, by omega⟩
    have e : g_Sets_upFrom_10 (f + 1) b n left (Int32.ofNat 0 + (-1)) = n := by
      rw [g_Sets_upFrom_10]; exact if_pos (by decide)
    rw [e]
    refine ⟨?_, fun _ _ => rfl, fun x hx hb => ?_⟩
    · rw [K_Sets_upFrom_10]; exact fun h => absurd (by decide) h
    · have hxn : x = n := tb_ext fun j _ => hx j (by cases h : tb left j with
        | false => rfl
        | true => exact absurd (hl j h).1 (by omega))
      rw [hxn] at hb ⊢
      exact ⟨hb, Nat.le_refl _⟩
  | k + 1, f, n, left, hk, hf, hl => by
    obtain ⟨f, rfl⟩ : ∃ g, f = g + 1 := ⟨f - 1, by omega⟩
    have hk' : k < 64 := by omega
    have ei := i32_down ⟨k, hk'⟩
    have en := i32_nn ⟨k, hk'⟩
    simp only at ei en
    rw [ei, g_Sets_upFrom_10, K_Sets_upFrom_10, if_neg en]
    have hbit := fun j => tb_bit hk' j
    generalize j_lshl 1 (Int32.ofNat k) = bit at hbit ⊢
    rw [g_Sets_upFrom_21, K_Sets_upFrom_21]
    by_cases hz : lg_cmp (left &&& bit) 0 = 0
    · rw [if_pos hz]
      have hz' := and_0.mp (cmp_eq.mp hz) k
      rw [hbit k] at hz'
      have hlk : tb left k = false := by
        cases h : tb left k with
        | false => rfl
        | true => exact absurd ⟨h, by simp⟩ hz'
      obtain ⟨a1, a2, a3⟩ := up_loop b k f n left (by omega) (by omega) (fun j hj => ⟨by
        have := (hl j hj).1
        have : j ≠ k := fun e => by rw [e, hlk] at hj; cases hj
        omega, (hl j hj).2⟩)
      exact ⟨fun _ => ⟨fun _ => a1, fun h => absurd hz h⟩, a2, a3⟩
    · rw [if_neg hz]
      have hlk : tb left k = true := by
        cases h : tb left k with
        | true => rfl
        | false =>
          refine absurd (cmp_eq.mpr (and_0.mpr fun j => ?_)) hz
          rw [hbit j]
          rintro ⟨h1, h2⟩
          have := of_decide_eq_true h2
          rw [this, h] at h1
          cases h1
      have hl' : ∀ j, tb (left &&& (bit ^^^ (-1))) j = (tb left j && decide (j ≠ k)) := by
        intro j
        rw [tb_and, tb_cpl, hbit j]
        by_cases hj : j < 64
        · by_cases e : j = k <;> simp [hj, e]
        · simp [tb_ge (a := left) (Nat.not_lt.mp hj)]
      generalize left &&& (bit ^^^ (-1)) = left' at hl' ⊢
      have hnk : tb n k = false := (hl k hlk).2
      have hlow : ∀ j, tb left' j = true → j < k ∧ tb n j = false := by
        intro j hj
        rw [hl' j, Bool.and_eq_true, decide_eq_true_eq] at hj
        have := hl j hj.1
        exact ⟨by omega, this.2⟩
      rw [g_Sets_upFrom_42, K_Sets_upFrom_42]
      by_cases hm : g_Sets_below (n ||| left') b = 0
      · -- the rest is enough: the bit stays 0
        rw [if_pos hm]
        have hm' : ¬ un (n ||| left') < un b := by
          rw [below_01] at hm
          intro z
          rw [if_pos z] at hm
          cases hm
        obtain ⟨a1, a2, a3⟩ := up_loop b k f n left' (by omega) (by omega) hlow
        refine ⟨fun _ => ⟨fun h => absurd h hz, fun _ => ⟨fun _ => a1, fun h => absurd hm h⟩⟩, ?_, ?_⟩
        · intro j hj
          exact a2 j (by rw [hl' j, hj]; rfl)
        · intro x hx hb
          have hmx : Ag left' n (n ||| left') := fun j hj => by rw [tb_or, hj, Bool.or_false]
          obtain ⟨c1, c2⟩ := a3 _ hmx (Nat.not_lt.mp hm')
          refine ⟨c1, ?_⟩
          cases hxk : tb x k with
          | false =>
            exact (a3 x (fun j hj => by
              by_cases e : j = k
              · rw [e, hxk, hnk]
              · exact hx j (by rw [hl' j] at hj; simpa [e] using hj)) hb).2
          | true =>
            refine Nat.le_of_lt (ult_of (k := k) ?_ ?_ fun j hj => ?_)
            · rw [← tb_un]
              show tb (g_Sets_upFrom_10 f b n left' (Int32.ofNat k + (-1))) k = false
              rw [a2 k (by rw [hl' k]; simp), hnk]
            · rw [← tb_un]; exact hxk
            · rw [← tb_un, ← tb_un]
              have hlj : tb left j = false := by
                cases h : tb left j with
                | false => rfl
                | true => exact absurd (hl j h).1 (by omega)
              rw [hx j hlj]
              exact a2 j (by rw [hl' j, hlj]; rfl)
      · rw [if_neg hm]
        have hm' : un (n ||| left') < un b := by
          rw [below_01] at hm
          refine Nat.not_le.mp fun z => hm (if_neg (Nat.not_lt.mpr z))
        have hn' : ∀ j, tb (n ||| bit) j = (tb n j || decide (j = k)) := fun j => by rw [tb_or, hbit j]
        generalize n ||| bit = n' at hn' ⊢
        obtain ⟨a1, a2, a3⟩ := up_loop b k f n' left' (by omega) (by omega) (fun j hj => by
          have := hlow j hj
          refine ⟨this.1, ?_⟩
          rw [hn' j, this.2]
          simp; omega)
        refine ⟨fun _ => ⟨fun h => absurd h hz, fun _ => ⟨fun h => absurd h hm, fun _ => a1⟩⟩, ?_, ?_⟩
        · intro j hj
          have e : j ≠ k := fun e => by rw [e, hlk] at hj; cases hj
          have := a2 j (by rw [hl' j, hj]; rfl)
          rw [hn' j] at this
          show tb (g_Sets_upFrom_10 f b n' left' (Int32.ofNat k + (-1))) j = tb n j
          simpa [e] using this
        · intro x hx hb
          have hxk : tb x k = true := by
            cases h : tb x k with
            | true => rfl
            | false =>
              exfalso
              have : un x ≤ un (n ||| left') := tb_le fun j hj => by
                rw [tb_or, hl' j]
                by_cases e : j = k
                · rw [e, h] at hj; cases hj
                · cases hlj : tb left j with
                  | true => simp [e]
                  | false => rw [← hx j hlj, hj]; rfl
              omega
          exact a3 x (fun j hj => by
            rw [hn' j]
            by_cases e : j = k
            · rw [e, hxk]; simp
            · rw [hx j (by rw [hl' j] at hj; simpa [e] using hj)]; simp [e]) hb
theorem xF_64 : 64 < xF := by rw [xF_eq]; decide
/-- upFrom: K, the pattern, the least -/
theorem upFrom_ok {v u b : Int64} (h : v &&& u = 0) : K_Sets_upFrom v u b ∧ Ag u v (g_Sets_upFrom v u b) ∧ ∀ x, Ag u v x → un b ≤ un x → un b ≤ un (g_Sets_upFrom v u b) ∧ un (g_Sets_upFrom v u b) ≤ un x := by
  have hh : ∀ j, tb u j = true → j < 64 ∧ tb v j = false := by
    intro j hj
    constructor
    · refine Nat.not_le.mp fun z => ?_
      rw [tb_ge z] at hj
      cases hj
    · cases hv : tb v j with
      | false => rfl
      | true => exact absurd ⟨hv, hj⟩ (and_0.mp h j)
  have := up_loop b 64 xF v u (Nat.le_refl _) xF_64 hh
  rw [show (Int32.ofNat 64 + (-1)) = (63 : Int32) by decide] at this
  exact this
/-! ### downwards -/
theorem down_loop (b : Int64) : ∀ (k f : Nat) (n left : Int64), k ≤ 64 → k < f → (∀ j, tb left j = true → j < k ∧ tb n j = true) →
    K_Sets_downFrom_12 f b n left (Int32.ofNat k + (-1)) ∧ Ag left n (g_Sets_downFrom_12 f b n left (Int32.ofNat k + (-1))) ∧
    ∀ x, Ag left n x → un x ≤ un b → un (g_Sets_downFrom_12 f b n left (Int32.ofNat k + (-1))) ≤ un b ∧ un x ≤ un (g_Sets_downFrom_12 f b n left (Int32.ofNat k + (-1)))
  | 0, f, n, left, _, hf, hl => by
    obtain ⟨f, rfl⟩ : ∃ g, f = g + 1 := ⟨f - 1, by omega⟩
    have e : g_Sets_downFrom_12 (f + 1) b n left (Int32.ofNat 0 + (-1)) = n := by
      rw [g_Sets_downFrom_12]; exact if_pos (by decide)
    rw [e]
    refine ⟨?_, fun _ _ => rfl, fun x hx hb => ?_⟩
    · rw [K_Sets_downFrom_12]; exact fun h => absurd (by decide) h
    · have hxn : x = n := tb_ext fun j _ => hx j (by cases h : tb left j with
        | false => rfl
        | true => exact absurd (hl j h).1 (by omega))
      rw [hxn] at hb ⊢
      exact ⟨hb, Nat.le_refl _⟩
  | k + 1, f, n, left, hk, hf, hl => by
    obtain ⟨f, rfl⟩ : ∃ g, f = g + 1 := ⟨f - 1, by omega⟩
    have hk' : k < 64 := by omega
    have ei := i32_down ⟨k, hk'⟩
    have en := i32_nn ⟨k, hk'⟩
    simp only at ei en
    rw [ei, g_Sets_downFrom_12, K_Sets_downFrom_12, if_neg en]
    have hbit := fun j => tb_bit hk' j
    generalize j_lshl 1 (Int32.ofNat k) = bit at hbit ⊢
    rw [g_Sets_downFrom_23, K_Sets_downFrom_23]
    by_cases hz : lg_cmp (left &&& bit) 0 = 0
    · rw [if_pos hz]
      have hz' := and_0.mp (cmp_eq.mp hz) k
      rw [hbit k] at hz'
      have hlk : tb left k = false := by
        cases h : tb left k with
        | false => rfl
        | true => exact absurd ⟨h, by simp⟩ hz'
      obtain ⟨a1, a2, a3⟩ := down_loop b k f n left (by omega) (by omega) (fun j hj => ⟨by
        have := (hl j hj).1
        have : j ≠ k := fun e => by rw [e, hlk] at hj; cases hj
        omega, (hl j hj).2⟩)
      exact ⟨fun _ => ⟨fun _ => a1, fun h => absurd hz h⟩, a2, a3⟩
    · rw [if_neg hz]
      have hlk : tb left k = true := by
        cases h : tb left k with
        | true => rfl
        | false =>
          refine absurd (cmp_eq.mpr (and_0.mpr fun j => ?_)) hz
          rw [hbit j]
          rintro ⟨h1, h2⟩
          have := of_decide_eq_true h2
          rw [this, h] at h1
          cases h1
      have hcb : ∀ j, tb (bit ^^^ (-1)) j = decide (j < 64 ∧ j ≠ k) := by
        intro j
        rw [tb_cpl, hbit j]
        by_cases hj : j < 64 <;> by_cases e : j = k <;> simp [hj, e]
      have hl' : ∀ j, tb (left &&& (bit ^^^ (-1))) j = (tb left j && decide (j ≠ k)) := by
        intro j
        rw [tb_and, hcb j]
        by_cases hj : j < 64
        · by_cases e : j = k <;> simp [hj, e]
        · simp [tb_ge (a := left) (Nat.not_lt.mp hj)]
      have hn' : ∀ j, tb (n &&& (bit ^^^ (-1))) j = (tb n j && decide (j ≠ k)) := by
        intro j
        rw [tb_and, hcb j]
        by_cases hj : j < 64
        · by_cases e : j = k <;> simp [hj, e]
        · simp [tb_ge (a := n) (Nat.not_lt.mp hj)]
      generalize left &&& (bit ^^^ (-1)) = left' at hl' ⊢
      have hnk : tb n k = true := (hl k hlk).2
      have hlow : ∀ j, tb left' j = true → j < k ∧ tb n j = true := by
        intro j hj
        rw [hl' j, Bool.and_eq_true, decide_eq_true_eq] at hj
        have := hl j hj.1
        exact ⟨by omega, this.2⟩
      have hmm : ∀ j, tb (n &&& (left' ^^^ (-1))) j = (tb n j && !tb left' j) := by
        intro j
        rw [tb_and, tb_cpl]
        by_cases hj : j < 64
        · simp [hj]
        · simp [tb_ge (a := n) (Nat.not_lt.mp hj)]
      rw [g_Sets_downFrom_44, K_Sets_downFrom_44]
      by_cases hm : g_Sets_below b (n &&& (left' ^^^ (-1))) = 0
      · rw [if_pos hm]
        have hm' : ¬ un b < un (n &&& (left' ^^^ (-1))) := by
          rw [below_01] at hm
          intro z
          rw [if_pos z] at hm
          cases hm
        obtain ⟨a1, a2, a3⟩ := down_loop b k f n left' (by omega) (by omega) hlow
        refine ⟨fun _ => ⟨fun h => absurd h hz, fun _ => ⟨fun _ => a1, fun h => absurd hm h⟩⟩, ?_, ?_⟩
        · intro j hj
          exact a2 j (by rw [hl' j, hj]; rfl)
        · intro x hx hb
          have hmx : Ag left' n (n &&& (left' ^^^ (-1))) := fun j hj => by rw [hmm j, hj]; simp
          obtain ⟨c1, c2⟩ := a3 _ hmx (Nat.not_lt.mp hm')
          refine ⟨c1, ?_⟩
          cases hxk : tb x k with
          | true =>
            exact (a3 x (fun j hj => by
              by_cases e : j = k
              · rw [e, hxk, hnk]
              · exact hx j (by rw [hl' j] at hj; simpa [e] using hj)) hb).2
          | false =>
            refine Nat.le_of_lt (ult_of (k := k) ?_ ?_ fun j hj => ?_)
            · rw [← tb_un]; exact hxk
            · rw [← tb_un]
              show tb (g_Sets_downFrom_12 f b n left' (Int32.ofNat k + (-1))) k = true
              rw [a2 k (by rw [hl' k]; simp), hnk]
            · rw [← tb_un, ← tb_un]
              have hlj : tb left j = false := by
                cases h : tb left j with
                | false => rfl
                | true => exact absurd (hl j h).1 (by omega)
              rw [hx j hlj]
              exact (a2 j (by rw [hl' j, hlj]; rfl)).symm
      · rw [if_neg hm]
        have hm' : un b < un (n &&& (left' ^^^ (-1))) := by
          rw [below_01] at hm
          refine Nat.not_le.mp fun z => hm (if_neg (Nat.not_lt.mpr z))
        generalize n &&& (bit ^^^ (-1)) = n' at hn' ⊢
        obtain ⟨a1, a2, a3⟩ := down_loop b k f n' left' (by omega) (by omega) (fun j hj => by
          have := hlow j hj
          refine ⟨this.1, ?_⟩
          rw [hn' j, this.2]
          simp; omega)
        refine ⟨fun _ => ⟨fun h => absurd h hz, fun _ => ⟨fun h => absurd h hm, fun _ => a1⟩⟩, ?_, ?_⟩
        · intro j hj
          have e : j ≠ k := fun e => by rw [e, hlk] at hj; cases hj
          have := a2 j (by rw [hl' j, hj]; rfl)
          rw [hn' j] at this
          show tb (g_Sets_downFrom_12 f b n' left' (Int32.ofNat k + (-1))) j = tb n j
          simpa [e] using this
        · intro x hx hb
          have hxk : tb x k = false := by
            cases h : tb x k with
            | false => rfl
            | true =>
              exfalso
              have : un (n &&& (left' ^^^ (-1))) ≤ un x := tb_le fun j hj => by
                rw [hmm j, Bool.and_eq_true] at hj
                by_cases e : j = k
                · rw [e]; exact h
                · have hlj : tb left j = false := by
                    have := hj.2
                    rw [hl' j] at this
                    simpa [e] using this
                  rw [hx j hlj]; exact hj.1
              omega
          exact a3 x (fun j hj => by
            rw [hn' j]
            by_cases e : j = k
            · rw [e, hxk]; simp
            · rw [hx j (by rw [hl' j] at hj; simpa [e] using hj)]; simp [e]) hb
/-- downFrom: K, the pattern, the greatest -/
theorem downFrom_ok {v u b : Int64} (h : v &&& u = 0) : K_Sets_downFrom v u b ∧ Ag u v (g_Sets_downFrom v u b) ∧ ∀ x, Ag u v x → un x ≤ un b → un (g_Sets_downFrom v u b) ≤ un b ∧ un x ≤ un (g_Sets_downFrom v u b) := by
  have hh : ∀ j, tb u j = true → j < 64 ∧ tb (v ||| u) j = true := by
    intro j hj
    constructor
    · refine Nat.not_le.mp fun z => ?_
      rw [tb_ge z] at hj
      cases hj
    · rw [tb_or, hj, Bool.or_true]
  have ag : ∀ x, Ag u v x ↔ Ag u (v ||| u) x := fun x => by
    constructor
    · intro hx j hj; rw [hx j hj, tb_or, hj, Bool.or_false]
    · intro hx j hj; rw [hx j hj, tb_or, hj, Bool.or_false]
  have := down_loop b 64 xF (v ||| u) u (Nat.le_refl _) xF_64 hh
  rw [show (Int32.ofNat 64 + (-1)) = (63 : Int32) by decide] at this
  exact ⟨this.1, (ag _).mpr this.2.1, fun x hx => this.2.2 x ((ag x).mp hx)⟩
