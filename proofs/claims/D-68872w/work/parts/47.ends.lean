/-! part 47: the twin's Sets.end: the ends of one half -/
/-- row k of the sets x0 can be read and written -/
def SS (M : XM) (x0 : Nat) (k : Int32) : Prop := mT M x0 = 27 ∧ (∀ i, i < 6 → mT M (mR M x0 i) = 104 ∧ vp_in k (mN M (mR M x0 i))) ∧ mT M (mR M x0 6) = 101 ∧ vp_in k (mN M (mR M x0 6))
def tv6 (M : XM) (x0 : Nat) (k : Int32) : AV := (mL M (mR M x0 0) (ix k), mL M (mR M x0 1) (ix k), mL M (mR M x0 2) (ix k), mL M (mR M x0 3) (ix k), mL M (mR M x0 4) (ix k), mL M (mR M x0 5) (ix k))
theorem tb63 (x : Int64) : tb x 63 = decide (¬ un x < 9223372036854775808) := by
  rw [tb_un]
  have hx := un_lt x
  by_cases h : un x < 9223372036854775808
  · rw [Nat.testBit_lt_two_pow (by omega)]; simp [h]
  · rw [Nat.testBit_eq_decide_div_mod_eq, decide_eq_decide]
    omega
theorem tb_most (j : Nat) : tb 9223372036854775807 j = decide (j < 63) := by
  rw [tb_un, show un 9223372036854775807 = 2 ^ 63 - 1 from rfl, Nat.testBit_two_pow_sub_one]
theorem tb_top (j : Nat) : tb (-9223372036854775808) j = decide (j = 63) := by
  rw [tb_un, show un (-9223372036854775808) = 2 ^ 63 from rfl, Nat.testBit_two_pow]
  by_cases h : j = 63
  · simp [h]
  · have h' : ¬ 63 = j := fun z => h z.symm
    simp [h, h']
/-- the pattern of one half -/
theorem half_pat {u v x half : Int64} {m : Bool} (hh : ∀ j, tb half j = (m && decide (j = 63))) (can : tb u 63 = true ∨ tb v 63 = m) : (Ag u v x ∧ tb x 63 = m) ↔ Ag (u &&& 9223372036854775807) ((v &&& 9223372036854775807) ||| half) x := by
  constructor
  · rintro ⟨h1, h2⟩ j hj
    rw [tb_and, tb_most] at hj
    rw [tb_or, tb_and, tb_most, hh j]
    rcases Nat.lt_trichotomy j 63 with e | e | e
    · have hu : tb u j = false := by simpa [e] using hj
      have e2 : ¬ j = 63 := by omega
      rw [h1 j hu]; simp [e, e2]
    · rw [e, h2]; simp
    · have e1 : ¬ j < 63 := by omega
      have e2 : ¬ j = 63 := by omega
      rw [tb_ge (by omega)]; simp [e1, e2]
  · intro h
    have h63 : tb x 63 = m := by
      have := h 63 (by rw [tb_and, tb_most]; simp)
      rw [this, tb_or, tb_and, tb_most, hh 63]; simp
    refine ⟨fun j hj => ?_, h63⟩
    rcases Nat.lt_trichotomy j 63 with e | e | e
    · have := h j (by rw [tb_and, hj]; rfl)
      have e2 : ¬ j = 63 := by omega
      rw [this, tb_or, tb_and, tb_most, hh j]; simp [e, e2]
    · rw [e] at hj ⊢
      rcases can with c | c
      · rw [hj] at c; cases c
      · rw [h63, c]
    · rw [tb_ge (by omega), tb_ge (by omega)]
theorem half_bu {u v half : Int64} {m : Bool} (hh : ∀ j, tb half j = (m && decide (j = 63))) (h : v &&& u = 0) : ((v &&& 9223372036854775807) ||| half) &&& (u &&& 9223372036854775807) = 0 := and_0.mpr fun j ⟨h1, h2⟩ => by
  rw [tb_and, tb_most, Bool.and_eq_true, decide_eq_true_eq] at h2
  have e2 : ¬ j = 63 := by omega
  rw [tb_or, tb_and, tb_most, hh j] at h1
  have h3 : tb v j = true := by simpa [h2.2, e2] using h1
  exact and_0.mp h j ⟨h3, h2.1⟩
theorem half_0 (j : Nat) : tb 0 j = (false && decide (j = 63)) := by rw [tb_zero]; rfl
theorem half_1 (j : Nat) : tb (-9223372036854775808) j = (true && decide (j = 63)) := by rw [tb_top]; rfl
/-- the bounds of the half without the sign -/
def fr0 (w : AV) : Int64 := g_Sets_larger (g_Sets_larger w.lo 0) (if (0 : Int64) ≤ w.le then w.le else 0)
def to0 (w : AV) : Int64 := g_Sets_lesser (g_Sets_lesser w.hi 9223372036854775807) (if (0 : Int64) ≤ w.gr then w.gr else 9223372036854775807)
def fr1 (w : AV) : Int64 := g_Sets_larger (g_Sets_larger w.lo (-9223372036854775808)) (if (0 : Int64) ≤ w.le then (-9223372036854775808) else w.le)
def to1 (w : AV) : Int64 := g_Sets_lesser (g_Sets_lesser w.hi (-1)) (if (0 : Int64) ≤ w.gr then (-1) else w.gr)
theorem end_00 {x0 : Nat} {k : Int32} {v u : Int64} {M : XM} : g_Sets_end x0 k v u 0 1 M = g_Sets_upFrom ((v &&& 9223372036854775807) ||| 0) (u &&& 9223372036854775807) (fr0 (tv6 M x0 k)) := by
  unfold g_Sets_end g_Sets_end_0 g_Sets_end_12 g_Sets_end_43 g_Sets_end_57 g_Sets_end_62 g_Sets_end_82 g_Sets_end_103 g_Sets_end_129 g_Sets_end_134 fr0 tv6
  simp only [cmp_ge]
  by_cases h : (0 : Int64) ≤ mL M (mR M x0 4) (ix k) <;> by_cases h2 : (0 : Int64) ≤ mL M (mR M x0 5) (ix k) <;> simp [h, h2]
theorem end_01 {x0 : Nat} {k : Int32} {v u : Int64} {M : XM} : g_Sets_end x0 k v u 0 0 M = g_Sets_downFrom ((v &&& 9223372036854775807) ||| 0) (u &&& 9223372036854775807) (to0 (tv6 M x0 k)) := by
  unfold g_Sets_end g_Sets_end_0 g_Sets_end_12 g_Sets_end_43 g_Sets_end_57 g_Sets_end_62 g_Sets_end_82 g_Sets_end_103 g_Sets_end_129 g_Sets_end_134 to0 tv6
  simp only [cmp_ge]
  by_cases h : (0 : Int64) ≤ mL M (mR M x0 4) (ix k) <;> by_cases h2 : (0 : Int64) ≤ mL M (mR M x0 5) (ix k) <;> simp [h, h2]
theorem end_10 {x0 : Nat} {k : Int32} {v u : Int64} {M : XM} : g_Sets_end x0 k v u 1 1 M = g_Sets_upFrom ((v &&& 9223372036854775807) ||| (-9223372036854775808)) (u &&& 9223372036854775807) (fr1 (tv6 M x0 k)) := by
  unfold g_Sets_end g_Sets_end_0 g_Sets_end_12 g_Sets_end_43 g_Sets_end_57 g_Sets_end_62 g_Sets_end_82 g_Sets_end_103 g_Sets_end_129 g_Sets_end_134 fr1 tv6
  simp only [cmp_ge]
  by_cases h : (0 : Int64) ≤ mL M (mR M x0 4) (ix k) <;> by_cases h2 : (0 : Int64) ≤ mL M (mR M x0 5) (ix k) <;> simp [h, h2]
theorem end_11 {x0 : Nat} {k : Int32} {v u : Int64} {M : XM} : g_Sets_end x0 k v u 1 0 M = g_Sets_downFrom ((v &&& 9223372036854775807) ||| (-9223372036854775808)) (u &&& 9223372036854775807) (to1 (tv6 M x0 k)) := by
  unfold g_Sets_end g_Sets_end_0 g_Sets_end_12 g_Sets_end_43 g_Sets_end_57 g_Sets_end_62 g_Sets_end_82 g_Sets_end_103 g_Sets_end_129 g_Sets_end_134 to1 tv6
  simp only [cmp_ge]
  by_cases h : (0 : Int64) ≤ mL M (mR M x0 4) (ix k) <;> by_cases h2 : (0 : Int64) ≤ mL M (mR M x0 5) (ix k) <;> simp [h, h2]
/-- in the half without the sign the bounds are fr0, to0 -/
theorem fr0_ok {w : AV} {x : Int64} (hx : un x < 9223372036854775808) : un (fr0 w) ≤ un x ↔ un w.lo ≤ un x ∧ w.le.toInt ≤ x.toInt := by
  unfold fr0
  rw [larger_un, larger_un]
  have z0 : (0 : Int64).toInt = 0 := rfl
  have u0 : un (0 : Int64) = 0 := rfl
  have k1 := toInt_un w.le
  have m1 := un_lt w.le
  rw [toInt_nn hx]
  by_cases h : (0 : Int64) ≤ w.le
  · rw [if_pos h]
    rw [le_un, z0] at h
    repeat' split
    all_goals (split at k1 <;> omega)
  · rw [if_neg h]
    rw [le_un, z0] at h
    repeat' split
    all_goals omega
theorem to0_ok {w : AV} {x : Int64} (hx : un x < 9223372036854775808) (hg : (0 : Int64) ≤ w.gr) : un x ≤ un (to0 w) ↔ un x ≤ un w.hi ∧ x.toInt ≤ w.gr.toInt := by
  unfold to0
  rw [lesser2_un, lesser2_un, if_pos hg]
  have z0 : (0 : Int64).toInt = 0 := rfl
  have um : un (9223372036854775807 : Int64) = 9223372036854775807 := rfl
  have k1 := toInt_un w.gr
  have m1 := un_lt w.gr
  rw [toInt_nn hx]
  rw [le_un, z0] at hg
  repeat' split
  all_goals (split at k1 <;> omega)
theorem fr1_ok {w : AV} {x : Int64} (hx : ¬ un x < 9223372036854775808) (hl : w.le < (0 : Int64)) : un (fr1 w) ≤ un x ↔ un w.lo ≤ un x ∧ w.le.toInt ≤ x.toInt := by
  unfold fr1
  have z0 : (0 : Int64).toInt = 0 := rfl
  rw [lt_un, z0] at hl
  have hn : ¬ (0 : Int64) ≤ w.le := by rw [le_un, z0]; omega
  rw [larger_un, larger_un, if_neg hn]
  have k1 := toInt_un w.le
  have m1 := un_lt w.le
  have um := un_min
  rw [toInt_ng hx]
  repeat' split
  all_goals (split at k1 <;> omega)
theorem to1_ok {w : AV} {x : Int64} (hx : ¬ un x < 9223372036854775808) : un x ≤ un (to1 w) ↔ un x ≤ un w.hi ∧ x.toInt ≤ w.gr.toInt := by
  unfold to1
  rw [lesser2_un, lesser2_un]
  have z0 : (0 : Int64).toInt = 0 := rfl
  have um : un (-1 : Int64) = 18446744073709551615 := rfl
  have k1 := toInt_un w.gr
  have m1 := un_lt w.gr
  have mx := un_lt x
  rw [toInt_ng hx]
  by_cases h : (0 : Int64) ≤ w.gr
  · rw [if_pos h]
    rw [le_un, z0] at h
    repeat' split
    all_goals omega
  · rw [if_neg h]
    rw [le_un, z0] at h
    repeat' split
    all_goals (split at k1 <;> omega)
