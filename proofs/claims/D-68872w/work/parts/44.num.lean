/-! part 44: longs as numbers without sign and with it -/
def un (a : Int64) : Nat := a.toBitVec.toNat
theorem un_lt (a : Int64) : un a < 18446744073709551616 := a.toBitVec.isLt
theorem un_inj {a b : Int64} (h : un a = un b) : a = b := Int64.toBitVec_inj.mp (BitVec.eq_of_toNat_eq h)
theorem un_ne {a b : Int64} (h : a ≠ b) : un a ≠ un b := fun z => h (un_inj z)
theorem toInt_un (a : Int64) : a.toInt = if un a < 9223372036854775808 then (un a : Int) else (un a : Int) - 18446744073709551616 := by
  show a.toBitVec.toInt = _
  rw [BitVec.toInt_eq_toNat_cond]
  unfold un
  split <;> split <;> omega
theorem lt_un {a b : Int64} : a < b ↔ a.toInt < b.toInt := Int64.lt_iff_toInt_lt
theorem le_un {a b : Int64} : a ≤ b ↔ a.toInt ≤ b.toInt := Int64.le_iff_toInt_le
theorem un_add (a b : Int64) : un (a + b) = (un a + un b) % 18446744073709551616 := by
  unfold un; rw [Int64.toBitVec_add, BitVec.toNat_add]
theorem un_sub (a b : Int64) : un (a - b) = (18446744073709551616 - un b + un a) % 18446744073709551616 := by
  unfold un; rw [Int64.toBitVec_sub, BitVec.toNat_sub]
theorem un_mul (a b : Int64) : un (a * b) = (un a * un b) % 18446744073709551616 := by
  unfold un; rw [Int64.toBitVec_mul, BitVec.toNat_mul]
theorem un_neg (a : Int64) : un (-a) = (18446744073709551616 - un a) % 18446744073709551616 := by
  unfold un; rw [Int64.toBitVec_neg, BitVec.toNat_neg]
theorem un_not (a : Int64) : un (~~~a) = 18446744073709551615 - un a := by
  unfold un; rw [Int64.toBitVec_not, BitVec.toNat_not]
theorem un_and (a b : Int64) : un (a &&& b) = un a &&& un b := by unfold un; rw [Int64.toBitVec_and, BitVec.toNat_and]
theorem un_or (a b : Int64) : un (a ||| b) = un a ||| un b := by unfold un; rw [Int64.toBitVec_or, BitVec.toNat_or]
theorem un_xor (a b : Int64) : un (a ^^^ b) = un a ^^^ un b := by unfold un; rw [Int64.toBitVec_xor, BitVec.toNat_xor]
/-- bit k -/
def tb (a : Int64) (k : Nat) : Bool := a.toBitVec.getLsbD k
theorem tb_un (a : Int64) (k : Nat) : tb a k = (un a).testBit k := rfl
theorem tb_ge {a : Int64} {k : Nat} (h : 64 ≤ k) : tb a k = false := BitVec.getLsbD_of_ge _ _ h
theorem tb_and (a b : Int64) (k : Nat) : tb (a &&& b) k = (tb a k && tb b k) := by unfold tb; rw [Int64.toBitVec_and, BitVec.getLsbD_and]
theorem tb_or (a b : Int64) (k : Nat) : tb (a ||| b) k = (tb a k || tb b k) := by unfold tb; rw [Int64.toBitVec_or, BitVec.getLsbD_or]
theorem tb_xor (a b : Int64) (k : Nat) : tb (a ^^^ b) k = Bool.xor (tb a k) (tb b k) := by unfold tb; rw [Int64.toBitVec_xor, BitVec.getLsbD_xor]
theorem tb_not (a : Int64) (k : Nat) : tb (~~~a) k = (decide (k < 64) && !tb a k) := by unfold tb; rw [Int64.toBitVec_not, BitVec.getLsbD_not]
theorem tb_ext {a b : Int64} (h : ∀ k, k < 64 → tb a k = tb b k) : a = b := Int64.toBitVec_inj.mp (BitVec.eq_of_getLsbD_eq fun k hk => h k hk)
theorem tb_zero (k : Nat) : tb 0 k = false := by
  rw [tb_un, show un 0 = 0 from rfl, Nat.zero_testBit]
/-- the order without sign, by the highest bit that differs -/
theorem ult_ex {x y : Nat} (h : x < y) : ∃ k, x.testBit k = false ∧ y.testBit k = true ∧ ∀ j, k < j → x.testBit j = y.testBit j := by
  have key : ∀ n x y : Nat, x < y → y < 2 ^ n → ∃ k, x.testBit k = false ∧ y.testBit k = true ∧ ∀ j, k < j → x.testBit j = y.testBit j := by
    intro n
    induction n with
    | zero => intro x y h1 h2; omega
    | succ n ih =>
      intro x y h1 h2
      by_cases hxy : x / 2 < y / 2
      · obtain ⟨k, a1, a2, a3⟩ := ih (x / 2) (y / 2) hxy (by omega)
        refine ⟨k + 1, by rw [Nat.testBit_succ]; exact a1, by rw [Nat.testBit_succ]; exact a2, fun j hj => ?_⟩
        obtain ⟨j', rfl⟩ : ∃ j', j = j' + 1 := ⟨j - 1, by omega⟩
        rw [Nat.testBit_succ, Nat.testBit_succ]
        exact a3 j' (by omega)
      · have e : x / 2 = y / 2 := by omega
        refine ⟨0, by simp [Nat.testBit_zero]; omega, by simp [Nat.testBit_zero]; omega, fun j hj => ?_⟩
        obtain ⟨j', rfl⟩ : ∃ j', j = j' + 1 := ⟨j - 1, by omega⟩
        rw [Nat.testBit_succ, Nat.testBit_succ, e]
  exact key y x y h Nat.lt_two_pow_self
theorem ult_of {x y : Nat} {k : Nat} (h0 : x.testBit k = false) (h1 : y.testBit k = true) (h : ∀ j, k < j → x.testBit j = y.testBit j) : x < y := by
  rcases Nat.lt_trichotomy x y with z | z | z
  · exact z
  · rw [z, h1] at h0; cases h0
  · obtain ⟨k', a0, a1, a2⟩ := ult_ex z
    rcases Nat.lt_trichotomy k k' with w | w | w
    · rw [h k' w, a0] at a1; cases a1
    · rw [w, a1] at h0; cases h0
    · rw [a2 k w, h0] at h1; cases h1
theorem ult_iff {x y : Nat} : x < y ↔ ∃ k, x.testBit k = false ∧ y.testBit k = true ∧ ∀ j, k < j → x.testBit j = y.testBit j :=
  ⟨ult_ex, fun ⟨_, h0, h1, h2⟩ => ult_of h0 h1 h2⟩
/-! ### comparisons of the two programs -/
theorem cmp_lt {x y : Int64} : lg_cmp x y < 0 ↔ x < y := by
  unfold lg_cmp
  by_cases h1 : x > y
  · rw [if_pos h1]
    exact ⟨fun h => absurd h (by decide), fun h => absurd (lt_un.mp h) (by have := lt_un.mp h1; omega)⟩
  · rw [if_neg h1]
    by_cases h2 : x = y
    · rw [if_pos h2, h2]
      exact ⟨fun h => absurd h (by decide), fun h => absurd (lt_un.mp h) (by omega)⟩
    · rw [if_neg h2]
      refine ⟨fun _ => ?_, fun _ => by decide⟩
      have a1 : ¬ y.toInt < x.toInt := fun z => h1 (lt_un.mpr z)
      have a2 : x.toInt ≠ y.toInt := fun z => h2 (Int64.toInt_inj.mp z)
      exact lt_un.mpr (by omega)
theorem cmp_eq {x y : Int64} : lg_cmp x y = 0 ↔ x = y := by
  unfold lg_cmp
  by_cases h1 : x > y
  · rw [if_pos h1]
    refine ⟨fun h => absurd h (by decide), fun h => ?_⟩
    rw [h] at h1
    exact absurd (lt_un.mp h1) (by omega)
  · rw [if_neg h1]
    by_cases h2 : x = y
    · rw [if_pos h2]; exact ⟨fun _ => h2, fun _ => rfl⟩
    · rw [if_neg h2]; exact ⟨fun h => absurd h (by decide), fun h => absurd h h2⟩
theorem cmp_ge {x y : Int64} : 0 ≤ lg_cmp x y ↔ y ≤ x := by
  have h := @cmp_lt x y
  have e1 : 0 ≤ lg_cmp x y ↔ ¬ lg_cmp x y < 0 := by
    rw [Int32.lt_iff_toInt_lt, Int32.le_iff_toInt_le]; omega
  rw [e1, h, lt_un, le_un]; omega
theorem cmp_gt {x y : Int64} : 0 < lg_cmp x y ↔ y < x := by
  have h1 := @cmp_lt x y
  have h2 := @cmp_eq x y
  have e1 : 0 < lg_cmp x y ↔ ¬ lg_cmp x y < 0 ∧ ¬ lg_cmp x y = 0 := by
    rw [Int32.lt_iff_toInt_lt, Int32.lt_iff_toInt_lt, ← Int32.toInt_inj]
    show _ ↔ ¬ _ < (0 : Int) ∧ ¬ _ = (0 : Int)
    have : (0 : Int32).toInt = 0 := rfl
    omega
  rw [e1, h1, h2, lt_un, lt_un, ← Int64.toInt_inj]; omega
theorem cmp_le {x y : Int64} : lg_cmp x y ≤ 0 ↔ x ≤ y := by
  have h := @cmp_gt x y
  have e1 : lg_cmp x y ≤ 0 ↔ ¬ 0 < lg_cmp x y := by
    rw [Int32.lt_iff_toInt_lt, Int32.le_iff_toInt_le]; omega
  rw [e1, h, lt_un, le_un]; omega
theorem un_min : un (-9223372036854775808 : Int64) = 9223372036854775808 := by decide
/-- a shift of both by 2^63 turns one order into the other -/
theorem shift_lt {x y : Int64} : x + (-9223372036854775808 : Int64) < y + (-9223372036854775808 : Int64) ↔ un x < un y := by
  rw [lt_un, toInt_un, toInt_un, un_add, un_add, un_min]
  have := un_lt x
  have := un_lt y
  split <;> split <;> omega
theorem isLess_0 {x y : Int64} : g_Sieve_isLess x y = 0 ↔ ¬ un x < un y := by
  unfold g_Sieve_isLess g_Sieve_isLess_0
  by_cases h : 0 ≤ lg_cmp (x + (-9223372036854775808 : Int64)) (y + (-9223372036854775808 : Int64))
  · rw [if_pos h]
    refine ⟨fun _ => ?_, fun _ => rfl⟩
    rw [← shift_lt, lt_un]
    have := le_un.mp (cmp_ge.mp h)
    omega
  · rw [if_neg h]
    refine ⟨fun z => absurd z (by decide), fun z => ?_⟩
    rw [← shift_lt, lt_un] at z
    exact absurd (cmp_ge.mpr (le_un.mpr (by omega))) h
theorem isLess_01 (x y : Int64) : g_Sieve_isLess x y = if un x < un y then 1 else 0 := by
  by_cases h : un x < un y
  · have hz : ¬ 0 ≤ lg_cmp (x + (-9223372036854775808 : Int64)) (y + (-9223372036854775808 : Int64)) := fun c => (isLess_0.mp (by unfold g_Sieve_isLess g_Sieve_isLess_0; rw [if_pos c])) h
    unfold g_Sieve_isLess g_Sieve_isLess_0
    rw [if_neg hz, if_pos h]
  · rw [if_neg h]; exact isLess_0.mpr h
theorem below_01 (x y : Int64) : g_Sets_below x y = if un x < un y then 1 else 0 := by
  unfold g_Sets_below g_Sets_below_0 g_Sets_below_11 g_Sets_below_22
  simp only [cmp_lt, cmp_ge, lt_un, le_un, toInt_un, show un 0 = 0 from rfl]
  have := un_lt x
  have := un_lt y
  repeat' split
  all_goals first | rfl | (exfalso; omega) | (exfalso; simp_all; done) | skip
theorem greater_un (x y : Int64) : g_Sieve_greater x y = if un x < un y then y else x := by
  unfold g_Sieve_greater g_Sieve_greater_0
  rw [isLess_01]
  by_cases h : un x < un y <;> simp [h]
theorem lesser_un (x y : Int64) : g_Sieve_lesser x y = if un x < un y then x else y := by
  unfold g_Sieve_lesser g_Sieve_lesser_0
  rw [isLess_01]
  by_cases h : un x < un y <;> simp [h]
theorem larger_un (x y : Int64) : g_Sets_larger x y = if un x < un y then y else x := by
  unfold g_Sets_larger g_Sets_larger_0
  rw [below_01]
  by_cases h : un x < un y <;> simp [h]
theorem lesser2_un (x y : Int64) : g_Sets_lesser x y = if un x < un y then x else y := by
  unfold g_Sets_lesser g_Sets_lesser_0
  rw [below_01]
  by_cases h : un x < un y <;> simp [h]
