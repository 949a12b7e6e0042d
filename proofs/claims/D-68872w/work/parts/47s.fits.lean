/-! part 47s: whether products are longs; trailing zeros -/
theorem fits0_01 (a b : Int64) : g_Sets_fits a b = 1 ∧ un a * un b < 18446744073709551616 ∨ g_Sets_fits a b = 0 ∧ ¬ un a * un b < 18446744073709551616 := by
  unfold g_Sets_fits g_Sets_fits_0 g_Sets_fits_20
  by_cases c : lg_cmp a 0 = 0
  · rw [if_pos c]; left
    refine ⟨rfl, ?_⟩
    rw [cmp_eq.mp c, show un 0 = 0 from rfl, Nat.zero_mul]; decide
  · rw [if_neg c]
    have ha : 0 < un a := Nat.pos_of_ne_zero fun z => c (cmp_eq.mpr (un_inj z))
    have hq := (quotient_un (-1) a).1
    rw [show un (-1) = 18446744073709551615 from rfl] at hq
    have hb := below_0 (g_Sets_quotient (-1) a) b
    rw [hq, Nat.le_div_iff_mul_le ha, Nat.mul_comm] at hb
    by_cases d : g_Sets_below (g_Sets_quotient (-1) a) b = 0
    · rw [if_pos d]; left
      exact ⟨rfl, by have := hb.mp d; omega⟩
    · rw [if_neg d]; right
      exact ⟨rfl, fun z => d (hb.mpr (by omega))⟩
theorem K_fits0 (a b : Int64) : K_Sets_fits a b := by
  unfold K_Sets_fits K_Sets_fits_0
  exact fun _ => (quotient_un _ _).2
theorem upper_0 (a b : Int64) : lg_cmp (g_Sieve_upper a b) 0 = 0 ↔ un a * un b < 18446744073709551616 := by
  rw [cmp_eq]
  have h := upper_un a b
  constructor
  · intro z
    rw [z, show un 0 = 0 from rfl] at h
    omega
  · intro z
    apply un_inj
    rw [h, Nat.div_eq_of_lt z]; rfl
/-- by its sign, a long's number without sign -/
theorem un_int (a : Int64) : a.toInt = (un a : Int) ∧ un a < 9223372036854775808 ∨ a.toInt = (un a : Int) - 18446744073709551616 ∧ ¬ un a < 9223372036854775808 := by
  by_cases h : un a < 9223372036854775808
  · exact Or.inl ⟨toInt_nn h, h⟩
  · exact Or.inr ⟨toInt_ng h, h⟩
theorem mul_bound {a b : Int64} : -85070591730234615865843651857942052864 ≤ a.toInt * b.toInt ∧ a.toInt * b.toInt ≤ 85070591730234615865843651857942052864 := by
  have ha := un_int a
  have hb := un_int b
  have la := un_lt a
  have lb := un_lt b
  have h1 : a.toInt.natAbs ≤ 9223372036854775808 := by omega
  have h2 : b.toInt.natAbs ≤ 9223372036854775808 := by omega
  have h3 : (a.toInt * b.toInt).natAbs ≤ 9223372036854775808 * 9223372036854775808 := by
    rw [Int.natAbs_mul]; exact Nat.mul_le_mul h1 h2
  omega
/-- products of longs, by those without sign -/
theorem mul_un (a b : Int64) : ((un a * un b : Nat) : Int) = a.toInt * b.toInt + 18446744073709551616 * ((if un a < 9223372036854775808 then 0 else (un b : Int)) + (if un b < 9223372036854775808 then 0 else (un a : Int)) - (if un a < 9223372036854775808 then 0 else if un b < 9223372036854775808 then 0 else 18446744073709551616)) := by
  rw [Int.natCast_mul]
  rcases un_int a with ⟨ha, ha'⟩ | ⟨ha, ha'⟩ <;> rcases un_int b with ⟨hb, hb'⟩ | ⟨hb, hb'⟩
  · rw [ha, hb, if_pos ha', if_pos hb', if_pos ha']; omega
  · rw [ha, hb, if_pos ha', if_neg hb', if_pos ha', Int.mul_sub, Int.mul_comm (un a : Int) 18446744073709551616]; omega
  · rw [ha, hb, if_neg ha', if_pos hb', if_neg ha', if_pos hb', Int.sub_mul]; omega
  · rw [ha, hb, if_neg ha', if_neg hb', if_neg ha', if_neg hb', Int.sub_mul, Int.mul_sub, Int.mul_sub, Int.mul_comm (un a : Int) 18446744073709551616]; omega
theorem sar63 (x : Int64) : un (j_lshr x 63) = if un x < 9223372036854775808 then 0 else 18446744073709551615 := by
  have h := toInt_sar (n := 63) (by decide) x
  rw [show Int32.ofNat 63 = 63 from rfl, show ((2 ^ 63 : Nat) : Int) = 9223372036854775808 from rfl] at h
  have hx := un_int x
  have hs := un_int (j_lshr x 63)
  have l1 := un_lt x
  have l2 := un_lt (j_lshr x 63)
  split <;> omega
theorem fits_01 (a b : Int64) : g_Sieve_fits a b = 1 ∧ isJ64 (a.toInt * b.toInt) ∨ g_Sieve_fits a b = 0 ∧ ¬ isJ64 (a.toInt * b.toInt) := by
  have hP := mul_un a b
  have hu := upper_un a b
  have hm := un_mul a b
  have hbd := mul_bound (a := a) (b := b)
  have hs := sar63 (a * b)
  rw [hm] at hs
  have la := un_lt a
  have lb := un_lt b
  unfold isJ64
  generalize hPP : a.toInt * b.toInt = P at *
  generalize un a * un b = N at *
  -- what the code compares
  have key : ∀ s0 s1 : Int64, (un (s0 - s1) = (P / 18446744073709551616 % 18446744073709551616).toNat) → (g_Sieve_fits_28 a b s0 s1 = 1 ∧ (-9223372036854775808 ≤ P ∧ P < 9223372036854775808) ∨ g_Sieve_fits_28 a b s0 s1 = 0 ∧ ¬ (-9223372036854775808 ≤ P ∧ P < 9223372036854775808)) := by
    intro s0 s1 h
    unfold g_Sieve_fits_28
    have hN : N % 18446744073709551616 = (P % 18446744073709551616).toNat := by omega
    rw [hN] at hs
    by_cases c : lg_cmp (s0 - s1) (j_lshr (a * b) 63) = 0
    · rw [if_pos c]; left
      refine ⟨rfl, ?_⟩
      have e := cmp_eq.mp c
      rw [e] at h
      split at hs <;> omega
    · rw [if_neg c]; right
      refine ⟨rfl, fun z => c (cmp_eq.mpr (un_inj ?_))⟩
      rw [h, hs]
      split <;> omega
  unfold g_Sieve_fits g_Sieve_fits_0 g_Sieve_fits_16
  have l3 := un_lt (g_Sieve_upper a b)
  by_cases c1 : un a < 9223372036854775808
  · rw [if_pos ((pos_un a).mpr c1)]
    by_cases c2 : un b < 9223372036854775808
    · rw [if_pos ((pos_un b).mpr c2)]
      refine key _ _ ?_
      rw [if_pos c1, if_pos c2, if_pos c1] at hP
      rw [un_sub, un_sub, hu, show un 0 = 0 from rfl]
      omega
    · rw [if_neg (fun z => c2 ((pos_un b).mp z))]
      refine key _ _ ?_
      rw [if_pos c1, if_neg c2, if_pos c1] at hP
      rw [un_sub, un_sub, hu, show un 0 = 0 from rfl]
      omega
  · rw [if_neg (fun z => c1 ((pos_un a).mp z))]
    by_cases c2 : un b < 9223372036854775808
    · rw [if_pos ((pos_un b).mpr c2)]
      refine key _ _ ?_
      rw [if_neg c1, if_pos c2, if_neg c1, if_pos c2] at hP
      rw [un_sub, un_sub, hu, show un 0 = 0 from rfl]
      omega
    · rw [if_neg (fun z => c2 ((pos_un b).mp z))]
      refine key _ _ ?_
      rw [if_neg c1, if_neg c2, if_neg c1, if_neg c2] at hP
      rw [un_sub, un_sub, hu]
      omega
theorem abs_un (a : Int64) : un (if un a < 9223372036854775808 then a else 0 - a) = a.toInt.natAbs := by
  have l := un_lt a
  rcases un_int a with ⟨h1, h2⟩ | ⟨h1, h2⟩
  · rw [if_pos h2, h1]; rfl
  · rw [if_neg h2, un_sub, h1, show un 0 = 0 from rfl]; omega
theorem isLong_01 (a b : Int64) : g_Sets_isLong a b = 1 ∧ isJ64 (a.toInt * b.toInt) ∨ g_Sets_isLong a b = 0 ∧ ¬ isJ64 (a.toInt * b.toInt) := by
  have ea : g_Sets_isLong a b = g_Sets_isLong_28 a b (if un a < 9223372036854775808 then a else 0 - a) (if un b < 9223372036854775808 then b else 0 - b) := by
    unfold g_Sets_isLong g_Sets_isLong_0 g_Sets_isLong_13
    simp only [pos_un]
    by_cases c1 : un a < 9223372036854775808 <;> by_cases c2 : un b < 9223372036854775808 <;> simp only [c1, c2, if_true, if_false]
  rw [ea]
  have xa := abs_un a
  have xb := abs_un b
  have hf := fits0_01 (if un a < 9223372036854775808 then a else 0 - a) (if un b < 9223372036854775808 then b else 0 - b)
  have hm := un_mul (if un a < 9223372036854775808 then a else 0 - a) (if un b < 9223372036854775808 then b else 0 - b)
  rw [xa, xb, ← Int.natAbs_mul] at hf hm
  have la := un_lt a
  have lb := un_lt b
  have sg : (un a < 9223372036854775808 ↔ un b < 9223372036854775808) → 0 ≤ a.toInt * b.toInt := by
    intro h
    rcases un_int a with ⟨h1, h2⟩ | ⟨h1, h2⟩ <;> rcases un_int b with ⟨h3, h4⟩ | ⟨h3, h4⟩
    · exact Int.mul_nonneg (by omega) (by omega)
    · omega
    · omega
    · rw [← Int.neg_mul_neg]; exact Int.mul_nonneg (by omega) (by omega)
  have sg2 : ¬ (un a < 9223372036854775808 ↔ un b < 9223372036854775808) → a.toInt * b.toInt ≤ 0 := by
    intro h
    rcases un_int a with ⟨h1, h2⟩ | ⟨h1, h2⟩ <;> rcases un_int b with ⟨h3, h4⟩ | ⟨h3, h4⟩
    · omega
    · exact Int.mul_nonpos_of_nonneg_of_nonpos (by omega) (by omega)
    · exact Int.mul_nonpos_of_nonpos_of_nonneg (by omega) (by omega)
    · omega
  unfold g_Sets_isLong_28 isJ64
  generalize (if un a < 9223372036854775808 then a else 0 - a) = x at *
  generalize (if un b < 9223372036854775808 then b else 0 - b) = y at *
  generalize a.toInt * b.toInt = P at *
  rcases hf with ⟨h1, h2⟩ | ⟨h1, h2⟩
  · rw [h1, if_neg (by decide)]
    rw [Nat.mod_eq_of_lt h2] at hm
    unfold g_Sets_isLong_49 g_Sets_isLong_60 g_Sets_isLong_71
    have e79 : ∀ s : Int32, (s = 1 ∨ s = 0) → (s = 0 ↔ (un a < 9223372036854775808 ↔ un b < 9223372036854775808)) → (g_Sets_isLong_79 (x * y) s = 1 ∧ (-9223372036854775808 ≤ P ∧ P < 9223372036854775808) ∨ g_Sets_isLong_79 (x * y) s = 0 ∧ ¬ (-9223372036854775808 ≤ P ∧ P < 9223372036854775808)) := by
      intro s hs1 hs
      unfold g_Sets_isLong_79 g_Sets_isLong_102
      by_cases c : 0 ≤ lg_cmp (x * y) 0
      · rw [if_pos c]; left
        have := (pos_un _).mp c
        exact ⟨rfl, by omega⟩
      · rw [if_neg c]
        have c' : ¬ un (x * y) < 9223372036854775808 := fun z => c ((pos_un _).mpr z)
        by_cases d : s = 0
        · rw [if_pos d]; right
          have := sg (hs.mp d)
          exact ⟨rfl, by omega⟩
        · rw [if_neg d]
          have := sg2 (fun z => d (hs.mpr z))
          by_cases e : lg_cmp (x * y) (-9223372036854775808) = 0
          · rw [if_pos e]; left
            have e' := cmp_eq.mp e
            rw [e', un_min] at hm
            exact ⟨rfl, by omega⟩
          · rw [if_neg e]; right
            have e' : un (x * y) ≠ 9223372036854775808 := fun z => e (cmp_eq.mpr (un_inj (z.trans un_min.symm)))
            exact ⟨rfl, by omega⟩
    simp only [pos_un]
    have i1 : ¬ (0 : Int32) = 1 := by decide
    have i2 : ¬ (1 : Int32) = 0 := by decide
    by_cases c1 : un a < 9223372036854775808 <;> by_cases c2 : un b < 9223372036854775808 <;> simp only [c1, c2, i1, i2, if_true, if_false]
    · exact e79 0 (Or.inr rfl) (by simp [c1, c2])
    · exact e79 1 (Or.inl rfl) (by simp [c1, c2])
    · exact e79 1 (Or.inl rfl) (by simp [c1, c2])
    · exact e79 0 (Or.inr rfl) (by simp [c1, c2])
  · rw [h1, if_pos rfl]
    right
    exact ⟨rfl, by omega⟩
theorem isLong_eq (a b : Int64) : g_Sets_isLong a b = g_Sieve_fits a b := or_same (isLong_01 a b) (fits_01 a b)
theorem mul_J {a b : Int64} (h : isJ64 (a.toInt * b.toInt)) : (a * b).toInt = a.toInt * b.toInt := by
  have hP := mul_un a b
  have hm := un_mul a b
  unfold isJ64 at h
  have hs := un_int (a * b)
  have := un_lt (a * b)
  generalize a.toInt * b.toInt = P at *
  generalize un a * un b = N at *
  generalize (if un a < 9223372036854775808 then (0 : Int) else (un b : Int)) + (if un b < 9223372036854775808 then 0 else (un a : Int)) - (if un a < 9223372036854775808 then 0 else if un b < 9223372036854775808 then 0 else 18446744073709551616) = Z at hP
  omega
