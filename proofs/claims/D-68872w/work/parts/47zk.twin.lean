/-! part 47zk: the twin's products and shifts (gen/tpl.py) -/
theorem know_eq {n : Nat} (hn : n < 2147483648) : (if Int32.ofNat n < 64 then j_lshl 1 (Int32.ofNat n) - 1 else -1) = g_Sieve_mask (g_Math_min_II 64 (Int32.ofNat n)) := by
  have h64 : (64 : Int32) = Int32.ofNat 64 := rfl
  rw [h64, min_ii (by decide) hn]
  have c : Int32.ofNat n < Int32.ofNat 64 ↔ n < 64 := by
    rw [lt_u3, toInt_ofNat32 hn, toInt_ofNat32 (by decide)]; omega
  unfold g_Sieve_mask g_Sieve_mask_0
  by_cases h : n < 64
  · rw [if_pos (c.mpr h), Nat.min_eq_right (by omega), if_neg]
    intro z
    have := congrArg u3 z
    rw [u3_ofNat (by omega)] at this
    have : n = 64 := this
    omega
  · rw [if_neg (fun z => h (c.mp z)), Nat.min_eq_left (by omega), if_pos (by decide)]
theorem jmin {α : Type} (f : Int64 → α) (a b : Int64) : (if 0 ≤ lg_cmp a b then f b else f a) = f (g_Math_min_JJ a b) := by
  unfold g_Math_min_JJ g_Math_min_JJ_0
  by_cases h : 0 < lg_cmp a b
  · rw [if_pos h, if_pos]
    rw [cmp_gt, lt_un] at h
    rw [cmp_ge, le_un]; omega
  · rw [if_neg h]
    by_cases h2 : 0 ≤ lg_cmp a b
    · rw [if_pos h2]
      rw [cmp_gt, lt_un] at h
      rw [cmp_ge, le_un] at h2
      have : a = b := Int64.toInt_inj.mp (by omega)
      rw [this]
    · rw [if_neg h2]
theorem jmax {α : Type} (f : Int64 → α) (a b : Int64) : (if 0 ≤ lg_cmp a b then f a else f b) = f (g_Math_max a b) := by
  unfold g_Math_max g_Math_max_0
  by_cases h : lg_cmp a b < 0
  · rw [if_pos h, if_neg]
    rw [cmp_lt, lt_un] at h
    rw [cmp_ge, le_un]; omega
  · rw [if_neg h, if_pos]
    rw [cmp_lt, lt_un] at h
    rw [cmp_ge, le_un]; omega
section TW2
variable {M : XM}
theorem mul_242 (a b c d : Int64) (h : Sh M) (W : AV) : g_Sets_multiply_242 460 a b c d (sR M 2 W 0) = sR M 2 (W.sgn (g_Math_min_JJ (g_Math_min_JJ a b) (g_Math_min_JJ c d)) (g_Math_max (g_Math_max a b) (g_Math_max c d))) 0 := by
  unfold g_Sets_multiply_242
  rw [jmin (fun q => g_Sets_multiply_255 460 a b c d q (sR M 2 W 0))]
  unfold g_Sets_multiply_255
  rw [jmin (fun q => g_Sets_multiply_272 460 a b c d (g_Math_min_JJ a b) q (sR M 2 W 0))]
  unfold g_Sets_multiply_272
  rw [jmin (fun q => g_Sets_multiply_294 460 a b c d (mR (sR M 2 W 0) 460 4) 2 q (sR M 2 W 0))]
  unfold g_Sets_multiply_294
  rw [jmax (fun q => g_Sets_multiply_308 460 c d q (wL (sR M 2 W 0) (mR (sR M 2 W 0) 460 4) (ix 2) (g_Math_min_JJ (g_Math_min_JJ a b) (g_Math_min_JJ c d))))]
  simp only [mR_sR, h.R460_4, i32_2, sR465, tvk_sR, tek_sR, sR_sR, prB, prU, prLo, prHi, prLe, prGr]
  unfold g_Sets_multiply_308
  rw [jmax (fun q => g_Sets_multiply_325 460 (g_Math_max a b) q _)]
  unfold g_Sets_multiply_325 g_Sets_multiply_347
  rw [jmax (fun q => wL _ _ _ q)]
  simp only [mR_sR, h.R460_5, i32_2, sR466, tvk_sR, tek_sR, sR_sR, prB, prU, prLo, prHi, prLe, prGr]
  rfl
theorem kmul_242 (a b c d : Int64) (h : Sh M) (W : AV) : K_Sets_multiply_242 460 a b c d (sR M 2 W 0) := by
  unfold K_Sets_multiply_242 K_Sets_multiply_255 K_Sets_multiply_272 K_Sets_multiply_294 K_Sets_multiply_308 K_Sets_multiply_325 K_Sets_multiply_347
  simp [mR_sR, mR_wL, mT_sR, mT_wL, mN_sR, mN_wL, h.R460_0, h.R460_1, h.R460_2, h.R460_3, h.R460_4, h.R460_5, h.R460_6, h.T460, h.T461, h.T462, h.T463, h.T464, h.T465, h.T466, h.T467, h.N461, h.N462, h.N463, h.N464, h.N465, h.N466, h.N467, rk2']
theorem mul_55 (h : Sh M) (W : AV) : K_Sets_multiply_55 460 (sR M 2 W 0) ∧ g_Sets_multiply_55 460 (sR M 2 W 0) = sR M 2 ((W.unsIf (lg_cmp (g_Sieve_upper (mL M 464 0) (mL M 464 1)) 0 = 0) (mL M 463 0 * mL M 463 1) (mL M 464 0 * mL M 464 1)).sgnIf (¬ g_Sieve_fits (mL M 465 0) (mL M 465 1) = 0 ∧ ¬ g_Sieve_fits (mL M 465 0) (mL M 466 1) = 0 ∧ ¬ g_Sieve_fits (mL M 466 0) (mL M 465 1) = 0 ∧ ¬ g_Sieve_fits (mL M 466 0) (mL M 466 1) = 0)
    (g_Math_min_JJ (g_Math_min_JJ (mL M 465 0 * mL M 465 1) (mL M 465 0 * mL M 466 1)) (g_Math_min_JJ (mL M 466 0 * mL M 465 1) (mL M 466 0 * mL M 466 1))) (g_Math_max (g_Math_max (mL M 465 0 * mL M 465 1) (mL M 465 0 * mL M 466 1)) (g_Math_max (mL M 466 0 * mL M 465 1) (mL M 466 0 * mL M 466 1)))) 0 := by
  have k111 : ∀ V : AV, K_Sets_multiply_111 460 (sR M 2 V 0) ∧ g_Sets_multiply_111 460 (sR M 2 V 0) = sR M 2 (V.sgnIf (¬ g_Sieve_fits (mL M 465 0) (mL M 465 1) = 0 ∧ ¬ g_Sieve_fits (mL M 465 0) (mL M 466 1) = 0 ∧ ¬ g_Sieve_fits (mL M 466 0) (mL M 465 1) = 0 ∧ ¬ g_Sieve_fits (mL M 466 0) (mL M 466 1) = 0)
    (g_Math_min_JJ (g_Math_min_JJ (mL M 465 0 * mL M 465 1) (mL M 465 0 * mL M 466 1)) (g_Math_min_JJ (mL M 466 0 * mL M 465 1) (mL M 466 0 * mL M 466 1))) (g_Math_max (g_Math_max (mL M 465 0 * mL M 465 1) (mL M 465 0 * mL M 466 1)) (g_Math_max (mL M 466 0 * mL M 465 1) (mL M 466 0 * mL M 466 1)))) 0 := by
    intro V
    unfold g_Sets_multiply_111 K_Sets_multiply_111 g_Sets_multiply_197 K_Sets_multiply_197 g_Sets_multiply_212 K_Sets_multiply_212 g_Sets_multiply_227 K_Sets_multiply_227 AV.sgnIf
    simp only [mR_sR, mT_sR, mN_sR, h.R460_0, h.R460_1, h.R460_2, h.R460_3, h.R460_4, h.R460_5, h.R460_6, i32_0, i32_1, i32_2, r02, r12, isLong_eq, mul_242 _ _ _ _ h]
    constructor
    · simp [h.R460_0, h.R460_1, h.R460_2, h.R460_3, h.R460_4, h.R460_5, h.R460_6, h.T460, h.T461, h.T462, h.T463, h.T464, h.T465, h.T466, h.T467, h.N461, h.N462, h.N463, h.N464, h.N465, h.N466, h.N467, rk0', rk1', rk2', K_isLong, kmul_242 _ _ _ _ h]
    · by_cases c2 : g_Sieve_fits (mL M 465 0) (mL M 465 1) = 0 <;> by_cases c3 : g_Sieve_fits (mL M 465 0) (mL M 466 1) = 0 <;> by_cases c4 : g_Sieve_fits (mL M 466 0) (mL M 465 1) = 0 <;> by_cases c5 : g_Sieve_fits (mL M 466 0) (mL M 466 1) = 0 <;> simp only [c2, c3, c4, c5, if_true, if_false, not_true, not_false_iff, and_true, and_false, true_and, false_and]
  have hf : g_Sets_fits (mL M 464 0) (mL M 464 1) = 0 ↔ ¬ lg_cmp (g_Sieve_upper (mL M 464 0) (mL M 464 1)) 0 = 0 := by
    rw [upper_0]
    rcases fits0_01 (mL M 464 0) (mL M 464 1) with ⟨q1, q2⟩ | ⟨q1, q2⟩
    · rw [q1]; exact ⟨fun z => absurd z (by decide), fun z => absurd q2 z⟩
    · exact ⟨fun _ => q2, fun _ => q1⟩
  unfold g_Sets_multiply_55 K_Sets_multiply_55 g_Sets_multiply_92 K_Sets_multiply_92
  simp only [mR_sR, mR_wL, mT_sR, mT_wL, mN_sR, mN_wL, h.R460_0, h.R460_1, h.R460_2, h.R460_3, h.R460_4, h.R460_5, h.R460_6, i32_0, i32_1, i32_2, r02, r12, sR463, sR464, tvk_sR, tek_sR, sR_sR, prB, prU, prLo, prHi, prLe, prGr, (k111 _).2]
  constructor
  · simp [h.R460_0, h.R460_1, h.R460_2, h.R460_3, h.R460_4, h.R460_5, h.R460_6, h.T460, h.T461, h.T462, h.T463, h.T464, h.T465, h.T466, h.T467, h.N461, h.N462, h.N463, h.N464, h.N465, h.N466, h.N467, rk0', rk1', rk2', K_fits0, (k111 _).1]
  · conv => rhs; unfold AV.unsIf
    by_cases c : lg_cmp (g_Sieve_upper (mL M 464 0) (mL M 464 1)) 0 = 0
    · rw [if_neg (fun z => hf.mp z c), if_pos c]; rfl
    · rw [if_pos (hf.mpr c), if_neg c]
end TW2
section TW3
variable {M : XM}
theorem t_know (h : Sh M) {n : Nat} (hn : n < 2147483648) (v : Int64) : K_Sets_knowLowest 460 (Int32.ofNat n) v (sR M 2 vFree 0) ∧ g_Sets_knowLowest 460 (Int32.ofNat n) v (sR M 2 vFree 0) = sR M 2 (vFree.say v (g_Sieve_mask (g_Math_min_II 64 (Int32.ofNat n)) ^^^ (-1))) 0 := by
  have e := know_eq hn
  unfold g_Sets_knowLowest g_Sets_knowLowest_0 g_Sets_knowLowest_17 K_Sets_knowLowest K_Sets_knowLowest_0 K_Sets_knowLowest_17 AV.say
  rw [← e, cpl_cpl]
  simp only [mR_sR, mR_wL, mT_sR, mT_wL, mN_sR, mN_wL, h.R460_0, h.R460_1, h.R460_2, h.R460_3, h.R460_4, h.R460_5, h.R460_6, i32_2, sR461, sR462, tvk_sR, tek_sR, sR_sR, prB, prU, prLo, prHi, prLe, prGr]
  constructor
  · simp [h.R460_0, h.R460_1, h.R460_2, h.R460_3, h.R460_4, h.R460_5, h.R460_6, h.T460, h.T461, h.T462, h.T463, h.T464, h.T465, h.T466, h.T467, h.N461, h.N462, h.N463, h.N464, h.N465, h.N466, h.N467, rk2']
  · by_cases c : Int32.ofNat n < 64 <;> simp only [c, if_true, if_false]
theorem t_mul (h : Sh M) : K_Sets_multiply 460 (sR M 2 vFree 0) ∧ g_Sets_multiply 460 (sR M 2 vFree 0) = sR M 2 (oMul vFree (tvk M 0) (tvk M 1)) 0 := by
  have s1 : Sh (sR M 2 vFree 0) := h.kept rfl
  have a0 := lowest_0 (s1.ss rk0)
  have a1 := lowest_0 (s1.ss rk1)
  have b0 := lowest_1 (s1.ss rk0)
  have b1 := lowest_1 (s1.ss rk1)
  rw [s1.tv, i32_0, tvk_sRne _ _ _ (by decide)] at a0 b0
  rw [s1.tv, i32_1, tvk_sRne _ _ _ (by decide)] at a1 b1
  obtain ⟨kx, e1, l1⟩ := ntzL (tvk M 0).u
  obtain ⟨ky, e2, l2⟩ := ntzL (tvk M 1).u
  obtain ⟨zx, e3, l3⟩ := ntzL ((tvk M 0).u ||| (tvk M 0).b)
  obtain ⟨zy, e4, l4⟩ := ntzL ((tvk M 1).u ||| (tvk M 1).b)
  have q1 := l1.1
  have q2 := l2.1
  have q3 := l3.1
  have q4 := l4.1
  have eK : mulK (tvk M 0) (tvk M 1) = g_Math_min_II 64 (Int32.ofNat (min (kx + zy) (ky + zx))) := by
    unfold mulK
    rw [e1, e2, e3, e4, i32_add, i32_add, min_ii (by omega) (by omega)]
  obtain ⟨kn, tn⟩ := t_know h (n := min (kx + zy) (ky + zx)) (by omega) (mL M 461 0 * mL M 461 1)
  rw [← eK] at tn
  have le : Int32.ofNat (ky + zx) ≤ Int32.ofNat (kx + zy) ↔ ky + zx ≤ kx + zy := by
    rw [Int32.le_iff_toInt_le, toInt_ofNat32 (by omega), toInt_ofNat32 (by omega)]; omega
  -- behind knowLowest
  have fin : ∀ n, n = Int32.ofNat (min (kx + zy) (ky + zx)) → K_Sets_multiply_39 460 460 n (sR M 2 vFree 0) ∧ g_Sets_multiply_39 460 460 n (sR M 2 vFree 0) = sR M 2 (oMul vFree (tvk M 0) (tvk M 1)) 0 := by
    intro n hn
    rw [hn]
    unfold g_Sets_multiply_39 K_Sets_multiply_39
    simp only [mR_sR, h.R460_0, h.R460_1, h.R460_2, h.R460_3, h.R460_4, h.R460_5, h.R460_6, i32_0, i32_1, r02, r12, tn]
    obtain ⟨f1, f2⟩ := mul_55 h (vFree.say (mL M 461 0 * mL M 461 1) (g_Sieve_mask (mulK (tvk M 0) (tvk M 1)) ^^^ (-1)))
    refine ⟨?_, f2⟩
    simp only [mT_sR, mN_sR, h.R460_0, h.R460_1, h.R460_2, h.R460_3, h.R460_4, h.R460_5, h.R460_6, h.T460, h.T461, h.T462, h.T463, h.T464, h.T465, h.T466, h.T467, h.N461, h.N462, h.N463, h.N464, h.N465, h.N466, h.N467, rk0', rk1', kn, f1, eq_self, true_and, and_true, and_self]
  unfold g_Sets_multiply K_Sets_multiply g_Sets_multiply_0 K_Sets_multiply_0 g_Sets_multiply_14 K_Sets_multiply_14 g_Sets_multiply_28 K_Sets_multiply_28
  rw [a0.2, a1.2, b0.2, b1.2, e1, e2, e3, e4, i32_add, i32_add]
  have s27 := s1.T460
  by_cases c : ky + zx ≤ kx + zy
  · rw [if_pos (le.mpr c)]
    obtain ⟨f1, f2⟩ := fin (Int32.ofNat (ky + zx)) (by rw [Nat.min_eq_right c])
    exact ⟨⟨s27, a0.1, s27, b1.1, s27, a1.1, s27, b0.1, fun _ => f1, fun z => absurd (le.mpr c) z⟩, f2⟩
  · rw [if_neg (fun z => c (le.mp z))]
    obtain ⟨f1, f2⟩ := fin (Int32.ofNat (kx + zy)) (by rw [Nat.min_eq_left (by omega)])
    exact ⟨⟨s27, a0.1, s27, b1.1, s27, a1.1, s27, b0.1, fun z => absurd (le.mp z) c, fun _ => f1⟩, f2⟩
end TW3
