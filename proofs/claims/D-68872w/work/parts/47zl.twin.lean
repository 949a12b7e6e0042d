/-! part 47zl: the twin's shifts (gen/tpl.py) -/
theorem clr_of {p q : Int64} (h : ∀ j, j < 64 → (tb p j && tb q j) = false) : p &&& (q ^^^ (-1)) = p := tb_ext fun j hj => by
  have := h j hj
  rw [tb_and, tb_cpl]
  cases c1 : tb p j <;> cases c2 : tb q j <;> simp_all
theorem shl_clr {w : AV} (h : bu w) {n : Nat} (hn : n < 64) : j_lshl w.b (Int32.ofNat n) &&& (j_lshl w.u (Int32.ofNat n) ^^^ (-1)) = j_lshl w.b (Int32.ofNat n) := clr_of fun j hj => by
  have := vb_f h (j - n)
  rw [tb_shl hn, tb_shl hn]
  cases c1 : tb w.b (j - n) <;> cases c2 : tb w.u (j - n) <;> simp_all
theorem shr_clr {w : AV} (h : bu w) {n : Nat} (hn : n < 64) : j_lushr w.b (Int32.ofNat n) &&& (j_lushr w.u (Int32.ofNat n) ^^^ (-1)) = j_lushr w.b (Int32.ofNat n) := clr_of fun j hj => by
  rw [tb_shr hn, tb_shr hn]; exact vb_f h (n + j)
theorem sar_clr {w : AV} (h : bu w) {n : Nat} (hn : n < 64) : j_lshr w.b (Int32.ofNat n) &&& (j_lshr w.u (Int32.ofNat n) ^^^ (-1)) = j_lshr w.b (Int32.ofNat n) := clr_of fun j hj => by
  rw [tb_sar hn, tb_sar hn]
  by_cases c : n + j < 64
  · rw [if_pos c, if_pos c]
    have := vb_f h (n + j)
    cases c1 : tb w.b (n + j) <;> cases c2 : tb w.u (n + j) <;> simp_all
  · rw [if_neg c, if_neg c]
    have := vb_f h 63
    cases c1 : tb w.b 63 <;> cases c2 : tb w.u 63 <;> simp_all
theorem i32_64m : ∀ n : Fin 64, 0 < n.val → (64 : Int32) - Int32.ofNat n.val = Int32.ofNat (64 - n.val) := by decide +kernel
theorem i32_ne0 : ∀ n : Fin 64, 0 < n.val → ¬ Int32.ofNat n.val = 0 := by decide +kernel
theorem shl_back {n : Nat} (hn : n < 64) {h : Int64} (e : un h * 2 ^ n < 18446744073709551616) : j_lushr (j_lshl h (Int32.ofNat n)) (Int32.ofNat n) = h := by
  apply un_inj
  rw [un_shr hn, un_shl hn, Nat.mod_eq_of_lt e]
  exact Nat.mul_div_cancel _ (Nat.two_pow_pos n)
/-- whether nothing is lost -/
theorem shlc {n : Nat} (hn : n < 64) (hn0 : 0 < n) (h : Int64) : lg_cmp (j_lushr h (64 - Int32.ofNat n)) 0 = 0 ↔ lg_cmp (j_lushr (j_lshl h (Int32.ofNat n)) (Int32.ofNat n)) h = 0 := by
  have e64 : (64 : Int32) - Int32.ofNat n = Int32.ofNat (64 - n) := i32_64m ⟨n, hn⟩ hn0
  rw [e64, cmp_eq, cmp_eq]
  have p64 : 2 ^ n * 2 ^ (64 - n) = 18446744073709551616 := by
    rw [← Nat.pow_add, show n + (64 - n) = 64 by omega]
  have pp := Nat.two_pow_pos (64 - n)
  have pn := Nat.two_pow_pos n
  have key : un h * 2 ^ n < 18446744073709551616 ↔ un h < 2 ^ (64 - n) := by
    rw [← p64, Nat.mul_comm (un h)]
    exact Nat.mul_lt_mul_left pn
  constructor
  · intro z
    have z' := congrArg un z
    rw [un_shr (by omega), show un 0 = 0 from rfl] at z'
    have : un h < 2 ^ (64 - n) := by
      refine Classical.byContradiction fun c => ?_
      have := Nat.div_pos (Nat.not_lt.mp c) pp
      omega
    exact shl_back hn (key.mpr this)
  · intro z
    apply un_inj
    rw [un_shr (by omega), Nat.div_eq_of_lt (key.mp (shl_fit hn z))]
    rfl
section TW4
variable {M : XM}
theorem left_18 (h : Sh M) (bx : bu (tvk M 0)) {n : Nat} (hn : n < 64) : K_Sets_left_18 460 (Int32.ofNat n) (sR M 2 vFree 0) ∧ g_Sets_left_18 460 (Int32.ofNat n) (sR M 2 vFree 0) = sR M 2 (shlBy vFree (tvk M 0) (Int32.ofNat n)) 0 := by
  have c0 := shl_clr bx hn
  have k94 : ∀ V : AV, K_Sets_left_94 460 (Int32.ofNat n) (sR M 2 V 0) ∧ g_Sets_left_94 460 (Int32.ofNat n) (sR M 2 V 0) = sR M 2 (V.sgnIf (lg_cmp (j_lshr (j_lshl (mL M 465 0) (Int32.ofNat n)) (Int32.ofNat n)) (mL M 465 0) = 0 ∧ lg_cmp (j_lshr (j_lshl (mL M 466 0) (Int32.ofNat n)) (Int32.ofNat n)) (mL M 466 0) = 0) (j_lshl (mL M 465 0) (Int32.ofNat n)) (j_lshl (mL M 466 0) (Int32.ofNat n))) 0 := by
    intro V
    unfold g_Sets_left_94 K_Sets_left_94 g_Sets_left_148 K_Sets_left_148 AV.sgnIf AV.sgn
    simp only [mR_sR, mR_wL, mT_sR, mT_wL, mN_sR, mN_wL, h.R460_0, h.R460_1, h.R460_2, h.R460_3, h.R460_4, h.R460_5, h.R460_6, i32_0, i32_2, r02, sR465, sR466, tvk_sR, tek_sR, sR_sR, prB, prU, prLo, prHi, prLe, prGr]
    constructor
    · simp [h.R460_0, h.R460_1, h.R460_2, h.R460_3, h.R460_4, h.R460_5, h.R460_6, h.T460, h.T461, h.T462, h.T463, h.T464, h.T465, h.T466, h.T467, h.N461, h.N462, h.N463, h.N464, h.N465, h.N466, h.N467, rk0', rk2']
    · by_cases c2 : lg_cmp (j_lshr (j_lshl (mL M 465 0) (Int32.ofNat n)) (Int32.ofNat n)) (mL M 465 0) = 0 <;> by_cases c3 : lg_cmp (j_lshr (j_lshl (mL M 466 0) (Int32.ofNat n)) (Int32.ofNat n)) (mL M 466 0) = 0 <;> simp only [c2, c3, if_true, if_false, and_true, and_false, true_and, false_and]
  have k66 : ∀ V : AV, K_Sets_left_66 460 (Int32.ofNat n) (sR M 2 V 0) ∧ g_Sets_left_66 460 (Int32.ofNat n) (sR M 2 V 0) = g_Sets_left_94 460 (Int32.ofNat n) (sR M 2 (V.uns (j_lshl (mL M 463 0) (Int32.ofNat n)) (j_lshl (mL M 464 0) (Int32.ofNat n))) 0) := by
    intro V
    unfold g_Sets_left_66 K_Sets_left_66 g_Sets_left_80 K_Sets_left_80 AV.uns
    simp only [mR_sR, mR_wL, mT_sR, mT_wL, mN_sR, mN_wL, h.R460_0, h.R460_1, h.R460_2, h.R460_3, h.R460_4, h.R460_5, h.R460_6, i32_0, i32_2, r02, sR463, sR464, tvk_sR, tek_sR, sR_sR, prB, prU, prLo, prHi, prLe, prGr]
    constructor
    · simp [h.R460_0, h.R460_1, h.R460_2, h.R460_3, h.R460_4, h.R460_5, h.R460_6, h.T460, h.T461, h.T462, h.T463, h.T464, h.T465, h.T466, h.T467, h.N461, h.N462, h.N463, h.N464, h.N465, h.N466, h.N467, rk0', rk2', (k94 _).1]
    · trivial
  unfold g_Sets_left_18 K_Sets_left_18 g_Sets_left_32 K_Sets_left_32 g_Sets_left_55 K_Sets_left_55
  simp only [mR_sR, mR_wL, mT_sR, mT_wL, mN_sR, mN_wL, h.R460_0, h.R460_1, h.R460_2, h.R460_3, h.R460_4, h.R460_5, h.R460_6, i32_0, i32_2, r02, sR461, sR462, tvk_sR, tek_sR, sR_sR, prB, prU, prLo, prHi, prLe, prGr, (k66 _).2, (k94 _).2]
  constructor
  · simp [h.R460_0, h.R460_1, h.R460_2, h.R460_3, h.R460_4, h.R460_5, h.R460_6, h.T460, h.T461, h.T462, h.T463, h.T464, h.T465, h.T466, h.T467, h.N461, h.N462, h.N463, h.N464, h.N465, h.N466, h.N467, rk0', rk2', (k94 _).1, (k66 _).1]
  · unfold shlBy AV.say AV.unsIf AV.sgnIf AV.uns AV.sgn
    rw [c0]
    simp only [tkb, tku, tklo, tkhi, tkle, tkgr]
    by_cases n0 : n = 0
    · have e0 : Int32.ofNat n = 0 := by rw [n0]; rfl
      have e1 : lg_cmp (j_lushr (j_lshl (mL M 464 0) (Int32.ofNat n)) (Int32.ofNat n)) (mL M 464 0) = 0 := by
        rw [cmp_eq]
        refine shl_back hn ?_
        have := un_lt (mL M 464 0)
        rw [n0]; omega
      rw [if_pos e0]
      simp only [e1, if_true]
    · have ne : ¬ Int32.ofNat n = 0 := i32_ne0 ⟨n, hn⟩ (Nat.pos_of_ne_zero n0)
      rw [if_neg ne]
      by_cases c : lg_cmp (j_lushr (j_lshl (mL M 464 0) (Int32.ofNat n)) (Int32.ofNat n)) (mL M 464 0) = 0
      · have c' := (shlc hn (Nat.pos_of_ne_zero n0) _).mpr c
        simp only [c, c', if_true]
      · have c' := fun z => c ((shlc hn (Nat.pos_of_ne_zero n0) _).mp z)
        rw [if_neg c']
        simp only [c, if_false]
theorem left_188 (h : Sh M) {q : Nat} (hq : q < 64) : K_Sets_left_188 460 (Int32.ofNat q) (sR M 2 vFree 0) ∧ g_Sets_left_188 460 (Int32.ofNat q) (sR M 2 vFree 0) = sR M 2 (shlTo vFree (tvk M 0) (Int32.ofNat q)) 0 := by
  have s1 : Sh (sR M 2 vFree 0) := h.kept rfl
  have b0 := lowest_1 (s1.ss rk0)
  rw [s1.tv, i32_0, tvk_sRne _ _ _ (by decide)] at b0
  obtain ⟨zx, e3, l3⟩ := ntzL ((tvk M 0).u ||| (tvk M 0).b)
  have q3 := l3.1
  obtain ⟨kn, tn⟩ := t_know h (n := zx + q) (by omega) 0
  unfold g_Sets_left_188 K_Sets_left_188 shlTo
  rw [b0.2, e3, i32_add]
  exact ⟨⟨s1.T460, b0.1, s1.T460, kn⟩, tn⟩
theorem shR_18 (h : Sh M) (bx : bu (tvk M 0)) {n : Nat} (hn : n < 64) : K_Sets_right_18 460 (Int32.ofNat n) (sR M 2 vFree 0) ∧ g_Sets_right_18 460 (Int32.ofNat n) (sR M 2 vFree 0) = sR M 2 (shrBy vFree (tvk M 0) (Int32.ofNat n)) 0 := by
  have c0 := shr_clr bx hn
  unfold g_Sets_right_18 K_Sets_right_18 g_Sets_right_32 K_Sets_right_32 g_Sets_right_46 K_Sets_right_46 g_Sets_right_60 K_Sets_right_60 shrBy AV.say AV.uns
  rw [c0]
  simp only [mR_sR, mR_wL, mT_sR, mT_wL, mN_sR, mN_wL, h.R460_0, h.R460_1, h.R460_2, h.R460_3, h.R460_4, h.R460_5, h.R460_6, i32_0, i32_2, r02, sR461, sR462, sR463, sR464, tvk_sR, tek_sR, sR_sR, prB, prU, prLo, prHi, prLe, prGr, tkb, tku, tklo, tkhi]
  constructor
  · simp [h.R460_0, h.R460_1, h.R460_2, h.R460_3, h.R460_4, h.R460_5, h.R460_6, h.T460, h.T461, h.T462, h.T463, h.T464, h.T465, h.T466, h.T467, h.N461, h.N462, h.N463, h.N464, h.N465, h.N466, h.N467, rk0', rk2']
  · trivial
theorem sar_18 (h : Sh M) (bx : bu (tvk M 0)) {n : Nat} (hn : n < 64) : K_Sets_signedRight_18 460 (Int32.ofNat n) (sR M 2 vFree 0) ∧ g_Sets_signedRight_18 460 (Int32.ofNat n) (sR M 2 vFree 0) = sR M 2 (sarBy vFree (tvk M 0) (Int32.ofNat n)) 0 := by
  have c0 := sar_clr bx hn
  unfold g_Sets_signedRight_18 K_Sets_signedRight_18 g_Sets_signedRight_32 K_Sets_signedRight_32 g_Sets_signedRight_46 K_Sets_signedRight_46 g_Sets_signedRight_60 K_Sets_signedRight_60 sarBy AV.say AV.sgn
  rw [c0]
  simp only [mR_sR, mR_wL, mT_sR, mT_wL, mN_sR, mN_wL, h.R460_0, h.R460_1, h.R460_2, h.R460_3, h.R460_4, h.R460_5, h.R460_6, i32_0, i32_2, r02, sR461, sR462, sR465, sR466, tvk_sR, tek_sR, sR_sR, prB, prU, prLo, prHi, prLe, prGr, tkb, tku, tkle, tkgr]
  constructor
  · simp [h.R460_0, h.R460_1, h.R460_2, h.R460_3, h.R460_4, h.R460_5, h.R460_6, h.T460, h.T461, h.T462, h.T463, h.T464, h.T465, h.T466, h.T467, h.N461, h.N462, h.N463, h.N464, h.N465, h.N466, h.N467, rk0', rk2']
  · trivial
theorem shR_94 (h : Sh M) (most s0 : Int32) : K_Sets_right_94 460 most s0 (sR M 2 vFree 0) ∧ g_Sets_right_94 460 most s0 (sR M 2 vFree 0) = sR M 2 (shrTo vFree (tvk M 0) (if s0 = 0 then 0 else Int64.toInt32 (mL M 463 1)) (if s0 = 0 then most else Int64.toInt32 (mL M 464 1))) 0 := by
  unfold g_Sets_right_94 K_Sets_right_94 g_Sets_right_121 K_Sets_right_121 g_Sets_right_123 K_Sets_right_123 g_Sets_right_149 K_Sets_right_149 shrTo AV.uns
  simp only [mR_sR, mR_wL, mT_sR, mT_wL, mN_sR, mN_wL, h.R460_0, h.R460_1, h.R460_2, h.R460_3, h.R460_4, h.R460_5, h.R460_6, i32_0, i32_1, i32_2, r02, r12, sR463, sR464, tvk_sR, tek_sR, sR_sR, prB, prU, prLo, prHi, prLe, prGr, tklo, tkhi]
  constructor
  · simp [h.R460_0, h.R460_1, h.R460_2, h.R460_3, h.R460_4, h.R460_5, h.R460_6, h.T460, h.T461, h.T462, h.T463, h.T464, h.T465, h.T466, h.T467, h.N461, h.N462, h.N463, h.N464, h.N465, h.N466, h.N467, rk0', rk1', rk2']
  · by_cases c : s0 = 0 <;> simp only [c, if_true, if_false]
theorem sar_94 (h : Sh M) (most s0 : Int32) : K_Sets_signedRight_94 460 most s0 (sR M 2 vFree 0) ∧ g_Sets_signedRight_94 460 most s0 (sR M 2 vFree 0) = sR M 2 (sarTo vFree (tvk M 0) (if s0 = 0 then 0 else Int64.toInt32 (mL M 463 1)) (if s0 = 0 then most else Int64.toInt32 (mL M 464 1))) 0 := by
  have g126 : ∀ f t, K_Sets_signedRight_126 460 f t (sR M 2 vFree 0) ∧ g_Sets_signedRight_126 460 f t (sR M 2 vFree 0) = sR M 2 (sarTo vFree (tvk M 0) f t) 0 := by
    intro f t
    unfold g_Sets_signedRight_126 K_Sets_signedRight_126 g_Sets_signedRight_138 K_Sets_signedRight_138 g_Sets_signedRight_149 K_Sets_signedRight_149 sarTo AV.sgn
    constructor
    · unfold K_Sets_signedRight_169 K_Sets_signedRight_170 K_Sets_signedRight_180 K_Sets_signedRight_191 K_Sets_signedRight_211
      simp [mR_sR, mR_wL, mT_sR, mT_wL, mN_sR, mN_wL, h.R460_0, h.R460_1, h.R460_2, h.R460_3, h.R460_4, h.R460_5, h.R460_6, h.T460, h.T461, h.T462, h.T463, h.T464, h.T465, h.T466, h.T467, h.N461, h.N462, h.N463, h.N464, h.N465, h.N466, h.N467, rk0', rk1', rk2']
    · rw [jmin (fun q => g_Sets_signedRight_169 460 f t (mR (sR M 2 vFree 0) 460 4) 2 q (sR M 2 vFree 0))]
      unfold g_Sets_signedRight_169 g_Sets_signedRight_170 g_Sets_signedRight_180 g_Sets_signedRight_191 g_Sets_signedRight_211
      rw [jmax (fun q => wL _ _ _ q)]
      simp only [mR_sR, mR_wL, h.R460_0, h.R460_1, h.R460_2, h.R460_3, h.R460_4, h.R460_5, h.R460_6, i32_0, i32_2, r02, sR465, sR466, tvk_sR, tek_sR, sR_sR, prB, prU, prLo, prHi, prLe, prGr, tkle, tkgr]
  unfold g_Sets_signedRight_94 K_Sets_signedRight_94 g_Sets_signedRight_110 K_Sets_signedRight_110
  simp only [mR_sR, mT_sR, mN_sR, h.R460_0, h.R460_1, h.R460_2, h.R460_3, h.R460_4, h.R460_5, h.R460_6, i32_1, r12, (g126 _ _).2]
  constructor
  · simp [h.R460_0, h.R460_1, h.R460_2, h.R460_3, h.R460_4, h.R460_5, h.R460_6, h.T460, h.T461, h.T462, h.T463, h.T464, h.T465, h.T466, h.T467, h.N461, h.N462, h.N463, h.N464, h.N465, h.N466, h.N467, rk1', (g126 _ _).1]
  · by_cases c : s0 = 0 <;> simp only [c, if_true, if_false]
theorem t_shift (h : Sh M) {k : Nat} {most : Int32} (hk : k = 8 ∨ k = 9 ∨ k = 10) (hm : most = 63 ∨ most = 31) (bx : bu (tvk M 0)) (hy : Tt (tvk M 1)) :
    (k = 8 → K_Sets_left 460 most (sR M 2 vFree 0) ∧ g_Sets_left 460 most (sR M 2 vFree 0) = sR M 2 (oShift 8 most vFree (tvk M 0) (tvk M 1)) 0) ∧
    (k = 9 → K_Sets_right 460 most (sR M 2 vFree 0) ∧ g_Sets_right 460 most (sR M 2 vFree 0) = sR M 2 (oShift 9 most vFree (tvk M 0) (tvk M 1)) 0) ∧
    (k = 10 → K_Sets_signedRight 460 most (sR M 2 vFree 0) ∧ g_Sets_signedRight 460 most (sR M 2 vFree 0) = sR M 2 (oShift 10 most vFree (tvk M 0) (tvk M 1)) 0) := by
  have amt : ∃ n, n < 64 ∧ Int64.toInt32 (tvk M 1).b &&& most = Int32.ofNat n := by
    rcases hm with rfl | rfl
    · exact amt63 _
    · obtain ⟨n, h1, h2⟩ := amt31 (Int64.toInt32 (tvk M 1).b)
      exact ⟨n, by omega, h2⟩
  obtain ⟨n, hn, en⟩ := amt
  have um : un (Int32.toInt64 most) < 64 := by rcases hm with rfl | rfl <;> decide
  have sg := hy.single
  have sT := h.T460
  have kS : K_Sets_isSingle 460 1 (sR M 2 vFree 0) := by
    unfold K_Sets_isSingle K_Sets_isSingle_0
    simp [mR_sR, mT_sR, mN_sR, h.R460_0, h.R460_1, h.R460_2, h.R460_3, h.R460_4, h.R460_5, h.R460_6, h.T460, h.T461, h.T462, h.T463, h.T464, h.T465, h.T466, h.T467, h.N461, h.N462, h.N463, h.N464, h.N465, h.N466, h.N467, rk1']
  have gS : g_Sets_isSingle 460 1 (sR M 2 vFree 0) = if lg_cmp (mL M 463 1) (mL M 464 1) = 0 then 1 else 0 := by
    unfold g_Sets_isSingle g_Sets_isSingle_0
    simp only [mR_sR, h.R460_0, h.R460_1, h.R460_2, h.R460_3, h.R460_4, h.R460_5, h.R460_6, i32_1, r12]
  have i1 : ¬ (1 : Int32) = 0 := by decide
  unfold g_Sets_left g_Sets_left_0 K_Sets_left K_Sets_left_0 g_Sets_right g_Sets_right_0 K_Sets_right K_Sets_right_0 g_Sets_signedRight g_Sets_signedRight_0 K_Sets_signedRight K_Sets_signedRight_0 oShift
  rw [gS]
  simp only [mR_sR, mT_sR, mN_sR, h.R460_0, h.R460_1, h.R460_2, h.R460_3, h.R460_4, h.R460_5, h.R460_6, i32_1, r12, below_eq]
  by_cases c1 : lg_cmp (tvk M 1).u 0 = 0
  · have u0 := cmp_eq.mp c1
    have lh : lg_cmp (mL M 463 1) (mL M 464 1) = 0 := cmp_eq.mpr (sg.mp u0)
    have lb : mL M 463 1 = (tvk M 1).b := vin_known u0 _ hy.1.1
    rw [if_pos lh, if_neg i1, if_neg i1, if_neg i1, if_pos c1, if_pos c1, if_pos c1, lb, en]
    have L := left_18 h bx hn
    have R := shR_18 h bx hn
    have S := sar_18 h bx hn
    refine ⟨fun _ => ⟨?_, L.2⟩, fun _ => ⟨?_, R.2⟩, fun _ => ⟨?_, S.2⟩⟩
    · simp [h.R460_0, h.R460_1, h.R460_2, h.R460_3, h.R460_4, h.R460_5, h.R460_6, h.T460, h.T461, h.T462, h.T463, h.T464, h.T465, h.T466, h.T467, h.N461, h.N462, h.N463, h.N464, h.N465, h.N466, h.N467, rk1', kS, L.1, i1]
    · simp [h.R460_0, h.R460_1, h.R460_2, h.R460_3, h.R460_4, h.R460_5, h.R460_6, h.T460, h.T461, h.T462, h.T463, h.T464, h.T465, h.T466, h.T467, h.N461, h.N462, h.N463, h.N464, h.N465, h.N466, h.N467, rk1', kS, R.1, i1]
    · simp [h.R460_0, h.R460_1, h.R460_2, h.R460_3, h.R460_4, h.R460_5, h.R460_6, h.T460, h.T461, h.T462, h.T463, h.T464, h.T465, h.T466, h.T467, h.N461, h.N462, h.N463, h.N464, h.N465, h.N466, h.N467, rk1', kS, S.1, i1]
  · have u0 : ¬ (tvk M 1).u = 0 := fun z => c1 (cmp_eq.mpr z)
    have lh : ¬ lg_cmp (mL M 463 1) (mL M 464 1) = 0 := fun z => u0 (sg.mpr (cmp_eq.mp z))
    rw [if_neg lh, if_pos rfl, if_pos rfl, if_pos rfl, if_neg c1, if_neg c1, if_neg c1]
    have hlh : un (mL M 463 1) ≤ un (mL M 464 1) := hy.1.2 _ hy.2.1.1
    by_cases c2 : g_Sieve_isLess (Int32.toInt64 most) (mL M 464 1) = 0
    · have c2' := isLess_0.mp c2
      have e1 : Int64.toInt32 (mL M 463 1) = Int32.ofNat (un (mL M 463 1)) := l2i_small (by omega)
      have L := left_188 h (q := un (mL M 463 1)) (by omega)
      rw [← e1] at L
      have R := shR_94 h most 1
      have S := sar_94 h most 1
      rw [if_neg i1, if_neg i1] at R S
      have c3 : g_Sieve_isLess (Int32.toInt64 most) (tvk M 1).hi = 0 := c2
      rw [if_pos c2, if_pos c2, if_pos c2, if_pos c3, if_pos c3, if_pos c3]
      refine ⟨fun _ => ⟨?_, L.2⟩, fun _ => ⟨?_, R.2⟩, fun _ => ⟨?_, S.2⟩⟩
      · simp [h.R460_0, h.R460_1, h.R460_2, h.R460_3, h.R460_4, h.R460_5, h.R460_6, h.T460, h.T461, h.T462, h.T463, h.T464, h.T465, h.T466, h.T467, h.N461, h.N462, h.N463, h.N464, h.N465, h.N466, h.N467, rk1', kS, L.1, c2]
      · simp [h.R460_0, h.R460_1, h.R460_2, h.R460_3, h.R460_4, h.R460_5, h.R460_6, h.T460, h.T461, h.T462, h.T463, h.T464, h.T465, h.T466, h.T467, h.N461, h.N462, h.N463, h.N464, h.N465, h.N466, h.N467, rk1', kS, R.1, c2]
      · simp [h.R460_0, h.R460_1, h.R460_2, h.R460_3, h.R460_4, h.R460_5, h.R460_6, h.T460, h.T461, h.T462, h.T463, h.T464, h.T465, h.T466, h.T467, h.N461, h.N462, h.N463, h.N464, h.N465, h.N466, h.N467, rk1', kS, S.1, c2]
    · have L := left_188 h (q := 0) (by decide)
      rw [show Int32.ofNat 0 = 0 from rfl] at L
      have R := shR_94 h most 0
      have S := sar_94 h most 0
      rw [if_pos rfl, if_pos rfl] at R S
      have c3 : ¬ g_Sieve_isLess (Int32.toInt64 most) (tvk M 1).hi = 0 := c2
      rw [if_neg c2, if_neg c2, if_neg c2, if_neg c3, if_neg c3, if_neg c3]
      refine ⟨fun _ => ⟨?_, L.2⟩, fun _ => ⟨?_, R.2⟩, fun _ => ⟨?_, S.2⟩⟩
      · simp [h.R460_0, h.R460_1, h.R460_2, h.R460_3, h.R460_4, h.R460_5, h.R460_6, h.T460, h.T461, h.T462, h.T463, h.T464, h.T465, h.T466, h.T467, h.N461, h.N462, h.N463, h.N464, h.N465, h.N466, h.N467, rk1', kS, L.1, c2]
      · simp [h.R460_0, h.R460_1, h.R460_2, h.R460_3, h.R460_4, h.R460_5, h.R460_6, h.T460, h.T461, h.T462, h.T463, h.T464, h.T465, h.T466, h.T467, h.N461, h.N462, h.N463, h.N464, h.N465, h.N466, h.N467, rk1', kS, R.1, c2]
      · simp [h.R460_0, h.R460_1, h.R460_2, h.R460_3, h.R460_4, h.R460_5, h.R460_6, h.T460, h.T461, h.T462, h.T463, h.T464, h.T465, h.T466, h.T467, h.N461, h.N462, h.N463, h.N464, h.N465, h.N466, h.N467, rk1', kS, S.1, c2]
end TW4
