/-! part 47zi: the twin's extendRow, swapRow (gen/tpl.py) -/
theorem i32_10 : ((1 : Int32) = 0) = False := eq_false (by decide)
def tExt (n : Int32) (x : AV) : AV := (if lg_cmp (x.u &&& j_lshl 1 (n - 1)) 0 = 0 then (if lg_cmp (x.b &&& j_lshl 1 (n - 1)) 0 = 0 then x.b else x.b ||| (g_Sets_mask n ^^^ (-1))) else x.b, if lg_cmp (x.u &&& j_lshl 1 (n - 1)) 0 = 0 then x.u else x.u ||| (g_Sets_mask n ^^^ (-1)), 0, -1,
  if 0 ≤ lg_cmp x.hi (j_lshl 1 (n - 1)) then (if lg_cmp x.lo (j_lshl 1 (n - 1)) < 0 then 0 - j_lshl 1 (n - 1) else x.lo - g_Sets_mask n - 1) else x.lo,
  if 0 ≤ lg_cmp x.hi (j_lshl 1 (n - 1)) then (if lg_cmp x.lo (j_lshl 1 (n - 1)) < 0 then j_lshl 1 (n - 1) - 1 else x.hi - g_Sets_mask n - 1) else x.hi)
theorem tExt_eq {x : AV} (hb : bu x) {n : Nat} (hn : 0 < n) (hn2 : n < 63) (hbits : ∀ j, n ≤ j → tb x.b j = false ∧ tb x.u j = false) : tExt (Int32.ofNat n) x = rExt (Int32.ofNat n) x := by
  have e1 : Int32.ofNat n - 1 = Int32.ofNat (n - 1) := half_i32 ⟨n, by omega⟩ hn
  have em : g_Sets_mask (Int32.ofNat n) = g_Sieve_mask (Int32.ofNat n) := rfl
  have hm := mask_tb' (n := n) (by omega)
  have hbt : ∀ j, tb (j_lshl 1 (Int32.ofNat (n - 1))) j = decide (j = n - 1) := tb_bit (by omega)
  have zt : ∀ y : Int64, lg_cmp (y &&& j_lshl 1 (Int32.ofNat (n - 1))) 0 = 0 ↔ tb y (n - 1) = false := by
    intro y
    rw [cmp_eq]
    constructor
    · intro h
      have := congrArg (fun z => tb z (n - 1)) h
      simp only [tb_and, hbt, tb_zero, decide_true, Bool.and_true] at this
      exact this
    · intro h
      refine tb_ext fun j _ => ?_
      rw [tb_and, hbt, tb_zero]
      by_cases q : j = n - 1
      · rw [q, h]; rfl
      · simp [q]
  have m1 : ∀ z : Int64, z - g_Sieve_mask (Int32.ofNat n) - 1 = z - 2 * j_lshl 1 (Int32.ofNat (n - 1)) := by
    intro z
    have h64 : ¬ Int32.ofNat n = 64 := fun q => by
      have := congrArg u3 q
      rw [u3_ofNat (by omega)] at this
      have : n = 64 := this
      omega
    have pn : 2 ^ n = 2 * 2 ^ (n - 1) := by
      rw [show n = (n - 1) + 1 by omega, Nat.pow_succ]; simp; omega
    have p62 : 2 ^ n ≤ 4611686018427387904 := by
      have : 2 ^ n ≤ 2 ^ 62 := Nat.pow_le_pow_right (by decide) (by omega)
      exact this
    have pp := Nat.two_pow_pos (n - 1)
    have u1 : un (g_Sieve_mask (Int32.ofNat n)) = 2 ^ n - 1 := by
      unfold g_Sieve_mask g_Sieve_mask_0
      rw [if_neg h64, un_sub, bitN (n := n) (by omega), show un 1 = 1 from rfl]
      show (18446744073709551616 - 1 + 2 ^ n) % 18446744073709551616 = 2 ^ n - 1
      omega
    have u2 : un (2 * j_lshl 1 (Int32.ofNat (n - 1))) = 2 ^ n := by
      rw [un_mul, bitN (n := n - 1) (by omega), show un 2 = 2 from rfl]
      show 2 * 2 ^ (n - 1) % 18446744073709551616 = 2 ^ n
      omega
    apply un_inj
    have lz := un_lt z
    rw [un_sub, un_sub, un_sub, u1, u2, show un 1 = 1 from rfl]
    omega
  have z0 : ∀ z : Int64, 0 - z = -z := fun z => un_inj (by
    have := un_lt z
    rw [un_sub, un_neg, show un 0 = 0 from rfl]; omega)
  unfold tExt rExt AV.sgn AV.say
  rw [e1, em]
  simp only [m1, z0]
  refine Prod.ext ?_ rfl
  show (if lg_cmp (x.u &&& j_lshl 1 (Int32.ofNat (n - 1))) 0 = 0 then (if lg_cmp (x.b &&& j_lshl 1 (Int32.ofNat (n - 1))) 0 = 0 then x.b else x.b ||| (g_Sieve_mask (Int32.ofNat n) ^^^ (-1))) else x.b) = (if lg_cmp (x.b &&& j_lshl 1 (Int32.ofNat (n - 1))) 0 = 0 then x.b else x.b ||| (g_Sieve_mask (Int32.ofNat n) ^^^ (-1))) &&& ((if lg_cmp (x.u &&& j_lshl 1 (Int32.ofNat (n - 1))) 0 = 0 then x.u else x.u ||| (g_Sieve_mask (Int32.ofNat n) ^^^ (-1))) ^^^ (-1))
  refine tb_ext fun j hj => ?_
  have nb := vb_f hb j
  by_cases c1 : lg_cmp (x.u &&& j_lshl 1 (Int32.ofNat (n - 1))) 0 = 0
  · rw [if_pos c1, if_pos c1]
    by_cases c2 : lg_cmp (x.b &&& j_lshl 1 (Int32.ofNat (n - 1))) 0 = 0
    · rw [if_pos c2, tb_and, tb_cpl]
      cases q1 : tb x.b j <;> cases q2 : tb x.u j <;> simp_all
    · rw [if_neg c2, tb_and, tb_cpl, tb_or, tb_cpl, hm]
      by_cases h2 : j < n
      · cases q1 : tb x.b j <;> cases q2 : tb x.u j <;> simp_all
      · have h3 := (hbits j (by omega)).2
        simp [h2, hj, h3]
  · have c2 : lg_cmp (x.b &&& j_lshl 1 (Int32.ofNat (n - 1))) 0 = 0 := by
      rw [zt]
      have q1 : tb x.u (n - 1) = true := by
        cases q : tb x.u (n - 1) with
        | true => rfl
        | false => exact absurd ((zt x.u).mpr q) c1
      have := vb_f hb (n - 1)
      rw [q1] at this
      cases q : tb x.b (n - 1) <;> simp_all
    rw [if_neg c1, if_pos c2, if_neg c1, tb_and, tb_cpl, tb_or, tb_cpl, hm]
    by_cases h2 : j < n
    · cases q1 : tb x.b j <;> cases q2 : tb x.u j <;> simp_all
    · have h3 := (hbits j (by omega)).1
      simp [h3]
theorem t_ext {M : XM} (h : Sh M) {i j : Int32} (hi : rk i) (hj : rk j) (j3 : ix j ≠ 4) {n : Nat} (hn : 0 < n) (hn2 : n < 63) (hx : Tt (tvk M (ix i))) : K_Sets_extendRow 460 i j (Int32.ofNat n) M ∧ g_Sets_extendRow 460 i j (Int32.ofNat n) M = sR (sR (sR M 3 (tvk M (ix i)) (j_z (tek M (ix i)))) 4 (vCut (Int32.ofNat n) (tvk M (ix i))) 0) (ix j) (vExt (Int32.ofNat n) (tvk M (ix i))) 0 := by
  have hj' : vp_in j 77200 := hj
  have h4 : rk 4 := by unfold rk vp_in; decide
  have h4' : vp_in 4 77200 := h4
  have i4 : ix (4 : Int32) = 4 := by decide
  obtain ⟨kc, tc⟩ := t_cut h hi h4 (by rw [i4]; decide) (n := n) (by omega) hx
  rw [i4] at tc
  have cT := cut_T hx (n := n) (by omega)
  have s1 : Sh (sR (sR M 3 (tvk M (ix i)) (j_z (tek M (ix i)))) 4 (vCut (Int32.ofNat n) (tvk M (ix i))) 0) := h.kept rfl
  have kf := kt_free s1 hj
  have tf := t_free s1 j
  have te := tExt_eq cT.bu hn hn2 (cut_bits hx (by omega))
  have nx := ne_ext cT.bu hn hn2 (fun z hz => cut_small hx (by omega) hz) (cut_small hx (by omega) cT.1.1) (cut_small hx (by omega) cT.2.1.1) (cut_bits hx (by omega)) cT.1.1
  have tt3 : tvk (sR (sR M 3 (tvk M (ix i)) (j_z (tek M (ix i)))) 4 (vCut (Int32.ofNat n) (tvk M (ix i))) 0) 4 = vCut (Int32.ofNat n) (tvk M (ix i)) := tvk_sR _ _ _ _
  unfold vExt
  generalize sR (sR M 3 (tvk M (ix i)) (j_z (tek M (ix i)))) 4 (vCut (Int32.ofNat n) (tvk M (ix i))) 0 = M1 at tc s1 kf tf tt3 ⊢
  generalize vCut (Int32.ofNat n) (tvk M (ix i)) = x at cT te nx tt3 ⊢
  have j3' : 4 ≠ ix j := fun z => j3 z.symm
  have fin := t_tight (M := sR M1 (ix j) (rExt (Int32.ofNat n) x) 0) (s1.kept rfl) hj (by rw [tvk_sR]; exact bu_ext0) (tek_sR _ _ _ _) (by rw [tvk_sR]; exact nx)
  rw [tvk_sR, sR_sR, ← te] at fin
  rw [← te]
  have r0 : ∀ w e b, mL (sR M1 (ix j) w e) b 4 = mL M1 b 4 := fun w e b => mL_sRne _ _ _ j3'
  have b0 : mL M1 461 4 = x.b := by rw [← tt3]; rfl
  have b1 : mL M1 462 4 = x.u := by rw [← tt3]; rfl
  have b2 : mL M1 463 4 = x.lo := by rw [← tt3]; rfl
  have b3 : mL M1 464 4 = x.hi := by rw [← tt3]; rfl
  unfold tExt at fin ⊢
  unfold g_Sets_extendRow g_Sets_extendRow_0 g_Sets_extendRow_7 g_Sets_extendRow_13 g_Sets_extendRow_20 g_Sets_extendRow_28 g_Sets_extendRow_36 g_Sets_extendRow_41 g_Sets_extendRow_60 g_Sets_extendRow_81 g_Sets_extendRow_114 g_Sets_extendRow_120 g_Sets_extendRow_136 g_Sets_extendRow_145 g_Sets_extendRow_153 g_Sets_extendRow_194 g_Sets_extendRow_235 g_Sets_extendRow_236 K_Sets_extendRow K_Sets_extendRow_0 K_Sets_extendRow_7 K_Sets_extendRow_13 K_Sets_extendRow_20 K_Sets_extendRow_28 K_Sets_extendRow_36 K_Sets_extendRow_41 K_Sets_extendRow_60 K_Sets_extendRow_81 K_Sets_extendRow_114 K_Sets_extendRow_120 K_Sets_extendRow_136 K_Sets_extendRow_145 K_Sets_extendRow_153 K_Sets_extendRow_194 K_Sets_extendRow_235 K_Sets_extendRow_236
  rw [tc, tf]
  simp only [mR_sR, s1.R460_0, s1.R460_1, s1.R460_2, s1.R460_3, s1.R460_4, s1.R460_5, i4, b0, b1, b2, b3, r0]
  generalize g_Sets_mask (Int32.ofNat n) ^^^ (-1) = km at fin ⊢
  by_cases c1 : lg_cmp (x.u &&& j_lshl 1 (Int32.ofNat n - 1)) 0 = 0 <;> by_cases c2 : lg_cmp (x.b &&& j_lshl 1 (Int32.ofNat n - 1)) 0 = 0 <;> by_cases c3 : 0 ≤ lg_cmp x.hi (j_lshl 1 (Int32.ofNat n - 1)) <;> by_cases c4 : lg_cmp x.lo (j_lshl 1 (Int32.ofNat n - 1)) < 0 <;> simp only [c1, c2, c3, c4, if_true, if_false, if_neg (by decide : ¬ (1 : Int32) = 0), mR_sR, mR_wL, s1.R460_0, s1.R460_1, s1.R460_4, s1.R460_5, sR461, sR462, sR463, sR464, sR465, sR466, tvk_sR, tek_sR, sR_sR, prB, prU, prLo, prHi, prLe, prGr, r0, b0, b1, mT_sR, mN_sR] at fin ⊢ <;> (refine ⟨?_, fin.2⟩; simp only [h.T460, s1.T460, s1.T461, s1.T462, s1.T463, s1.T464, s1.T465, s1.T466, s1.N461, s1.N462, s1.N463, s1.N464, s1.N465, s1.N466, hj', h4', kc, kf, fin.1, i32_10, eq_self, true_and, and_true, and_self, true_implies, forall_const, implies_true, not_true, not_false_iff, false_implies])
theorem swapped_eq (v : Int64) (n : Int32) : g_Sets_swapped v n = g_Reckoner_swapped v n := by
  unfold g_Sets_swapped g_Sets_swapped_0 g_Reckoner_swapped g_Reckoner_swapped_0
  have : ∀ (m : Nat) (y : Int64) (k : Int32), g_Sets_swapped_5 m v n y k = g_Reckoner_swapped_5 m v n y k := by
    intro m
    induction m with
    | zero => intro y k; rfl
    | succ m ih =>
      intro y k
      conv => lhs; unfold g_Sets_swapped_5
      conv => rhs; unfold g_Reckoner_swapped_5
      unfold g_Sets_swapped_25 g_Reckoner_swapped_25
      rw [ih]
  exact this xF 0 0
theorem K_swapped2 (v : Int64) (n : Int32) (hn : n = 16 ∨ n = 32 ∨ n = 64) : K_Sets_swapped v n := by
  have h := K_swapped v n hn
  unfold K_Reckoner_swapped K_Reckoner_swapped_0 at h
  unfold K_Sets_swapped K_Sets_swapped_0
  have : ∀ (m : Nat) (y : Int64) (k : Int32), K_Reckoner_swapped_5 m v n y k → K_Sets_swapped_5 m v n y k := by
    intro m
    induction m with
    | zero => intro y k z; exact z
    | succ m ih =>
      intro y k z q
      exact ih _ _ (z q)
  exact this xF 0 0 h
theorem swapped_bu {b u : Int64} (h : b &&& u = 0) (n : Int32) : g_Reckoner_swapped b n &&& g_Reckoner_swapped u n = 0 := by
  unfold g_Reckoner_swapped g_Reckoner_swapped_0
  have : ∀ (m : Nat) (y z : Int64) (k : Int32), y &&& z = 0 → g_Reckoner_swapped_5 m b n y k &&& g_Reckoner_swapped_5 m u n z k = 0 := by
    intro m
    induction m with
    | zero => intro y z k _; exact and_0.mpr fun j ⟨q, _⟩ => by rw [show g_Reckoner_swapped_5 0 b n y k = 0 from rfl, tb_zero] at q; cases q
    | succ m ih =>
      intro y z k hyz
      unfold g_Reckoner_swapped_5 g_Reckoner_swapped_25
      by_cases c : n ≤ k
      · rw [if_pos c, if_pos c]; exact hyz
      · rw [if_neg c, if_neg c]
        refine ih _ _ _ (and_0.mpr fun j ⟨q1, q2⟩ => ?_)
        have t8 : ∀ w : Int64, tb (j_lshl w 8) j = (decide (8 ≤ j) && decide (j < 64) && tb w (j - 8)) := fun w => tb_shl (n := 8) (by decide) w j
        have m8 : tb 255 j = decide (j < 8) := by
          rw [tb_un, show un 255 = 2 ^ 8 - 1 from rfl, Nat.testBit_two_pow_sub_one]
        have sh : ∀ w : Int64, tb (j_lushr w k) j = tb w (((k.toInt64.toUInt64 &&& Int64.toUInt64 63).toNat % 64) + j) := fun w => by
          rw [tb_un, un_lushr, Nat.testBit_shiftRight]; rfl
        rw [tb_or, tb_and, t8, m8, sh] at q1 q2
        by_cases h8 : j < 8
        · have h9 : ¬ 8 ≤ j := by omega
          simp [h8, h9] at q1 q2
          exact and_0.mp h _ ⟨q1, q2⟩
        · have h9 : 8 ≤ j := by omega
          simp [h8, h9] at q1 q2
          exact and_0.mp hyz _ ⟨q1.2, q2.2⟩
  exact this xF 0 0 0 (by decide)
theorem t_swap {M : XM} (h : Sh M) {i j : Int32} (hi : rk i) (hj : rk j) (j3 : ix j ≠ 4) {n : Nat} (hn : n = 16 ∨ n = 32 ∨ n = 64) (hx : Tt (tvk M (ix i))) : K_Sets_swapRow 460 i j (Int32.ofNat n) M ∧ g_Sets_swapRow 460 i j (Int32.ofNat n) M = sR (sR (sR M 3 (tvk M (ix i)) (j_z (tek M (ix i)))) 4 (vCut (Int32.ofNat n) (tvk M (ix i))) 0) (ix j) (vSwap (Int32.ofNat n) (tvk M (ix i))) 0 := by
  have hj' : vp_in j 77200 := hj
  have h4 : rk 4 := by unfold rk vp_in; decide
  have h4' : vp_in 4 77200 := h4
  have i4 : ix (4 : Int32) = 4 := by decide
  obtain ⟨kc, tc⟩ := t_cut h hi h4 (by rw [i4]; decide) (n := n) (by omega) hx
  rw [i4] at tc
  have cT := cut_T hx (n := n) (by omega)
  have s1 : Sh (sR (sR M 3 (tvk M (ix i)) (j_z (tek M (ix i)))) 4 (vCut (Int32.ofNat n) (tvk M (ix i))) 0) := h.kept rfl
  have kf := kt_free s1 hj
  have tf := t_free s1 j
  have tt3 : tvk (sR (sR M 3 (tvk M (ix i)) (j_z (tek M (ix i)))) 4 (vCut (Int32.ofNat n) (tvk M (ix i))) 0) 4 = vCut (Int32.ofNat n) (tvk M (ix i)) := tvk_sR _ _ _ _
  unfold vSwap
  generalize sR (sR M 3 (tvk M (ix i)) (j_z (tek M (ix i)))) 4 (vCut (Int32.ofNat n) (tvk M (ix i))) 0 = M1 at tc s1 kf tf tt3 ⊢
  generalize vCut (Int32.ofNat n) (tvk M (ix i)) = x at cT tt3 ⊢
  have j3' : 4 ≠ ix j := fun z => j3 z.symm
  have sb := swapped_bu cT.bu (Int32.ofNat n)
  have es : rSwap (Int32.ofNat n) x = (g_Reckoner_swapped x.b (Int32.ofNat n), g_Reckoner_swapped x.u (Int32.ofNat n), 0, -1, -9223372036854775808, 9223372036854775807) := by
    unfold rSwap AV.say
    refine Prod.ext ?_ rfl
    show g_Reckoner_swapped x.b (Int32.ofNat n) &&& (g_Reckoner_swapped x.u (Int32.ofNat n) ^^^ (-1)) = g_Reckoner_swapped x.b (Int32.ofNat n)
    refine tb_ext fun q hq => ?_
    have := vb_f sb q
    rw [tb_and, tb_cpl]
    cases q1 : tb (g_Reckoner_swapped x.b (Int32.ofNat n)) q <;> cases q2 : tb (g_Reckoner_swapped x.u (Int32.ofNat n)) q <;> simp_all
  have fin := t_tight (M := sR M1 (ix j) (rSwap (Int32.ofNat n) x) 0) (s1.kept rfl) hj (by rw [tvk_sR]; exact bu_say) (tek_sR _ _ _ _) (by rw [tvk_sR]; exact in_say fun _ _ => rfl)
  rw [tvk_sR, sR_sR, es] at fin
  rw [es]
  have r0 : ∀ w e b, mL (sR M1 (ix j) w e) b 4 = mL M1 b 4 := fun w e b => mL_sRne _ _ _ j3'
  have b0 : mL M1 461 4 = x.b := by rw [← tt3]; rfl
  have b1 : mL M1 462 4 = x.u := by rw [← tt3]; rfl
  have ks : ∀ v, K_Sets_swapped v (Int32.ofNat n) := fun v => K_swapped2 v _ (by rcases hn with rfl | rfl | rfl <;> decide)
  unfold g_Sets_swapRow g_Sets_swapRow_0 g_Sets_swapRow_7 g_Sets_swapRow_12 g_Sets_swapRow_28 g_Sets_swapRow_44 K_Sets_swapRow K_Sets_swapRow_0 K_Sets_swapRow_7 K_Sets_swapRow_12 K_Sets_swapRow_28 K_Sets_swapRow_44
  rw [tc, tf]
  simp only [mR_sR, s1.R460_0, s1.R460_1, i4, sR461, sR462, tvk_sR, tek_sR, sR_sR, prB, prU, prLo, prHi, prLe, prGr, r0, b0, b1, swapped_eq, mT_sR, mN_sR]
  refine ⟨?_, fin.2⟩
  simp [h.T460, s1.T460, s1.T461, s1.T462, s1.N461, s1.N462, hj', h4', kc, kf, ks, fin.1]
