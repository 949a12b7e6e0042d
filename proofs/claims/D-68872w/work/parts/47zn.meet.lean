/-! part 47zn: joining: what is within is taken in; the twin's meet (gen/tpl.py) -/
/-- of tight values: to be within -/
theorem withinV {x y : AV} (hx : Tt x) (hy : Tt y) (h : ∀ z, vin y z → vin x z) : un x.lo ≤ un y.lo ∧ un y.hi ≤ un x.hi ∧ x.le.toInt ≤ y.le.toInt ∧ y.gr.toInt ≤ x.gr.toInt ∧ (∀ j, tb y.u j = true → tb x.u j = true) ∧ ∀ j, tb x.u j = false → tb x.b j = tb y.b j := by
  have uu : ∀ j, tb y.u j = true → tb x.u j = true := by
    intro j hj
    cases c : tb x.u j with
    | true => rfl
    | false =>
      obtain ⟨p, q, hp, hq, hpq⟩ := hy.2.2.2.2.1 j hj
      have h1 := hx.2.2.2.2.2.2 p (h p hp) j c
      have h2 := hx.2.2.2.2.2.2 q (h q hq) j c
      exact absurd (h1.trans h2.symm) hpq
  refine ⟨hx.1.2 _ (h _ hy.1.1), hx.2.1.2 _ (h _ hy.2.1.1), hx.2.2.1.2 _ (h _ hy.2.2.1.1), hx.2.2.2.1.2 _ (h _ hy.2.2.2.1.1), uu, fun j hj => ?_⟩
  have hyj : tb y.u j = false := by
    cases c : tb y.u j with
    | false => rfl
    | true => rw [uu j c] at hj; cases hj
  have h1 := hx.2.2.2.2.2.2 _ (h _ hy.1.1) j hj
  have h2 := hy.2.2.2.2.2.2 _ hy.1.1 j hyj
  rw [← h1, ← h2]
theorem absorb {x y : AV} {wd : Int32} (hx : Tt x) (hy : Tt y) (h : ∀ z, vin y z → vin x z) : vJoin wd x y = x := by
  obtain ⟨w1, w2, w3, w4, w5, w6⟩ := withinV hx hy h
  have eu : (x.u ||| y.u) ||| (x.b ^^^ y.b) = x.u := tb_ext fun j hj => by
    rw [tb_or, tb_or, tb_xor]
    cases c : tb x.u j with
    | true => simp
    | false =>
      have : tb y.u j = false := by
        cases q : tb y.u j with
        | false => rfl
        | true => rw [w5 j q] at c; cases c
      rw [this, w6 j c]; simp
  have eb : x.b &&& (x.u ^^^ (-1)) = x.b := clr_of fun j _ => vb_f hx.bu j
  have e : rJoin wd x y = x := by
    unfold rJoin AV.sgn AV.uns AV.say
    rw [eu, eb]
    by_cases c : wd = 0
    · rw [if_pos c, lesser_un, greater_un]
      have e1 : (if un x.lo < un y.lo then x.lo else y.lo) = x.lo := by
        by_cases q : un x.lo < un y.lo
        · rw [if_pos q]
        · rw [if_neg q]; exact un_inj (by omega)
      have e2 : (if un x.hi < un y.hi then y.hi else x.hi) = x.hi := if_neg (by omega)
      have e3 : g_Math_min_JJ x.le y.le = x.le := Int64.toInt_inj.mp (by rw [min_jj]; omega)
      have e4 : g_Math_max x.gr y.gr = x.gr := Int64.toInt_inj.mp (by rw [max_jj]; omega)
      show (x.b, x.u, (if un x.lo < un y.lo then x.lo else y.lo), (if un x.hi < un y.hi then y.hi else x.hi), g_Math_min_JJ x.le y.le, g_Math_max x.gr y.gr) = x
      rw [e1, e2, e3, e4]
    · rw [if_neg c]
      have e1 : g_Sieve_isLess y.lo x.lo = 0 := isLess_0.mpr (by omega)
      have e2 : g_Sieve_isLess x.hi y.hi = 0 := isLess_0.mpr (by omega)
      have e3 : 0 ≤ lg_cmp y.le x.le := cmp_ge.mpr (le_un.mpr w3)
      have e4 : lg_cmp y.gr x.gr ≤ 0 := cmp_le.mpr (le_un.mpr w4)
      rw [if_pos e1, if_pos e2, if_pos e3, if_pos e4]
  unfold vJoin
  rw [e, hx.tte]
theorem join_in {x y : AV} {wd : Int32} (hx : Tt x) (z : Int64) : (vin x z → vin (vJoin wd x y) z) ∧ (vin y z → vin (vJoin wd x y) z) :=
  ⟨fun h => (join_same hx z).mpr (join_l h), fun h => (join_same hx z).mpr (join_r h)⟩
theorem t_meet {M : XM} (h : Sh M) {a b wd : Int32} (ra : rk a) (rb : rk b) (ga : 4 < ix a) (gb : 4 < ix b) (hx : Tt (tvk M (ix a))) (hy : Tt (tvk M (ix b))) (ea : tek M (ix a) = 0) :
    K_Sets_meet 460 a b wd M ∧ g_Sets_meet 460 a b wd M = sR M 2 (vJoin wd (tvk M (ix a)) (tvk M (ix b))) 0 := by
  have ra' : vp_in a 77200 := ra
  have rb' : vp_in b 77200 := rb
  have sT := h.T460
  have na : ix a ≠ 2 := by omega
  have nb : ix b ≠ 2 := by omega
  have rA : ∀ w e c, mL (sR M 2 w e) c (ix a) = mL M c (ix a) := fun w e c => mL_sRne _ _ _ na
  have rB : ∀ w e c, mL (sR M 2 w e) c (ix b) = mL M c (ix b) := fun w e c => mL_sRne _ _ _ nb
  have t1 := t_copy h a 2
  rw [i32_2, ea, jz0] at t1
  have k1 := kt_copy h ra rk2
  have kS : K_Sets_isSame 460 a b M := by
    unfold K_Sets_isSame K_Sets_isSame_0
    simp [h.R460_0, h.R460_1, h.R460_2, h.R460_3, h.R460_4, h.R460_5, h.R460_6, h.T460, h.T461, h.T462, h.T463, h.T464, h.T465, h.T466, h.T467, h.N461, h.N462, h.N463, h.N464, h.N465, h.N466, h.N467, ra', rb']
  have gS : g_Sets_isSame 460 a b M = if tvk M (ix a) = tvk M (ix b) then 1 else 0 := by
    unfold g_Sets_isSame g_Sets_isSame_0
    simp only [h.R460_0, h.R460_1, h.R460_2, h.R460_3, h.R460_4, h.R460_5, h.R460_6, cmp_eq]
    have e : tvk M (ix a) = tvk M (ix b) ↔ mL M 461 (ix a) = mL M 461 (ix b) ∧ mL M 462 (ix a) = mL M 462 (ix b) ∧ mL M 463 (ix a) = mL M 463 (ix b) ∧ mL M 464 (ix a) = mL M 464 (ix b) ∧ mL M 465 (ix a) = mL M 465 (ix b) ∧ mL M 466 (ix a) = mL M 466 (ix b) := by
      unfold tvk
      simp only [Prod.mk.injEq]
    by_cases c1 : mL M 461 (ix a) = mL M 461 (ix b) <;> by_cases c2 : mL M 462 (ix a) = mL M 462 (ix b) <;> by_cases c3 : mL M 463 (ix a) = mL M 463 (ix b) <;> by_cases c4 : mL M 464 (ix a) = mL M 464 (ix b) <;> by_cases c5 : mL M 465 (ix a) = mL M 465 (ix b) <;> by_cases c6 : mL M 466 (ix a) = mL M 466 (ix b) <;> simp [e, c1, c2, c3, c4, c5, c6]
  unfold g_Sets_meet K_Sets_meet g_Sets_meet_0 K_Sets_meet_0
  rw [gS]
  by_cases c : tvk M (ix a) = tvk M (ix b)
  · rw [if_pos c, if_neg (by decide), t1, ← c, absorb hx hx (fun _ => id)]
    exact ⟨⟨sT, kS, fun z => absurd z (by decide), fun _ => ⟨sT, k1⟩⟩, rfl⟩
  · rw [if_neg c, if_pos rfl]
    obtain ⟨p, hp⟩ := hx.ex
    have fin := t_tight (M := sR M 2 (rJoin wd (tvk M (ix a)) (tvk M (ix b))) 0) (k := 2) (h.kept rfl) rk2 (by rw [i32_2, tvk_sR]; exact bu_join0) (by rw [i32_2, tek_sR]) (x := p) (by rw [i32_2, tvk_sR]; exact join_l hp)
    rw [i32_2, tvk_sR, sR_sR] at fin
    unfold vJoin
    have kj : K_Sets_joinBits 460 a b M := by
      unfold K_Sets_joinBits K_Sets_joinBits_0 K_Sets_joinBits_28 K_Sets_joinBits_35
      simp [mR_wL, mT_wL, mN_wL, h.R460_0, h.R460_1, h.R460_2, h.R460_3, h.R460_4, h.R460_5, h.R460_6, h.T460, h.T461, h.T462, h.T463, h.T464, h.T465, h.T466, h.T467, h.N461, h.N462, h.N463, h.N464, h.N465, h.N466, h.N467, ra', rb', rk2']
    have gj : g_Sets_joinBits 460 a b M = sR M 2 ((tvk M 2).say (mL M 461 (ix a)) ((mL M 462 (ix a) ||| mL M 462 (ix b)) ||| (mL M 461 (ix a) ^^^ mL M 461 (ix b)))) (tek M 2) := by
      unfold g_Sets_joinBits g_Sets_joinBits_0 g_Sets_joinBits_28 g_Sets_joinBits_35
      simp only [mR_wL, h.R460_0, h.R460_1, h.R460_2, h.R460_3, h.R460_4, h.R460_5, h.R460_6, i32_2, sR461, sR462, mR_sR, tvk_sR, tek_sR, sR_sR, prB, prU, prLo, prHi, prLe, prGr, rA]
      rfl
    rw [gj]
    unfold rJoin at fin ⊢
    unfold AV.say AV.uns AV.sgn at *
    unfold g_Sets_meet_22 K_Sets_meet_22 g_Sets_meet_77 K_Sets_meet_77 g_Sets_meet_92 K_Sets_meet_92 g_Sets_meet_125 K_Sets_meet_125 g_Sets_meet_135 K_Sets_meet_135 g_Sets_meet_136 K_Sets_meet_136 g_Sets_meet_182 K_Sets_meet_182 g_Sets_meet_183 K_Sets_meet_183 g_Sets_meet_229 K_Sets_meet_229 g_Sets_meet_237 K_Sets_meet_237
    have mn : ∀ p q : Int64, g_Math_min_JJ p q = if 0 ≤ lg_cmp q p then p else q := fun p q => by
      unfold g_Math_min_JJ g_Math_min_JJ_0
      by_cases c : 0 < lg_cmp p q
      · rw [if_pos c, if_neg]
        rw [cmp_gt, lt_un] at c
        rw [cmp_ge, le_un]; omega
      · rw [if_neg c, if_pos]
        rw [cmp_gt, lt_un] at c
        rw [cmp_ge, le_un]; omega
    have mx : ∀ p q : Int64, g_Math_max p q = if lg_cmp q p ≤ 0 then p else q := fun p q => by
      unfold g_Math_max g_Math_max_0
      by_cases c : lg_cmp p q < 0
      · rw [if_pos c, if_neg]
        rw [cmp_lt, lt_un] at c
        rw [cmp_le, le_un]; omega
      · rw [if_neg c, if_pos]
        rw [cmp_lt, lt_un] at c
        rw [cmp_le, le_un]; omega
    simp only [mn, mx] at fin ⊢
    simp only [tkb, tku, tklo, tkhi, tkle, tkgr, prB, prU, prLo, prHi, prLe, prGr] at fin ⊢
    simp only [mR_sR, mR_wL, mR_wI, mT_sR, mT_wL, mT_wI, mN_sR, mN_wL, mN_wI, h.R460_0, h.R460_1, h.R460_2, h.R460_3, h.R460_4, h.R460_5, h.R460_6, i32_2, sR461, sR462, sR463, sR464, sR465, sR466, sR_wI, tvk_sR, tek_sR, sR_sR, prB, prU, prLo, prHi, prLe, prGr, rA, rB, below_eq, lesser_eq, larger_eq]
    generalize (mL M 462 (ix a) ||| mL M 462 (ix b)) ||| (mL M 461 (ix a) ^^^ mL M 461 (ix b)) = uu at fin ⊢
    generalize mL M 461 (ix a) &&& (uu ^^^ (-1)) = bb at fin ⊢
    by_cases c0 : wd = 0 <;> by_cases c1 : g_Sieve_isLess (mL M 463 (ix b)) (mL M 463 (ix a)) = 0 <;> by_cases c2 : g_Sieve_isLess (mL M 464 (ix a)) (mL M 464 (ix b)) = 0 <;> by_cases c3 : 0 ≤ lg_cmp (mL M 465 (ix b)) (mL M 465 (ix a)) <;> by_cases c4 : lg_cmp (mL M 466 (ix b)) (mL M 466 (ix a)) ≤ 0 <;> simp only [c0, c1, c2, c3, c4, if_true, if_false] at fin ⊢ <;> (refine ⟨?_, ?_⟩ <;> first | exact fin.2 | simp only [h.R460_0, h.R460_1, h.R460_2, h.R460_3, h.R460_4, h.R460_5, h.R460_6, h.T460, h.T461, h.T462, h.T463, h.T464, h.T465, h.T466, h.T467, h.N461, h.N462, h.N463, h.N464, h.N465, h.N466, h.N467, ra', rb', rk2', kS, kj, fin.1, i32_10, eq_self, true_and, and_true, and_self, true_implies, forall_const, implies_true, not_true, not_false_iff, false_implies])
