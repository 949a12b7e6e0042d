/-! part 47zj: the twin's operations (gen/tpl.py) -/
theorem tkb {M : XM} {k : Nat} : (tvk M k).b = mL M 461 k := rfl
theorem tku {M : XM} {k : Nat} : (tvk M k).u = mL M 462 k := rfl
theorem tklo {M : XM} {k : Nat} : (tvk M k).lo = mL M 463 k := rfl
theorem tkhi {M : XM} {k : Nat} : (tvk M k).hi = mL M 464 k := rfl
theorem tkle {M : XM} {k : Nat} : (tvk M k).le = mL M 465 k := rfl
theorem tkgr {M : XM} {k : Nat} : (tvk M k).gr = mL M 466 k := rfl
theorem i32_0 : ix (0 : Int32) = 0 := by decide
theorem i32_1 : ix (1 : Int32) = 1 := by decide
theorem i32_2 : ix (2 : Int32) = 2 := by decide
theorem rk0 : rk 0 := by unfold rk vp_in; decide
theorem rk1 : rk 1 := by unfold rk vp_in; decide
theorem rk2 : rk 2 := by unfold rk vp_in; decide
theorem rk0' : vp_in 0 77200 := rk0
theorem rk1' : vp_in 1 77200 := rk1
theorem rk2' : vp_in 2 77200 := rk2
section TW
variable {M : XM}
theorem r02 (w : AV) (e : Int32) (a : Nat) : mL (sR M 2 w e) a 0 = mL M a 0 := mL_sRne M w e (by decide)
theorem r12 (w : AV) (e : Int32) (a : Nat) : mL (sR M 2 w e) a 1 = mL M a 1 := mL_sRne M w e (by decide)
theorem r22b (w : AV) (e : Int32) : mL (sR M 2 w e) 461 2 = w.b := congrArg (fun q : AV => q.b) (tvk_sR M 2 w e)
theorem r22u (w : AV) (e : Int32) : mL (sR M 2 w e) 462 2 = w.u := congrArg (fun q : AV => q.u) (tvk_sR M 2 w e)
theorem t_add (h : Sh M) (bx : bu (tvk M 0)) (bY : bu (tvk M 1)) : K_Sets_add 460 (sR M 2 vFree 0) ∧ g_Sets_add 460 (sR M 2 vFree 0) = sR M 2 (oAdd vFree (tvk M 0) (tvk M 1)) 0 := by
  have s1 : Sh (sR M 2 vFree 0) := h.kept rfl
  obtain ⟨ks, es⟩ := sum_ok (M := sR M 2 vFree 0) (x0 := 460) (x := tvk M 0) (y := tvk M 1) (s1.ss rk0) (s1.ss rk1) (s1.ss rk2) ((s1.tv 0).trans (tvk_sRne _ _ _ (by decide))) ((s1.tv 1).trans (tvk_sRne _ _ _ (by decide))) bx bY
  unfold g_Sets_add g_Sets_add_0 g_Sets_add_5 g_Sets_add_28 g_Sets_add_51 g_Sets_add_75 g_Sets_add_94 g_Sets_add_149 K_Sets_add K_Sets_add_0 K_Sets_add_5 K_Sets_add_28 K_Sets_add_51 K_Sets_add_75 K_Sets_add_94 K_Sets_add_149
  rw [es]
  unfold oAdd AV.unsIf AV.sgnIf AV.say AV.uns AV.sgn
  simp only [mR_sR, mR_wL, mT_sR, mT_wL, mN_sR, mN_wL, h.R460_0, h.R460_1, h.R460_2, h.R460_3, h.R460_4, h.R460_5, h.R460_6, i32_0, i32_1, i32_2, sR461, sR462, sR463, sR464, sR465, sR466, tvk_sR, tek_sR, sR_sR, prB, prU, prLo, prHi, prLe, prGr, r02, r12, below_eq, isSum_eq, tklo, tkhi, tkle, tkgr]
  constructor
  · simp [h.R460_0, h.R460_1, h.R460_2, h.R460_3, h.R460_4, h.R460_5, h.R460_6, h.T460, h.T461, h.T462, h.T463, h.T464, h.T465, h.T466, h.T467, h.N461, h.N462, h.N463, h.N464, h.N465, h.N466, h.N467, rk0', rk1', rk2', ks]
  · by_cases c1 : g_Sieve_isLess (mL M 463 0 + mL M 463 1) (mL M 463 0) = g_Sieve_isLess (mL M 464 0 + mL M 464 1) (mL M 464 0) <;> by_cases c2 : g_Add_isSum (mL M 465 0) (mL M 465 1) = 0 <;> by_cases c3 : g_Add_isSum (mL M 466 0) (mL M 466 1) = 0 <;> simp only [c1, c2, c3, if_true, if_false, not_true, not_false_iff, and_true, and_false, true_and, false_and]
theorem t_sub (h : Sh M) (bx : bu (tvk M 0)) (bY : bu (tvk M 1)) : K_Sets_subtract 460 (sR M 2 vFree 0) ∧ g_Sets_subtract 460 (sR M 2 vFree 0) = sR M 2 (oSub vFree (tvk M 0) (tvk M 1)) 0 := by
  have s1 : Sh (sR M 2 vFree 0) := h.kept rfl
  obtain ⟨ks, es⟩ := sub_ok (M := sR M 2 vFree 0) (x0 := 460) (x := tvk M 0) (y := tvk M 1) (s1.ss rk0) (s1.ss rk1) (s1.ss rk2) ((s1.tv 0).trans (tvk_sRne _ _ _ (by decide))) ((s1.tv 1).trans (tvk_sRne _ _ _ (by decide))) bx bY
  unfold g_Sets_subtract g_Sets_subtract_0 g_Sets_subtract_5 g_Sets_subtract_21 g_Sets_subtract_37 g_Sets_subtract_61 g_Sets_subtract_80 g_Sets_subtract_135 K_Sets_subtract K_Sets_subtract_0 K_Sets_subtract_5 K_Sets_subtract_21 K_Sets_subtract_37 K_Sets_subtract_61 K_Sets_subtract_80 K_Sets_subtract_135
  rw [es]
  unfold oSub AV.unsIf AV.sgnIf AV.say AV.uns AV.sgn
  simp only [mR_sR, mR_wL, mT_sR, mT_wL, mN_sR, mN_wL, h.R460_0, h.R460_1, h.R460_2, h.R460_3, h.R460_4, h.R460_5, h.R460_6, i32_0, i32_1, i32_2, sR461, sR462, sR463, sR464, sR465, sR466, tvk_sR, tek_sR, sR_sR, prB, prU, prLo, prHi, prLe, prGr, r02, r12, below_eq, isDiff_eq, tklo, tkhi, tkle, tkgr]
  constructor
  · simp [h.R460_0, h.R460_1, h.R460_2, h.R460_3, h.R460_4, h.R460_5, h.R460_6, h.T460, h.T461, h.T462, h.T463, h.T464, h.T465, h.T466, h.T467, h.N461, h.N462, h.N463, h.N464, h.N465, h.N466, h.N467, rk0', rk1', rk2', ks]
  · by_cases c1 : g_Sieve_isLess (mL M 463 0) (mL M 464 1) = g_Sieve_isLess (mL M 464 0) (mL M 463 1) <;> by_cases c2 : g_Subtract_isDifference (mL M 465 0) (mL M 466 1) = 0 <;> by_cases c3 : g_Subtract_isDifference (mL M 466 0) (mL M 465 1) = 0 <;> simp only [c1, c2, c3, if_true, if_false, not_true, not_false_iff, and_true, and_false, true_and, false_and]
theorem K_quo (a b : Int64) : K_Sets_quotient a b := (quotient_un a b).2
theorem K_isLong (a b : Int64) : K_Sets_isLong a b := by
  unfold K_Sets_isLong K_Sets_isLong_0 K_Sets_isLong_13 K_Sets_isLong_28
  simp [K_fits0]
theorem t_div (h : Sh M) : K_Sets_divide 460 (sR M 2 vFree 0) ∧ g_Sets_divide 460 (sR M 2 vFree 0) = sR M 2 (oDiv vFree (tvk M 0) (tvk M 1)) 0 := by
  unfold g_Sets_divide g_Sets_divide_0 g_Sets_divide_35 g_Sets_divide_36 g_Sets_divide_76 K_Sets_divide K_Sets_divide_0 K_Sets_divide_35 K_Sets_divide_36 K_Sets_divide_76 oDiv AV.uns
  simp only [mR_sR, mR_wL, mT_sR, mT_wL, mN_sR, mN_wL, h.R460_0, h.R460_1, h.R460_2, h.R460_3, h.R460_4, h.R460_5, h.R460_6, i32_0, i32_1, i32_2, sR461, sR462, sR463, sR464, sR465, sR466, tvk_sR, tek_sR, sR_sR, prB, prU, prLo, prHi, prLe, prGr, r02, r12, quotient_eq, tklo, tkhi]
  constructor
  · simp [h.R460_0, h.R460_1, h.R460_2, h.R460_3, h.R460_4, h.R460_5, h.R460_6, h.T460, h.T461, h.T462, h.T463, h.T464, h.T465, h.T466, h.T467, h.N461, h.N462, h.N463, h.N464, h.N465, h.N466, h.N467, rk0', rk1', rk2', K_quo]
  · by_cases c1 : lg_cmp (mL M 463 1) 0 = 0 <;> simp only [c1, if_true, if_false]
theorem t_rest (h : Sh M) (he : tek M 0 = 0) : K_Sets_remain 460 (sR M 2 vFree 0) ∧ g_Sets_remain 460 (sR M 2 vFree 0) = sR M 2 (oRest vFree (tvk M 0) (tvk M 1)) 0 := by
  have s1 : Sh (sR M 2 vFree 0) := h.kept rfl
  have kc := kt_copy s1 rk0 rk2
  have tc := t_copy s1 0 2
  rw [i32_0, i32_2, tvk_sRne _ _ _ (by decide), tek_sRne _ _ _ (by decide), he, jz0, sR_sR] at tc
  unfold g_Sets_remain g_Sets_remain_0 g_Sets_remain_24 g_Sets_remain_34 g_Sets_remain_76 K_Sets_remain K_Sets_remain_0 K_Sets_remain_34 K_Sets_remain_76 oRest AV.uns
  rw [tc]
  simp only [mR_sR, mR_wL, mT_sR, mT_wL, mN_sR, mN_wL, h.R460_0, h.R460_1, h.R460_2, h.R460_3, h.R460_4, h.R460_5, h.R460_6, i32_0, i32_1, i32_2, sR461, sR462, sR463, sR464, sR465, sR466, tvk_sR, tek_sR, sR_sR, prB, prU, prLo, prHi, prLe, prGr, r02, r12, lesser_eq, below_eq, tklo, tkhi]
  constructor
  · simp [h.R460_0, h.R460_1, h.R460_2, h.R460_3, h.R460_4, h.R460_5, h.R460_6, h.T460, h.T461, h.T462, h.T463, h.T464, h.T465, h.T466, h.T467, h.N461, h.N462, h.N463, h.N464, h.N465, h.N466, h.N467, rk0', rk1', rk2', kc]
  · by_cases c1 : lg_cmp (mL M 463 1) 0 = 0 <;> by_cases c2 : g_Sieve_isLess (mL M 464 0) (mL M 463 1) = 0 <;> simp only [c1, c2, if_true, if_false]
theorem t_and (h : Sh M) (bx : bu (tvk M 0)) (bY : bu (tvk M 1)) : K_Sets_and 460 (sR M 2 vFree 0) ∧ g_Sets_and 460 (sR M 2 vFree 0) = sR M 2 (oAnd vFree (tvk M 0) (tvk M 1)) 0 := by
  unfold g_Sets_and g_Sets_and_0 g_Sets_and_36 g_Sets_and_55 g_Sets_and_77 K_Sets_and K_Sets_and_0 K_Sets_and_36 K_Sets_and_55 K_Sets_and_77 oAnd AV.uns AV.say
  simp only [mR_sR, mR_wL, mT_sR, mT_wL, mN_sR, mN_wL, h.R460_0, h.R460_1, h.R460_2, h.R460_3, h.R460_4, h.R460_5, h.R460_6, i32_0, i32_1, i32_2, sR461, sR462, sR463, sR464, sR465, sR466, tvk_sR, tek_sR, sR_sR, prB, prU, prLo, prHi, prLe, prGr, r02, r12, r22b, r22u, lesser_eq, tkb, tku, tklo, tkhi]
  constructor
  · simp [h.R460_0, h.R460_1, h.R460_2, h.R460_3, h.R460_4, h.R460_5, h.R460_6, h.T460, h.T461, h.T462, h.T463, h.T464, h.T465, h.T466, h.T467, h.N461, h.N462, h.N463, h.N464, h.N465, h.N466, h.N467, rk0', rk1', rk2']
  · have x0 : mL M 461 0 &&& mL M 462 0 = 0 := bx
    have y0 : mL M 461 1 &&& mL M 462 1 = 0 := bY
    generalize mL M 461 0 = a at *
    generalize mL M 462 0 = b at *
    generalize mL M 461 1 = c at *
    generalize mL M 462 1 = d at *
    have e1 : ((((a ||| b) ^^^ (-1)) ||| ((c ||| d) ^^^ (-1))) ^^^ (-1)) &&& ((a &&& c) ^^^ (-1)) = ((a ||| b) &&& (c ||| d)) &&& ((a &&& c) ^^^ (-1)) := tb_ext fun j hj => by
      simp only [tb_and, tb_or, tb_cpl]
      cases tb a j <;> cases tb b j <;> cases tb c j <;> cases tb d j <;> simp [hj]
    have e2 : (a &&& c) &&& ((((a ||| b) &&& (c ||| d)) &&& ((a &&& c) ^^^ (-1))) ^^^ (-1)) = a &&& c := tb_ext fun j hj => by
      simp only [tb_and, tb_or, tb_cpl]
      cases tb a j <;> cases tb b j <;> cases tb c j <;> cases tb d j <;> simp [hj]
    rw [e1, e2]
theorem t_or (h : Sh M) (bx : bu (tvk M 0)) (bY : bu (tvk M 1)) : K_Sets_or 460 (sR M 2 vFree 0) ∧ g_Sets_or 460 (sR M 2 vFree 0) = sR M 2 (oOr vFree (tvk M 0) (tvk M 1)) 0 := by
  unfold g_Sets_or g_Sets_or_0 g_Sets_or_19 g_Sets_or_49 K_Sets_or K_Sets_or_0 K_Sets_or_19 K_Sets_or_49 oOr AV.uns AV.say
  simp only [mR_sR, mR_wL, mT_sR, mT_wL, mN_sR, mN_wL, h.R460_0, h.R460_1, h.R460_2, h.R460_3, h.R460_4, h.R460_5, h.R460_6, i32_0, i32_1, i32_2, sR461, sR462, sR463, sR464, sR465, sR466, tvk_sR, tek_sR, sR_sR, prB, prU, prLo, prHi, prLe, prGr, r02, r12, r22b, r22u, larger_eq, tkb, tku, tklo, tkhi]
  constructor
  · simp [h.R460_0, h.R460_1, h.R460_2, h.R460_3, h.R460_4, h.R460_5, h.R460_6, h.T460, h.T461, h.T462, h.T463, h.T464, h.T465, h.T466, h.T467, h.N461, h.N462, h.N463, h.N464, h.N465, h.N466, h.N467, rk0', rk1', rk2']
  · generalize mL M 461 0 = a at *
    generalize mL M 462 0 = b at *
    generalize mL M 461 1 = c at *
    generalize mL M 462 1 = d at *
    have e2 : (a ||| c) &&& (((b ||| d) &&& ((a ||| c) ^^^ (-1))) ^^^ (-1)) = a ||| c := tb_ext fun j hj => by
      simp only [tb_and, tb_or, tb_cpl]
      cases tb a j <;> cases tb b j <;> cases tb c j <;> cases tb d j <;> simp [hj]
    rw [e2]
theorem t_xor (h : Sh M) : K_Sets_xor 460 (sR M 2 vFree 0) ∧ g_Sets_xor 460 (sR M 2 vFree 0) = sR M 2 (oXor vFree (tvk M 0) (tvk M 1)) 0 := by
  unfold g_Sets_xor g_Sets_xor_0 g_Sets_xor_19 K_Sets_xor K_Sets_xor_0 K_Sets_xor_19 oXor AV.say
  simp only [mR_sR, mR_wL, mT_sR, mT_wL, mN_sR, mN_wL, h.R460_0, h.R460_1, h.R460_2, h.R460_3, h.R460_4, h.R460_5, h.R460_6, i32_0, i32_1, i32_2, sR461, sR462, sR463, sR464, sR465, sR466, tvk_sR, tek_sR, sR_sR, prB, prU, prLo, prHi, prLe, prGr, r02, r12, r22b, r22u, tkb, tku]
  constructor
  · simp [h.R460_0, h.R460_1, h.R460_2, h.R460_3, h.R460_4, h.R460_5, h.R460_6, h.T460, h.T461, h.T462, h.T463, h.T464, h.T465, h.T466, h.T467, h.N461, h.N462, h.N463, h.N464, h.N465, h.N466, h.N467, rk0', rk1', rk2']
  · first | rfl | trivial
end TW
