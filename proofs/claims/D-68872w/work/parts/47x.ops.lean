/-! part 47x: the component's operations on memory (gen/tpl.py) -/
section OPS
variable {M : XM} {a b r : Nat} (x0 : Nat) (most : Int32)
theorem gvb : (gv6 M a).b = mL M a 0 := rfl
theorem gvu : (gv6 M a).u = mL M a 1 := rfl
theorem gvlo : (gv6 M a).lo = mL M a 2 := rfl
theorem gvhi : (gv6 M a).hi = mL M a 3 := rfl
theorem gvle : (gv6 M a).le = mL M a 4 := rfl
theorem gvgr : (gv6 M a).gr = mL M a 5 := rfl
theorem v_add (ha : a ≠ r) (hb : b ≠ r) : g_Add_values x0 a b most r M = sV M r (oAdd (gv6 M r) (gv6 M a) (gv6 M b)) := by
  unfold g_Add_values g_Add_values_0 g_Add_values_11 g_Add_values_28 g_Add_values_47 g_Add_values_105 oAdd sumU AV.unsIf AV.sgnIf
  simp only [v_say, v_uns, v_sgn, mL_sVne _ _ _ _ ha, mL_sVne _ _ _ _ hb, gv6_sV, sV_sV, gvb, gvu, gvlo, gvhi, gvle, gvgr]
  by_cases c1 : g_Sieve_isLess (mL M a 2 + mL M b 2) (mL M a 2) = g_Sieve_isLess (mL M a 3 + mL M b 3) (mL M a 3) <;> by_cases c2 : g_Add_isSum (mL M a 4) (mL M b 4) = 0 <;> by_cases c3 : g_Add_isSum (mL M a 5) (mL M b 5) = 0 <;> simp only [c1, c2, c3, if_true, if_false, not_true, not_false_iff, and_true, and_false, true_and, false_and]
theorem v_sub (ha : a ≠ r) (hb : b ≠ r) : g_Subtract_values x0 a b most r M = sV M r (oSub (gv6 M r) (gv6 M a) (gv6 M b)) := by
  unfold g_Subtract_values g_Subtract_values_0 g_Subtract_values_11 g_Subtract_values_28 g_Subtract_values_47 g_Subtract_values_95 oSub subU AV.unsIf AV.sgnIf
  simp only [v_say, v_uns, v_sgn, mL_sVne _ _ _ _ ha, mL_sVne _ _ _ _ hb, gv6_sV, sV_sV, gvb, gvu, gvlo, gvhi, gvle, gvgr]
  by_cases c1 : g_Sieve_isLess (mL M a 2) (mL M b 3) = g_Sieve_isLess (mL M a 3) (mL M b 2) <;> by_cases c2 : g_Subtract_isDifference (mL M a 4) (mL M b 5) = 0 <;> by_cases c3 : g_Subtract_isDifference (mL M a 5) (mL M b 4) = 0 <;> simp only [c1, c2, c3, if_true, if_false, not_true, not_false_iff, and_true, and_false, true_and, false_and]
theorem v_mul (ha : a ≠ r) (hb : b ≠ r) : g_Multiply_values x0 a b most r M = sV M r (oMul (gv6 M r) (gv6 M a) (gv6 M b)) := by
  unfold g_Multiply_values g_Multiply_values_0 g_Multiply_values_28 g_Multiply_values_51 g_Multiply_values_90 g_Multiply_values_150 g_Multiply_values_151 g_Multiply_values_169 g_Multiply_values_180 g_Multiply_values_191 g_Multiply_values_202 g_Value_knownBelow g_Value_knownBelow_0 g_Value_zerosBelow g_Value_zerosBelow_0 oMul mulK AV.unsIf AV.sgnIf
  simp only [v_say, v_uns, v_sgn, mL_sVne _ _ _ _ ha, mL_sVne _ _ _ _ hb, gv6_sV, sV_sV, gvb, gvu, gvlo, gvhi, gvle, gvgr]
  by_cases c1 : lg_cmp (g_Sieve_upper (mL M a 3) (mL M b 3)) 0 = 0 <;> by_cases c2 : g_Sieve_fits (mL M a 4) (mL M b 4) = 0 <;> by_cases c3 : g_Sieve_fits (mL M a 4) (mL M b 5) = 0 <;> by_cases c4 : g_Sieve_fits (mL M a 5) (mL M b 4) = 0 <;> by_cases c5 : g_Sieve_fits (mL M a 5) (mL M b 5) = 0 <;> simp only [c1, c2, c3, c4, c5, if_true, if_false, not_true, not_false_iff, and_true, and_false, true_and, false_and, if_neg (by decide : ¬ (1 : Int32) = 0)]
theorem v_div (ha : a ≠ r) (hb : b ≠ r) : g_Divide_values x0 a b most r M = sV M r (oDiv (gv6 M r) (gv6 M a) (gv6 M b)) := by
  unfold g_Divide_values g_Divide_values_0 g_Divide_values_19 oDiv
  simp only [v_uns, gvlo, gvhi]
  by_cases c1 : lg_cmp (mL M b 2) 0 = 0 <;> simp only [c1, if_true, if_false]
theorem v_rest (ha : a ≠ r) (hb : b ≠ r) : g_Rest_values x0 a b most r M = sV M r (oRest (gv6 M r) (gv6 M a) (gv6 M b)) := by
  unfold g_Rest_values g_Rest_values_0 g_Rest_values_20 g_Rest_values_55 oRest
  simp only [v_uns, v_copy, gvlo, gvhi]
  by_cases c1 : lg_cmp (mL M b 2) 0 = 0 <;> by_cases c2 : g_Sieve_isLess (mL M a 3) (mL M b 2) = 0 <;> simp only [c1, c2, if_true, if_false]
theorem v_and (ha : a ≠ r) (hb : b ≠ r) : g_And_values x0 a b most r M = sV M r (oAnd (gv6 M r) (gv6 M a) (gv6 M b)) := by
  unfold g_And_values g_And_values_0 g_And_values_21 g_And_values_51 oAnd
  simp only [v_say, v_uns, mL_sVne _ _ _ _ ha, mL_sVne _ _ _ _ hb, gv6_sV, sV_sV, gvb, gvu, gvlo, gvhi]
theorem v_or (ha : a ≠ r) (hb : b ≠ r) : g_Or_values x0 a b most r M = sV M r (oOr (gv6 M r) (gv6 M a) (gv6 M b)) := by
  unfold g_Or_values g_Or_values_0 g_Or_values_11 g_Or_values_34 oOr
  simp only [v_say, v_uns, mL_sVne _ _ _ _ ha, mL_sVne _ _ _ _ hb, gv6_sV, sV_sV, gvb, gvu, gvlo, gvhi]
theorem v_xor (ha : a ≠ r) (hb : b ≠ r) : g_Xor_values x0 a b most r M = sV M r (oXor (gv6 M r) (gv6 M a) (gv6 M b)) := by
  unfold g_Xor_values g_Xor_values_0 oXor
  simp only [v_say, gvb, gvu]
theorem v_move : g_Move_values x0 a b most r M = sV M r (gv6 M b) := by
  unfold g_Move_values g_Move_values_0
  rw [v_copy]
theorem v_shlBy (ha : a ≠ r) (s : Int32) : g_Left_by x0 a s r M = sV M r (shlBy (gv6 M r) (gv6 M a) s) := by
  unfold g_Left_by g_Left_by_0 g_Left_by_16 g_Left_by_48 shlBy AV.unsIf AV.sgnIf
  simp only [v_say, v_uns, v_sgn, mL_sVne _ _ _ _ ha, gv6_sV, sV_sV, gvb, gvu, gvlo, gvhi, gvle, gvgr]
  by_cases c1 : lg_cmp (j_lushr (j_lshl (mL M a 3) s) s) (mL M a 3) = 0 <;> by_cases c2 : lg_cmp (j_lshr (j_lshl (mL M a 4) s) s) (mL M a 4) = 0 <;> by_cases c3 : lg_cmp (j_lshr (j_lshl (mL M a 5) s) s) (mL M a 5) = 0 <;> simp only [c1, c2, c3, if_true, if_false, and_true, and_false, true_and, false_and]
theorem v_shrBy (ha : a ≠ r) (s : Int32) : g_Right_by x0 a s r M = sV M r (shrBy (gv6 M r) (gv6 M a) s) := by
  unfold g_Right_by g_Right_by_0 g_Right_by_16 shrBy
  simp only [v_say, v_uns, mL_sVne _ _ _ _ ha, gv6_sV, sV_sV, gvb, gvu, gvlo, gvhi]
theorem v_sarBy (ha : a ≠ r) (s : Int32) : g_SignedRight_by x0 a s r M = sV M r (sarBy (gv6 M r) (gv6 M a) s) := by
  unfold g_SignedRight_by g_SignedRight_by_0 g_SignedRight_by_16 sarBy
  simp only [v_say, v_sgn, mL_sVne _ _ _ _ ha, gv6_sV, sV_sV, gvb, gvu, gvle, gvgr]
theorem v_shift {k : Nat} (hk : k = 8 ∨ k = 9 ∨ k = 10) (hT : mT M x0 = 11 + k) (ha : a ≠ r) (hb : b ≠ r) : g_Shift_values x0 a b most r M = sV M r (oShift k most (gv6 M r) (gv6 M a) (gv6 M b)) := by
  unfold g_Shift_values g_Shift_values_0 g_Value_isSingle g_Value_isSingle_0 g_Left_between g_Left_between_0 g_Right_between g_Right_between_0 g_SignedRight_between g_SignedRight_between_0 g_Value_zerosBelow g_Value_zerosBelow_0 oShift shlTo shrTo sarTo
  simp only [v_shlBy _ ha, v_shrBy _ ha, v_sarBy _ ha, v_say, v_uns, v_sgn, hT, gvb, gvu, gvlo, gvhi, gvle, gvgr]
  by_cases c1 : lg_cmp (mL M b 1) 0 = 0 <;> by_cases c2 : g_Sieve_isLess (Int32.toInt64 most) (mL M b 3) = 0 <;> rcases hk with rfl | rfl | rfl <;> simp [c1, c2]
/-! what must hold on the way: the tags -/
variable (ta : mT M a = 10) (tb' : mT M b = 10) (tr : mT M r = 10)
theorem K_div (x y : Int64) : K_Sieve_divide x y := fun h _ z => h (cmp_eq.mpr z)
theorem kv_say (x u : Int64) : mT M r = 10 → K_Value_say r x u M := fun h => ⟨h, h⟩
theorem kv_uns (x u : Int64) : mT M r = 10 → K_Value_unsigned r x u M := fun h => ⟨h, h⟩
theorem kv_sgn (x u : Int64) : mT M r = 10 → K_Value_signed r x u M := fun h => ⟨h, h⟩
theorem kv_free : mT M r = 10 → K_Value_free r M := fun h => ⟨h, h, h, h, h, h⟩
theorem kv_copy (ha : mT M a = 10) (h : mT M r = 10) : K_Value_copy r a M := ⟨ha, h, ha, h, ha, h, ha, h, ha, h, ha, h⟩
theorem kv_add (ta : mT M a = 10) (tb' : mT M b = 10) (tr : mT M r = 10) : K_Add_values x0 a b most r M := by
  unfold K_Add_values K_Add_values_0 K_Add_values_11 K_Add_values_28 K_Add_values_47 K_Add_values_105
  simp [v_say, v_uns, mT_sV, ta, tb', tr, kv_say, kv_uns, kv_sgn]
theorem kv_sub (ta : mT M a = 10) (tb' : mT M b = 10) (tr : mT M r = 10) : K_Subtract_values x0 a b most r M := by
  unfold K_Subtract_values K_Subtract_values_0 K_Subtract_values_11 K_Subtract_values_28 K_Subtract_values_47 K_Subtract_values_95
  simp [v_say, v_uns, mT_sV, ta, tb', tr, kv_say, kv_uns, kv_sgn]
theorem kv_mul (ta : mT M a = 10) (tb' : mT M b = 10) (tr : mT M r = 10) : K_Multiply_values x0 a b most r M := by
  unfold K_Multiply_values K_Multiply_values_0 K_Multiply_values_28 K_Multiply_values_51 K_Multiply_values_90 K_Multiply_values_150 K_Multiply_values_151 K_Multiply_values_169 K_Multiply_values_180 K_Multiply_values_191 K_Multiply_values_202 K_Value_knownBelow K_Value_knownBelow_0 K_Value_zerosBelow K_Value_zerosBelow_0
  simp [v_say, v_uns, mT_sV, ta, tb', tr, kv_say, kv_uns, kv_sgn]
theorem kv_div (ta : mT M a = 10) (tb' : mT M b = 10) (tr : mT M r = 10) : K_Divide_values x0 a b most r M := by
  unfold K_Divide_values K_Divide_values_0
  simp [ta, tb', tr, kv_uns, K_div]
theorem kv_rest (ta : mT M a = 10) (tb' : mT M b = 10) (tr : mT M r = 10) : K_Rest_values x0 a b most r M := by
  unfold K_Rest_values K_Rest_values_0 K_Rest_values_55
  simp [ta, tb', tr, kv_uns, kv_copy]
theorem kv_and (ta : mT M a = 10) (tb' : mT M b = 10) (tr : mT M r = 10) : K_And_values x0 a b most r M := by
  unfold K_And_values K_And_values_0 K_And_values_21 K_And_values_51
  simp [v_say, v_uns, mT_sV, ta, tb', tr, kv_say, kv_uns, kv_sgn]
theorem kv_or (ta : mT M a = 10) (tb' : mT M b = 10) (tr : mT M r = 10) : K_Or_values x0 a b most r M := by
  unfold K_Or_values K_Or_values_0 K_Or_values_11 K_Or_values_34
  simp [v_say, v_uns, mT_sV, ta, tb', tr, kv_say, kv_uns, kv_sgn]
theorem kv_xor (ta : mT M a = 10) (tb' : mT M b = 10) (tr : mT M r = 10) : K_Xor_values x0 a b most r M := by
  unfold K_Xor_values K_Xor_values_0
  simp [ta, tb', tr, kv_say]
theorem kv_move (tb' : mT M b = 10) (tr : mT M r = 10) : K_Move_values x0 a b most r M := ⟨tr, kv_copy tb' tr⟩
theorem kv_shift {k : Nat} (hk : k = 8 ∨ k = 9 ∨ k = 10) (hT : mT M x0 = 11 + k) (ta : mT M a = 10) (tb' : mT M b = 10) (tr : mT M r = 10) : K_Shift_values x0 a b most r M := by
  unfold K_Shift_values K_Shift_values_0 K_Value_isSingle K_Value_isSingle_0 K_Left_between K_Left_between_0 K_Right_between K_Right_between_0 K_SignedRight_between K_SignedRight_between_0 K_Left_by K_Left_by_0 K_Left_by_16 K_Left_by_48 K_Right_by K_Right_by_0 K_Right_by_16 K_SignedRight_by K_SignedRight_by_0 K_SignedRight_by_16 K_Value_zerosBelow K_Value_zerosBelow_0
  rcases hk with rfl | rfl | rfl <;> simp [hT, v_say, v_uns, mT_sV, ta, tb', tr, kv_say, kv_uns, kv_sgn]
end OPS
