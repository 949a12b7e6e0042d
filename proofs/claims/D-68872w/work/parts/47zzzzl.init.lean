/-! part 47zzzzl: the constructors up to the transfer (gen/initp.py) -/
def M0 : XM := (fun _ _ => 0, fun _ _ => 0, fun _ _ => 0, fun _ => 0, fun _ => 0, 100, 0)
def a1 : XM := wN (wN M0 1 2) 2 10
def a2 : XM := wR (g_Program_init 102 (wN a1 3 4)) 101 0 102
def a3 : XM := wR (g_FormCheck_init 105 102 (wN a2 4 1)) 101 1 105
def a4 : XM := wR (g_Maps_init 106 (wN a3 5 3)) 101 2 106
def a5 : XM := wR (g_Reckoner_init 110 (wN a4 6 6)) 101 3 110
def a6 : XM := wN a5 23 10
theorem ca1 : mC a1 = 102 := by decide +kernel
theorem ca2 : mC a2 = 105 := by decide +kernel
theorem ca3 : mC a3 = 106 := by decide +kernel
theorem ca4 : mC a4 = 110 := by decide +kernel
theorem ca5 : mC a5 = 133 := by decide +kernel
theorem ca6 : mC a6 = 134 := by decide +kernel
theorem sa6 : mS a6 ≤ 10000 := by decide +kernel
theorem kPr : K_Program_init 102 (wN a1 3 4) := by
  unfold K_Program_init K_Program_init_0 K_Program_init_10 K_Program_init_13 K_Program_init_19
  decide +kernel
theorem kFo : K_FormCheck_init 105 102 (wN a2 4 1) := by
  unfold K_FormCheck_init K_FormCheck_init_0
  decide +kernel
theorem kMa : K_Maps_init 106 (wN a3 5 3) := by
  unfold K_Maps_init K_Maps_init_0 K_Maps_init_9 K_Maps_init_12 K_Maps_init_17 K_Maps_init_20 K_Maps_init_25
  decide +kernel
theorem kRe : K_Reckoner_init 110 (wN a4 6 6) := by
  unfold K_Reckoner_init K_Reckoner_init_0 K_Reckoner_init_8 K_Reckoner_init_12 K_Reckoner_init_15 K_Reckoner_init_19 K_Reckoner_init_27 K_Reckoner_init_30 K_Reckoner_init_36 K_Reckoner_init_41 K_Reckoner_init_46 K_Reckoner_init_51 K_Reckoner_init_56 K_Reckoner_init_61 K_Reckoner_init_66 K_Reckoner_init_71 K_Reckoner_init_76 K_Reckoner_init_81 K_Reckoner_init_86 K_Reckoner_init_91 K_Reckoner_init_96 K_Reckoner_init_102 K_Reckoner_init_107 K_Reckoner_init_113 K_Reckoner_init_118 K_Reckoner_init_124 K_Reckoner_init_129 K_Reckoner_init_135 K_Reckoner_init_140 K_Reckoner_init_146 K_Reckoner_init_151 K_Reckoner_init_157 K_Reckoner_init_165 K_Reckoner_init_169 K_Reckoner_init_176 K_Reckoner_init_180 K_Reckoner_init_187 K_Reckoner_init_191 K_Press_init K_Press_init_0 K_Press_init_8 K_Press_init_15 K_Press_init_19 K_Refiner_init K_Refiner_init_0 K_Refiner_init_8 K_Refiner_init_15 K_Refiner_init_19
  unfold K_Add_init K_Add_init_0 K_Subtract_init K_Subtract_init_0 K_Multiply_init K_Multiply_init_0 K_Divide_init K_Divide_init_0 K_Rest_init K_Rest_init_0 K_And_init K_And_init_0 K_Or_init K_Or_init_0 K_Xor_init K_Xor_init_0 K_Left_init K_Left_init_0 K_Right_init K_Right_init_0 K_SignedRight_init K_SignedRight_init_0 K_Move_init K_Move_init_0 K_Shift_init K_Shift_init_0 K_Operation_init K_Operation_init_0 K_Piece_init K_Piece_init_0 K_Value_init K_Value_init_0 vp_in
  repeat' (first | refine ⟨?_, ?_⟩ | decide +kernel)
def ZI (M : XM) : Prop := ∀ a i, mI M a i = 0 ∧ mL M a i = 0
theorem ZI.wn {M : XM} {t n : Nat} (h : ZI M) : ZI (wN M t n) := fun a i => by
  rw [mI_wN, mL_wN]
  by_cases c : a = mC M
  · rw [if_pos c, if_pos c]; exact ⟨rfl, rfl⟩
  · rw [if_neg c, if_neg c]; exact h a i
theorem ZI.wr {M : XM} {q k v : Nat} (h : ZI M) : ZI (wR M q k v) := h
theorem za6 : ZI a6 := by
  unfold a6 a5
  unfold g_Reckoner_init g_Reckoner_init_0 g_Reckoner_init_8 g_Reckoner_init_12 g_Reckoner_init_15 g_Reckoner_init_19 g_Reckoner_init_27 g_Reckoner_init_30 g_Reckoner_init_36 g_Reckoner_init_41 g_Reckoner_init_46 g_Reckoner_init_51 g_Reckoner_init_56 g_Reckoner_init_61 g_Reckoner_init_66 g_Reckoner_init_71 g_Reckoner_init_76 g_Reckoner_init_81 g_Reckoner_init_86 g_Reckoner_init_91 g_Reckoner_init_96 g_Reckoner_init_102 g_Reckoner_init_107 g_Reckoner_init_113 g_Reckoner_init_118 g_Reckoner_init_124 g_Reckoner_init_129 g_Reckoner_init_135 g_Reckoner_init_140 g_Reckoner_init_146 g_Reckoner_init_151 g_Reckoner_init_157 g_Reckoner_init_165 g_Reckoner_init_169 g_Reckoner_init_176 g_Reckoner_init_180 g_Reckoner_init_187 g_Reckoner_init_191 g_Press_init g_Press_init_0 g_Press_init_8 g_Press_init_15 g_Press_init_19 g_Refiner_init g_Refiner_init_0 g_Refiner_init_8 g_Refiner_init_15 g_Refiner_init_19
  unfold a4
  unfold g_Maps_init g_Maps_init_0 g_Maps_init_9 g_Maps_init_12 g_Maps_init_17 g_Maps_init_20 g_Maps_init_25
  unfold a3
  unfold g_FormCheck_init g_FormCheck_init_0
  unfold a2
  unfold g_Program_init g_Program_init_0 g_Program_init_10 g_Program_init_13 g_Program_init_19
  unfold a1
  repeat' (first | exact (fun _ _ => ⟨rfl, rfl⟩ : ZI M0) | refine ZI.wr ?_ | refine ZI.wn ?_)
