/-! part 47zzzzn: the memory behind all constructors (gen/initr.py) -/
section Asm
variable {B : XM}
theorem gB3 (h : mC B = 442) : mC (wR (wN (wR B 101 4 133) 105 1024) 101 5 442) = 443 ∧ mS (wR (wN (wR B 101 4 133) 105 1024) 101 5 442) = mS B + 1024 ∧ OM 102 442 B (wR (wN (wR B 101 4 133) 105 1024) 101 5 442) ∧ Olx 442 B (wR (wN (wR B 101 4 133) 105 1024) 101 5 442) ∧ mT (wR (wN (wR B 101 4 133) 105 1024) 101 5 442) 442 = 105 ∧ mN (wR (wN (wR B 101 4 133) 105 1024) 101 5 442) 442 = 1024 ∧ (∀ i, mR (wR (wN (wR B 101 4 133) 105 1024) 101 5 442) 442 i = 0) ∧
    (∀ a i, a < 102 → mR (wR (wN (wR B 101 4 133) 105 1024) 101 5 442) a i = if a = 101 ∧ i = 5 then 442 else if a = 101 ∧ i = 4 then 133 else mR B a i) ∧ mT (wN (wR B 101 4 133) 105 1024) 101 = mT B 101 := by
  have c : mC (wR B 101 4 133) = 442 := by rw [mC_wR]; exact h
  have w : Old 442 (wR B 101 4 133) (wN (wR B 101 4 133) 105 1024) := Old.wn (by rw [c]; exact Nat.le_refl _)
  refine ⟨by rw [mC_wR, mC_wN, c], by rw [mS_wR, mS_wN, mS_wR], (OM.wr (by omega)).trans ((w.om (Nat.le_refl _)).trans (OM.wr (by omega))), Olx.wr.trans ((w.olx (Nat.le_refl _)).trans Olx.wr), by rw [mT_wR, mT_wN, c, if_pos rfl], by rw [mN_wR, mN_wN, c, if_pos rfl], fun i => by rw [mR_wR, if_neg (by omega), mR_wN, c, if_pos rfl], fun a i ha => by rw [mR_wR, mR_wN, c, if_neg (show ¬ a = 442 by omega), mR_wR], by rw [mT_wN, c, if_neg (by decide), mT_wR]⟩
theorem gB4 (h : mC B = 443) : K_Thing_init 443 (wN B 25 4) ∧ mC (wR (g_Thing_init 443 (wN B 25 4)) 101 6 443) = 445 ∧ mS (wR (g_Thing_init 443 (wN B 25 4)) 101 6 443) = mS B + 10 ∧ OM 102 443 B (wR (g_Thing_init 443 (wN B 25 4)) 101 6 443) ∧ Olx 443 B (wR (g_Thing_init 443 (wN B 25 4)) 101 6 443) ∧ ShTh (wR (g_Thing_init 443 (wN B 25 4)) 101 6 443) 443 ∧
    (∀ a i, a < 102 → mR (wR (g_Thing_init 443 (wN B 25 4)) 101 6 443) a i = if a = 101 ∧ i = 6 then 443 else mR B a i) ∧ mT (g_Thing_init 443 (wN B 25 4)) 101 = mT B 101 := by
  obtain ⟨v1, v2, v3, v4, v5⟩ := thing_new h (by decide)
  refine ⟨v1, by rw [mC_wR]; exact v3, by rw [mS_wR]; exact v4, (v5.om (Nat.le_refl _)).trans (OM.wr (by omega)), (v5.olx (Nat.le_refl _)).trans Olx.wr, v2.wrl (by decide), fun a i ha => by rw [mR_wR, v5.r (by omega)], (v5 101 (by decide)).2.1⟩
theorem gB6 (h : mC B = 445) : K_Program_init 445 (wN (wR B 100 0 101) 3 4) ∧ mC (wR (g_Program_init 445 (wN (wR B 100 0 101) 3 4)) 100 1 445) = 448 ∧ mS (wR (g_Program_init 445 (wN (wR B 100 0 101) 3 4)) 100 1 445) = mS B + 9221 ∧ OM 102 445 B (wR (g_Program_init 445 (wN (wR B 100 0 101) 3 4)) 100 1 445) ∧ Olx 445 B (wR (g_Program_init 445 (wN (wR B 100 0 101) 3 4)) 100 1 445) ∧ mT (wR (g_Program_init 445 (wN (wR B 100 0 101) 3 4)) 100 1 445) 445 = 3 ∧ mT (wR (g_Program_init 445 (wN (wR B 100 0 101) 3 4)) 100 1 445) 446 = 102 ∧ mT (wR (g_Program_init 445 (wN (wR B 100 0 101) 3 4)) 100 1 445) 447 = 101 ∧ mN (wR (g_Program_init 445 (wN (wR B 100 0 101) 3 4)) 100 1 445) 446 = 8192 ∧ mN (wR (g_Program_init 445 (wN (wR B 100 0 101) 3 4)) 100 1 445) 447 = 1025 ∧ mR (wR (g_Program_init 445 (wN (wR B 100 0 101) 3 4)) 100 1 445) 445 0 = 446 ∧ mR (wR (g_Program_init 445 (wN (wR B 100 0 101) 3 4)) 100 1 445) 445 3 = 447 ∧
    (∀ a i, 445 ≤ a → a < 448 → mI (wR (g_Program_init 445 (wN (wR B 100 0 101) 3 4)) 100 1 445) a i = 0) ∧ (∀ a i, a < 102 → mR (wR (g_Program_init 445 (wN (wR B 100 0 101) 3 4)) 100 1 445) a i = if a = 100 ∧ i = 1 then 445 else if a = 100 ∧ i = 0 then 101 else mR B a i) ∧ mT (g_Program_init 445 (wN (wR B 100 0 101) 3 4)) 100 = mT B 100 := by
  have c : mC (wR B 100 0 101) = 445 := by rw [mC_wR]; exact h
  obtain ⟨p1, p2, p3, p4, p5, p6, p7, p8, p9, p10, p11, p12⟩ := program_new c (by decide)
  generalize g_Program_init 445 (wN (wR B 100 0 101) 3 4) = P at p2 p3 p4 p5 p6 p7 p8 p9 p10 p11 p12 ⊢
  refine ⟨p1, by rw [mC_wR]; exact p9, by rw [mS_wR, p10, mS_wR], (OM.wr (by omega)).trans ((p11.om (Nat.le_refl _)).trans (OM.wr (by omega))), Olx.wr.trans ((p11.olx (Nat.le_refl _)).trans Olx.wr), by rw [mT_wR]; exact p2, by rw [mT_wR]; exact p3, by rw [mT_wR]; exact p4, by rw [mN_wR]; exact p5, by rw [mN_wR]; exact p6, by rw [mR_wR, if_neg (by omega)]; exact p7, by rw [mR_wR, if_neg (by omega)]; exact p8, fun a i x y => by rw [mI_wR]; exact p12 a i x y, fun a i ha => by rw [mR_wR, p11.r (by omega), mR_wR], by rw [(p11 100 (by decide)).2.1, mT_wR]⟩
theorem gNN (h : mC B = 448) : K_Model_init 448 (wN B 26 24) ∧ mC (g_Model_init 448 (wN B 26 24)) = 468 ∧ mS (g_Model_init 448 (wN B 26 24)) = mS B + 791223 ∧ Old 448 B (wN (g_Model_init 448 (wN B 26 24)) 104 1) ∧
    (∀ a, 448 ≤ a → a < 468 → mT (wN (g_Model_init 448 (wN B 26 24)) 104 1) a = mT (mdl B) a ∧ mN (wN (g_Model_init 448 (wN B 26 24)) 104 1) a = mN (mdl B) a ∧ ∀ i, mR (wN (g_Model_init 448 (wN B 26 24)) 104 1) a i = mR (mdl B) a i ∧ mL (wN (g_Model_init 448 (wN B 26 24)) 104 1) a i = mL (mdl B) a i ∧ (a ≠ 459 → mI (wN (g_Model_init 448 (wN B 26 24)) 104 1) a i = mI (mdl B) a i)) := by
  obtain ⟨T448, T449, T450, T451, T452, T453, T454, T455, T456, T457, T458, T459, T460, T461, T462, T463, T464, T465, T466, T467, N449, N450, N451, N452, N453, N454, N455, N456, N457, N458, N459, N461, N462, N463, N464, N465, N466, N467, R448_1, R448_3, R448_7, R448_8, R448_9, R448_10, R448_11, R448_12, R448_13, R448_14, R448_15, R448_16, R460_0, R460_1, R460_2, R460_3, R460_4, R460_5, R460_6⟩ := mdl_F h
  obtain ⟨c, s⟩ := mdl_C h
  have o := mdl_O h
  have L := mdl_L 77100 0 xF (mdl B) (by omega) (by rw [xF_eq]; omega) T448 T459 N459 R448_15
  have z0 : Int32.ofNat 0 = 0 := rfl
  rw [z0] at L
  obtain ⟨l1, l2, l3⟩ := L
  have k := mdl_K h l1
  rw [mdl_eq h]
  clear T448 T459 N459 R448_15
  generalize g_Model_init_110 xF 448 0 (mdl B) = Y at l2 l3 ⊢
  generalize mdl B = D at l2 l3 o c s ⊢
  have e : Y.2.2 = D.2.2 := by rw [l2]
  have eL : ∀ a i, mL Y a i = mL D a i := fun a i => by show Y.2.1 a i = D.2.1 a i; rw [l2]
  have cY : mC Y = 468 := (eC e).trans c
  have w : Old 468 Y (wN Y 104 1) := Old.wn (by rw [cY]; exact Nat.le_refl _)
  refine ⟨k, cY, (eS e).trans s, fun a ha => ⟨fun i => ⟨?_, ?_, ?_⟩, ?_, ?_⟩, fun a x y => ⟨?_, ?_, fun i => ⟨?_, ?_, fun q => ?_⟩⟩⟩
  · rw [((w a (by omega)).1 i).1, l3 a i (by omega)]; exact ((o a ha).1 i).1
  · rw [((w a (by omega)).1 i).2.1, eL]; exact ((o a ha).1 i).2.1
  · rw [((w a (by omega)).1 i).2.2, eR e]; exact ((o a ha).1 i).2.2
  · rw [(w a (by omega)).2.1, eT e]; exact (o a ha).2.1
  · rw [(w a (by omega)).2.2, eN e]; exact (o a ha).2.2
  · rw [(w a y).2.1, eT e]
  · rw [(w a y).2.2, eN e]
  · rw [((w a y).1 i).2.2, eR e]
  · rw [((w a y).1 i).2.1, eL]
  · rw [((w a y).1 i).1, l3 a i q]
end Asm
def zB1 : XM := g_Transfer_init 133 102 106 110 a6
def zB3 : XM := wR (wN (wR zB1 101 4 133) 105 1024) 101 5 442
def zB4 : XM := wR (g_Thing_init 443 (wN zB3 25 4)) 101 6 443
def zB6 : XM := wR (g_Program_init 445 (wN (wR zB4 100 0 101) 3 4)) 100 1 445
noncomputable def zNN : XM := wN (g_Model_init 448 (wN zB6 26 24)) 104 1
theorem zr_all {f : Nat → Nat} (h : ∀ k, f k = 0) : ∀ n, zr f n = n
  | 0 => rfl
  | n + 1 => by
    show zr f n + (if f n = 0 then 1 else 0) = n + 1
    rw [zr_all h n, if_pos (h n)]
theorem chk_new : K_Checker_init 101 a1 ∧ g_Checker_init 101 a1 = zB4 := by
  obtain ⟨k1, c1, _⟩ := transfer_new ca6 (by decide +kernel)
  have t1 : mT zB1 101 = 2 := ((transfer_new ca6 (by decide +kernel)).2.2.2.2.2.2.2.1 101 (by decide)).2.1.trans (by decide +kernel)
  have c1' : mC zB1 = 442 := c1
  obtain ⟨c3, _, _, o3, _, _, _, _, t3⟩ := gB3 c1'
  have c3' : mC zB3 = 443 := c3
  have t3' : mT zB3 101 = 2 := (o3 101 (by decide)).2.1.trans t1
  obtain ⟨k4, _, _, _, _, _, _, t4⟩ := gB4 c3'
  have e2 : wR (g_Program_init 102 (wN a1 3 4)) 101 0 102 = a2 := rfl
  have e3 : wR (g_FormCheck_init 105 102 (wN a2 4 1)) 101 1 105 = a3 := rfl
  have e4 : wR (g_Maps_init 106 (wN a3 5 3)) 101 2 106 = a4 := rfl
  have e5 : wR (g_Reckoner_init 110 (wN a4 6 6)) 101 3 110 = a5 := rfl
  have e6 : wN a5 23 10 = a6 := rfl
  have f1 : g_Transfer_init 133 102 106 110 a6 = zB1 := rfl
  have f3 : wR (wN (wR zB1 101 4 133) 105 1024) 101 5 442 = zB3 := rfl
  have f4 : wR (g_Thing_init 443 (wN zB3 25 4)) 101 6 443 = zB4 := rfl
  have r2 : mR (wN a2 4 1) 101 0 = 102 := by decide +kernel
  have r6 : mR a6 101 0 = 102 := by decide +kernel
  have r7 : mR a6 101 2 = 106 := by decide +kernel
  have r8 : mR a6 101 3 = 110 := by decide +kernel
  unfold K_Checker_init g_Checker_init K_Checker_init_0 g_Checker_init_0 K_Checker_init_8 g_Checker_init_8 K_Checker_init_12 g_Checker_init_12
  rw [ca1, e2]
  unfold K_Checker_init_15 g_Checker_init_15 K_Checker_init_19 g_Checker_init_19 K_Checker_init_27 g_Checker_init_27
  rw [ca2, r2, e3]
  unfold K_Checker_init_30 g_Checker_init_30 K_Checker_init_34 g_Checker_init_34 K_Checker_init_38 g_Checker_init_38
  rw [ca3, e4]
  unfold K_Checker_init_41 g_Checker_init_41 K_Checker_init_45 g_Checker_init_45 K_Checker_init_49 g_Checker_init_49
  rw [ca4, e5]
  unfold K_Checker_init_52 g_Checker_init_52 K_Checker_init_56 g_Checker_init_56 K_Checker_init_72 g_Checker_init_72
  rw [ca5, e6, r6, r7, r8, f1]
  unfold K_Checker_init_75 g_Checker_init_75 K_Checker_init_82 g_Checker_init_82
  rw [mC_wR, c1', f3]
  unfold K_Checker_init_85 g_Checker_init_85 K_Checker_init_89 g_Checker_init_89 K_Checker_init_93 g_Checker_init_93
  rw [c3', f4]
  exact ⟨⟨by decide, by decide, kPr, by decide +kernel, by decide +kernel, by decide, kFo, by decide +kernel, by decide, kMa, by decide +kernel, by decide, kRe, by decide +kernel, by decide +kernel, by decide +kernel, by decide +kernel, by decide, k1, t1, t3.trans t1, by decide, k4, t4.trans t3'⟩, rfl⟩
/-- what is known of the memory behind the checker and the tape -/
theorem pc_facts : mC zB6 = 448 ∧ mS zB6 ≤ 21935 ∧ ShSt zB6 134 ∧ ShSt zB6 286 ∧ ShTh zB6 438 ∧ ShTh zB6 440 ∧ ShTh zB6 443 ∧ Olx 134 a6 zB6 ∧ (mT zB6 442 = 105 ∧ mN zB6 442 = 1024 ∧ (∀ i, mR zB6 442 i = 0)) ∧
    (mT zB6 445 = 3 ∧ mT zB6 446 = 102 ∧ mT zB6 447 = 101 ∧ mN zB6 446 = 8192 ∧ mN zB6 447 = 1025 ∧ mR zB6 445 0 = 446 ∧ mR zB6 445 3 = 447 ∧ (∀ a i, 445 ≤ a → a < 448 → mI zB6 a i = 0)) ∧
    (∀ a i, a < 102 → mR zB6 a i = if a = 100 ∧ i = 1 then 445 else if a = 100 ∧ i = 0 then 101 else if a = 101 ∧ i = 6 then 443 else if a = 101 ∧ i = 5 then 442 else if a = 101 ∧ i = 4 then 133 else if a = 133 ∧ i = 2 then 110 else if a = 133 ∧ i = 1 then 106 else if a = 133 ∧ i = 0 then 102 else if a = 133 ∧ i = 8 then 440 else if a = 133 ∧ i = 7 then 438 else if a = 133 ∧ i = 4 then 286 else if a = 133 ∧ i = 3 then 134 else mR a6 a i) ∧
    (∀ a i, 102 ≤ a → a < 134 → mR zB6 a i = if a = 133 ∧ i = 2 then 110 else if a = 133 ∧ i = 1 then 106 else if a = 133 ∧ i = 0 then 102 else if a = 133 ∧ i = 8 then 440 else if a = 133 ∧ i = 7 then 438 else if a = 133 ∧ i = 4 then 286 else if a = 133 ∧ i = 3 then 134 else mR a6 a i) ∧
    K_Program_init 445 (wN (wR zB4 100 0 101) 3 4) ∧ mC zB4 = 445 ∧ mT zB4 100 = 1 ∧ mT (g_Program_init 445 (wN (wR zB4 100 0 101) 3 4)) 100 = 1 := by
  obtain ⟨_, c1, s1, x1, x2, x3, x4, o1, r1⟩ := transfer_new ca6 (by decide +kernel)
  have t1 : mT a6 100 = 1 := by decide +kernel
  have s6 := sa6
  unfold zB6 zB4 zB3 zB1
  generalize g_Transfer_init 133 102 106 110 a6 = B1 at c1 s1 x1 x2 x3 x4 o1 r1 ⊢
  obtain ⟨c3, s3, m3, o3, y1, y2, y3, r3, _⟩ := gB3 c1
  generalize wR (wN (wR B1 101 4 133) 105 1024) 101 5 442 = B3 at c3 s3 m3 o3 y1 y2 y3 r3 ⊢
  obtain ⟨_, c4, s4, m4, o4, w1, r4, _⟩ := gB4 c3
  generalize wR (g_Thing_init 443 (wN B3 25 4)) 101 6 443 = B4 at c4 s4 m4 o4 w1 r4 ⊢
  obtain ⟨k6, c6, s6', m6, o6, q1, q2, q3, q4, q5, q6, q7, q8, r6, q9⟩ := gB6 c4
  have tb : mT B4 100 = 1 := (o4 100 (by decide)).2.1.trans ((o3 100 (by decide)).2.1.trans ((o1 100 (by decide)).2.1.trans t1))
  rw [tb] at q9
  generalize wR (g_Program_init 445 (wN (wR B4 100 0 101) 3 4)) 100 1 445 = B6 at c6 s6' m6 o6 q1 q2 q3 q4 q5 q6 q7 q8 r6 ⊢
  have om : OM 102 442 B1 B6 := m3.trans ((m4.sub (by decide) (by decide)).trans (m6.sub (by decide) (by decide)))
  have om2 : OM 442 443 B3 B6 := (m4.sub (by decide) (by decide)).trans (m6.sub (by decide) (by decide))
  have ox : ∀ {r : Nat} {M X : XM}, Olx r M X → 134 ≤ r → Olx 134 M X := fun h z a y => h a (by omega)
  refine ⟨c6, by omega, x1.om om (by decide) (by decide), x2.om om (by decide) (by decide), x3.om om (by decide) (by decide), x4.om om (by decide) (by decide), w1.om m6 (by decide) (by decide), o1.trans ((ox o3 (by decide)).trans ((ox o4 (by decide)).trans (ox o6 (by decide)))), ⟨((om2 442 (by decide) (by decide)).2.1).trans y1, ((om2 442 (by decide) (by decide)).2.2).trans y2, fun i => (((om2 442 (by decide) (by decide)).1 i).2.2).trans (y3 i)⟩, ⟨q1, q2, q3, q4, q5, q6, q7, q8⟩, fun a i ha => ?_, fun a i ha hb => ?_, k6, c4, tb, q9⟩
  · rw [r6 a i ha, r4 a i ha, r3 a i ha, r1 a i (by omega)]
  · rw [((om a ha (by omega)).1 i).2.2, r1 a i (by omega)]
theorem pc_new : K_PC_init 100 (wN M0 1 2) ∧ g_PC_init 100 (wN M0 1 2) = zB6 := by
  obtain ⟨k1, e1⟩ := chk_new
  obtain ⟨_, _, _, _, _, _, _, _, _, _, _, _, k6, c4, t4, t6⟩ := pc_facts
  have c0 : mC (wN M0 1 2) = 101 := by decide +kernel
  have e0 : wN (wN M0 1 2) 2 10 = a1 := rfl
  have e6 : wR (g_Program_init 445 (wN (wR zB4 100 0 101) 3 4)) 100 1 445 = zB6 := rfl
  unfold K_PC_init g_PC_init K_PC_init_0 g_PC_init_0 K_PC_init_8 g_PC_init_8 K_PC_init_12 g_PC_init_12
  rw [c0, e0, e1]
  unfold K_PC_init_15 g_PC_init_15 K_PC_init_19 g_PC_init_19 K_PC_init_23 g_PC_init_23
  rw [mC_wR, c4, e6]
  exact ⟨⟨by decide, by decide, k1, t4, by decide, k6, t6⟩, rfl⟩
theorem low_N : Old 448 zB6 zNN := (gNN pc_facts.1).2.2.2.1
set_option maxRecDepth 20000 in
theorem shN : Sh zNN := by
  obtain ⟨c6, _, h134, h286, h438, h440, h443, ol, ⟨t442, n442, _⟩, ⟨t445, t446, t447, n446, n447, r445_0, r445_3, _⟩, rlo, rhi, _, _, _, _⟩ := pc_facts
  obtain ⟨T448, T449, T450, T451, T452, T453, T454, T455, T456, T457, T458, T459, T460, T461, T462, T463, T464, T465, T466, T467, N449, N450, N451, N452, N453, N454, N455, N456, N457, N458, N459, N461, N462, N463, N464, N465, N466, N467, R448_1, R448_3, R448_7, R448_8, R448_9, R448_10, R448_11, R448_12, R448_13, R448_14, R448_15, R448_16, R460_0, R460_1, R460_2, R460_3, R460_4, R460_5, R460_6⟩ := mdl_F c6
  obtain ⟨_, cm, _, o, tm⟩ := gNN c6
  have cN : mC zNN = 469 := by unfold zNN; rw [mC_wN, cm]
  have t468 : mT zNN 468 = 104 := by unfold zNN; rw [mT_wN, cm, if_pos rfl]
  have n468 : mN zNN 468 = 1 := by unfold zNN; rw [mN_wN, cm, if_pos rfl]
  have o : Old 448 zB6 zNN := o
  have tm : ∀ a, 448 ≤ a → a < 468 → mT zNN a = mT (mdl zB6) a ∧ mN zNN a = mN (mdl zB6) a ∧ ∀ i, mR zNN a i = mR (mdl zB6) a i ∧ mL zNN a i = mL (mdl zB6) a i ∧ (a ≠ 459 → mI zNN a i = mI (mdl zB6) a i) := tm
  have om : OM 134 448 zB6 zNN := o.om (Nat.le_refl _)
  have tl : ∀ a, a < 134 → mT zNN a = mT a6 a ∧ mN zNN a = mN a6 a := fun a ha => ⟨(o a (by omega)).2.1.trans (ol a ha).2.1, (o a (by omega)).2.2.trans (ol a ha).2.2⟩
  have rlo := fun a i (ha : a < 102) => (o.r (show a < 448 by omega) i).trans (rlo a i ha)
  have rhi := fun a i (ha : 102 ≤ a) (hb : a < 134) => (o.r (show a < 448 by omega) i).trans (rhi a i ha hb)
  have h134 := h134.om om (by decide) (by decide)
  have h286 := h286.om om (by decide) (by decide)
  have h438 := h438.om om (by decide) (by decide)
  have h440 := h440.om om (by decide) (by decide)
  have h443 := h443.om om (by decide) (by decide)
  have t442 := (o 442 (by decide)).2.1.trans t442
  have n442 := (o 442 (by decide)).2.2.trans n442
  have t445 := (o 445 (by decide)).2.1.trans t445
  have t446 := (o 446 (by decide)).2.1.trans t446
  have t447 := (o 447 (by decide)).2.1.trans t447
  have n446 := (o 446 (by decide)).2.2.trans n446
  have n447 := (o 447 (by decide)).2.2.trans n447
  have r445_0 := (o.r (show 445 < 448 by decide) 0).trans r445_0
  have r445_3 := (o.r (show 445 < 448 by decide) 3).trans r445_3
  exact ⟨
    (tl 100 (by decide)).1.trans (by decide +kernel), (tl 101 (by decide)).1.trans (by decide +kernel), (tl 102 (by decide)).1.trans (by decide +kernel), (tl 103 (by decide)).1.trans (by decide +kernel), (tl 104 (by decide)).1.trans (by decide +kernel), (tl 105 (by decide)).1.trans (by decide +kernel),
    (tl 106 (by decide)).1.trans (by decide +kernel), (tl 107 (by decide)).1.trans (by decide +kernel), (tl 108 (by decide)).1.trans (by decide +kernel), (tl 109 (by decide)).1.trans (by decide +kernel), (tl 110 (by decide)).1.trans (by decide +kernel), (tl 111 (by decide)).1.trans (by decide +kernel),
    (tl 112 (by decide)).1.trans (by decide +kernel), (tl 113 (by decide)).1.trans (by decide +kernel), (tl 114 (by decide)).1.trans (by decide +kernel), (tl 115 (by decide)).1.trans (by decide +kernel), (tl 116 (by decide)).1.trans (by decide +kernel), (tl 117 (by decide)).1.trans (by decide +kernel),
    (tl 118 (by decide)).1.trans (by decide +kernel), (tl 119 (by decide)).1.trans (by decide +kernel), (tl 120 (by decide)).1.trans (by decide +kernel), (tl 121 (by decide)).1.trans (by decide +kernel), (tl 122 (by decide)).1.trans (by decide +kernel), (tl 123 (by decide)).1.trans (by decide +kernel),
    (tl 124 (by decide)).1.trans (by decide +kernel), (tl 125 (by decide)).1.trans (by decide +kernel), (tl 126 (by decide)).1.trans (by decide +kernel), (tl 127 (by decide)).1.trans (by decide +kernel), (tl 128 (by decide)).1.trans (by decide +kernel), (tl 129 (by decide)).1.trans (by decide +kernel),
    (tl 130 (by decide)).1.trans (by decide +kernel), (tl 131 (by decide)).1.trans (by decide +kernel), (tl 132 (by decide)).1.trans (by decide +kernel), (tl 133 (by decide)).1.trans (by decide +kernel), t442, t445,
    t446, t447, (tm 448 (by decide) (by decide)).1.trans T448, (tm 449 (by decide) (by decide)).1.trans T449, (tm 450 (by decide) (by decide)).1.trans T450, (tm 451 (by decide) (by decide)).1.trans T451,
    (tm 452 (by decide) (by decide)).1.trans T452, (tm 453 (by decide) (by decide)).1.trans T453, (tm 454 (by decide) (by decide)).1.trans T454, (tm 455 (by decide) (by decide)).1.trans T455, (tm 456 (by decide) (by decide)).1.trans T456, (tm 457 (by decide) (by decide)).1.trans T457,
    (tm 458 (by decide) (by decide)).1.trans T458, (tm 459 (by decide) (by decide)).1.trans T459, (tm 460 (by decide) (by decide)).1.trans T460, (tm 461 (by decide) (by decide)).1.trans T461, (tm 462 (by decide) (by decide)).1.trans T462, (tm 463 (by decide) (by decide)).1.trans T463,
    (tm 464 (by decide) (by decide)).1.trans T464, (tm 465 (by decide) (by decide)).1.trans T465, (tm 466 (by decide) (by decide)).1.trans T466, (tm 467 (by decide) (by decide)).1.trans T467, t468, (tl 103 (by decide)).2.trans (by decide +kernel),
    (tl 104 (by decide)).2.trans (by decide +kernel), (tl 107 (by decide)).2.trans (by decide +kernel), (tl 108 (by decide)).2.trans (by decide +kernel), (tl 109 (by decide)).2.trans (by decide +kernel), (tl 117 (by decide)).2.trans (by decide +kernel), n442,
    n446, n447, (tm 449 (by decide) (by decide)).2.1.trans N449, (tm 450 (by decide) (by decide)).2.1.trans N450, (tm 451 (by decide) (by decide)).2.1.trans N451, (tm 452 (by decide) (by decide)).2.1.trans N452,
    (tm 453 (by decide) (by decide)).2.1.trans N453, (tm 454 (by decide) (by decide)).2.1.trans N454, (tm 455 (by decide) (by decide)).2.1.trans N455, (tm 456 (by decide) (by decide)).2.1.trans N456, (tm 457 (by decide) (by decide)).2.1.trans N457, (tm 458 (by decide) (by decide)).2.1.trans N458,
    (tm 459 (by decide) (by decide)).2.1.trans N459, (tm 461 (by decide) (by decide)).2.1.trans N461, (tm 462 (by decide) (by decide)).2.1.trans N462, (tm 463 (by decide) (by decide)).2.1.trans N463, (tm 464 (by decide) (by decide)).2.1.trans N464, (tm 465 (by decide) (by decide)).2.1.trans N465,
    (tm 466 (by decide) (by decide)).2.1.trans N466, (tm 467 (by decide) (by decide)).2.1.trans N467, n468, (rlo 100 0 (by decide)).trans (by decide +kernel), (rlo 100 1 (by decide)).trans (by decide +kernel), (rlo 101 0 (by decide)).trans (by decide +kernel),
    (rlo 101 1 (by decide)).trans (by decide +kernel), (rlo 101 2 (by decide)).trans (by decide +kernel), (rlo 101 3 (by decide)).trans (by decide +kernel), (rlo 101 4 (by decide)).trans (by decide +kernel), (rlo 101 5 (by decide)).trans (by decide +kernel), (rlo 101 6 (by decide)).trans (by decide +kernel),
    (rhi 102 0 (by decide) (by decide)).trans (by decide +kernel), (rhi 102 3 (by decide) (by decide)).trans (by decide +kernel), (rhi 105 0 (by decide) (by decide)).trans (by decide +kernel), (rhi 106 0 (by decide) (by decide)).trans (by decide +kernel), (rhi 106 1 (by decide) (by decide)).trans (by decide +kernel), (rhi 106 2 (by decide) (by decide)).trans (by decide +kernel),
    (rhi 110 0 (by decide) (by decide)).trans (by decide +kernel), (rhi 110 1 (by decide) (by decide)).trans (by decide +kernel), (rhi 110 2 (by decide) (by decide)).trans (by decide +kernel), (rhi 110 3 (by decide) (by decide)).trans (by decide +kernel), (rhi 110 4 (by decide) (by decide)).trans (by decide +kernel), (rhi 110 5 (by decide) (by decide)).trans (by decide +kernel),
    (rhi 111 0 (by decide) (by decide)).trans (by decide +kernel), (rhi 111 1 (by decide) (by decide)).trans (by decide +kernel), (rhi 114 0 (by decide) (by decide)).trans (by decide +kernel), (rhi 114 1 (by decide) (by decide)).trans (by decide +kernel), (rhi 114 2 (by decide) (by decide)).trans (by decide +kernel), (rhi 117 0 (by decide) (by decide)).trans (by decide +kernel),
    (rhi 117 1 (by decide) (by decide)).trans (by decide +kernel), (rhi 117 2 (by decide) (by decide)).trans (by decide +kernel), (rhi 117 3 (by decide) (by decide)).trans (by decide +kernel), (rhi 117 4 (by decide) (by decide)).trans (by decide +kernel), (rhi 117 5 (by decide) (by decide)).trans (by decide +kernel), (rhi 117 6 (by decide) (by decide)).trans (by decide +kernel),
    (rhi 117 7 (by decide) (by decide)).trans (by decide +kernel), (rhi 117 8 (by decide) (by decide)).trans (by decide +kernel), (rhi 117 9 (by decide) (by decide)).trans (by decide +kernel), (rhi 117 10 (by decide) (by decide)).trans (by decide +kernel), (rhi 117 11 (by decide) (by decide)).trans (by decide +kernel), (rhi 133 0 (by decide) (by decide)).trans (by decide +kernel),
    (rhi 133 1 (by decide) (by decide)).trans (by decide +kernel), (rhi 133 2 (by decide) (by decide)).trans (by decide +kernel), (rhi 133 3 (by decide) (by decide)).trans (by decide +kernel), (rhi 133 4 (by decide) (by decide)).trans (by decide +kernel), (rhi 133 7 (by decide) (by decide)).trans (by decide +kernel), (rhi 133 8 (by decide) (by decide)).trans (by decide +kernel),
    r445_0, r445_3, ((tm 448 (by decide) (by decide)).2.2 1).1.trans R448_1, ((tm 448 (by decide) (by decide)).2.2 3).1.trans R448_3, ((tm 448 (by decide) (by decide)).2.2 7).1.trans R448_7, ((tm 448 (by decide) (by decide)).2.2 8).1.trans R448_8,
    ((tm 448 (by decide) (by decide)).2.2 9).1.trans R448_9, ((tm 448 (by decide) (by decide)).2.2 10).1.trans R448_10, ((tm 448 (by decide) (by decide)).2.2 11).1.trans R448_11, ((tm 448 (by decide) (by decide)).2.2 12).1.trans R448_12, ((tm 448 (by decide) (by decide)).2.2 13).1.trans R448_13, ((tm 448 (by decide) (by decide)).2.2 14).1.trans R448_14,
    ((tm 448 (by decide) (by decide)).2.2 15).1.trans R448_15, ((tm 448 (by decide) (by decide)).2.2 16).1.trans R448_16, ((tm 460 (by decide) (by decide)).2.2 0).1.trans R460_0, ((tm 460 (by decide) (by decide)).2.2 1).1.trans R460_1, ((tm 460 (by decide) (by decide)).2.2 2).1.trans R460_2, ((tm 460 (by decide) (by decide)).2.2 3).1.trans R460_3,
    ((tm 460 (by decide) (by decide)).2.2 4).1.trans R460_4, ((tm 460 (by decide) (by decide)).2.2 5).1.trans R460_5, ((tm 460 (by decide) (by decide)).2.2 6).1.trans R460_6, h438, h440, h443,
    h134, h286, Nat.le_of_eq cN.symm⟩
theorem liN : LI 0 zNN ∧ pC zNN = 156117 ∧ pS zNN ≤ 1663079 := by
  have sh := shN
  obtain ⟨c6, s6, _, _, _, _, _, ol, ⟨_, _, r442⟩, ⟨_, _, _, _, _, _, _, z445⟩, _⟩ := pc_facts
  obtain ⟨i448, i449, i450, i451, i452, i453, i454, i455, i456, i457, i467, l461, l462, l463, l464, l465, l466⟩ := mdl_Z c6
  obtain ⟨_, cm, sm, o, tm⟩ := gNN c6
  have cN : mC zNN = 469 := by unfold zNN; rw [mC_wN, cm]
  have sN : mS zNN = mS zB6 + 791223 + 1 := by unfold zNN; rw [mS_wN, sm]
  have o : Old 448 zB6 zNN := o
  have tm : ∀ a, 448 ≤ a → a < 468 → mT zNN a = mT (mdl zB6) a ∧ mN zNN a = mN (mdl zB6) a ∧ ∀ i, mR zNN a i = mR (mdl zB6) a i ∧ mL zNN a i = mL (mdl zB6) a i ∧ (a ≠ 459 → mI zNN a i = mI (mdl zB6) a i) := tm
  have rr : ∀ k, mR zNN 442 k = 0 := fun k => (o.r (show 442 < 448 by decide) k).trans (r442 k)
  have zl : ∀ a i, a < 134 → mI zNN a i = 0 := fun a i ha => ((o a (by omega)).1 i).1.trans (((ol a ha).1 i).1.trans (za6 a i).1)
  have zt : ∀ a i, 445 ≤ a → a < 448 → mI zNN a i = 0 := fun a i x y => ((o a y).1 i).1.trans (z445 a i x y)
  have y448 : ∀ i, mI zNN 448 i = 0 := fun i => (((tm 448 (by decide) (by decide)).2.2 i).2.2 (by decide)).trans (i448 i)
  have y449 : ∀ i, mI zNN 449 i = 0 := fun i => (((tm 449 (by decide) (by decide)).2.2 i).2.2 (by decide)).trans (i449 i)
  have y450 : ∀ i, mI zNN 450 i = 0 := fun i => (((tm 450 (by decide) (by decide)).2.2 i).2.2 (by decide)).trans (i450 i)
  have y451 : ∀ i, mI zNN 451 i = 0 := fun i => (((tm 451 (by decide) (by decide)).2.2 i).2.2 (by decide)).trans (i451 i)
  have y452 : ∀ i, mI zNN 452 i = 0 := fun i => (((tm 452 (by decide) (by decide)).2.2 i).2.2 (by decide)).trans (i452 i)
  have y453 : ∀ i, mI zNN 453 i = 0 := fun i => (((tm 453 (by decide) (by decide)).2.2 i).2.2 (by decide)).trans (i453 i)
  have y454 : ∀ i, mI zNN 454 i = 0 := fun i => (((tm 454 (by decide) (by decide)).2.2 i).2.2 (by decide)).trans (i454 i)
  have y457 : ∀ i, mI zNN 457 i = 0 := fun i => (((tm 457 (by decide) (by decide)).2.2 i).2.2 (by decide)).trans (i457 i)
  have y467 : ∀ i, mI zNN 467 i = 0 := fun i => (((tm 467 (by decide) (by decide)).2.2 i).2.2 (by decide)).trans (i467 i)
  have tv : ∀ k, tvk zNN k = vOne 0 := fun k => by
    unfold tvk
    rw [((tm 461 (by decide) (by decide)).2.2 k).2.1, ((tm 462 (by decide) (by decide)).2.2 k).2.1, ((tm 463 (by decide) (by decide)).2.2 k).2.1, ((tm 464 (by decide) (by decide)).2.2 k).2.1, ((tm 465 (by decide) (by decide)).2.2 k).2.1, ((tm 466 (by decide) (by decide)).2.2 k).2.1, l461, l462, l463, l464, l465, l466]
    rfl
  clear tm sm cm
  generalize zNN = N at sh cN sN o rr zl zt y448 y449 y450 y451 y452 y453 y454 y457 y467 tv ⊢
  have za : zr (fun k => mR N 442 k) 1024 = 1024 := zr_all (fun k => rr k) 1024
  refine ⟨⟨⟨fun k _ => Or.inl (rr k), fun k k' _ _ _ q => absurd (rr k) q⟩, ⟨sh, fun i _ => ⟨y467 _, ?_⟩, tv 6, y467 6⟩, Or.inl (y457 _), fun k hk => by rw [TbC.no (M := N) (fun q => q.1 (rr k)), TbT.none (y454 k)], ?_, ?_, by decide, zt 445 1 (by decide) (by decide), y448 2, fun i _ => ?_, fun i => ?_, fun i _ => ⟨0, by decide, y450 i⟩, (zl 101 7 (by decide)).trans (y448 5).symm, (zl 101 8 (by decide)).trans (y448 6).symm⟩, ?_, ?_⟩
  · show Tt (tvk N (8 + i))
    rw [tv]; exact one_T 0
  · unfold mpC mpT
    simp only [y451, y452, y453, fun k => zl 107 k (by decide), fun k => zl 108 k (by decide), fun k => zl 109 k (by decide)]
  · intro k _
    unfold mpT
    simp only [y451, y452, y453]
    decide
  · unfold bC
    rw [zt 446 i (by decide) (by decide), y449]
    rfl
  · rw [zt 446 i (by decide) (by decide)]; rfl
  · show mC N + 152 * zr (fun k => mR N 442 k) 1024 = 156117
    omega
  · show mS N + 830 * zr (fun k => mR N 442 k) 1024 ≤ 1663079
    omega
theorem law_start (Γ : XG) (k : K_Law_law_23 Γ xF 100 448 468 0 zNN) : K_Law_law_0 Γ M0 := by
  obtain ⟨k1, e1⟩ := pc_new
  obtain ⟨c6, _⟩ := pc_facts
  obtain ⟨km, cm, _⟩ := gNN c6
  have c0 : mC M0 = 100 := rfl
  have eN : wN (g_Model_init 448 (wN zB6 26 24)) 104 1 = zNN := rfl
  unfold K_Law_law_0 K_Law_law_3
  rw [c0, e1]
  unfold K_Law_law_7 K_Law_law_11
  rw [c6]
  unfold K_Law_law_15 K_Law_law_19
  rw [cm, eN]
  exact ⟨by decide, k1, by decide, km, k⟩
theorem law_startg (Γ : XG) : g_Law_law_0 Γ M0 = g_Law_law_23 Γ xF 100 448 468 0 zNN := by
  obtain ⟨k1, e1⟩ := pc_new
  obtain ⟨c6, _⟩ := pc_facts
  obtain ⟨km, cm, _⟩ := gNN c6
  have c0 : mC M0 = 100 := rfl
  have eN : wN (g_Model_init 448 (wN zB6 26 24)) 104 1 = zNN := rfl
  unfold g_Law_law_0 g_Law_law_3
  rw [c0, e1]
  unfold g_Law_law_7 g_Law_law_11
  rw [c6]
  unfold g_Law_law_15 g_Law_law_19
  rw [cm, eN]
