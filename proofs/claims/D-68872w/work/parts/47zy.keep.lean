/-! part 47zy: the shape is kept where the old names are; the table of states; Checker.at (head printed by gen/keep.py) -/
/-- the static names are as they were (but for the elements of the table of states) -/
def Kp (M M' : XM) : Prop := (∀ a, a < 469 → mT M' a = mT M a ∧ mN M' a = mN M a) ∧ (∀ a i, a < 469 → a ≠ 442 → mR M' a i = mR M a i) ∧ mC M ≤ mC M'
theorem ShTh.kp {M M' : XM} {r : Nat} (h : ShTh M r) (k : Kp M M') (hr : r + 1 < 469) (hn : r ≠ 442) : ShTh M' r := ⟨(k.1 r (by omega)).1.trans h.1, (k.2.1 r 3 (by omega) hn).trans h.2.1, (k.1 (r + 1) hr).1.trans h.2.2⟩
theorem ShSt.kp {M M' : XM} {r : Nat} (h : ShSt M r) (k : Kp M M') (hr : r + 152 ≤ 442) : ShSt M' r := ⟨(k.1 r (by omega)).1.trans h.1, (k.2.1 r 0 (by omega) (by omega)).trans h.2.1, (k.1 (r + 1) (by omega)).1.trans h.2.2.1, (k.1 (r + 1) (by omega)).2.trans h.2.2.2.1, fun n hn => ⟨(k.2.1 (r + 1) n (by omega) (by omega)).trans (h.2.2.2.2 n hn).1, (h.2.2.2.2 n hn).2.kp k (by omega) (by omega)⟩⟩
theorem Sh.kp {M M' : XM} (h : Sh M) (k : Kp M M') : Sh M' := ⟨(k.1 100 (by decide)).1.trans h.T100, (k.1 101 (by decide)).1.trans h.T101, (k.1 102 (by decide)).1.trans h.T102, (k.1 103 (by decide)).1.trans h.T103, (k.1 104 (by decide)).1.trans h.T104, (k.1 105 (by decide)).1.trans h.T105, (k.1 106 (by decide)).1.trans h.T106, (k.1 107 (by decide)).1.trans h.T107, (k.1 108 (by decide)).1.trans h.T108, (k.1 109 (by decide)).1.trans h.T109, (k.1 110 (by decide)).1.trans h.T110, (k.1 111 (by decide)).1.trans h.T111, (k.1 112 (by decide)).1.trans h.T112, (k.1 113 (by decide)).1.trans h.T113, (k.1 114 (by decide)).1.trans h.T114, (k.1 115 (by decide)).1.trans h.T115, (k.1 116 (by decide)).1.trans h.T116, (k.1 117 (by decide)).1.trans h.T117, (k.1 118 (by decide)).1.trans h.T118, (k.1 119 (by decide)).1.trans h.T119, (k.1 120 (by decide)).1.trans h.T120, (k.1 121 (by decide)).1.trans h.T121, (k.1 122 (by decide)).1.trans h.T122, (k.1 123 (by decide)).1.trans h.T123, (k.1 124 (by decide)).1.trans h.T124, (k.1 125 (by decide)).1.trans h.T125, (k.1 126 (by decide)).1.trans h.T126, (k.1 127 (by decide)).1.trans h.T127, (k.1 128 (by decide)).1.trans h.T128, (k.1 129 (by decide)).1.trans h.T129, (k.1 130 (by decide)).1.trans h.T130, (k.1 131 (by decide)).1.trans h.T131, (k.1 132 (by decide)).1.trans h.T132, (k.1 133 (by decide)).1.trans h.T133, (k.1 442 (by decide)).1.trans h.T442, (k.1 445 (by decide)).1.trans h.T445, (k.1 446 (by decide)).1.trans h.T446, (k.1 447 (by decide)).1.trans h.T447, (k.1 448 (by decide)).1.trans h.T448, (k.1 449 (by decide)).1.trans h.T449, (k.1 450 (by decide)).1.trans h.T450, (k.1 451 (by decide)).1.trans h.T451, (k.1 452 (by decide)).1.trans h.T452, (k.1 453 (by decide)).1.trans h.T453, (k.1 454 (by decide)).1.trans h.T454, (k.1 455 (by decide)).1.trans h.T455, (k.1 456 (by decide)).1.trans h.T456, (k.1 457 (by decide)).1.trans h.T457, (k.1 458 (by decide)).1.trans h.T458, (k.1 459 (by decide)).1.trans h.T459, (k.1 460 (by decide)).1.trans h.T460, (k.1 461 (by decide)).1.trans h.T461, (k.1 462 (by decide)).1.trans h.T462, (k.1 463 (by decide)).1.trans h.T463, (k.1 464 (by decide)).1.trans h.T464, (k.1 465 (by decide)).1.trans h.T465, (k.1 466 (by decide)).1.trans h.T466, (k.1 467 (by decide)).1.trans h.T467, (k.1 468 (by decide)).1.trans h.T468, (k.1 103 (by decide)).2.trans h.N103, (k.1 104 (by decide)).2.trans h.N104, (k.1 107 (by decide)).2.trans h.N107, (k.1 108 (by decide)).2.trans h.N108, (k.1 109 (by decide)).2.trans h.N109, (k.1 117 (by decide)).2.trans h.N117, (k.1 442 (by decide)).2.trans h.N442, (k.1 446 (by decide)).2.trans h.N446, (k.1 447 (by decide)).2.trans h.N447, (k.1 449 (by decide)).2.trans h.N449, (k.1 450 (by decide)).2.trans h.N450, (k.1 451 (by decide)).2.trans h.N451, (k.1 452 (by decide)).2.trans h.N452, (k.1 453 (by decide)).2.trans h.N453, (k.1 454 (by decide)).2.trans h.N454, (k.1 455 (by decide)).2.trans h.N455, (k.1 456 (by decide)).2.trans h.N456, (k.1 457 (by decide)).2.trans h.N457, (k.1 458 (by decide)).2.trans h.N458, (k.1 459 (by decide)).2.trans h.N459, (k.1 461 (by decide)).2.trans h.N461, (k.1 462 (by decide)).2.trans h.N462, (k.1 463 (by decide)).2.trans h.N463, (k.1 464 (by decide)).2.trans h.N464, (k.1 465 (by decide)).2.trans h.N465, (k.1 466 (by decide)).2.trans h.N466, (k.1 467 (by decide)).2.trans h.N467, (k.1 468 (by decide)).2.trans h.N468, (k.2.1 100 0 (by decide) (by decide)).trans h.R100_0, (k.2.1 100 1 (by decide) (by decide)).trans h.R100_1, (k.2.1 101 0 (by decide) (by decide)).trans h.R101_0, (k.2.1 101 1 (by decide) (by decide)).trans h.R101_1, (k.2.1 101 2 (by decide) (by decide)).trans h.R101_2, (k.2.1 101 3 (by decide) (by decide)).trans h.R101_3, (k.2.1 101 4 (by decide) (by decide)).trans h.R101_4, (k.2.1 101 5 (by decide) (by decide)).trans h.R101_5, (k.2.1 101 6 (by decide) (by decide)).trans h.R101_6, (k.2.1 102 0 (by decide) (by decide)).trans h.R102_0, (k.2.1 102 3 (by decide) (by decide)).trans h.R102_3, (k.2.1 105 0 (by decide) (by decide)).trans h.R105_0, (k.2.1 106 0 (by decide) (by decide)).trans h.R106_0, (k.2.1 106 1 (by decide) (by decide)).trans h.R106_1, (k.2.1 106 2 (by decide) (by decide)).trans h.R106_2, (k.2.1 110 0 (by decide) (by decide)).trans h.R110_0, (k.2.1 110 1 (by decide) (by decide)).trans h.R110_1, (k.2.1 110 2 (by decide) (by decide)).trans h.R110_2, (k.2.1 110 3 (by decide) (by decide)).trans h.R110_3, (k.2.1 110 4 (by decide) (by decide)).trans h.R110_4, (k.2.1 110 5 (by decide) (by decide)).trans h.R110_5, (k.2.1 111 0 (by decide) (by decide)).trans h.R111_0, (k.2.1 111 1 (by decide) (by decide)).trans h.R111_1, (k.2.1 114 0 (by decide) (by decide)).trans h.R114_0, (k.2.1 114 1 (by decide) (by decide)).trans h.R114_1, (k.2.1 114 2 (by decide) (by decide)).trans h.R114_2, (k.2.1 117 0 (by decide) (by decide)).trans h.R117_0, (k.2.1 117 1 (by decide) (by decide)).trans h.R117_1, (k.2.1 117 2 (by decide) (by decide)).trans h.R117_2, (k.2.1 117 3 (by decide) (by decide)).trans h.R117_3, (k.2.1 117 4 (by decide) (by decide)).trans h.R117_4, (k.2.1 117 5 (by decide) (by decide)).trans h.R117_5, (k.2.1 117 6 (by decide) (by decide)).trans h.R117_6, (k.2.1 117 7 (by decide) (by decide)).trans h.R117_7, (k.2.1 117 8 (by decide) (by decide)).trans h.R117_8, (k.2.1 117 9 (by decide) (by decide)).trans h.R117_9, (k.2.1 117 10 (by decide) (by decide)).trans h.R117_10, (k.2.1 117 11 (by decide) (by decide)).trans h.R117_11, (k.2.1 133 0 (by decide) (by decide)).trans h.R133_0, (k.2.1 133 1 (by decide) (by decide)).trans h.R133_1, (k.2.1 133 2 (by decide) (by decide)).trans h.R133_2, (k.2.1 133 3 (by decide) (by decide)).trans h.R133_3, (k.2.1 133 4 (by decide) (by decide)).trans h.R133_4, (k.2.1 133 7 (by decide) (by decide)).trans h.R133_7, (k.2.1 133 8 (by decide) (by decide)).trans h.R133_8, (k.2.1 445 0 (by decide) (by decide)).trans h.R445_0, (k.2.1 445 3 (by decide) (by decide)).trans h.R445_3, (k.2.1 448 1 (by decide) (by decide)).trans h.R448_1, (k.2.1 448 3 (by decide) (by decide)).trans h.R448_3, (k.2.1 448 7 (by decide) (by decide)).trans h.R448_7, (k.2.1 448 8 (by decide) (by decide)).trans h.R448_8, (k.2.1 448 9 (by decide) (by decide)).trans h.R448_9, (k.2.1 448 10 (by decide) (by decide)).trans h.R448_10, (k.2.1 448 11 (by decide) (by decide)).trans h.R448_11, (k.2.1 448 12 (by decide) (by decide)).trans h.R448_12, (k.2.1 448 13 (by decide) (by decide)).trans h.R448_13, (k.2.1 448 14 (by decide) (by decide)).trans h.R448_14, (k.2.1 448 15 (by decide) (by decide)).trans h.R448_15, (k.2.1 448 16 (by decide) (by decide)).trans h.R448_16, (k.2.1 460 0 (by decide) (by decide)).trans h.R460_0, (k.2.1 460 1 (by decide) (by decide)).trans h.R460_1, (k.2.1 460 2 (by decide) (by decide)).trans h.R460_2, (k.2.1 460 3 (by decide) (by decide)).trans h.R460_3, (k.2.1 460 4 (by decide) (by decide)).trans h.R460_4, (k.2.1 460 5 (by decide) (by decide)).trans h.R460_5, (k.2.1 460 6 (by decide) (by decide)).trans h.R460_6, h.Th438.kp k (by decide) (by decide), h.Th440.kp k (by decide) (by decide), h.Th443.kp k (by decide) (by decide), h.St134.kp k (by decide), h.St286.kp k (by decide), Nat.le_trans h.C k.2.2⟩
/-- the table of states -/
def StI (M : XM) : Prop := (∀ k, k < 1024 → mR M 442 k = 0 ∨ (469 ≤ mR M 442 k ∧ mR M 442 k + 152 ≤ mC M ∧ ShSt M (mR M 442 k))) ∧ ∀ k k', k < 1024 → k' < 1024 → k ≠ k' → mR M 442 k ≠ 0 → mR M 442 k' ≠ 0 → mR M 442 k + 152 ≤ mR M 442 k' ∨ mR M 442 k' + 152 ≤ mR M 442 k
theorem ShSt.old {M M' : XM} {r q : Nat} (h : ShSt M r) (o : Old q M M') (hr : r + 152 ≤ q) : ShSt M' r := ⟨(o r (by omega)).2.1.trans h.1, ((o r (by omega)).1 0).2.2.trans h.2.1, (o (r + 1) (by omega)).2.1.trans h.2.2.1, (o (r + 1) (by omega)).2.2.trans h.2.2.2.1, fun n hn => ⟨((o (r + 1) (by omega)).1 n).2.2.trans (h.2.2.2.2 n hn).1, (h.2.2.2.2 n hn).2.old o (by omega)⟩⟩
theorem ShSt.w442 {M : XM} {r k v : Nat} (h : ShSt M r) (hr : 469 ≤ r) : ShSt (wR M 442 k v) r := by
  refine ⟨h.1, ?_, h.2.2.1, h.2.2.2.1, fun n hn => ⟨?_, (h.2.2.2.2 n hn).2.1, ?_, (h.2.2.2.2 n hn).2.2.2⟩⟩
  · rw [mR_wR, if_neg (by omega)]; exact h.2.1
  · rw [mR_wR, if_neg (by omega)]; exact (h.2.2.2.2 n hn).1
  · rw [mR_wR, if_neg (by omega)]; exact (h.2.2.2.2 n hn).2.2.1
/-- what Checker.at comes to -/
theorem c_at {M : XM} (h : Sh M) (hI : StI M) {k : Nat} (hk : k < 1024) : K_Checker_at 101 (Int32.ofNat k) M ∧
    ((mR M 442 k ≠ 0 ∧ g_Checker_at 101 (Int32.ofNat k) M = (mR M 442 k, M)) ∨
     (mR M 442 k = 0 ∧ ∃ M1, g_Checker_at 101 (Int32.ofNat k) M = (mC M, M1) ∧ Sh M1 ∧ StI M1 ∧ mR M1 442 k = mC M ∧ mC M1 = mC M + 152 ∧ mS M1 = mS M + 830 ∧ (∀ i, mI M1 (mC M) i = 0) ∧
        ∀ a, a < mC M → (∀ i, mI M1 a i = mI M a i ∧ mL M1 a i = mL M a i ∧ (¬ (a = 442 ∧ i = k) → mR M1 a i = mR M a i)) ∧ mT M1 a = mT M a ∧ mN M1 a = mN M a)) := by
  have ik : ix (Int32.ofNat k) = k := ixN (by omega)
  have vk : vp_in (Int32.ofNat k) 1024 := vpN hk (by omega)
  have hC := h.C
  unfold g_Checker_at g_Checker_at_0 g_Checker_at_17 g_Checker_at_21 g_Checker_at_22 K_Checker_at K_Checker_at_0 K_Checker_at_17 K_Checker_at_21 K_Checker_at_22
  rw [h.R101_5, ik, h.N442]
  by_cases c : mR M 442 k = 0
  · obtain ⟨n1, n2, n3, n4, n5, n6⟩ := state_new (M := M) rfl (by omega)
    rw [if_pos c]
    generalize g_State_init (mC M) (wN M 24 5) = N at n2 n3 n4 n5 n6 ⊢
    have kp0 : ∀ a, a < mC M → mR N a = mR M a := fun a ha => funext fun i => ((n5 a ha).1 i).2.2
    have kp1 : Kp M (wR N 442 k (mC M)) := ⟨fun a ha => ⟨(n5 a (by omega)).2.1, (n5 a (by omega)).2.2⟩, fun a i ha hn => by rw [mR_wR, if_neg (fun z => hn z.1)]; exact ((n5 a (by omega)).1 i).2.2, by rw [mC_wR, n3]; omega⟩
    have sN : Sh (wR N 442 k (mC M)) := h.kp kp1
    have r5 : mR (wR N 442 k (mC M)) 101 5 = 442 := sN.R101_5
    rw [r5]
    have e442 : ∀ j, mR (wR N 442 k (mC M)) 442 j = if j = k then mC M else mR M 442 j := fun j => by
      rw [mR_wR]
      by_cases q : j = k
      · rw [if_pos ⟨rfl, q⟩, if_pos q]
      · rw [if_neg (fun z => q z.2), if_neg q]; exact ((n5 442 (by omega)).1 j).2.2
    have e1 : mR (wR N 442 k (mC M)) 442 k = mC M := by rw [e442, if_pos rfl]
    have t442 : mT N 442 = 105 := (n5 442 (by omega)).2.1.trans h.T442
    have n442 : mN N 442 = 1024 := (n5 442 (by omega)).2.2.trans h.N442
    have sS : ShSt (wR N 442 k (mC M)) (mC M) := n2.w442 hC
    refine ⟨⟨h.T101, h.T442, vk, fun _ => ⟨h.T101, by omega, n1, t442, n2.1, by rw [n442]; exact vk, sN.T101, sN.T442, by rw [sN.N442]; exact vk⟩, fun z => absurd c z⟩, Or.inr ⟨c, wR N 442 k (mC M), by rw [e1], sN, ⟨fun j hj => ?_, fun j j' hj hj' hne => ?_⟩, e1, n3, n4, n6, fun a ha => ⟨fun i => ⟨((n5 a ha).1 i).1, ((n5 a ha).1 i).2.1, fun hn => ?_⟩, (n5 a ha).2.1, (n5 a ha).2.2⟩⟩⟩
    · rw [e442, mC_wR, n3]
      by_cases q : j = k
      · rw [if_pos q]; exact Or.inr ⟨hC, Nat.le_refl _, sS⟩
      · rw [if_neg q]
        rcases hI.1 j hj with z | ⟨z1, z2, z3⟩
        · exact Or.inl z
        · exact Or.inr ⟨z1, by omega, (z3.old n5 z2).w442 z1⟩
    · rw [e442, e442]
      by_cases q : j = k
      · have q' : ¬ j' = k := fun z => hne (q.trans z.symm)
        rw [if_pos q, if_neg q']
        intro _ z
        rcases hI.1 j' hj' with y | ⟨y1, y2, y3⟩
        · exact absurd y z
        · exact Or.inr y2
      · rw [if_neg q]
        by_cases q' : j' = k
        · rw [if_pos q']
          intro z _
          rcases hI.1 j hj with y | ⟨y1, y2, y3⟩
          · exact absurd y z
          · exact Or.inl y2
        · rw [if_neg q']
          exact hI.2 j j' hj hj' hne
    · rw [mR_wR, if_neg hn]; exact ((n5 a ha).1 i).2.2
  · rw [if_neg c]
    exact ⟨⟨h.T101, h.T442, vk, fun z => absurd z c, fun _ => ⟨h.T101, h.T442, vk⟩⟩, Or.inl ⟨c, rfl⟩⟩
