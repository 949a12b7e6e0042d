/-! part 47zzzzm: the rest of the constructors (gen/initq.py) -/
theorem ShTh.wrl {M : XM} {r q k v : Nat} (h : ShTh M r) (hq : q < r) : ShTh (wR M q k v) r := ⟨h.1, by rw [mR_wR, if_neg (by omega)]; exact h.2.1, h.2.2⟩
theorem ShSt.wrl {M : XM} {r q k v : Nat} (h : ShSt M r) (hq : q < r) : ShSt (wR M q k v) r := ⟨h.1, by rw [mR_wR, if_neg (by omega)]; exact h.2.1, h.2.2.1, h.2.2.2.1, fun n hn => ⟨by rw [mR_wR, if_neg (by omega)]; exact (h.2.2.2.2 n hn).1, (h.2.2.2.2 n hn).2.wrl (by omega)⟩⟩
/-- names from l to r are as they were -/
def OM (l r : Nat) (M X : XM) : Prop := ∀ a, l ≤ a → a < r → (∀ i, mI X a i = mI M a i ∧ mL X a i = mL M a i ∧ mR X a i = mR M a i) ∧ mT X a = mT M a ∧ mN X a = mN M a
theorem OM.rf {l r : Nat} {M : XM} : OM l r M M := fun _ _ _ => ⟨fun _ => ⟨rfl, rfl, rfl⟩, rfl, rfl⟩
theorem OM.trans {l r : Nat} {M M1 M2 : XM} (h : OM l r M M1) (h' : OM l r M1 M2) : OM l r M M2 := fun a x y => ⟨fun i => ⟨((h' a x y).1 i).1.trans ((h a x y).1 i).1, ((h' a x y).1 i).2.1.trans ((h a x y).1 i).2.1, ((h' a x y).1 i).2.2.trans ((h a x y).1 i).2.2⟩, (h' a x y).2.1.trans (h a x y).2.1, (h' a x y).2.2.trans (h a x y).2.2⟩
theorem Old.om {l r q : Nat} {M X : XM} (h : Old q M X) (hr : r ≤ q) : OM l r M X := fun a _ y => h a (by omega)
theorem OM.wr {l r q k v : Nat} {M : XM} (h : q < l ∨ r ≤ q) : OM l r M (wR M q k v) := fun a x y => ⟨fun i => ⟨rfl, rfl, by rw [mR_wR, if_neg (by omega)]⟩, rfl, rfl⟩
theorem OM.wi {l r q k : Nat} {v : Int32} {M : XM} (h : q < l ∨ r ≤ q) : OM l r M (wI M q k v) := fun a x y => ⟨fun i => ⟨by rw [mI_wI, if_neg (by omega)], rfl, rfl⟩, rfl, rfl⟩
theorem OM.sub {l r l' r' : Nat} {M X : XM} (h : OM l r M X) (h1 : l ≤ l') (h2 : r' ≤ r) : OM l' r' M X := fun a x y => h a (by omega) (by omega)
theorem ShTh.om {M X : XM} {l q r : Nat} (h : ShTh M r) (o : OM l q M X) (h1 : l ≤ r) (h2 : r + 2 ≤ q) : ShTh X r := ⟨(o r h1 (by omega)).2.1.trans h.1, ((o r h1 (by omega)).1 3).2.2.trans h.2.1, (o (r + 1) (by omega) (by omega)).2.1.trans h.2.2⟩
theorem ShSt.om {M X : XM} {l q r : Nat} (h : ShSt M r) (o : OM l q M X) (h1 : l ≤ r) (h2 : r + 152 ≤ q) : ShSt X r := ⟨(o r h1 (by omega)).2.1.trans h.1, ((o r h1 (by omega)).1 0).2.2.trans h.2.1, (o (r + 1) (by omega) (by omega)).2.1.trans h.2.2.1, (o (r + 1) (by omega) (by omega)).2.2.trans h.2.2.2.1, fun n hn => ⟨((o (r + 1) (by omega) (by omega)).1 n).2.2.trans (h.2.2.2.2 n hn).1, (h.2.2.2.2 n hn).2.om o (by omega) (by omega)⟩⟩
/-- all but the references -/
def Olx (r : Nat) (M X : XM) : Prop := ∀ a, a < r → (∀ i, mI X a i = mI M a i ∧ mL X a i = mL M a i) ∧ mT X a = mT M a ∧ mN X a = mN M a
theorem Olx.trans {r : Nat} {M M1 M2 : XM} (h : Olx r M M1) (h' : Olx r M1 M2) : Olx r M M2 := fun a y => ⟨fun i => ⟨((h' a y).1 i).1.trans ((h a y).1 i).1, ((h' a y).1 i).2.trans ((h a y).1 i).2⟩, (h' a y).2.1.trans (h a y).2.1, (h' a y).2.2.trans (h a y).2.2⟩
theorem Old.olx {r q : Nat} {M X : XM} (h : Old q M X) (hr : r ≤ q) : Olx r M X := fun a y => ⟨fun i => ⟨((h a (by omega)).1 i).1, ((h a (by omega)).1 i).2.1⟩, (h a (by omega)).2.1, (h a (by omega)).2.2⟩
theorem Olx.wr {r q k v : Nat} {M : XM} : Olx r M (wR M q k v) := fun a _ => ⟨fun _ => ⟨rfl, rfl⟩, rfl, rfl⟩
theorem Old.r {r : Nat} {M X : XM} (h : Old r M X) {a : Nat} (ha : a < r) (i : Nat) : mR X a i = mR M a i := ((h a ha).1 i).2.2
section TrN
variable {M : XM}
theorem transfer_new (h : mC M = 134) (t3 : mT M 133 = 23) : K_Transfer_init 133 102 106 110 M ∧ mC (g_Transfer_init 133 102 106 110 M) = 442 ∧ mS (g_Transfer_init 133 102 106 110 M) = mS M + 1680 ∧ ShSt (g_Transfer_init 133 102 106 110 M) 134 ∧ ShSt (g_Transfer_init 133 102 106 110 M) 286 ∧ ShTh (g_Transfer_init 133 102 106 110 M) 438 ∧ ShTh (g_Transfer_init 133 102 106 110 M) 440 ∧ Olx 134 M (g_Transfer_init 133 102 106 110 M) ∧
    ∀ a i, a < 134 → mR (g_Transfer_init 133 102 106 110 M) a i = if a = 133 ∧ i = 2 then 110 else if a = 133 ∧ i = 1 then 106 else if a = 133 ∧ i = 0 then 102 else if a = 133 ∧ i = 8 then 440 else if a = 133 ∧ i = 7 then 438 else if a = 133 ∧ i = 4 then 286 else if a = 133 ∧ i = 3 then 134 else mR M a i := by
  unfold g_Transfer_init g_Transfer_init_0 g_Transfer_init_8 g_Transfer_init_12 g_Transfer_init_15 g_Transfer_init_19 g_Transfer_init_23 g_Transfer_init_26 g_Transfer_init_30 g_Transfer_init_34 g_Transfer_init_37 g_Transfer_init_41 g_Transfer_init_45 K_Transfer_init K_Transfer_init_0 K_Transfer_init_8 K_Transfer_init_12 K_Transfer_init_15 K_Transfer_init_19 K_Transfer_init_23 K_Transfer_init_26 K_Transfer_init_30 K_Transfer_init_34 K_Transfer_init_37 K_Transfer_init_41 K_Transfer_init_45
  obtain ⟨s1, s2, s3, s4, s5, _⟩ := state_new h (by decide)
  rw [h]
  generalize g_State_init 134 (wN M 24 5) = S1 at s2 s3 s4 s5 ⊢
  have c1 : mC (wR S1 133 3 134) = 286 := s3
  obtain ⟨u1, u2, u3, u4, u5, _⟩ := state_new c1 (by decide)
  rw [c1]
  have x1 : ShSt (wR S1 133 3 134) 134 := s2.wrl (by decide)
  generalize g_State_init 286 (wN (wR S1 133 3 134) 24 5) = S2 at u2 u3 u4 u5 ⊢
  have c2 : mC (wR S2 133 4 286) = 438 := u3
  obtain ⟨v1, v2, v3, v4, v5⟩ := thing_new c2 (by decide)
  rw [c2]
  have y1 : ShSt (wR S2 133 4 286) 134 := (x1.old u5 (by decide)).wrl (by decide)
  have y2 : ShSt (wR S2 133 4 286) 286 := u2.wrl (by decide)
  generalize g_Thing_init 438 (wN (wR S2 133 4 286) 25 4) = T1 at v2 v3 v4 v5 ⊢
  have c3 : mC (wR T1 133 7 438) = 440 := v3
  obtain ⟨w1, w2, w3, w4, w5⟩ := thing_new c3 (by decide)
  rw [c3]
  have z1 : ShSt (wR T1 133 7 438) 134 := (y1.old v5 (by decide)).wrl (by decide)
  have z2 : ShSt (wR T1 133 7 438) 286 := (y2.old v5 (by decide)).wrl (by decide)
  have z3 : ShTh (wR T1 133 7 438) 438 := v2.wrl (by decide)
  generalize g_Thing_init 440 (wN (wR T1 133 7 438) 25 4) = T2 at w2 w3 w4 w5 ⊢
  have t1 : mT S1 133 = 23 := ((s5 133 (by decide)).2.1).trans t3
  have t2 : mT S2 133 = 23 := ((u5 133 (by decide)).2.1).trans t1
  have t4 : mT T1 133 = 23 := ((v5 133 (by decide)).2.1).trans t2
  have t5 : mT T2 133 = 23 := ((w5 133 (by decide)).2.1).trans t4
  refine ⟨⟨by decide, by decide, s1, t1, by decide, u1, t2, by decide, v1, t4, by decide, w1, t5, t5, t5, t5⟩, w3, ?_, (((((z1.old w5 (by decide)).wrl (by decide)).wrl (by decide)).wrl (by decide)).wrl (by decide)), (((((z2.old w5 (by decide)).wrl (by decide)).wrl (by decide)).wrl (by decide)).wrl (by decide)), (((((z3.old w5 (by decide)).wrl (by decide)).wrl (by decide)).wrl (by decide)).wrl (by decide)), ((((w2.wrl (by decide)).wrl (by decide)).wrl (by decide)).wrl (by decide)), ?_, fun a i ha => ?_⟩
  · show mS T2 = mS M + 1680
    have e1 : mS (wR S1 133 3 134) = mS S1 := rfl
    have e2 : mS (wR S2 133 4 286) = mS S2 := rfl
    have e3 : mS (wR T1 133 7 438) = mS T1 := rfl
    omega
  · exact (s5.olx (by decide)).trans (Olx.wr.trans ((u5.olx (by decide)).trans (Olx.wr.trans ((v5.olx (by decide)).trans (Olx.wr.trans ((w5.olx (by decide)).trans (Olx.wr.trans (Olx.wr.trans (Olx.wr.trans Olx.wr)))))))))
  · rw [mR_wR, mR_wR, mR_wR, mR_wR, w5.r (by omega), mR_wR, v5.r (by omega), mR_wR, u5.r (by omega), mR_wR, s5.r ha]
theorem program_new {r : Nat} (hr : mC M = r) (h1 : 1 ≤ r) : K_Program_init r (wN M 3 4) ∧ mT (g_Program_init r (wN M 3 4)) r = 3 ∧ mT (g_Program_init r (wN M 3 4)) (r + 1) = 102 ∧ mT (g_Program_init r (wN M 3 4)) (r + 2) = 101 ∧ mN (g_Program_init r (wN M 3 4)) (r + 1) = 8192 ∧ mN (g_Program_init r (wN M 3 4)) (r + 2) = 1025 ∧ mR (g_Program_init r (wN M 3 4)) r 0 = r + 1 ∧ mR (g_Program_init r (wN M 3 4)) r 3 = r + 2 ∧ mC (g_Program_init r (wN M 3 4)) = r + 3 ∧ mS (g_Program_init r (wN M 3 4)) = mS M + 9221 ∧ Old r M (g_Program_init r (wN M 3 4)) ∧ ∀ a i, r ≤ a → a < r + 3 → mI (g_Program_init r (wN M 3 4)) a i = 0 := by
  subst hr
  unfold g_Program_init g_Program_init_0 g_Program_init_10 g_Program_init_13 g_Program_init_19 K_Program_init K_Program_init_0 K_Program_init_10 K_Program_init_13 K_Program_init_19
  have c1 : mC (wN M 3 4) = mC M + 1 := rfl
  have c2 : mC (wR (wN (wN M 3 4) 102 8192) (mC M) 0 (mC (wN M 3 4))) = mC M + 2 := rfl
  have c3 : mC (wN (wN M 3 4) 102 8192) = mC M + 2 := rfl
  rw [c2, c1]
  refine ⟨⟨by omega, ?_, ?_⟩, ?_, ?_, ?_, ?_, ?_, ?_, ?_, rfl, ?_, ?_, fun a i x y => ?_⟩
  · rw [mT_wN, c1, if_neg (by omega), mT_wN, if_pos rfl]
  · rw [mT_wN, mC_wR, c3, if_neg (by omega), mT_wR, mT_wN, c1, if_neg (by omega), mT_wN, if_pos rfl]
  · rw [mT_wR, mT_wN, mC_wR, c3, if_neg (by omega), mT_wR, mT_wN, c1, if_neg (by omega), mT_wN, if_pos rfl]
  · rw [mT_wR, mT_wN, mC_wR, c3, if_neg (by omega), mT_wR, mT_wN, c1, if_pos rfl]
  · rw [mT_wR, mT_wN, mC_wR, c3, if_pos rfl]
  · rw [mN_wR, mN_wN, mC_wR, c3, if_neg (by omega), mN_wR, mN_wN, c1, if_pos rfl]
  · rw [mN_wR, mN_wN, mC_wR, c3, if_pos rfl]
  · rw [mR_wR, if_neg (by omega), mR_wN, mC_wR, c3, if_neg (by omega), mR_wR, if_pos ⟨rfl, rfl⟩]
  · rw [mR_wR, if_pos ⟨rfl, rfl⟩]
  · exact Eq.trans (show _ = mS M + 4 + 8192 + 1025 by rw [mS_wR, mS_wN, mS_wR, mS_wN, mS_wN]) (by omega)
  · exact (Old.wn (Nat.le_refl _)).trans ((Old.wn (by rw [c1]; omega)).trans ((Old.wr (Nat.le_refl _)).trans ((Old.wn (by rw [mC_wR, c3]; omega)).trans (Old.wr (Nat.le_refl _)))))
  · rw [mI_wR, mI_wN, mC_wR, c3]
    by_cases q : a = mC M + 2
    · rw [if_pos q]
    · rw [if_neg q, mI_wR, mI_wN, c1]
      by_cases q1 : a = mC M + 1
      · rw [if_pos q1]
      · rw [if_neg q1, mI_wN, if_pos (by omega)]
def mdl (M : XM) : XM := wR (wR (wN (wR (wN (wR (wN (wR (wN (wR (wN (wR (wN (wR (wN (wN (wR (wN (wR (wN (wR (wN (wR (wN (wR (wN (wR (wN (wR (wN (wR (wN (wR (wN (wR (wN (wR (wN (wN M 26 24) 103 8192) 448 1 449) 103 8192) 448 3 450) 103 8) 448 7 451) 103 8) 448 8 452) 103 8) 448 9 453) 101 1028) 448 10 454) 103 1028) 448 11 455) 103 1028) 448 12 456) 103 77100) 448 13 457) 103 77100) 448 14 458) 103 77100) 448 15 459) 27 7) 104 77200) 460 0 461) 104 77200) 460 1 462) 104 77200) 460 2 463) 104 77200) 460 3 464) 104 77200) 460 4 465) 104 77200) 460 5 466) 101 77200) 460 6 467) 448 16 460
theorem mdl_eq (h : mC M = 448) : g_Model_init 448 (wN M 26 24) = g_Model_init_110 xF 448 0 (mdl M) := by
  unfold g_Model_init g_Model_init_0 g_Model_init_10 g_Model_init_13 g_Model_init_19 g_Model_init_22 g_Model_init_27 g_Model_init_30 g_Model_init_35 g_Model_init_38 g_Model_init_43 g_Model_init_46 g_Model_init_52 g_Model_init_55 g_Model_init_61 g_Model_init_64 g_Model_init_70 g_Model_init_73 g_Model_init_78 g_Model_init_81 g_Model_init_86 g_Model_init_89 g_Model_init_94 g_Model_init_97 g_Model_init_101 g_Model_init_105
  unfold g_Sets_init g_Sets_init_0 g_Sets_init_9 g_Sets_init_12 g_Sets_init_17 g_Sets_init_20 g_Sets_init_25 g_Sets_init_28 g_Sets_init_33 g_Sets_init_36 g_Sets_init_41 g_Sets_init_44 g_Sets_init_49 g_Sets_init_52 g_Sets_init_57
  simp only [mC_wR, mC_wN, h, Nat.reduceAdd]
  rfl
theorem mdl_C (h : mC M = 448) : mC (mdl M) = 468 ∧ mS (mdl M) = mS M + 791223 := by
  unfold mdl
  constructor
  · simp only [mC_wR, mC_wN, h]
  · exact Eq.trans (show _ = mS M + 24 + 8192 + 8192 + 8 + 8 + 8 + 1028 + 1028 + 1028 + 77100 + 77100 + 77100 + 7 + 77200 + 77200 + 77200 + 77200 + 77200 + 77200 + 77200 by rw [mS_wR, mS_wR, mS_wN, mS_wR, mS_wN, mS_wR, mS_wN, mS_wR, mS_wN, mS_wR, mS_wN, mS_wR, mS_wN, mS_wR, mS_wN, mS_wN, mS_wR, mS_wN, mS_wR, mS_wN, mS_wR, mS_wN, mS_wR, mS_wN, mS_wR, mS_wN, mS_wR, mS_wN, mS_wR, mS_wN, mS_wR, mS_wN, mS_wR, mS_wN, mS_wR, mS_wN, mS_wR, mS_wN, mS_wN]) (by omega)
theorem mdl_F (h : mC M = 448) : mT (mdl M) 448 = 26 ∧ mT (mdl M) 449 = 103 ∧ mT (mdl M) 450 = 103 ∧ mT (mdl M) 451 = 103 ∧ mT (mdl M) 452 = 103 ∧ mT (mdl M) 453 = 103 ∧ mT (mdl M) 454 = 101 ∧ mT (mdl M) 455 = 103 ∧ mT (mdl M) 456 = 103 ∧ mT (mdl M) 457 = 103 ∧ mT (mdl M) 458 = 103 ∧ mT (mdl M) 459 = 103 ∧ mT (mdl M) 460 = 27 ∧ mT (mdl M) 461 = 104 ∧ mT (mdl M) 462 = 104 ∧ mT (mdl M) 463 = 104 ∧ mT (mdl M) 464 = 104 ∧ mT (mdl M) 465 = 104 ∧ mT (mdl M) 466 = 104 ∧ mT (mdl M) 467 = 101 ∧ mN (mdl M) 449 = 8192 ∧ mN (mdl M) 450 = 8192 ∧ mN (mdl M) 451 = 8 ∧ mN (mdl M) 452 = 8 ∧ mN (mdl M) 453 = 8 ∧ mN (mdl M) 454 = 1028 ∧ mN (mdl M) 455 = 1028 ∧ mN (mdl M) 456 = 1028 ∧ mN (mdl M) 457 = 77100 ∧ mN (mdl M) 458 = 77100 ∧ mN (mdl M) 459 = 77100 ∧ mN (mdl M) 461 = 77200 ∧ mN (mdl M) 462 = 77200 ∧ mN (mdl M) 463 = 77200 ∧ mN (mdl M) 464 = 77200 ∧ mN (mdl M) 465 = 77200 ∧ mN (mdl M) 466 = 77200 ∧ mN (mdl M) 467 = 77200 ∧ mR (mdl M) 448 1 = 449 ∧ mR (mdl M) 448 3 = 450 ∧ mR (mdl M) 448 7 = 451 ∧ mR (mdl M) 448 8 = 452 ∧ mR (mdl M) 448 9 = 453 ∧ mR (mdl M) 448 10 = 454 ∧ mR (mdl M) 448 11 = 455 ∧ mR (mdl M) 448 12 = 456 ∧ mR (mdl M) 448 13 = 457 ∧ mR (mdl M) 448 14 = 458 ∧ mR (mdl M) 448 15 = 459 ∧ mR (mdl M) 448 16 = 460 ∧ mR (mdl M) 460 0 = 461 ∧ mR (mdl M) 460 1 = 462 ∧ mR (mdl M) 460 2 = 463 ∧ mR (mdl M) 460 3 = 464 ∧ mR (mdl M) 460 4 = 465 ∧ mR (mdl M) 460 5 = 466 ∧ mR (mdl M) 460 6 = 467 := by
  unfold mdl
  simp [mT_wR, mT_wN, mN_wR, mN_wN, mR_wR, mR_wN, mC_wR, mC_wN, h]
theorem mdl_Z (h : mC M = 448) : (∀ i, mI (mdl M) 448 i = 0) ∧ (∀ i, mI (mdl M) 449 i = 0) ∧ (∀ i, mI (mdl M) 450 i = 0) ∧ (∀ i, mI (mdl M) 451 i = 0) ∧ (∀ i, mI (mdl M) 452 i = 0) ∧ (∀ i, mI (mdl M) 453 i = 0) ∧ (∀ i, mI (mdl M) 454 i = 0) ∧ (∀ i, mI (mdl M) 455 i = 0) ∧ (∀ i, mI (mdl M) 456 i = 0) ∧ (∀ i, mI (mdl M) 457 i = 0) ∧ (∀ i, mI (mdl M) 467 i = 0) ∧ (∀ i, mL (mdl M) 461 i = 0) ∧ (∀ i, mL (mdl M) 462 i = 0) ∧ (∀ i, mL (mdl M) 463 i = 0) ∧ (∀ i, mL (mdl M) 464 i = 0) ∧ (∀ i, mL (mdl M) 465 i = 0) ∧ (∀ i, mL (mdl M) 466 i = 0) := by
  unfold mdl
  simp [mI_wR, mI_wN, mL_wR, mL_wN, mC_wR, mC_wN, h]
theorem mdl_K (h : mC M = 448) (k : K_Model_init_110 xF 448 0 (mdl M)) : K_Model_init 448 (wN M 26 24) := by
  unfold K_Model_init K_Model_init_0 K_Model_init_10 K_Model_init_13 K_Model_init_19 K_Model_init_22 K_Model_init_27 K_Model_init_30 K_Model_init_35 K_Model_init_38 K_Model_init_43 K_Model_init_46 K_Model_init_52 K_Model_init_55 K_Model_init_61 K_Model_init_64 K_Model_init_70 K_Model_init_73 K_Model_init_78 K_Model_init_81 K_Model_init_86 K_Model_init_89 K_Model_init_94 K_Model_init_97 K_Model_init_101 K_Model_init_105
  unfold K_Sets_init K_Sets_init_0 K_Sets_init_9 K_Sets_init_12 K_Sets_init_17 K_Sets_init_20 K_Sets_init_25 K_Sets_init_28 K_Sets_init_33 K_Sets_init_36 K_Sets_init_41 K_Sets_init_44 K_Sets_init_49 K_Sets_init_52 K_Sets_init_57
  simp only [mC_wR, mC_wN, h, Nat.reduceAdd]
  unfold g_Sets_init g_Sets_init_0 g_Sets_init_9 g_Sets_init_12 g_Sets_init_17 g_Sets_init_20 g_Sets_init_25 g_Sets_init_28 g_Sets_init_33 g_Sets_init_36 g_Sets_init_41 g_Sets_init_44 g_Sets_init_49 g_Sets_init_52 g_Sets_init_57
  simp only [mC_wR, mC_wN, h, Nat.reduceAdd]
  simp only [mT_wR, mT_wN, mC_wR, mC_wN, h, Nat.reduceAdd, Nat.reduceEqDiff, if_true, if_false, ne_eq, not_false_iff, true_and, reduceIte]
  exact k
theorem mdl_O (h : mC M = 448) : Old 448 M (mdl M) := by
  unfold mdl
  repeat' (first | exact Old.rf | refine Old.trans ?_ (Old.wr (by decide)) | refine Old.trans ?_ (Old.wn (by simp only [mC_wR, mC_wN, h]; omega)))
theorem mdl_L : ∀ (m k f : Nat) (Y : XM), k + m = 77100 → m < f → mT Y 448 = 26 → mT Y 459 = 103 → mN Y 459 = 77100 → mR Y 448 15 = 459 →
    K_Model_init_110 f 448 (Int32.ofNat k) Y ∧ (g_Model_init_110 f 448 (Int32.ofNat k) Y).2 = Y.2 ∧ ∀ a i, a ≠ 459 → mI (g_Model_init_110 f 448 (Int32.ofNat k) Y) a i = mI Y a i := by
  intro m
  induction m with
  | zero =>
    intro k f Y km mf t1 t2 t3 t4
    obtain ⟨f, rfl⟩ : ∃ f', f = f' + 1 := ⟨f - 1, by omega⟩
    have le : (77100 : Int32) ≤ Int32.ofNat k := (le_ofNat (a := 77100) (by decide) (by omega)).mpr (by omega)
    conv => unfold K_Model_init_110 g_Model_init_110
    rw [if_pos le]
    exact ⟨fun z => absurd le z, rfl, fun _ _ _ => rfl⟩
  | succ m ih =>
    intro k f Y km mf t1 t2 t3 t4
    obtain ⟨f, rfl⟩ : ∃ f', f = f' + 1 := ⟨f - 1, by omega⟩
    have le : ¬ (77100 : Int32) ≤ Int32.ofNat k := fun z => by have := (le_ofNat (a := 77100) (by decide) (by omega)).mp z; omega
    conv => unfold K_Model_init_110 g_Model_init_110
    rw [if_neg le, t4, ixN (by omega), add1_32, t3]
    obtain ⟨i1, i2, i3⟩ := ih (k + 1) f (wI Y 459 k (-1)) (by omega) (by omega) t1 t2 t3 t4
    exact ⟨fun _ => ⟨t1, t2, vpN (by omega) (by omega), i1⟩, i2, fun a i ha => by rw [i3 a i ha, mI_wI, if_neg (fun z => ha z.1)]⟩
end TrN
