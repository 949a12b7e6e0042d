/-! part 47zzzzh: known, end, map, on both sides (gen/tpl.py) -/
section ED
variable {n : Nat} {M X : XM}
theorem b_at0 (x1 : Int32) : b_at x1 0 ↔ b_known x1 := by
  constructor
  · rintro (z | z | z | z)
    · exact Or.inl z
    · exact Or.inr z
    · exact absurd z (by decide)
    · exact absurd z (by decide)
  · rintro (z | z)
    · exact Or.inl z
    · exact Or.inr (Or.inl z)
theorem q_known (h : LI n M) (x1 : Int32) : K_Law_known 100 x1 468 M ∧ K_Model_known 448 x1 (g_Law_known 100 x1 468 M).2 ∧ AN n M (g_Law_known 100 x1 468 M).1 ((g_Model_known 448 x1 (g_Law_known 100 x1 468 M).2).1.toInt64) (g_Model_known 448 x1 (g_Law_known 100 x1 468 M).2).2 := by
  unfold K_Law_known g_Law_known
  by_cases b : b_known x1
  · rw [if_pos b]
    have sN : Sh (wN M 151 6) := (h.wn 151).1.sh
    obtain ⟨k1, g1⟩ := t_noThing sN x1 0
    rw [if_pos ((b_at0 x1).mpr b)] at g1
    refine ⟨⟨h.sh.T100, fun z => absurd b z⟩, ?_⟩
    unfold K_Model_known g_Model_known K_Model_known_0 g_Model_known_0 K_Model_known_6 g_Model_known_6
    rw [g1, if_neg i1_0]
    exact ⟨⟨sN.T448, k1, fun z => absurd z i1_0⟩, an_bad h 151 1 _ (by decide)⟩
  · rw [if_neg b]
    have b' : ¬ b_at x1 0 := fun z => b ((b_at0 x1).mp z)
    have c1 : ¬ x1 < 0 := fun z => b (Or.inl z)
    have c2 : ¬ (1024 : Int32) ≤ x1 := fun z => b (Or.inr z)
    obtain ⟨k, hk, rfl⟩ := i32lt (m := 1024) (x := x1) (by decide) c1 c2
    obtain ⟨s1, s2, s3⟩ := c_seen h.sh h.1 hk
    have tw : ∀ v : Int64, K_Model_known 448 (Int32.ofNat k) (wL M 468 0 v) ∧ g_Model_known 448 (Int32.ofNat k) (wL M 468 0 v) = (if mI M 454 k = 0 then -1 else mI M 455 k, wI (wL M 468 0 v) 448 0 0) := by
      intro v
      have sL : Sh (wL M 468 0 v) := h.sh.kept rfl
      have s0 : Sh (wI (wL M 468 0 v) 448 0 0) := h.sh.kept rfl
      obtain ⟨k1, g1⟩ := t_noThing sL (Int32.ofNat k) 0
      rw [if_neg b'] at g1
      unfold K_Model_known g_Model_known K_Model_known_0 g_Model_known_0 K_Model_known_6 g_Model_known_6
      rw [g1]
      have e1 : mI (wI (wL M 468 0 v) 448 0 0) 454 k = mI M 454 k := by rw [mI_wI, if_neg (by omega)]; rfl
      have e2 : mI (wI (wL M 468 0 v) 448 0 0) 455 k = mI M 455 k := by rw [mI_wI, if_neg (by omega)]; rfl
      simp only [s0.R448_10, s0.R448_11, ixN (show k < 2147483648 by omega), s0.N454, s0.N455, e1, e2, if_true]
      refine ⟨⟨sL.T448, k1, fun _ => ⟨s0.T448, s0.T454, vpN (by omega) (by omega), fun _ => ⟨s0.T448, s0.T455, vpN (by omega) (by omega)⟩⟩⟩, ?_⟩
      by_cases c : mI M 454 k = 0
      · rw [if_pos c, if_pos c]
      · rw [if_neg c, if_neg c]
    unfold K_LawN_known g_LawN_known K_LawN_known_0 g_LawN_known_0 K_LawN_known_7 g_LawN_known_7 K_PC_known g_PC_known K_PC_known_0 g_PC_known_0 K_PC_known_16 g_PC_known_16 K_PC_known_19 g_PC_known_19 K_PC_there g_PC_there K_PC_there_0 g_PC_there_0
    rw [show ix (0 : Int32) = 0 from rfl, if_neg c1, if_neg c2, if_neg i1_0, h.sh.R100_0]
    have v1 : vp_in (0 : Int32) (mN M 468) := by rw [h.sh.N468]; exact vpN (a := 0) (by decide) (by decide)
    unfold K_PC_known_28 g_PC_known_28
    rcases h.see hk with ⟨ni, z⟩ | ⟨is, z, ev, ek⟩
    · rw [s3 ni, if_pos rfl]
      obtain ⟨t1, t2⟩ := tw ((-1 : Int32).toInt64)
      rw [if_pos z] at t2
      refine ⟨⟨h.sh.T100, fun _ => ⟨h.sh.T100, ⟨fun z => absurd z c1, fun _ => ⟨fun z => absurd z c2, fun _ => ⟨fun z => absurd z i1_0, h.sh.T100, h.sh.T101, s1, fun z => absurd rfl z⟩⟩⟩, h.sh.T468, v1⟩⟩, t1, ?_⟩
      rw [t2]; exact an_ok h _
    · obtain ⟨w1, w2, w3⟩ := (h.1.1 k hk).resolve_left is.1
      rw [s2 is, if_neg is.1]
      have q : mI M (mR M 442 k) 1 = mI M 455 k := ek
      obtain ⟨t1, t2⟩ := tw (mI M (mR M 442 k) 1).toInt64
      rw [if_neg z, ← q] at t2
      refine ⟨⟨h.sh.T100, fun _ => ⟨h.sh.T100, ⟨fun z => absurd z c1, fun _ => ⟨fun z => absurd z c2, fun _ => ⟨fun z => absurd z i1_0, h.sh.T100, h.sh.T101, s1, fun _ => w3.1⟩⟩⟩, h.sh.T468, v1⟩⟩, t1, ?_⟩
      rw [t2]; exact an_ok h _
theorem LI.gen {n' : Nat} (h : LI n M) (st : X.2.2 = M.2.2) (l : ∀ a j, a ≠ 468 → mL X a j = mL M a j)
    (e : ∀ a j, ¬ (a = 448 ∧ (j = 0 ∨ j = 2)) → ¬ (a = 445 ∧ j = 1) → a ≠ 446 → a ≠ 449 → ¬ (107 ≤ a ∧ a ≤ 109) → ¬ (451 ≤ a ∧ a ≤ 453) → mI X a j = mI M a j)
    (hm : mpC X = mpT X) (wm : WM (mpT X)) (hn' : n' ≤ 8192) (h45 : mI X 445 1 = Int32.ofNat n') (h82 : mI X 448 2 = Int32.ofNat n') (ht : ∀ i, i < 8192 → bC X 446 i = mI X 449 i) (hf : ∀ i, fits .byte (.int (mI X 446 i)) = true) : LI n' X ∧ pC X = pC M ∧ pS X = pS M := by
  obtain ⟨h1, h2, h3, h4, h5, h6, h7, h8, h9, h10, h11, h12, h13, h14⟩ := h
  have er := fun k => eR st 442 k
  have ev : ∀ k, tvk X k = tvk M k := fun k => by
    unfold tvk
    rw [l 461 k (by decide), l 462 k (by decide), l 463 k (by decide), l 464 k (by decide), l 465 k (by decide), l 466 k (by decide)]
  have ee : ∀ k, tek X k = tek M k := fun k => e 467 k (by omega) (by omega) (by decide) (by decide) (by omega) (by omega)
  refine ⟨⟨h1.kept st, ⟨h2.1.kept st, fun i hi => ?_, (ev 6).trans h2.2.2.1, (ee 6).trans h2.2.2.2⟩, h3.same (e 457 _ (by omega) (by omega) (by decide) (by decide) (by omega) (by omega)), fun k hk => ?_, hm, wm, hn', h45, h82, ht, hf, ?_, ?_, ?_⟩, ?_, ?_⟩
  · have e1 : tE X i = tE M i := ee _
    have e2 : (tR X i).va = (tR M i).va := ev _
    rw [e1, e2]; exact h2.2.1 i hi
  · have tb : TbT X k = TbT M k := by
      refine TbT.eq ?_ (e 454 k (by omega) (by omega) (by decide) (by decide) (by omega) (by omega)) (e 455 k (by omega) (by omega) (by decide) (by decide) (by omega) (by omega)) (e 456 k (by omega) (by omega) (by decide) (by decide) (by omega) (by omega))
      funext n
      unfold vwT tR
      rw [e 457 _ (by omega) (by omega) (by decide) (by decide) (by omega) (by omega), e 458 _ (by omega) (by omega) (by decide) (by decide) (by omega) (by omega), e 459 _ (by omega) (by omega) (by decide) (by decide) (by omega) (by omega), ev]
    rw [TbC.out st h1 (fun a i ha => ⟨e a i (by omega) (by omega) (by omega) (by omega) (by omega) (by omega), l a i (by omega)⟩) hk, tb]
    exact h4 k hk
  · have : (fun i => mI X 450 i) = fun i => mI M 450 i := funext (fun i => e 450 i (by omega) (by omega) (by decide) (by decide) (by omega) (by omega))
    rw [this]; exact h12
  · rw [e 101 7 (by omega) (by omega) (by decide) (by decide) (by omega) (by omega), e 448 5 (by omega) (by omega) (by decide) (by decide) (by omega) (by omega)]; exact h13
  · rw [e 101 8 (by omega) (by omega) (by decide) (by decide) (by omega) (by omega), e 448 6 (by omega) (by omega) (by decide) (by decide) (by omega) (by omega)]; exact h14
  · unfold pC; simp only [er]; rw [eC st]
  · unfold pS; simp only [er]; rw [eS st]
/-- what a step of the law leaves: thrown, and the rest -/
def EN (n : Nat) (M : XM) (k : Int32) (Y : XM) : Prop := mI Y 448 0 = k ∧ ∃ n', n' ≤ n ∧ LI n' Y ∧ pC Y ≤ pC M + 1 ∧ pS Y ≤ pS M + 6
theorem q_end (h : LI n M) (x1 : Int32) : K_Law_end 100 x1 M ∧ K_Model_end 448 x1 (g_Law_end 100 x1 M).2 ∧ EN n M (g_Law_end 100 x1 M).1 (g_Model_end 448 x1 (g_Law_end 100 x1 M).2) := by
  have n7 := h.2.2.2.2.2.2.1
  have n8 := h.2.2.2.2.2.2.2.1
  have n9 := h.2.2.2.2.2.2.2.2.1
  unfold K_Law_end g_Law_end
  have eb : b_end 100 x1 M ↔ (x1 < 0 ∨ Int32.ofNat n < x1) := by unfold b_end; rw [h.sh.R100_1, n8]
  by_cases b : b_end 100 x1 M
  · rw [if_pos b]
    obtain ⟨l1, l2, l3⟩ := h.wn 150
    have sN := l1.sh
    have hC := h.sh.C
    have e2 : mI (wN M 150 6) 448 2 = Int32.ofNat n := by rw [mI_wN, if_neg (by omega)]; exact n9
    refine ⟨⟨⟨h.sh.T100, by rw [h.sh.R100_1]; exact h.sh.T445⟩, fun z => absurd b z⟩, ?_⟩
    show K_Model_end 448 x1 (wN M 150 6) ∧ EN n M 1 (g_Model_end 448 x1 (wN M 150 6))
    generalize wN M 150 6 = N at l1 l2 l3 sN e2 ⊢
    unfold K_Model_end g_Model_end K_Model_end_0 g_Model_end_0 K_Model_end_13 g_Model_end_13 K_Model_end_18 g_Model_end_18 K_Model_end_21 g_Model_end_21 K_Model_end_37 g_Model_end_37
    have t0 : ∀ v, mI (wI N 448 0 v) 448 0 = v := fun v => by rw [mI_wI, if_pos ⟨rfl, rfl⟩]
    have t2 : ∀ v, mI (wI N 448 0 v) 448 2 = Int32.ofNat n := fun v => by rw [mI_wI, if_neg (by omega)]; exact e2
    rw [t0, t0, t2, e2, if_neg (show ¬ (1 : Int32) ≤ 0 by decide)]
    have res : EN n M 1 (wI (wI N 448 0 1) 448 2 (Int32.ofNat n)) := by
      refine ⟨by rw [mI_wI, if_neg (by omega)]; exact t0 1, n, Nat.le_refl _, ?_, by show pC N ≤ _; omega, by show pS N ≤ _; omega⟩
      refine l1.fr (sN.kept rfl) (l1.1.kept rfl) (fun a j _ z => ?_) (fun _ _ _ => rfl) (fun k hk => TbC.out (M := N) (X := wI (wI N 448 0 1) 448 2 (Int32.ofNat n)) rfl l1.1 (fun a j ha => ⟨by rw [mI_wI, if_neg (by omega), mI_wI, if_neg (by omega)], rfl⟩) hk)
      rw [mI_wI]
      by_cases q : a = 448 ∧ j = 2
      · rw [if_pos q, q.1, q.2]; exact e2.symm
      · rw [if_neg q, mI_wI, if_neg z]
    constructor
    · repeat' (first | exact sN.T448 | refine ⟨?_, ?_⟩ | intro _)
    · by_cases c1 : x1 < 0
      · rw [if_pos c1]; exact res
      · rw [if_neg c1]
        have c2 : ¬ x1 ≤ Int32.ofNat n := fun z => (eb.mp b).elim c1 (fun q => absurd q (Int32.not_lt.mpr z))
        rw [if_neg c2]; exact res
  · rw [if_neg b]
    have c1 : ¬ x1 < 0 := fun z => b (eb.mpr (Or.inl z))
    have c2 : ¬ Int32.ofNat n < x1 := fun z => b (eb.mpr (Or.inr z))
    obtain ⟨x1e, x1n⟩ := i32N c1
    have lt := Int32.toInt_lt x1
    have kn : ix x1 ≤ n := by
      rw [x1e, lt_ofNat (by omega) (by omega)] at c2
      omega
    generalize ix x1 = k at x1e x1n kn
    subst x1e
    unfold K_LawN_end g_LawN_end K_LawN_end_0 g_LawN_end_0 g_LawN_end_5 K_PC_end g_PC_end K_PC_end_0 g_PC_end_0 K_PC_end_20 g_PC_end_20 K_PC_end_23 g_PC_end_23 K_PC_proper g_PC_proper K_PC_proper_0 g_PC_proper_0
    rw [if_neg i1_0, h.sh.R100_1, n8, if_neg c1, if_neg c2]
    refine ⟨⟨⟨h.sh.T100, h.sh.T445⟩, fun _ => ⟨h.sh.T100, fun z => absurd z c1, fun _ => ⟨h.sh.T100, h.sh.T445, fun z => absurd z c2, fun _ => ⟨fun z => absurd z i1_0, h.sh.T100, h.sh.T445⟩⟩⟩⟩, ?_⟩
    show K_Model_end 448 (Int32.ofNat k) (wI M 445 1 (Int32.ofNat k)) ∧ EN n M 0 (g_Model_end 448 (Int32.ofNat k) (wI M 445 1 (Int32.ofNat k)))
    have sN : Sh (wI M 445 1 (Int32.ofNat k)) := h.sh.kept rfl
    unfold K_Model_end g_Model_end K_Model_end_0 g_Model_end_0 K_Model_end_13 g_Model_end_13 K_Model_end_18 g_Model_end_18 K_Model_end_21 g_Model_end_21 K_Model_end_37 g_Model_end_37
    have t2 : mI (wI M 445 1 (Int32.ofNat k)) 448 2 = Int32.ofNat n := by rw [mI_wI, if_neg (by omega)]; exact n9
    have t0 : ∀ v, mI (wI (wI M 445 1 (Int32.ofNat k)) 448 0 v) 448 0 = v := fun v => by rw [mI_wI, if_pos ⟨rfl, rfl⟩]
    rw [t0, t0, t2, if_neg c1, if_pos (Int32.not_lt.mp c2), if_pos (show (0 : Int32) ≤ 0 by decide)]
    constructor
    · repeat' (first | exact sN.T448 | refine ⟨?_, ?_⟩ | intro _)
    · have hq : ∀ a j, ¬ (a = 448 ∧ (j = 0 ∨ j = 2)) → ¬ (a = 445 ∧ j = 1) → mI (wI (wI (wI M 445 1 (Int32.ofNat k)) 448 0 0) 448 2 (Int32.ofNat k)) a j = mI M a j := fun a j z1 z2 => by
        rw [mI_wI, if_neg (by omega), mI_wI, if_neg (by omega), mI_wI, if_neg z2]
      have mt : mpT (wI (wI (wI M 445 1 (Int32.ofNat k)) 448 0 0) 448 2 (Int32.ofNat k)) = mpT M := by
        unfold mpT
        simp only [fun i => hq 451 i (by omega) (by omega), fun i => hq 452 i (by omega) (by omega), fun i => hq 453 i (by omega) (by omega)]
      have mc : mpC (wI (wI (wI M 445 1 (Int32.ofNat k)) 448 0 0) 448 2 (Int32.ofNat k)) = mpC M := by
        unfold mpC
        simp only [fun i => hq 107 i (by omega) (by omega), fun i => hq 108 i (by omega) (by omega), fun i => hq 109 i (by omega) (by omega)]
      obtain ⟨g1, g2, g3⟩ := LI.gen (X := wI (wI (wI M 445 1 (Int32.ofNat k)) 448 0 0) 448 2 (Int32.ofNat k)) (n' := k) h rfl (fun _ _ _ => rfl) (fun a j z1 z2 _ _ _ _ => hq a j z1 z2) (by rw [mc, mt]; exact h.2.2.2.2.1) (by rw [mt]; exact h.2.2.2.2.2.1) (by omega) (by rw [mI_wI, if_neg (by omega), mI_wI, if_neg (by omega), mI_wI, if_pos ⟨rfl, rfl⟩]) (by rw [mI_wI, if_pos ⟨rfl, rfl⟩]) (fun i hi => by unfold bC; rw [hq 446 i (by omega) (by omega), hq 449 i (by omega) (by omega)]; exact h.2.2.2.2.2.2.2.2.2.1 i hi) (fun i => by rw [hq 446 i (by omega) (by omega)]; exact h.2.2.2.2.2.2.2.2.2.2.1 i)
      exact ⟨by rw [mI_wI, if_neg (by omega)]; exact t0 0, k, kn, g1, by omega, by omega⟩
end ED
