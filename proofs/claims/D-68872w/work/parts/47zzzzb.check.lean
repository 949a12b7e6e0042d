/-! part 47zzzzb: check, the component's front (gen/tpl.py) -/
def TC (M X : XM) : Prop := X.2.2 = M.2.2 ∧ ∀ a i, ¬ (448 ≤ a ∧ a < 468) → mI X a i = mI M a i ∧ mL X a i = mL M a i
theorem TC.rf {M : XM} : TC M M := ⟨rfl, fun _ _ _ => ⟨rfl, rfl⟩⟩
theorem TC.trans {M M1 M2 : XM} (h : TC M M1) (h' : TC M1 M2) : TC M M2 := ⟨h'.1.trans h.1, fun a i z => ⟨(h'.2 a i z).1.trans (h.2 a i z).1, (h'.2 a i z).2.trans (h.2 a i z).2⟩⟩
theorem FT.tc {M X : XM} (h : FT M X) : TC M X := ⟨by rw [h.1], fun a i z => ⟨h.2 a i (by omega), by show X.2.1 a i = M.2.1 a i; rw [h.1]⟩⟩
theorem TF.tc {M X : XM} (h : TF M X) : TC M X := ⟨h.1, fun a i z => ⟨h.2.1 a i (by unfold PE PD; omega), h.2.2 a i (by omega)⟩⟩
theorem TC.wi {M : XM} {a i : Nat} {v : Int32} (h : 448 ≤ a ∧ a < 468) : TC M (wI M a i v) := ⟨rfl, fun b j z => ⟨by rw [mI_wI, if_neg (by omega)], rfl⟩⟩
theorem TC.sh {M X : XM} (h : TC M X) (s : Sh M) : Sh X := s.kept h.1
theorem TC.sti {M X : XM} (h : TC M X) (s : StI M) : StI X := s.kept h.1
theorem TC.pc {M X : XM} (h : TC M X) : pC X = pC M ∧ pS X = pS M := by
  have er := fun k => eR h.1 442 k
  constructor
  · unfold pC; simp only [er]; rw [eC h.1]
  · unfold pS; simp only [er]; rw [eS h.1]
/-- a state is as it was -/
theorem TbC.out {M X : XM} (e : X.2.2 = M.2.2) (s : StI M) (o : ∀ a i, 469 ≤ a → mI X a i = mI M a i ∧ mL X a i = mL M a i) {k : Nat} (hk : k < 1024) : TbC X k = TbC M k := by
  have er := eR e 442 k
  by_cases z : mR M 442 k = 0
  · rw [TbC.no (M := M) (fun q => q.1 z), TbC.no (M := X) (fun q => q.1 (er.trans z))]
  · have big := ((s.1 k hk).resolve_left z).1
    refine TbC.eq er (vwC_eq (fun n hn => ?_)) (fun i _ => (o _ i big).1)
    unfold thC gv6
    rw [(o _ 0 (by omega)).1, (o _ 1 (by omega)).1, (o _ 2 (by omega)).1, (o _ 0 (by omega)).2, (o _ 1 (by omega)).2, (o _ 2 (by omega)).2, (o _ 3 (by omega)).2, (o _ 4 (by omega)).2, (o _ 5 (by omega)).2]
theorem TC.tb {M X : XM} (h : TC M X) (s : StI M) {k : Nat} (hk : k < 1024) : TbC X k = TbC M k := TbC.out h.1 s (fun a i ha => h.2 a i (by omega)) hk
theorem FF.tb {M X : XM} (h : FF M X) (s : StI M) {k : Nat} (hk : k < 1024) : TbC X k = TbC M k := TbC.out (by rw [h.1]) s (fun a i ha => ⟨h.2 a i (by omega), by show X.2.1 a i = M.2.1 a i; rw [h.1]⟩) hk
/-- the component's frame: tape, twin and maps are as they were -/
def CX (M X : XM) : Prop := pC X = pC M ∧ pS X = pS M ∧ (∀ a i, 446 ≤ a → a < 469 → mI X a i = mI M a i ∧ mL X a i = mL M a i) ∧ ∀ a i, 107 ≤ a → a ≤ 109 → mI X a i = mI M a i
theorem CX.trans {M M1 M2 : XM} (h : CX M M1) (h' : CX M1 M2) : CX M M2 := ⟨h'.1.trans h.1, h'.2.1.trans h.2.1, fun a i x y => ⟨(h'.2.2.1 a i x y).1.trans (h.2.2.1 a i x y).1, (h'.2.2.1 a i x y).2.trans (h.2.2.1 a i x y).2⟩, fun a i x y => (h'.2.2.2 a i x y).trans (h.2.2.2 a i x y)⟩
theorem CF.cx {M X : XM} (h : CF M X) : CX M X := ⟨h.2.2.2.1, h.2.2.2.2, fun a i x y => ⟨h.2.1 a i y (by unfold TJ JX; omega) (by unfold JJ; omega) (by omega), h.2.2.1 a i y (by unfold TJ JX; omega) (by unfold JJ; omega)⟩, fun a i x y => h.2.1 a i (by omega) (by unfold TJ JX; omega) (by unfold JJ; omega) (by omega)⟩
theorem BGF.cx {M X : XM} (h : BGF M X) : CX M X := ⟨h.2.2.1, h.2.2.2, fun a i x y => h.2.1 a i y, fun a i x y => (h.2.1 a i (by omega)).1⟩
theorem CX.of {M X : XM} (e : X.2 = M.2) (h : ∀ a i, (446 ≤ a ∧ a < 469) ∨ (107 ≤ a ∧ a ≤ 109) → mI X a i = mI M a i) : CX M X := by
  have e' : X.2.2 = M.2.2 := by rw [e]
  have er := fun k => eR e' 442 k
  refine ⟨?_, ?_, fun a i x y => ⟨h a i (Or.inl ⟨x, y⟩), by show X.2.1 a i = M.2.1 a i; rw [e]⟩, fun a i x y => h a i (Or.inr ⟨x, y⟩)⟩
  · unfold pC; simp only [er]; rw [eC e']
  · unfold pS; simp only [er]; rw [eS e']
theorem CX.mp {M X : XM} (h : CX M X) : mpC X = mpC M ∧ mpT X = mpT M := by
  constructor
  · unfold mpC
    simp only [h.2.2.2 107 _ (by decide) (by decide), h.2.2.2 108 _ (by decide) (by decide), h.2.2.2 109 _ (by decide) (by decide)]
  · unfold mpT
    simp only [(h.2.2.1 451 _ (by decide) (by decide)).1, (h.2.2.1 452 _ (by decide) (by decide)).1, (h.2.2.1 453 _ (by decide) (by decide)).1]
/-- the twin's memory is read in 448 .. 467 alone -/
theorem TW.out {M X : XM} (h : TW M) (s : Sh X) (o : ∀ a i, 449 ≤ a → a < 468 → mI X a i = mI M a i ∧ mL X a i = mL M a i) : TW X := by
  have ev : ∀ k, tvk X k = tvk M k := fun k => by
    unfold tvk
    rw [(o 461 k (by decide) (by decide)).2, (o 462 k (by decide) (by decide)).2, (o 463 k (by decide) (by decide)).2, (o 464 k (by decide) (by decide)).2, (o 465 k (by decide) (by decide)).2, (o 466 k (by decide) (by decide)).2]
  have ee : ∀ k, tek X k = tek M k := fun k => (o 467 k (by decide) (by decide)).1
  refine ⟨s, fun i hi => ?_, (ev 6).trans h.2.2.1, (ee 6).trans h.2.2.2⟩
  have e1 : tE X i = tE M i := ee _
  have e2 : (tR X i).va = (tR M i).va := ev _
  rw [e1, e2]; exact h.2.1 i hi
theorem TbT.out {M X : XM} (o : ∀ a i, 449 ≤ a → a < 468 → mI X a i = mI M a i ∧ mL X a i = mL M a i) (k : Nat) : TbT X k = TbT M k := by
  have ev : ∀ k, tvk X k = tvk M k := fun k => by
    unfold tvk
    rw [(o 461 k (by decide) (by decide)).2, (o 462 k (by decide) (by decide)).2, (o 463 k (by decide) (by decide)).2, (o 464 k (by decide) (by decide)).2, (o 465 k (by decide) (by decide)).2, (o 466 k (by decide) (by decide)).2]
  refine TbT.eq ?_ (o 454 k (by decide) (by decide)).1 (o 455 k (by decide) (by decide)).1 (o 456 k (by decide) (by decide)).1
  funext n
  unfold vwT tR
  rw [(o 457 _ (by decide) (by decide)).1, (o 458 _ (by decide) (by decide)).1, (o 459 _ (by decide) (by decide)).1, ev]
/-- what the law keeps true between its steps -/
def LI (n : Nat) (M : XM) : Prop := StI M ∧ TW M ∧ J10 M ∧ (∀ k, k < 1024 → TbC M k = TbT M k) ∧ mpC M = mpT M ∧ WM (mpT M) ∧ n ≤ 8192 ∧ mI M 445 1 = Int32.ofNat n ∧ mI M 448 2 = Int32.ofNat n ∧ (∀ i, i < 8192 → bC M 446 i = mI M 449 i) ∧ (∀ i, fits .byte (.int (mI M 446 i)) = true) ∧ BYT (fun i => mI M 450 i) ∧ mI M 101 7 = mI M 448 5 ∧ mI M 101 8 = mI M 448 6
theorem LI.bt {n : Nat} {M : XM} (h : LI n M) : BYT (fun i => mI M 449 i) := fun i hi => by
  obtain ⟨m, hm, e⟩ := BYT.c M 446 i hi
  exact ⟨m, hm, by show mI M 449 i = _; rw [← h.2.2.2.2.2.2.2.2.2.1 i hi, e]⟩
/-- behind the component's front -/
def CA (n : Nat) (M X : XM) : Prop := Sh X ∧ StI X ∧ CX M X ∧ (∀ k, k < 1024 → TbC X k = if k = 0 then some (sg0, 0, 0) else none) ∧ mR X 442 0 ≠ 0 ∧ pDn X 0 = 0 ∧ (∀ i, i < n → bC X 103 i = mI M 449 i) ∧ mI X 102 2 = Int32.ofNat (n / 8) ∧ mI X 101 8 = 0 ∧ mI X 445 1 = 0
theorem mI_wCp (M : XM) (src : Nat) (sp : Int32) (dst : Nat) (dp n : Int32) (j : Nat) : mI (wCp M src sp dst dp n) dst j = va_cpy (mI M src) (mI M dst) sp.toNatClampNeg dp.toNatClampNeg n.toNatClampNeg j := if_pos rfl
theorem c_front {n : Nat} {M : XM} (h : LI n M) : ∃ r X, CA n M X ∧ FR (fun i => mI M 449 i) n r ∧ (K_Checker_check_52 101 r X → K_Checker_check 101 445 M) ∧ g_Checker_check 101 445 M = g_Checker_check_52 101 r X := by
  obtain ⟨h1, h2, h3, h4, h5, h6, h7, h8, h9, h10, h11, h12, h13, h14⟩ := h
  have s := h2.1
  unfold K_Checker_check g_Checker_check K_Checker_check_0 g_Checker_check_0 K_Checker_check_17 g_Checker_check_17 K_Checker_check_20 g_Checker_check_20
  rw [s.R445_0, s.R101_0, s.R102_0, h8]
  have cl : (Int32.ofNat n).toNatClampNeg = n := ixN (by omega)
  have c0 : (0 : Int32).toNatClampNeg = 0 := rfl
  have kc : K_copy 446 0 103 0 (Int32.ofNat n) M := by
    refine ⟨s.T446, s.T103, by decide, by decide, ?_, ?_, ?_, fun i _ => h11 _⟩
    · rw [lt_u3, toInt_ofNat32 (by omega)]
      have e0 : (0 : Int32).toInt = 0 := rfl
      omega
    · rw [cl, s.N446, c0]; omega
    · rw [cl, s.N103, c0]; omega
  have e1 : (wCp M 446 0 103 0 (Int32.ofNat n)).2 = M.2 := rfl
  have mi : ∀ a i, a ≠ 103 → mI (wCp M 446 0 103 0 (Int32.ofNat n)) a i = mI M a i := fun a i ha => if_neg ha
  have m3 : ∀ i, i < n → mI (wCp M 446 0 103 0 (Int32.ofNat n)) 103 i = mI M 446 i := fun i hi => by
    have : mI (wCp M 446 0 103 0 (Int32.ofNat n)) 103 i = va_cpy (mI M 446) (mI M 103) (0 : Int32).toNatClampNeg (0 : Int32).toNatClampNeg (Int32.ofNat n).toNatClampNeg i := mI_wCp M 446 0 103 0 (Int32.ofNat n) i
    rw [this, cl, c0]
    unfold va_cpy
    rw [if_pos (by omega)]
    show mI M 446 (0 + (i - 0)) = mI M 446 i
    rw [Nat.zero_add, Nat.sub_zero]
  generalize wCp M 446 0 103 0 (Int32.ofNat n) = M1 at e1 mi m3 ⊢
  have e1' : M1.2.2 = M.2.2 := by rw [e1]
  have s1 := s.kept e1'
  rw [s1.R101_0, mi 445 1 (by decide), h8]
  have e2 : (wI (wI (wI M1 102 1 (Int32.ofNat n)) 445 1 0) 101 8 0).2 = M.2 := e1
  have mi2 : ∀ a i, a ≠ 103 → ¬ (a = 102 ∧ i = 1) → ¬ (a = 445 ∧ i = 1) → ¬ (a = 101 ∧ i = 8) → mI (wI (wI (wI M1 102 1 (Int32.ofNat n)) 445 1 0) 101 8 0) a i = mI M a i := fun a i x1 x2 x3 x4 => by
    rw [mI_wI, if_neg x4, mI_wI, if_neg x3, mI_wI, if_neg x2]; exact mi a i x1
  have n1 : mI (wI (wI (wI M1 102 1 (Int32.ofNat n)) 445 1 0) 101 8 0) 102 1 = Int32.ofNat n := by rw [mI_wI, if_neg (by omega), mI_wI, if_neg (by omega), mI_wI, if_pos ⟨rfl, rfl⟩]
  have n2 : mI (wI (wI (wI M1 102 1 (Int32.ofNat n)) 445 1 0) 101 8 0) 445 1 = 0 := by rw [mI_wI, if_neg (by omega), mI_wI, if_pos ⟨rfl, rfl⟩]
  have n3 : mI (wI (wI (wI M1 102 1 (Int32.ofNat n)) 445 1 0) 101 8 0) 101 8 = 0 := by rw [mI_wI, if_pos ⟨rfl, rfl⟩]
  have n4 : ∀ i, i < n → mI (wI (wI (wI M1 102 1 (Int32.ofNat n)) 445 1 0) 101 8 0) 103 i = mI M 446 i := fun i hi => by
    rw [mI_wI, if_neg (by omega), mI_wI, if_neg (by omega), mI_wI, if_neg (by omega)]; exact m3 i hi
  have kx : mT M1 101 = 2 ∧ mT M1 445 = 3 ∧ mT M1 102 = 3 := ⟨s1.T101, s1.T445, s1.T102⟩
  have kt : mT (wI M1 102 1 (Int32.ofNat n)) 445 = 3 ∧ mT (wI (wI M1 102 1 (Int32.ofNat n)) 445 1 0) 101 = 2 := ⟨s1.T445, s1.T101⟩
  generalize wI (wI (wI M1 102 1 (Int32.ofNat n)) 445 1 0) 101 8 0 = M2 at e2 mi2 n1 n2 n3 n4 ⊢
  have e2' : M2.2.2 = M.2.2 := by rw [e2]
  have s2 := s.kept e2'
  have i2 := h1.kept e2'
  obtain ⟨kb, b1, b2, b3, b4, b5, b6⟩ := c_begin s2 i2
  unfold K_Checker_check_41 g_Checker_check_41 K_Checker_check_45 g_Checker_check_45
  generalize g_Checker_begin 101 M2 = M3 at b1 b2 b3 b4 b5 b6 ⊢
  rw [b1.R101_1]
  have n31 : mI M3 102 1 = Int32.ofNat n := by rw [(b3.2.1 102 1 (by decide)).1]; exact n1
  obtain ⟨kf, f1, f2, f3⟩ := c_fault h7 b1 n31
  refine ⟨_, _, ?_, ?_, fun z => ⟨s.T445, s.T101, s.T102, s.T445, kc, kx.1, kx.2.1, kx.2.2, kt.1, kt.2, s2.T101, kb, b1.T101, b1.T105, kf, z⟩, rfl⟩
  · have e4 : (g_FormCheck_fault 105 M3).2.2.2 = M3.2.2 := by rw [f1.1]
    have cx1 : CX M M2 := CX.of e2 (fun a i z => mi2 a i (by omega) (by omega) (by omega) (by omega))
    have cx3 : CX M3 (g_FormCheck_fault 105 M3).2 := CX.of f1.1 (fun a i z => f1.2 a i (by omega))
    refine ⟨f1.sh b1, b2.kept e4, (cx1.trans b3.cx).trans cx3, fun k hk => by rw [f1.tb b2 hk]; exact b4 k hk, by rw [eR e4]; exact b5, ?_, fun i hi => ?_, f2, ?_, ?_⟩
    · have big := ((b2.1 0 (by decide)).resolve_left b5).1
      unfold pDn at b6 ⊢
      rw [eR e4, f1.2 _ 4 (by omega)]; exact b6
    · rw [f1.bc]
      unfold bC
      rw [(b3.2.1 103 i (by decide)).1, n4 i hi]
      exact h10 i (by omega)
    · rw [f1.2 101 8 (by omega), (b3.2.1 101 8 (by decide)).1]; exact n3
    · rw [f1.2 445 1 (by omega), (b3.2.1 445 1 (by decide)).1]; exact n2
  · refine FR_cg h7 (fun i hi => ?_) f3
    unfold bC
    rw [(b3.2.1 103 i (by decide)).1, n4 i hi]
    exact h10 i (by omega)
