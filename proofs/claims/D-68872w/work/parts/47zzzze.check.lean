/-! part 47zzzze: check, whole, on both sides (gen/tpl.py) -/
section BCk
variable {n : Nat} {M : XM}
theorem t_99 {r : Int32} : ∀ (m k f : Nat) (Y : XM), k + m = 1024 → m < f → Sh Y →
    K_Model_check_99 f 448 r (Int32.ofNat k) Y ∧ (g_Model_check_99 f 448 r (Int32.ofNat k) Y).1 = r ∧ (g_Model_check_99 f 448 r (Int32.ofNat k) Y).2.2 = Y.2 ∧ (∀ a i, a ≠ 454 → mI (g_Model_check_99 f 448 r (Int32.ofNat k) Y).2 a i = mI Y a i) ∧ ∀ j, k ≤ j → j < 1024 → mI (g_Model_check_99 f 448 r (Int32.ofNat k) Y).2 454 j = 0 := by
  suffices H : ∀ (m k f : Nat) (Y : XM), k + m = 1024 → m < f → Sh Y → K_Model_check_99 f 448 r (Int32.ofNat k) Y ∧ (g_Model_check_99 f 448 r (Int32.ofNat k) Y).1 = r ∧ (g_Model_check_99 f 448 r (Int32.ofNat k) Y).2.2 = Y.2 ∧ (∀ a i, a ≠ 454 → mI (g_Model_check_99 f 448 r (Int32.ofNat k) Y).2 a i = mI Y a i) ∧ (∀ j, k ≤ j → j < 1024 → mI (g_Model_check_99 f 448 r (Int32.ofNat k) Y).2 454 j = 0) ∧ ∀ j, j < k → mI (g_Model_check_99 f 448 r (Int32.ofNat k) Y).2 454 j = mI Y 454 j from
    fun m k f Y a b c => ⟨(H m k f Y a b c).1, (H m k f Y a b c).2.1, (H m k f Y a b c).2.2.1, (H m k f Y a b c).2.2.2.1, (H m k f Y a b c).2.2.2.2.1⟩
  intro m
  induction m with
  | zero =>
    intro k f Y km mf s
    obtain ⟨f, rfl⟩ : ∃ f', f = f' + 1 := ⟨f - 1, by omega⟩
    have le : (1024 : Int32) ≤ Int32.ofNat k := (le_ofNat (a := 1024) (by decide) (by omega)).mpr (by omega)
    conv => unfold K_Model_check_99 g_Model_check_99
    rw [if_pos le]
    exact ⟨fun z => absurd le z, rfl, rfl, fun _ _ _ => rfl, fun j h1 h2 => by omega, fun _ _ => rfl⟩
  | succ m ih =>
    intro k f Y km mf s
    obtain ⟨f, rfl⟩ : ∃ f', f = f' + 1 := ⟨f - 1, by omega⟩
    have le : ¬ (1024 : Int32) ≤ Int32.ofNat k := fun z => by have := (le_ofNat (a := 1024) (by decide) (by omega)).mp z; omega
    conv => unfold K_Model_check_99 g_Model_check_99
    rw [if_neg le, s.R448_10, ixN (by omega), add1_32, s.N454]
    obtain ⟨i1, i2, i3, i4, i5, i6⟩ := ih (k + 1) f (wI Y 454 k 0) (by omega) (by omega) (s.kept rfl)
    refine ⟨fun _ => ⟨s.T448, s.T454, vpN (by omega) (by omega), i1⟩, i2, i3, fun a i ha => ?_, fun j h1 h2 => ?_, fun j hj => ?_⟩
    · rw [i4 a i ha, mI_wI, if_neg (fun z => ha z.1)]
    · by_cases q : j = k
      · rw [i6 j (by omega), mI_wI, if_pos ⟨rfl, q⟩]
      · exact i5 j (by omega) h2
    · rw [i6 j (by omega), mI_wI, if_neg (by omega)]
theorem TbT.none {X : XM} {k : Nat} (h : mI X 454 k = 0) : TbT X k = none := if_pos h
/-- with a fault -/
theorem fault_t {Z : XM} {r : Int32} {mp : Mp} {B : Nat → Int32} (hn : n ≤ 8192) (hb : BYT B) (fr : FR B n r) (hr : r ≠ -1) (tz : TZ n mp B Z) :
    K_Model_check 448 Z ∧ (g_Model_check 448 Z).1 = r ∧ TY n Z (g_Model_check 448 Z).2 ∧ TW (g_Model_check 448 Z).2 ∧ J10 (g_Model_check 448 Z).2 ∧ mpT (g_Model_check 448 Z).2 = mp ∧ BYT (fun i => mI (g_Model_check 448 Z).2 450 i) ∧ (∀ k, k < 1024 → TbT (g_Model_check 448 Z).2 k = none) ∧ mI (g_Model_check 448 Z).2 448 5 = 9 ∧ mI (g_Model_check 448 Z).2 448 6 = 0 := by
  obtain ⟨z1, z2, z3, z4, z5, z6⟩ := tz
  obtain ⟨r', Y, ta, fz, kz, gz⟩ := t_front z1 z2 hn z3 (by rw [z4]; exact hb) z5
  rw [z4] at fz
  have er : r' = r := fz.one fr
  subst er
  obtain ⟨a1, a2, a3, a4, a5, a6, a7, a8, a9⟩ := ta
  rw [if_neg hr] at kz gz
  rw [gz]
  unfold K_Model_check_84 at kz
  unfold g_Model_check_84
  rw [if_neg hr]
  have q : ∀ a i, ¬ (a = 448 ∧ (i = 4 ∨ i = 5)) → mI (wI (wI Y 448 5 9) 448 4 (Int32.ofNat (n / 8))) a i = mI Y a i := fun a i z => by rw [mI_wI, if_neg (by omega), mI_wI, if_neg (by omega)]
  have q5 : mI (wI (wI Y 448 5 9) 448 4 (Int32.ofNat (n / 8))) 448 5 = 9 := by rw [mI_wI, if_neg (by omega), mI_wI, if_pos ⟨rfl, rfl⟩]
  have qt : TC Y (wI (wI Y 448 5 9) 448 4 (Int32.ofNat (n / 8))) := (TC.wi (by decide)).trans (TC.wi (by decide))
  have qw : TW (wI (wI Y 448 5 9) 448 4 (Int32.ofNat (n / 8))) := (a1.wi (by decide)).wi (by decide)
  generalize wI (wI Y 448 5 9) 448 4 (Int32.ofNat (n / 8)) = Y1 at q q5 qt qw kz ⊢
  have xf := xF_eq
  obtain ⟨k1, l1, l2, l3, l4⟩ := t_99 (r := r') 1024 0 xF Y1 (by decide) (by omega) qw.1
  rw [show Int32.ofNat 0 = 0 from rfl] at k1 l1 l2 l3 l4
  generalize g_Model_check_99 xF 448 r' 0 Y1 = G at l1 l2 l3 l4 ⊢
  have g2 : G.2.2.2 = Y1.2.2 := by rw [l2]
  have gt : TC Y1 G.2 := ⟨g2, fun a i z => ⟨l3 a i (by omega), by show G.2.2.1 a i = Y1.2.1 a i; rw [l2]⟩⟩
  have lq : ∀ a i, a ≠ 454 → ¬ (a = 448 ∧ (i = 4 ∨ i = 5)) → mI G.2 a i = mI Y a i := fun a i x z => by rw [l3 a i x]; exact q a i z
  refine ⟨kz ⟨a1.1.T448, a1.1.T448, fun z => absurd z hr, fun _ => k1⟩, l1, ⟨(a3.trans qt).trans gt, fun i => by rw [lq 449 i (by decide) (by omega)]; exact a8 i, by rw [lq 448 2 (by decide) (by omega)]; exact a6⟩, ?_, ?_, ?_, ?_, fun k hk => TbT.none (l4 k (Nat.zero_le _) hk), ?_, ?_⟩
  · refine ⟨qw.1.kept g2, fun i hi => ?_, ?_, ?_⟩
    · have e1 : tE G.2 i = tE Y1 i := l3 467 _ (by decide)
      have e2 : (tR G.2 i).va = (tR Y1 i).va := tvk_out l2 _
      rw [e1, e2]; exact qw.2.1 i hi
    · rw [tvk_out l2]; exact qw.2.2.1
    · have e1 : tek G.2 6 = tek Y1 6 := l3 467 _ (by decide)
      rw [e1]; exact qw.2.2.2
  · exact a2.same (lq 457 _ (by decide) (by omega))
  · rw [← z6, ← a9]
    unfold mpT
    simp only [fun i => lq 451 i (by decide) (by omega), fun i => lq 452 i (by decide) (by omega), fun i => lq 453 i (by decide) (by omega)]
  · have : (fun i => mI G.2 450 i) = fun i => mI Y 450 i := funext (fun i => lq 450 i (by decide) (by omega))
    rw [this]; exact a5
  · rw [l3 448 5 (by decide)]; exact q5
  · rw [lq 448 6 (by decide) (by omega)]; exact a7
/-- what comes out of both checks -/
theorem both_check (h : LI n M) : K_Checker_check 101 445 M ∧ K_Model_check 448 (g_Checker_check 101 445 M).2 ∧ (g_Checker_check 101 445 M).1 = (g_Model_check 448 (g_Checker_check 101 445 M).2).1 ∧ LI 0 (g_Model_check 448 (g_Checker_check 101 445 M).2).2 ∧ pC (g_Model_check 448 (g_Checker_check 101 445 M).2).2 = pC M ∧ pS (g_Model_check 448 (g_Checker_check 101 445 M).2).2 = pS M ∧ Sh (g_Checker_check 101 445 M).2 := by
  obtain ⟨r, X, ca, fr, hk, hg⟩ := c_front h
  have hb := h.bt
  obtain ⟨h1, h2, h3, h4, h5, h6, h7, h8, h9, h10, h11, h12, h13, h14⟩ := h
  obtain ⟨c1, c2, c3, c4, c5, c6, c7, c8, c9, c10⟩ := id ca
  rw [hg]
  have hmp : mpC X = mpT M := c3.mp.1.trans h5
  -- a memory that has the twin of M
  have tzOf : ∀ Z, Sh Z → CX X Z → TZ n (mpT M) (fun i => mI M 449 i) Z := fun Z sZ cx => by
    have o := (c3.trans cx).2.2.1
    refine ⟨h2.out sZ (fun a i x y => o a i (by omega) (by omega)), h3.same (o 457 _ (by decide) (by decide)).1, ?_, ?_, ?_, (c3.trans cx).mp.2⟩
    · rw [(o 448 2 (by decide) (by decide)).1]; exact h9
    · exact funext (fun i => (o 449 i (by decide) (by decide)).1)
    · have : (fun i => mI Z 450 i) = fun i => mI M 450 i := funext (fun i => (o 450 i (by decide) (by decide)).1)
      rw [this]; exact h12
  -- what the component leaves, and what the twin leaves
  have fin : ∀ (C T : XM), StI C → CX X C → mI C 445 1 = 0 → TY n C T → TW T → J10 T → mpT T = mpT M → BYT (fun i => mI T 450 i) → (∀ k, k < 1024 → TbC C k = TbT T k) → mI C 101 7 = mI T 448 5 → mI C 101 8 = mI T 448 6 → LI 0 T ∧ pC T = pC M ∧ pS T = pS M := by
    intro C T sC cx n5 ty tw j mp bt tb r7 r8
    obtain ⟨t1, t2, t3⟩ := ty
    have cxM := c3.trans cx
    have o := cxM.2.2.1
    have i46 : ∀ i, mI T 446 i = mI M 446 i := fun i => by rw [(t1.2 446 i (by omega)).1]; exact (o 446 i (by decide) (by decide)).1
    refine ⟨⟨t1.sti sC, tw, j, fun k hk => by rw [t1.tb sC hk]; exact tb k hk, ?_, by rw [mp]; exact h6, Nat.zero_le _, ?_, t3, fun i hi => ?_, fun i => by rw [i46]; exact h11 i, bt, ?_, ?_⟩, ?_, ?_⟩
    · rw [mp, ← h5, ← cxM.mp.1]
      unfold mpC
      simp only [fun i => (t1.2 107 i (by omega)).1, fun i => (t1.2 108 i (by omega)).1, fun i => (t1.2 109 i (by omega)).1]
    · rw [(t1.2 445 1 (by omega)).1]; exact n5
    · unfold bC
      rw [i46, t2 i, (o 449 i (by decide) (by decide)).1]
      exact h10 i hi
    · rw [(t1.2 101 7 (by omega)).1]; exact r7
    · rw [(t1.2 101 8 (by omega)).1]; exact r8
    · rw [t1.pc.1]; exact cxM.1
    · rw [t1.pc.2]; exact cxM.2.1
  unfold K_Checker_check_52 at hk
  unfold g_Checker_check_52
  by_cases cr : r = -1
  · rw [if_pos cr]
    subst cr
    have cx0 : CX X X := CX.of rfl (fun _ _ _ => rfl)
    have s0 := check_sim ca h7 h6 rfl hb hmp fr (tzOf X c1 cx0)
    have cfx : CX X (g_Checker_check_86 xF 101 (Mg X)).2 := (CX.of rfl (fun a i z => by rw [mI_wI, if_neg (by omega), mI_wI, if_neg (by omega)]) : CX X (Mg X)).trans s0.2.2.2.1.cx
    have shC : Sh (g_Checker_check_86 xF 101 (Mg X)).2 := s0.2.2.2.2.2.1.1
    have s1 := check_sim ca h7 h6 rfl hb hmp fr (tzOf _ shC cfx)
    obtain ⟨s2, s3, s4, s5, s6, s7, s8, s9⟩ := s1
    have kk := hk ⟨fun _ => ⟨c1.T101, c1.T101, s2⟩, fun z => absurd rfl z⟩
    have e86 : g_Checker_check_86 xF 101 (wI (wI X 101 7 0) 101 9 1) = g_Checker_check_86 xF 101 (Mg X) := rfl
    rw [e86]
    generalize g_Checker_check_86 xF 101 (Mg X) = G at s3 s4 s5 s6 s7 s8 s9 cfx shC ⊢
    obtain ⟨a1, a2, a3, a4, a5, a6, a7, a8, a9, a10, a11, a12, a13⟩ := s7
    have n5 : mI G.2 445 1 = 0 := by
      rw [s5.2.1 445 1 (by decide) (by unfold TJ JX; omega) (by unfold JJ; omega) (by omega), mI_wI, if_neg (by omega), mI_wI, if_neg (by omega)]; exact c10
    obtain ⟨f1, f2, f3⟩ := fin G.2 (g_Model_check 448 G.2).2 a2 cfx n5 s6 a3 a4 a8 a10.1 a5 s8 s9
    exact ⟨kk, s3, s4, f1, f2, f3, a1⟩
  · rw [if_neg cr, c1.R101_5, show ix (0 : Int32) = 0 from rfl]
    rw [c1.R101_5, show ix (0 : Int32) = 0 from rfl, c1.N442] at hk
    obtain ⟨b1, b2, b3⟩ := (c2.1 0 (by decide)).resolve_left c5
    have kk := hk ⟨fun z => absurd z cr, fun _ => ⟨c1.T101, c1.T442, vpN (a := 0) (by decide) (by decide), b3.1, c1.T101⟩⟩
    have cx : CX X (wI (wI X (mR X 442 0) 2 0) 101 7 9) := CX.of rfl (fun a i z => by rw [mI_wI, if_neg (by omega), mI_wI, if_neg (by omega)])
    have sZ : Sh (wI (wI X (mR X 442 0) 2 0) 101 7 9) := c1.kept rfl
    have iZ : StI (wI (wI X (mR X 442 0) 2 0) 101 7 9) := c2.kept rfl
    have tb : ∀ k, k < 1024 → TbC (wI (wI X (mR X 442 0) 2 0) 101 7 9) k = none := fun k hk => by
      refine TbC.no (fun is => ?_)
      have q1 : mR X 442 k ≠ 0 := is.1
      have q2 : mI (wI (wI X (mR X 442 0) 2 0) 101 7 9) (mR X 442 k) 2 ≠ 0 := is.2
      have bk := ((c2.1 k hk).resolve_left q1).1
      rw [mI_wI, if_neg (by omega), mI_wI] at q2
      by_cases k0 : k = 0
      · rw [k0, if_pos ⟨rfl, rfl⟩] at q2; exact q2 rfl
      · have dis := c2.2 k 0 hk (by decide) k0 q1 c5
        rw [if_neg (by omega)] at q2
        have := c4 k hk
        rw [if_neg k0, TbC.is ⟨q1, q2⟩] at this
        exact absurd this (by simp)
    have n5 : mI (wI (wI X (mR X 442 0) 2 0) 101 7 9) 445 1 = 0 := by rw [mI_wI, if_neg (by omega), mI_wI, if_neg (by omega)]; exact c10
    have r7 : mI (wI (wI X (mR X 442 0) 2 0) 101 7 9) 101 7 = 9 := by rw [mI_wI, if_pos ⟨rfl, rfl⟩]
    have r8 : mI (wI (wI X (mR X 442 0) 2 0) 101 7 9) 101 8 = 0 := by rw [mI_wI, if_neg (by omega), mI_wI, if_neg (by omega)]; exact c9
    have tz := tzOf _ sZ cx
    show K_Checker_check 101 445 M ∧ K_Model_check 448 (wI (wI X (mR X 442 0) 2 0) 101 7 9) ∧ r = (g_Model_check 448 (wI (wI X (mR X 442 0) 2 0) 101 7 9)).1 ∧ LI 0 (g_Model_check 448 (wI (wI X (mR X 442 0) 2 0) 101 7 9)).2 ∧ pC (g_Model_check 448 (wI (wI X (mR X 442 0) 2 0) 101 7 9)).2 = pC M ∧ pS (g_Model_check 448 (wI (wI X (mR X 442 0) 2 0) 101 7 9)).2 = pS M ∧ Sh (wI (wI X (mR X 442 0) 2 0) 101 7 9)
    generalize wI (wI X (mR X 442 0) 2 0) 101 7 9 = Z at cx sZ iZ tb n5 r7 r8 tz ⊢
    obtain ⟨s1, s2, s3, s4, s5, s6, s7, s8, s9, s10⟩ := fault_t h7 hb fr cr tz
    obtain ⟨f1, f2, f3⟩ := fin Z (g_Model_check 448 Z).2 iZ cx n5 s3 s4 s5 s6 s7 (fun k hk => by rw [tb k hk, s8 k hk]) (by rw [r7, s9]) (by rw [r8, s10])
    exact ⟨kk, s1, s2.symm, f1, f2, f3, sZ⟩
end BCk
