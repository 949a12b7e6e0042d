/-! part 47zzzz: the component's begin (gen/tpl.py) -/
def sg0 : Sg := fun n => if n < 75 then (if n = 10 then tSt else if n = 1 then (2, 0, -1, vOne 0) else clr n) else tNo
theorem sg0_wf : WF sg0 := by
  have no : WT tNo := ⟨fun _ => rfl, one_T 0, fun z => absurd z (by decide), fun _ => rfl, fun z => absurd z (by decide), fun z => absurd z (by decide), fun z => absurd z (by decide)⟩
  have by0 : WT (tBy 0) := ⟨fun _ => rfl, one_T 0, fun z => absurd z (by decide), fun _ => rfl, fun z => absurd z (by decide), fun z => absurd z (by decide), fun z => absurd z (by decide)⟩
  have st : WT tSt := ⟨fun _ => rfl, one_T 0, fun z => absurd z (by decide), fun _ => rfl, fun z => absurd z (by decide), fun _ => by decide, fun z => absurd z (by decide)⟩
  have cx : WT (2, 0, -1, vOne 0) := ⟨fun _ => rfl, one_T 0, fun z => absurd z (by decide), fun _ => rfl, fun z => absurd z (by decide), fun _ => by decide, fun z => absurd z (by decide)⟩
  refine ⟨fun n => ?_, rfl, fun n hn => if_neg (by omega), fun n hn => ?_⟩
  · unfold sg0 clr
    by_cases c : n < 75
    · rw [if_pos c]
      by_cases c10 : n = 10
      · rw [if_pos c10]; exact st
      · rw [if_neg c10]
        by_cases c1 : n = 1
        · rw [if_pos c1]; exact cx
        · rw [if_neg c1]
          by_cases c11 : n < 11
          · rw [if_pos c11]; exact no
          · rw [if_neg c11]; exact by0
    · rw [if_neg c]; exact no
  · unfold sg0 clr
    rw [if_pos (by omega)]
    by_cases c10 : n = 10
    · rw [if_pos c10]; decide
    · rw [if_neg c10]
      by_cases c1 : n = 1
      · rw [if_pos c1]; decide
      · rw [if_neg c1, if_pos hn]; decide
section BG
variable {M : XM}
theorem i32_le11 : ∀ k : Fin 76, (11 : Int32) ≤ Int32.ofNat k.val ↔ ¬ k.val < 11 := by decide +kernel
theorem sbeg_loop {M : XM} {r : Nat} (hr : ShSt M r) : ∀ (m k f : Nat) (M1 : XM), k + m = 75 → m < f → M1.2.2 = M.2.2 → (∀ n, n < k → thC M1 (r + 2 + 2 * n) = clr n) → (∀ a i, ¬ (r + 2 ≤ a ∧ a < r + 152) → mI M1 a i = mI M a i ∧ mL M1 a i = mL M a i) →
    K_State_begin_2 f r (Int32.ofNat k) M1 ∧ (g_State_begin_2 f r (Int32.ofNat k) M1).2.2 = M.2.2 ∧ vwC (g_State_begin_2 f r (Int32.ofNat k) M1) r = sg0 ∧ mI (g_State_begin_2 f r (Int32.ofNat k) M1) r 1 = 0 ∧
      (∀ a i, ¬ (r + 2 ≤ a ∧ a < r + 152) → ¬ (a = r ∧ i = 1) → mI (g_State_begin_2 f r (Int32.ofNat k) M1) a i = mI M a i) ∧ ∀ a i, ¬ (r + 2 ≤ a ∧ a < r + 152) → mL (g_State_begin_2 f r (Int32.ofNat k) M1) a i = mL M a i := by
  intro m
  induction m with
  | zero =>
    intro k f M1 hk hf e0 e1 e2
    obtain rfl : k = 75 := by omega
    obtain ⟨f, rfl⟩ : ∃ f', f = f' + 1 := ⟨f - 1, by omega⟩
    conv => unfold K_State_begin_2 g_State_begin_2
    have i1 : (75 : Int32) ≤ Int32.ofNat 75 := by decide
    rw [if_pos i1]
    have t1 := (hr.2.2.2.2 1 (by decide))
    have t10 := (hr.2.2.2.2 10 (by decide))
    have x1 : ix (1 : Int32) = 1 := rfl
    have x10 : ix (10 : Int32) = 10 := rfl
    have er1 : mR M1 (mR M1 r 0) 1 = r + 2 + 2 * 1 := by rw [eR e0, eR e0, hr.2.1, t1.1]
    obtain ⟨b1, b2⟩ := h_become (t1.2.kept e0) 2 0 (-1)
    unfold g_State_begin_54 K_State_begin_54 g_State_begin_67 K_State_begin_67
    rw [x1, x10, er1, b1]
    have e3 : (sT M1 (r + 2 + 2 * 1) (2, 0, -1, vOne 0)).2.2 = M.2.2 := e0
    have er10 : mR (sT M1 (r + 2 + 2 * 1) (2, 0, -1, vOne 0)) (mR (sT M1 (r + 2 + 2 * 1) (2, 0, -1, vOne 0)) r 0) 10 = r + 2 + 2 * 10 := by rw [eR e3, eR e3, hr.2.1, t10.1]
    obtain ⟨d1, d2⟩ := h_become (t10.2.kept e3) 3 0 (-1)
    rw [er10, d1]
    have z1 := eR e0 r 0
    have z2 := eR e3 r 0
    rw [z1, z2, hr.2.1]
    refine ⟨⟨fun _ => ⟨(eT e0 r).trans hr.1, (eT e0 _).trans hr.2.2.1, ?_, (t1.2.kept e0).1, b2, (eT e3 r).trans hr.1, (eT e3 _).trans hr.2.2.1, ?_, (t10.2.kept e3).1, d2, (eT e3 r).trans hr.1⟩, fun z => absurd i1 z⟩, e0, ?_, ?_, fun a i h1 h2 => ?_, fun a i h1 => ?_⟩
    · rw [eN e0, hr.2.2.2.1]; exact vp75 ⟨1, by decide⟩
    · rw [eN e3, hr.2.2.2.1]; exact vp75 ⟨10, by decide⟩
    · funext n
      unfold vwC sg0
      by_cases c : n < 75
      · rw [if_pos c, if_pos c, thC_wIst (by omega)]
        by_cases c10 : n = 10
        · rw [if_pos c10, c10, thC_sT]
        · rw [if_neg c10, thC_sTne _ _ _ (by omega)]
          by_cases c1 : n = 1
          · rw [if_pos c1, c1, thC_sT]
          · rw [if_neg c1, thC_sTne _ _ _ (by omega)]
            exact e1 n c
      · rw [if_neg c, if_neg c]
    · rw [mI_wI, if_pos ⟨rfl, rfl⟩]
    · rw [mI_wI, if_neg h2, mI_sTne _ _ _ (by omega), mI_sTne _ _ _ (by omega)]; exact (e2 a i h1).1
    · show mL (sT (sT M1 _ _) _ _) a i = _
      rw [mL_sTne _ _ _ (by omega), mL_sTne _ _ _ (by omega)]; exact (e2 a i h1).2
  | succ m ih =>
    intro k f M1 hk hf e0 e1 e2
    obtain ⟨f, rfl⟩ : ∃ f', f = f' + 1 := ⟨f - 1, by omega⟩
    have hk75 : k < 75 := by omega
    have i1 : ¬ (75 : Int32) ≤ Int32.ofNat k := i32_le75 ⟨k, hk75⟩
    have i11 := i32_le11 ⟨k, by omega⟩
    have ik : ix (Int32.ofNat k) = k := ix75 ⟨k, by omega⟩
    have vk : vp_in (Int32.ofNat k) 75 := vp75 ⟨k, hk75⟩
    have r1 := (hr.2.2.2.2 k hk75)
    have er : mR M1 (mR M1 r 0) k = r + 2 + 2 * k := by rw [eR e0, eR e0, hr.2.1, r1.1]
    have en : Int32.ofNat k + 1 = Int32.ofNat (k + 1) := by rw [Int32.ofNat_add]; rfl
    conv => unfold K_State_begin_2 g_State_begin_2
    rw [if_neg i1]
    unfold g_State_begin_36 K_State_begin_36
    obtain ⟨c1, c2⟩ := h_bytes (r1.2.kept e0) 0
    obtain ⟨d1, d2⟩ := h_nothing (r1.2.kept e0)
    rw [ik, er, c1, d1, en]
    have z1 := eR e0 r 0
    rw [z1, hr.2.1]
    have tt : mT M1 (r + 1) = 106 := (eT e0 _).trans hr.2.2.1
    have tn : vp_in (Int32.ofNat k) (mN M1 (r + 1)) := by rw [eN e0, hr.2.2.2.1]; exact vk
    have nx : ∀ t : TH, t = clr k → _ := fun t ht => ih (k + 1) f (sT M1 (r + 2 + 2 * k) t) (by omega) (by omega) e0 (fun n hn => by
      by_cases q : n = k
      · rw [q, thC_sT]; exact ht
      · rw [thC_sTne _ _ _ (by omega)]; exact e1 n (by omega)) (fun a i ha => by
      rw [mI_sTne _ _ _ (by omega), mL_sTne _ _ _ (by omega)]; exact e2 a i ha)
    by_cases c : (11 : Int32) ≤ Int32.ofNat k
    · rw [if_pos c]
      have nx := nx (9, 0, -1, vOne 0) (by unfold clr; rw [if_neg (i11.mp c)])
      exact ⟨⟨fun z => absurd z i1, fun _ => ⟨fun _ => ⟨(eT e0 r).trans hr.1, tt, tn, (r1.2.kept e0).1, c2, nx.1⟩, fun z => absurd c z⟩⟩, nx.2⟩
    · rw [if_neg c]
      have nx := nx (0, 0, -1, vOne 0) (by unfold clr; rw [if_pos (Decidable.not_not.mp (fun z => c (i11.mpr z)))])
      exact ⟨⟨fun z => absurd z i1, fun _ => ⟨fun z => absurd z c, fun _ => ⟨(eT e0 r).trans hr.1, tt, tn, (r1.2.kept e0).1, d2, nx.1⟩⟩⟩, nx.2⟩
theorem c_sbegin {r : Nat} (hr : ShSt M r) : K_State_begin r M ∧ (g_State_begin r M).2.2 = M.2.2 ∧ vwC (g_State_begin r M) r = sg0 ∧ mI (g_State_begin r M) r 1 = 0 ∧
      (∀ a i, ¬ (r + 2 ≤ a ∧ a < r + 152) → ¬ (a = r ∧ i = 1) → mI (g_State_begin r M) a i = mI M a i) ∧ ∀ a i, ¬ (r + 2 ≤ a ∧ a < r + 152) → mL (g_State_begin r M) a i = mL M a i :=
  sbeg_loop hr 75 0 xF M (by decide) xF_75 rfl (fun n hn => absurd hn (Nat.not_lt_zero n)) (fun _ _ _ => ⟨rfl, rfl⟩)
/-- the frame of begin -/
def BGF (M X : XM) : Prop := Kp M X ∧ (∀ a i, a < 469 → mI X a i = mI M a i ∧ mL X a i = mL M a i) ∧ pC X = pC M ∧ pS X = pS M
def BGQ (M X : XM) : Prop := Sh X ∧ StI X ∧ BGF M X ∧ (∀ k, k < 1024 → TbC X k = if k = 0 then some (sg0, 0, 0) else none) ∧ mR X 442 0 ≠ 0 ∧ pDn X 0 = 0
theorem beg_42 {X : XM} (h : Sh M) (hI : StI M) (bf : BGF M X) (s : Sh X) (i : StI X) (nz : mR X 442 0 ≠ 0) (no : ∀ k, k < 1024 → k ≠ 0 → ¬ pIs X k) : K_Checker_begin_42 (mR X 442 0) X ∧ BGQ M (g_Checker_begin_42 (mR X 442 0) X) := by
  obtain ⟨z1, z2, z3⟩ := (i.1 0 (by decide)).resolve_left nz
  obtain ⟨k1, e1, e2, e3, e4, e5⟩ := c_sbegin z3
  unfold K_Checker_begin_42 g_Checker_begin_42 K_Checker_begin_47 g_Checker_begin_47
  generalize hr : mR X 442 0 = r at *
  generalize g_State_begin r X = Y at e1 e2 e3 e4 e5 ⊢
  have t24 : mT Y r = 24 := (eT e1 r).trans z3.1
  have e1' : (wI (wI (wI Y r 2 1) r 3 0) r 4 0).2.2 = X.2.2 := e1
  have out : ∀ a j, ¬ (r ≤ a ∧ a < r + 152) → mI (wI (wI (wI Y r 2 1) r 3 0) r 4 0) a j = mI X a j ∧ mL (wI (wI (wI Y r 2 1) r 3 0) r 4 0) a j = mL X a j := fun a j q => by
    refine ⟨?_, e5 a j (by omega)⟩
    rw [mI_wI, if_neg (by omega), mI_wI, if_neg (by omega), mI_wI, if_neg (by omega)]
    exact e4 a j (by omega) (by omega)
  have er := fun k => eR e1' 442 k
  have own : ∀ j, mI (wI (wI (wI Y r 2 1) r 3 0) r 4 0) r j = if j = 4 then 0 else if j = 3 then 0 else if j = 2 then 1 else mI Y r j := fun j => by
    rw [mI_wI, mI_wI, mI_wI]
    by_cases q4 : j = 4
    · rw [if_pos ⟨rfl, q4⟩, if_pos q4]
    · rw [if_neg (fun z => q4 z.2), if_neg q4]
      by_cases q3 : j = 3
      · rw [if_pos ⟨rfl, q3⟩, if_pos q3]
      · rw [if_neg (fun z => q3 z.2), if_neg q3]
        by_cases q2 : j = 2
        · rw [if_pos ⟨rfl, q2⟩, if_pos q2]
        · rw [if_neg (fun z => q2 z.2), if_neg q2]
  have vw : vwC (wI (wI (wI Y r 2 1) r 3 0) r 4 0) r = sg0 := by
    rw [← e2]
    exact vwC_eq (fun n hn => by rw [thC_wIst (by omega), thC_wIst (by omega), thC_wIst (by omega)])
  generalize wI (wI (wI Y r 2 1) r 3 0) r 4 0 = Z at e1' out er own vw ⊢
  refine ⟨⟨z3.1, k1, t24, t24, t24⟩, s.kept e1', i.kept e1', ⟨⟨fun a ha => ⟨(eT e1' a).trans (bf.1.1 a ha).1, (eN e1' a).trans (bf.1.1 a ha).2⟩, fun a j ha hn => (eR e1' a j).trans (bf.1.2.1 a j ha hn), by rw [eC e1']; exact bf.1.2.2⟩, fun a j ha => ⟨(out a j (by omega)).1.trans (bf.2.1 a j ha).1, (out a j (by omega)).2.trans (bf.2.1 a j ha).2⟩, ?_, ?_⟩, fun k hk => ?_, ?_, ?_⟩
  · rw [← bf.2.2.1]; unfold pC; simp only [er]; rw [eC e1']
  · rw [← bf.2.2.2]; unfold pS; simp only [er]; rw [eS e1']
  · by_cases q : k = 0
    · have is : pIs Z 0 := ⟨by rw [er, hr]; exact nz, by rw [er, hr, own, if_neg (by decide), if_neg (by decide), if_pos rfl]; decide⟩
      rw [if_pos q, q, TbC.is is]
      unfold pKn pCh
      rw [er, hr, vw, own 1, own 3, if_neg (by decide), if_neg (by decide), if_neg (by decide), if_neg (by decide), if_pos rfl, e3]
    · rw [if_neg q]
      refine TbC.no (fun is => no k hk q ⟨by rw [← er]; exact is.1, ?_⟩)
      have i1 := is.1
      rw [er] at i1
      have dis := i.2 k 0 hk (by decide) q i1 (by rw [hr]; exact nz)
      have := is.2
      rw [er, (out _ 2 (by omega)).1] at this
      exact this
  · rw [er, hr]; exact nz
  · unfold pDn; rw [er, hr, own, if_pos rfl]
theorem beg_10 (h : Sh M) (hI : StI M) : ∀ (m k f : Nat) (M1 : XM), k + m = 1024 → m < f → M1.2 = M.2 → (∀ a i, ¬ (469 ≤ a ∧ i = 2) → mI M1 a i = mI M a i) → (∀ j, j < k → ¬ pIs M1 j) →
    K_Checker_begin_10 f 101 442 1024 (Int32.ofNat k) M1 ∧ BGQ M (g_Checker_begin_10 f 101 442 1024 (Int32.ofNat k) M1) := by
  intro m
  induction m with
  | zero =>
    intro k f M1 km mf e0 e1 no
    obtain ⟨f, rfl⟩ : ∃ f', f = f' + 1 := ⟨f - 1, by omega⟩
    conv => unfold K_Checker_begin_10 g_Checker_begin_10
    have le : (1024 : Int32) ≤ Int32.ofNat k := (le_ofNat (a := 1024) (by decide) (by omega)).mpr (by omega)
    have e0' : M1.2.2 = M.2.2 := by rw [e0]
    have s1 := h.kept e0'
    have i1 := hI.kept e0'
    have bf1 : BGF M M1 := ⟨⟨fun a _ => ⟨eT e0' a, eN e0' a⟩, fun a i _ _ => eR e0' a i, by rw [eC e0']; exact Nat.le_refl _⟩, fun a i ha => ⟨e1 a i (by omega), by show M1.2.1 a i = M.2.1 a i; rw [e0]⟩, by unfold pC; simp only [eR e0']; rw [eC e0'], by unfold pS; simp only [eR e0']; rw [eS e0']⟩
    rw [if_pos le]
    obtain ⟨ka, ga⟩ := c_at s1 i1 (k := 0) (by decide)
    have i0 : Int32.ofNat 0 = 0 := rfl
    rw [i0] at ka ga
    rcases ga with ⟨c1, e⟩ | ⟨c1, M2, e, s2, i2, r2, mc, ms, z0, fr⟩
    · have := beg_42 h hI bf1 s1 i1 c1 (fun j hj _ => no j (by omega))
      rw [e]
      exact ⟨⟨fun _ => ⟨s1.T101, ka, this.1⟩, fun z => absurd le z⟩, this.2⟩
    · have hC := s1.C
      have bf2 : BGF M M2 := by
        refine ⟨⟨fun a ha => ⟨(fr a (by omega)).2.1.trans (bf1.1.1 a ha).1, (fr a (by omega)).2.2.trans (bf1.1.1 a ha).2⟩, fun a i ha hn => (((fr a (by omega)).1 i).2.2 (fun z => hn z.1)).trans (bf1.1.2.1 a i ha hn), by have := bf1.1.2.2; omega⟩, fun a i ha => ⟨((fr a (by omega)).1 i).1.trans (bf1.2.1 a i ha).1, ((fr a (by omega)).1 i).2.1.trans (bf1.2.1 a i ha).2⟩, ?_, ?_⟩
        · rw [← bf1.2.2.1]
          unfold pC
          have := zr_one (f := fun k => mR M1 442 k) (g := fun k => mR M2 442 k) (q := 0) c1 (by show mR M2 442 0 ≠ 0; rw [r2]; omega) (fun j hj => (((fr 442 (by omega)).1 j).2.2 (fun z => hj z.2)).symm) 1024 (by decide)
          rw [mc]; omega
        · rw [← bf1.2.2.2]
          unfold pS
          have := zr_one (f := fun k => mR M1 442 k) (g := fun k => mR M2 442 k) (q := 0) c1 (by show mR M2 442 0 ≠ 0; rw [r2]; omega) (fun j hj => (((fr 442 (by omega)).1 j).2.2 (fun z => hj z.2)).symm) 1024 (by decide)
          rw [ms]; omega
      have nz : mR M2 442 0 ≠ 0 := by rw [r2]; omega
      have := beg_42 h hI bf2 s2 i2 nz (fun j hj j0 is => by
        have ej : mR M2 442 j = mR M1 442 j := ((fr 442 (by omega)).1 j).2.2 (fun z => j0 z.2)
        have q1 := is.1
        have q2 := is.2
        rw [ej] at q1 q2
        have lt := ((i1.1 j hj).resolve_left q1).2.1
        rw [((fr _ (by omega)).1 2).1] at q2
        exact no j (by omega) ⟨q1, q2⟩)
      rw [r2] at this
      rw [e]
      exact ⟨⟨fun _ => ⟨s1.T101, ka, this.1⟩, fun z => absurd le z⟩, this.2⟩
  | succ m ih =>
    intro k f M1 km mf e0 e1 no
    obtain ⟨f, rfl⟩ : ∃ f', f = f' + 1 := ⟨f - 1, by omega⟩
    conv => unfold K_Checker_begin_10 g_Checker_begin_10
    have le : ¬ (1024 : Int32) ≤ Int32.ofNat k := fun z => by have := (le_ofNat (a := 1024) (by decide) (by omega)).mp z; omega
    have e0' : M1.2.2 = M.2.2 := by rw [e0]
    have s1 := h.kept e0'
    have i1 := hI.kept e0'
    rw [if_neg le, ixN (by omega), s1.N442]
    unfold K_Checker_begin_20 g_Checker_begin_20 K_Checker_begin_31 g_Checker_begin_31
    rw [add1_32]
    have vk : vp_in (Int32.ofNat k) 1024 := vpN (by omega) (by omega)
    by_cases c : mR M1 442 k = 0
    · rw [if_pos c]
      have nx := ih (k + 1) f M1 (by omega) (by omega) e0 e1 (fun j hj => by
        by_cases q : j = k
        · rw [q]; exact fun z => z.1 c
        · exact no j (by omega))
      exact ⟨⟨fun z => absurd z le, fun _ => ⟨s1.T442, vk, fun _ => nx.1, fun z => absurd c z⟩⟩, nx.2⟩
    · rw [if_neg c]
      obtain ⟨z1, z2, z3⟩ := (i1.1 k (by omega)).resolve_left c
      have nx := ih (k + 1) f (wI M1 (mR M1 442 k) 2 0) (by omega) (by omega) e0 (fun a i ha => by
        rw [mI_wI, if_neg (fun z => ha ⟨by omega, z.2⟩)]; exact e1 a i ha) (fun j hj is => by
        have q1 : mR M1 442 j ≠ 0 := is.1
        have q2 : mI (wI M1 (mR M1 442 k) 2 0) (mR M1 442 j) 2 ≠ 0 := is.2
        rw [mI_wI] at q2
        by_cases q : mR M1 442 j = mR M1 442 k
        · rw [if_pos ⟨q, rfl⟩] at q2; exact q2 rfl
        · rw [if_neg (fun z => q z.1)] at q2
          by_cases qj : j = k
          · exact q (by rw [qj])
          · exact no j (by omega) ⟨q1, q2⟩)
      exact ⟨⟨fun z => absurd z le, fun _ => ⟨s1.T442, vk, fun z => absurd z c, fun _ => ⟨z3.1, nx.1⟩⟩⟩, nx.2⟩
theorem c_begin (h : Sh M) (hI : StI M) : K_Checker_begin 101 M ∧ BGQ M (g_Checker_begin 101 M) := by
  unfold K_Checker_begin g_Checker_begin K_Checker_begin_0 g_Checker_begin_0 K_Checker_begin_5 g_Checker_begin_5 K_Checker_begin_8 g_Checker_begin_8
  rw [h.R101_5, h.N442]
  have xf := xF_eq
  have := beg_10 h hI 1024 0 xF M (by decide) (by omega) rfl (fun _ _ _ => rfl) (fun j hj => absurd hj (Nat.not_lt_zero j))
  exact ⟨⟨h.T101, h.T442, this.1⟩, this.2⟩
end BG
