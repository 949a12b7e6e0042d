/-! part 47zzn: the component's Transfer: jumps (gen/tpl.py) -/
/-- a state goes, or there is none -/
def VO (M : XM) (r : Nat) (f : Int32) (x : Option St) : Prop := (∃ s, x = some s ∧ f = 1 ∧ vwC M r = s.1 ∧ mI M r 1 = s.2) ∨ (x = none ∧ f = 0)
def JQ (M : XM) (w : Rs) (r : Int32 × XM) : Prop := Fr TJ M r.2 ∧ r.1 = w.1 ∧ (w.1 = 0 → VO r.2 134 (mI r.2 133 5) w.2.1 ∧ VO r.2 286 (mI r.2 133 6) w.2.2)
/-- both states are s, both go -/
def BO (M : XM) (σ : Sg) (kn : Int32) : Prop := vwC M 134 = σ ∧ vwC M 286 = σ ∧ mI M 134 1 = kn ∧ mI M 286 1 = kn ∧ mI M 133 5 = 1 ∧ mI M 133 6 = 1
theorem VO.so {M : XM} {r : Nat} {f kn : Int32} {σ : Sg} (h1 : f = 1) (h2 : vwC M r = σ) (h3 : mI M r 1 = kn) : VO M r f (some (σ, kn)) := Or.inl ⟨_, rfl, h1, h2, h3⟩
theorem c_compare {M : XM} (h : Sh M) {k : Int32} {I : In} (hI : InC M k I) (w : WI I) (hn : (nm I.c = 1 ∨ nm I.c = 2 ∨ nm I.c = 3 ∨ nm I.c = 4 ∨ nm I.c = 5 ∨ nm I.c = 6 ∨ nm I.c = 7 ∨ nm I.c = 10 ∨ nm I.c = 11 ∨ nm I.c = 12 ∨ nm I.c = 13)) {σ : Sg} {kn : Int32} (bo : BO M σ kn) (ws : WS σ) {b : Nat} (hb : ShTh M b) (hbb : b = 438 ∨ b = 136 + 2 * I.s) {hf : Int32} (ey : thC M b = opd I hf σ) (d1 : (σ I.d).so = 1) (y1 : (opd I hf σ).so = 1) :
    K_Transfer_compare 133 k (136 + 2 * I.d) b hf M ∧ (Fr TJ M (g_Transfer_compare 133 k (136 + 2 * I.d) b hf M) ∧ VO (g_Transfer_compare 133 k (136 + 2 * I.d) b hf M) 134 (mI (g_Transfer_compare 133 k (136 + 2 * I.d) b hf M) 133 5) (if (rg I.c ≠ 0 ∧ I.d = I.s) ∨ (hf ≠ 0 ∧ ¬ (hlf (σ I.d).va ∧ hlf (opd I hf σ).va)) then some (σ, kn) else nar I (oppN (cmpN (nm I.c))) σ kn (σ I.d).va (opd I hf σ).va) ∧ VO (g_Transfer_compare 133 k (136 + 2 * I.d) b hf M) 286 (mI (g_Transfer_compare 133 k (136 + 2 * I.d) b hf M) 133 6) (if (rg I.c ≠ 0 ∧ I.d = I.s) ∨ (hf ≠ 0 ∧ ¬ (hlf (σ I.d).va ∧ hlf (opd I hf σ).va)) then some (σ, kn) else nar I (cmpN (nm I.c)) σ kn (σ I.d).va (opd I hf σ).va)) := by
  have d75 : I.d < 75 := by have := w.2.1; omega
  have s75 : I.s < 75 := by have := w.2.2.1; omega
  have s11 := w.2.2.1
  have tD := h.now d75
  obtain ⟨v1, v2, k1, k2, g5, g6⟩ := bo
  have eD : thC M (136 + 2 * I.d) = σ I.d := by rw [← v1, vwC_at d75]
  obtain ⟨r1, r2⟩ := hI.reg h
  obtain ⟨n1, n2⟩ := hI.num h
  obtain ⟨p1, p2⟩ := hI.2.1
  obtain ⟨q1, q2⟩ := hI.2.2.1
  obtain ⟨h1, h2⟩ := c_isHalf (M := M) tD.2.2
  obtain ⟨h3, h4⟩ := c_isHalf (M := M) hb.2.2
  have gD : gv6 M (136 + 2 * I.d + 1) = (σ I.d).va := by rw [← eD]; rfl
  have gB : gv6 M (b + 1) = (opd I hf σ).va := by rw [← ey]; rfl
  rw [gD] at h1
  rw [gB] at h3
  -- nothing is known
  have idl : Fr TJ M M ∧ VO M 134 (mI M 133 5) (some (σ, kn)) ∧ VO M 286 (mI M 133 6) (some (σ, kn)) := ⟨Fr.rf, VO.so g5 v1 k1, VO.so g6 v2 k2⟩
  -- both are narrowed
  have main : ¬ (rg I.c ≠ 0 ∧ I.d = I.s) → K_Transfer_compare_93 133 k (136 + 2 * I.d) b (g_Transfer_relation (nm I.c) M) M ∧ (fun X => Fr TJ M X ∧ VO X 134 (mI X 133 5) (nar I (oppN (cmpN (nm I.c))) σ kn (σ I.d).va (opd I hf σ).va) ∧ VO X 286 (mI X 133 6) (nar I (cmpN (nm I.c)) σ kn (σ I.d).va (opd I hf σ).va)) (g_Transfer_compare_93 133 k (136 + 2 * I.d) b (g_Transfer_relation (nm I.c) M) M) := by
    intro nds
    have er : g_Transfer_relation (nm I.c) M = cmpN (nm I.c) + 1 ∧ cmpN (nm I.c) < 11 := by
      obtain ⟨m, hm, e⟩ := w.1
      rw [e] at hn ⊢
      exact rel_ok ⟨m, hm⟩ hn
    obtain ⟨er1, er2⟩ := er
    rw [er1]
    generalize cmpN (nm I.c) = c at er2 ⊢
    unfold g_Transfer_compare_93 K_Transfer_compare_93 g_Transfer_compare_101 K_Transfer_compare_101
    rw [h.R133_8]
    obtain ⟨u1, u2⟩ := h_copy h.Th440 tD
    rw [u1, eD]
    have s1 : Sh (sT M 440 (σ I.d)) := h.kept rfl
    have hb1 : ShTh (sT M 440 (σ I.d)) b := hb.kept rfl
    rw [s1.R133_7]
    obtain ⟨u3, u4⟩ := h_copy s1.Th438 hb1
    have eb1 : thC (sT M 440 (σ I.d)) b = opd I hf σ := by rw [thC_sTne _ _ _ (by omega), ey]
    rw [u3, eb1]
    refine kq_and h.T133 (kq_and h.Th440.1 (kq_and u2 (kq_and s1.T133 (kq_and s1.Th438.1 (kq_and u4 ?_)))))
    have s2 : Sh (sT (sT M 440 (σ I.d)) 438 (opd I hf σ)) := h.kept rfl
    have fr2 : Fr (fun q => 438 ≤ q ∧ q < 442) M (sT (sT M 440 (σ I.d)) 438 (opd I hf σ)) := (Fr.st (by omega) (by omega)).trans (Fr.st (by omega) (by omega))
    have ex2 : (thC (sT (sT M 440 (σ I.d)) 438 (opd I hf σ)) 440).va = (σ I.d).va := by rw [thC_sTne _ _ _ (by omega), thC_sT]
    have ey2 : (thC (sT (sT M 440 (σ I.d)) 438 (opd I hf σ)) 438).va = (opd I hf σ).va := by rw [thC_sT]
    generalize sT (sT M 440 (σ I.d)) 438 (opd I hf σ) = M2 at s2 fr2 ex2 ey2 ⊢
    have vv : ∀ r, r = 134 ∨ r = 286 → vwC M2 r = vwC M r := fun r hr => by
      funext n
      unfold vwC
      by_cases q : n < 75
      · simp only [if_pos q]; exact Fr.th fr2 (by omega) (by omega)
      · simp only [if_neg q]
    have kk : ∀ r, r = 134 ∨ r = 286 → mI M2 r 1 = mI M r 1 := fun r hr => (fr2.2 r (by omega) 1).1
    have hI2 : InC M2 k I := hI.kept h fr2.1 (fun i => (fr2.2 103 (by omega) i).1)
    have tx := (ws I.d).2.1
    have ty : Tt (opd I hf σ).va := (WT_opd ws).2.1
    have hs : rg I.c ≠ 0 → (σ I.s).so = 1 ∧ I.d ≠ I.s := fun z => by
      refine ⟨?_, fun q => nds ⟨z, q⟩⟩
      unfold opd at y1
      rw [if_neg z] at y1; exact y1
    unfold g_Transfer_compare_109 K_Transfer_compare_109
    rw [s2.R133_4, s2.R133_8, s2.R133_7, s2.Th440.2.1, s2.Th438.2.1]
    obtain ⟨n1, sfF, rF⟩ := c_narrow s2 hI2 w (r := 286) (Or.inr rfl) (c := c) (by omega) (by rw [vv 286 (Or.inr rfl), v2]) ws d1 hs ex2 ey2 tx ty
    rw [kk 286 (Or.inr rfl), k2] at rF
    refine kq_and s2.T133 (kq_and s2.T133 (kq_and s2.Th440.1 (kq_and s2.T133 (kq_and s2.Th438.1 (kq_and s2.T133 (kq_and n1 ?_))))))
    generalize g_Transfer_narrow 133 286 k (c + 1) 441 439 M2 = R at sfF rF ⊢
    obtain ⟨f6, M3⟩ := R
    have sfF' : SF 286 M2 M3 := sfF
    have f01 : f6 = 0 ∨ f6 = 1 := by
      rcases rF with ⟨s, _, e, _⟩ | ⟨_, e⟩
      · exact Or.inr e
      · exact Or.inl e
    have s3 := sfF'.sh s2
    unfold g_Transfer_compare_135 K_Transfer_compare_135 g_Transfer_compare_138 K_Transfer_compare_138
    refine kq_and s3.T133 (kq_and f01 ?_)
    have s4 : Sh (wI M3 133 6 f6) := s3.kept rfl
    show _ ∧ _
    have e8 : mR (wI M3 133 6 f6) 133 8 = 440 := s4.R133_8
    have e7 : mR (wI M3 133 6 f6) 133 7 = 438 := s4.R133_7
    have e3 : mR (wI M3 133 6 f6) 133 3 = 134 := s4.R133_3
    obtain ⟨oo1, oo2, oo3⟩ := opp_ok (wI M3 133 6 f6) c er2
    have hI4 : InC (wI M3 133 6 f6) k I := (hI2.kept s2 sfF'.1 (fun i => (sfF'.2 103 (by unfold JX; omega) i).1)).kept s3 rfl (fun i => by rw [mI_wI, if_neg (by omega)])
    have vv4 : ∀ r, r = 134 ∨ r = 286 → vwC (wI M3 133 6 f6) r = vwC M3 r := fun r hr => by
      funext n
      unfold vwC
      by_cases q : n < 75
      · simp only [if_pos q]; exact thC_wIst (by omega)
      · simp only [if_neg q]
    have kk4 : ∀ r, r = 134 ∨ r = 286 → mI (wI M3 133 6 f6) r 1 = mI M3 r 1 := fun r hr => by rw [mI_wI, if_neg (by omega)]
    have v4 : vwC (wI M3 133 6 f6) 134 = σ := by rw [vv4 134 (Or.inl rfl), (sfF'.oth (Or.inr rfl) (Or.inl rfl) (by decide)).1, vv 134 (Or.inl rfl), v1]
    have kn4 : mI (wI M3 133 6 f6) 134 1 = kn := by rw [kk4 134 (Or.inl rfl), (sfF'.oth (Or.inr rfl) (Or.inl rfl) (by decide)).2, kk 134 (Or.inl rfl), k1]
    have x4 : (thC (wI M3 133 6 f6) 440).va = (σ I.d).va := by rw [thC_wIst (by omega), sfF'.tmp (Or.inr rfl) (Or.inr rfl), ex2]
    have y4 : (thC (wI M3 133 6 f6) 438).va = (opd I hf σ).va := by rw [thC_wIst (by omega), sfF'.tmp (Or.inr rfl) (Or.inl rfl), ey2]
    obtain ⟨m1, sfN, rN⟩ := c_narrow s4 hI4 w (r := 134) (Or.inl rfl) (c := oppN c) oo2 v4 ws d1 hs x4 y4 tx ty
    rw [kn4] at rN
    rw [e8, e7, e3, s4.Th440.2.1, s4.Th438.2.1, oo1]
    have c12 : 1 ≤ c + 1 ∧ c + 1 ≤ 12 := by omega
    refine kq_and s4.T133 (kq_and c12 (kq_and oo3 (kq_and s4.T133 (kq_and s4.Th440.1 (kq_and s4.T133 (kq_and s4.Th438.1 (kq_and s4.T133 (kq_and m1 ?_))))))))
    have F6 : mI (wI M3 133 6 f6) 133 6 = f6 := by rw [mI_wI, if_pos ⟨rfl, rfl⟩]
    have frA : Fr TJ M (wI M3 133 6 f6) := (Fr.weak fr2 (fun q z => Or.inr (Or.inr (by omega)))).trans ((sfF'.tj (Or.inr rfl)).trans (Fr.wi (Or.inr (Or.inl rfl))))
    have rF4 : VO (wI M3 133 6 f6) 286 f6 (nar I c σ kn (σ I.d).va (opd I hf σ).va) := by
      rcases rF with ⟨s, a1, a2, a3, a4⟩ | a
      · exact Or.inl ⟨s, a1, a2, (vv4 286 (Or.inr rfl)).trans a3, (kk4 286 (Or.inr rfl)).trans a4⟩
      · exact Or.inr a
    generalize wI M3 133 6 f6 = M4 at *
    generalize g_Transfer_narrow 133 134 k (oppN c + 1) 441 439 M4 = R at sfN rN ⊢
    obtain ⟨f5, M5⟩ := R
    have sfN' : SF 134 M4 M5 := sfN
    have f01' : f5 = 0 ∨ f5 = 1 := by
      rcases rN with ⟨s, _, e, _⟩ | ⟨_, e⟩
      · exact Or.inr e
      · exact Or.inl e
    unfold g_Transfer_compare_167 K_Transfer_compare_167
    refine ⟨⟨(sfN'.sh s4).T133, f01'⟩, frA.trans ((sfN'.tj (Or.inl rfl)).trans (Fr.wi (Or.inr (Or.inl rfl)))), ?_, ?_⟩
    · show VO (wI M5 133 5 f5) 134 (mI (wI M5 133 5 f5) 133 5) _
      rw [mI_wI, if_pos ⟨rfl, rfl⟩]
      have vv5 : vwC (wI M5 133 5 f5) 134 = vwC M5 134 := by
        funext n
        unfold vwC
        by_cases q : n < 75
        · simp only [if_pos q]; exact thC_wIst (by omega)
        · simp only [if_neg q]
      have kk5 : mI (wI M5 133 5 f5) 134 1 = mI M5 134 1 := by rw [mI_wI, if_neg (by omega)]
      rcases rN with ⟨s, a1, a2, a3, a4⟩ | a
      · exact Or.inl ⟨s, a1, a2, vv5.trans a3, kk5.trans a4⟩
      · exact Or.inr a
    · show VO (wI M5 133 5 f5) 286 (mI (wI M5 133 5 f5) 133 6) _
      rw [mI_wI, if_neg (by omega), sfN'.f (Or.inl rfl), F6]
      have vv5 : vwC (wI M5 133 5 f5) 286 = vwC M4 286 := by
        rw [← (sfN'.oth (Or.inl rfl) (Or.inr rfl) (by decide)).1]
        funext n
        unfold vwC
        by_cases q : n < 75
        · simp only [if_pos q]; exact thC_wIst (by omega)
        · simp only [if_neg q]
      have kk5 : mI (wI M5 133 5 f5) 286 1 = mI M4 286 1 := by rw [mI_wI, if_neg (by omega), (sfN'.oth (Or.inl rfl) (Or.inr rfl) (by decide)).2]
      rcases rF4 with ⟨s, a1, a2, a3, a4⟩ | a
      · exact Or.inl ⟨s, a1, a2, vv5.trans a3, kk5.trans a4⟩
      · exact Or.inr a
  -- open or not
  have C67 : ∀ s f : Int32, (s = 0 ↔ ¬ (rg I.c ≠ 0 ∧ I.d = I.s)) → (f = 0 ↔ ¬ (hf ≠ 0 ∧ ¬ (hlf (σ I.d).va ∧ hlf (opd I hf σ).va))) → K_Transfer_compare_67 133 k (136 + 2 * I.d) b s f M ∧ (fun X => Fr TJ M X ∧ VO X 134 (mI X 133 5) (if (rg I.c ≠ 0 ∧ I.d = I.s) ∨ (hf ≠ 0 ∧ ¬ (hlf (σ I.d).va ∧ hlf (opd I hf σ).va)) then some (σ, kn) else nar I (oppN (cmpN (nm I.c))) σ kn (σ I.d).va (opd I hf σ).va) ∧ VO X 286 (mI X 133 6) (if (rg I.c ≠ 0 ∧ I.d = I.s) ∨ (hf ≠ 0 ∧ ¬ (hlf (σ I.d).va ∧ hlf (opd I hf σ).va)) then some (σ, kn) else nar I (cmpN (nm I.c)) σ kn (σ I.d).va (opd I hf σ).va)) (g_Transfer_compare_67 133 k (136 + 2 * I.d) b s f M) := by
    intro s f es ef
    unfold g_Transfer_compare_67 K_Transfer_compare_67
    rw [h.R133_0, n1]
    by_cases a1 : s = 0
    · by_cases a2 : f = 0
      · rw [if_pos a1, if_pos a2]
        have nP : ¬ ((rg I.c ≠ 0 ∧ I.d = I.s) ∨ (hf ≠ 0 ∧ ¬ (hlf (σ I.d).va ∧ hlf (opd I hf σ).va))) := fun z => z.elim (es.mp a1) (ef.mp a2)
        obtain ⟨z1, z2⟩ := main (es.mp a1)
        refine ⟨fun _ _ => ⟨h.T133, h.T102, n2, z1⟩, ?_⟩
        show Fr TJ M _ ∧ _ ∧ _
        rw [if_neg nP, if_neg nP]; exact z2
      · rw [if_pos a1, if_neg a2]
        have yP : ((rg I.c ≠ 0 ∧ I.d = I.s) ∨ (hf ≠ 0 ∧ ¬ (hlf (σ I.d).va ∧ hlf (opd I hf σ).va))) := Or.inr (Classical.not_not.mp (fun z => a2 (ef.mpr z)))
        refine ⟨fun _ z => absurd z a2, ?_⟩
        show Fr TJ M _ ∧ _ ∧ _
        rw [if_pos yP, if_pos yP]; exact idl
    · rw [if_neg a1]
      have yP : ((rg I.c ≠ 0 ∧ I.d = I.s) ∨ (hf ≠ 0 ∧ ¬ (hlf (σ I.d).va ∧ hlf (opd I hf σ).va))) := Or.inl (Classical.not_not.mp (fun z => a1 (es.mpr z)))
      refine ⟨fun z => absurd z a1, ?_⟩
      show Fr TJ M _ ∧ _ ∧ _
      rw [if_pos yP, if_pos yP]; exact idl
  generalize hQ : (fun X => Fr TJ M X ∧ VO X 134 (mI X 133 5) (if (rg I.c ≠ 0 ∧ I.d = I.s) ∨ (hf ≠ 0 ∧ ¬ (hlf (σ I.d).va ∧ hlf (opd I hf σ).va)) then some (σ, kn) else nar I (oppN (cmpN (nm I.c))) σ kn (σ I.d).va (opd I hf σ).va) ∧ VO X 286 (mI X 133 6) (if (rg I.c ≠ 0 ∧ I.d = I.s) ∨ (hf ≠ 0 ∧ ¬ (hlf (σ I.d).va ∧ hlf (opd I hf σ).va)) then some (σ, kn) else nar I (cmpN (nm I.c)) σ kn (σ I.d).va (opd I hf σ).va)) = Q at C67
  have C35 : ∀ s : Int32, (s = 0 ↔ ¬ (rg I.c ≠ 0 ∧ I.d = I.s)) → K_Transfer_compare_35 133 k (136 + 2 * I.d) b hf s M ∧ Q (g_Transfer_compare_35 133 k (136 + 2 * I.d) b hf s M) := by
    intro s es
    unfold g_Transfer_compare_35 K_Transfer_compare_35 g_Transfer_compare_66 K_Transfer_compare_66 g_Transfer_compare_62 K_Transfer_compare_62
    rw [tD.2.1, hb.2.1, h1, h3]
    simp only [f10]
    refine kq_if (fun a => C67 s 0 es ⟨fun _ z => z.1 a, fun _ => rfl⟩) (fun a => kq_and tD.1 (kq_and h2 (kq_if (fun b1 => C67 s 1 es ⟨fun z => absurd z i1_0, fun z => absurd ⟨a, fun q => b1 q.1⟩ z⟩) (fun b1 => kq_and hb.1 (kq_and h4 (kq_if (fun b2 => C67 s 1 es ⟨fun z => absurd z i1_0, fun z => absurd ⟨a, fun q => b2 q.2⟩ z⟩) (fun b2 => C67 s 0 es ⟨fun _ z => z.2 ⟨Classical.not_not.mp b1, Classical.not_not.mp b2⟩, fun _ => rfl⟩)))))))
  have ds : Int32.ofNat I.d = Int32.ofNat I.s ↔ I.d = I.s := by
    constructor
    · intro z
      have := congrArg Int32.toInt z
      rw [toInt_ofNat32 (by omega), toInt_ofNat32 (by omega)] at this
      omega
    · intro z; rw [z]
  have fin : K_Transfer_compare 133 k (136 + 2 * I.d) b hf M ∧ Q (g_Transfer_compare 133 k (136 + 2 * I.d) b hf M) := by
    unfold g_Transfer_compare K_Transfer_compare g_Transfer_compare_0 K_Transfer_compare_0 g_Transfer_compare_34 K_Transfer_compare_34
    rw [h.R133_0, r1, p1, q1]
    refine kq_and h.T133 (kq_and h.T102 (kq_and r2 (kq_if (fun a => C35 0 ⟨fun _ z => z.1 a, fun _ => rfl⟩) (fun a => kq_and h.T133 (kq_and h.T102 (kq_and p2 (kq_and h.T133 (kq_and h.T102 (kq_and q2 (kq_if (fun b1 => C35 1 ⟨fun z => absurd z i1_0, fun z => absurd ⟨a, ds.mp b1⟩ z⟩) (fun b1 => C35 0 ⟨fun _ z => b1 (ds.mpr z.2), fun _ => rfl⟩)))))))))))
  rw [← hQ] at fin
  exact fin
