/-! part 47zzp: the component's Transfer: run (gen/tpl.py) -/
theorem c_scopy {M : XM} (h : Sh M) {o : Nat} (ho : ShSt M o) {r : Nat} (hr : r = 134 ∨ r = 286) (ne : r + 152 ≤ o ∨ o + 152 ≤ r) : K_State_copy r o M ∧ (∀ i, mI (g_State_copy r o M) 133 i = mI M 133 i) ∧ SF r M (g_State_copy r o M) ∧ vwC (g_State_copy r o M) r = vwC M o ∧ mI (g_State_copy r o M) r 1 = mI M o 1 := by
  obtain ⟨k1, e1, e2, e3, e4, e5⟩ := h_scopy (h.stT hr) ho ne
  have sf : SF r M (g_State_copy r o M) := ⟨e1, fun q hq i => ⟨e4 q i (by unfold JX at hq; omega) (fun z => hq (Or.inr (by omega))), e5 q i (by unfold JX at hq; omega)⟩⟩
  refine ⟨k1, fun i => sf.f hr i, sf, ?_, e3⟩
  funext n
  unfold vwC
  by_cases q : n < 75
  · simp only [if_pos q]; exact e2 n q
  · simp only [if_neg q]
theorem JQ.mv {M M1 : XM} {w : Rs} {r : Int32 × XM} (h : JQ M1 w r) (t : Fr TJ M M1) : JQ M w r := ⟨t.trans h.1, h.2.1, h.2.2⟩
theorem JQ.one {M : XM} : JQ M (1, none, none) (1, M) := ⟨Fr.rf, rfl, fun z => absurd z i1_0⟩
theorem c_branch {M : XM} (h : Sh M) {k : Int32} {I : In} (hI : InC M k I) (w : WI I) (hn : (nm I.c = 1 ∨ nm I.c = 2 ∨ nm I.c = 3 ∨ nm I.c = 4 ∨ nm I.c = 5 ∨ nm I.c = 6 ∨ nm I.c = 7 ∨ nm I.c = 10 ∨ nm I.c = 11 ∨ nm I.c = 12 ∨ nm I.c = 13)) (ws : WS (vwC M 134)) (g5 : mI M 133 5 = 1) (hf : Int32) :
    K_Transfer_branch 133 k hf M ∧ JQ M (bra I hf (vwC M 134) (mI M 134 1)) (g_Transfer_branch 133 k hf M) := by
  have d75 : I.d < 75 := by have := w.2.1; omega
  have s75 : I.s < 75 := by have := w.2.2.1; omega
  obtain ⟨r1, r2⟩ := hI.reg h
  obtain ⟨p1, p2⟩ := hI.2.1
  obtain ⟨q1, q2⟩ := hI.2.2.1
  obtain ⟨x1, x2⟩ := c_isRead h d75
  obtain ⟨y1, y2⟩ := c_isRead h s75
  obtain ⟨o1, o2⟩ := c_own h d75
  have G : ¬ ((vwC M 134 I.d).so = 0 ∨ (rg I.c ≠ 0 ∧ (vwC M 134 I.s).so = 0)) → K_Transfer_branch_43 133 k hf M ∧ JQ M (bra I hf (vwC M 134) (mI M 134 1)) (g_Transfer_branch_43 133 k hf M) := by
    intro ng
    unfold g_Transfer_branch_43 K_Transfer_branch_43 g_Transfer_branch_56 K_Transfer_branch_56 g_Transfer_branch_62 K_Transfer_branch_62 g_Transfer_branch_69 K_Transfer_branch_69
    rw [h.R133_0, p1, o1]
    obtain ⟨k1, b, M1, e1, e2, e3, e4⟩ := c_operand h hI s75 hf
    rw [e1]
    refine kq_and h.T133 (kq_and h.T102 (kq_and p2 (kq_and h.T133 (kq_and o2 (kq_and h.T133 (kq_and k1 ?_))))))
    obtain ⟨v1, kn1, ts1⟩ := e4.tmp (Or.inl rfl)
    have s1 := e4.sh h
    have s2 : Sh (wI M1 133 6 1) := s1.kept rfl
    have fr2 : Fr TJ M (wI M1 133 6 1) := ts1.1.trans (Fr.wi (Or.inr (Or.inl rfl)))
    have vB : vwC (wI M1 133 6 1) 134 = vwC M 134 := by rw [vwC_wk (Or.inl rfl) (Or.inr (Or.inr rfl)), v1]
    have kB : mI (wI M1 133 6 1) 134 1 = mI M 134 1 := by rw [mI_wI, if_neg (by omega), kn1]
    have g5B : mI (wI M1 133 6 1) 133 5 = 1 := by rw [mI_wI, if_neg (by omega), ts1.2.1, g5]
    have g6B : mI (wI M1 133 6 1) 133 6 = 1 := by rw [mI_wI, if_pos ⟨rfl, rfl⟩]
    have eB : thC (wI M1 133 6 1) b = opd I hf (vwC M 134) := by rw [thC_wIst (by omega), e3]
    show (mT M1 133 = 23 ∧ mT (wI M1 133 6 1) 133 = 23 ∧ mT (wI M1 133 6 1) 133 = 23 ∧ mT (wI M1 133 6 1) (mR (wI M1 133 6 1) 133 4) = 24 ∧ K_State_copy (mR (wI M1 133 6 1) 133 4) (mR (wI M1 133 6 1) 133 3) (wI M1 133 6 1) ∧ K_Transfer_branch_80 133 k hf (136 + 2 * I.d) b (g_State_copy (mR (wI M1 133 6 1) 133 4) (mR (wI M1 133 6 1) 133 3) (wI M1 133 6 1))) ∧ JQ M _ (g_Transfer_branch_80 133 k hf (136 + 2 * I.d) b (g_State_copy (mR (wI M1 133 6 1) 133 4) (mR (wI M1 133 6 1) 133 3) (wI M1 133 6 1)))
    have hIB : InC (wI M1 133 6 1) k I := (hI.ts h ts1).kept s1 rfl (fun i => by rw [mI_wI, if_neg (by omega)])
    refine kq_and s1.T133 ?_
    generalize wI M1 133 6 1 = M2 at *
    rw [s2.R133_3, s2.R133_4]
    obtain ⟨c1, c2, c3, c4, c5⟩ := c_scopy s2 s2.St134 (r := 286) (Or.inr rfl) (by omega)
    refine kq_and s2.T133 (kq_and s2.T133 (kq_and s2.St286.1 (kq_and c1 ?_)))
    generalize g_State_copy 286 134 M2 = M3 at c2 c3 c4 c5 ⊢
    have s3 := c3.sh s2
    obtain ⟨z1, z2⟩ := c3.oth (Or.inr rfl) (Or.inl rfl) (by decide)
    have bo : BO M3 (vwC M 134) (mI M 134 1) := ⟨z1.trans vB, c4.trans vB, z2.trans kB, c5.trans kB, (c2 5).trans g5B, (c2 6).trans g6B⟩
    have hI3 : InC M3 k I := hIB.kept s2 c3.1 (fun i => (c3.2 103 (by unfold JX; omega) i).1)
    have fr3 : Fr TJ M M3 := fr2.trans (c3.tj (Or.inr rfl))
    have hb3 : ShTh M3 b := by
      rcases e2 with e | e <;> rw [e]
      · exact s3.Th438
      · exact s3.now s75
    have eb3 : thC M3 b = opd I hf (vwC M 134) := by
      rw [← eB]
      have s11 := w.2.2.1
      exact Fr.th c3 (by unfold JX; omega) (by unfold JX; omega)
    refine And.imp_right (fun z => JQ.mv z fr3) ?_
    have tD3 := s3.now d75
    have eD3 : thC M3 (136 + 2 * I.d) = vwC M 134 I.d := by rw [← bo.1, vwC_at d75]
    obtain ⟨n1, n2⟩ := c_isNum tD3
    obtain ⟨n3, n4⟩ := c_isNum hb3
    rw [eD3] at n1
    rw [eb3] at n3
    have O : ¬ ((vwC M 134 I.d).so = 1 ∧ (opd I hf (vwC M 134)).so = 1) → K_Transfer_branch_106 133 k hf (136 + 2 * I.d) b M3 ∧ JQ M3 (bra I hf (vwC M 134) (mI M 134 1)) (g_Transfer_branch_106 133 k hf (136 + 2 * I.d) b M3) := by
      intro nn
      have eb : bra I hf (vwC M 134) (mI M 134 1) = braT I hf (vwC M 134) (mI M 134 1) := by
        unfold bra; rw [if_neg ng, if_neg nn]; rfl
      rw [eb]
      obtain ⟨t1, t2⟩ := c_others s3 hI3 w bo hb3 eb3
      exact ⟨⟨s3.T133, t1⟩, t2⟩
    unfold g_Transfer_branch_80 K_Transfer_branch_80 g_Transfer_branch_104
    rw [n1, n3]
    simp only [f10]
    refine kq_and tD3.1 (kq_and n2 (kq_if (fun a => O (fun z => a z.1)) (fun a => kq_and hb3.1 (kq_and n4 (kq_if (fun c => O (fun z => c z.2)) (fun c => ?_))))))
    have a' := Classical.not_not.mp a
    have c' := Classical.not_not.mp c
    obtain ⟨t1, t2, t3, t4⟩ := c_compare s3 hI3 w hn bo ws hb3 e2 eb3 a' c'
    refine ⟨⟨s3.T133, t1⟩, t2, ?_, fun z => ⟨?_, ?_⟩⟩
    · unfold bra; rw [if_neg ng, if_pos ⟨a', c'⟩]; split <;> rfl
    · unfold bra; rw [if_neg ng, if_pos ⟨a', c'⟩]
      by_cases P : (rg I.c ≠ 0 ∧ I.d = I.s) ∨ (hf ≠ 0 ∧ ¬ (hlf (vwC M 134 I.d).va ∧ hlf (opd I hf (vwC M 134)).va))
      · rw [if_pos P] at t3 ⊢; exact t3
      · rw [if_neg P] at t3 ⊢; exact t3
    · unfold bra; rw [if_neg ng, if_pos ⟨a', c'⟩]
      by_cases P : (rg I.c ≠ 0 ∧ I.d = I.s) ∨ (hf ≠ 0 ∧ ¬ (hlf (vwC M 134 I.d).va ∧ hlf (opd I hf (vwC M 134)).va))
      · rw [if_pos P] at t4 ⊢; exact t4
      · rw [if_neg P] at t4 ⊢; exact t4
  have E : ((vwC M 134 I.d).so = 0 ∨ (rg I.c ≠ 0 ∧ (vwC M 134 I.s).so = 0)) → JQ M (bra I hf (vwC M 134) (mI M 134 1)) (1, M) := fun y => by
    unfold bra; rw [if_pos y]; exact JQ.one
  unfold g_Transfer_branch K_Transfer_branch g_Transfer_branch_0 K_Transfer_branch_0
  rw [h.R133_0, p1, q1, x1, y1, r1]
  simp only [f01]
  refine kq_and h.T133 (kq_and h.T102 (kq_and p2 (kq_and h.T133 (kq_and x2 (kq_ifn (fun a => E (Or.inl a)) (fun a => kq_and h.T133 (kq_and h.T102 (kq_and r2 (kq_if (fun b => G (fun z => z.elim a (fun z => z.1 b))) (fun b => ?_))))))))))
  exact kq_and h.T133 (kq_and h.T102 (kq_and q2 (kq_and h.T133 (kq_and y2 (kq_ifn (fun c => E (Or.inr ⟨b, c⟩)) (fun c => G (fun z => z.elim a (fun z => c z.2))))))))
theorem TQ.jq {M : XM} {w : Int32} {σ : Sg} {kn : Int32} {r : Int32 × XM} (h : TQ M (w, σ, kn) r) (g5 : mI M 133 5 = 1) (g6 : mI M 133 6 = 0) : JQ M (w, some (σ, kn), none) r :=
  ⟨h.1.1, h.2.1, fun z => ⟨VO.so (h.1.2.1.trans g5) (h.2.2 z).1 (h.2.2 z).2, Or.inr ⟨rfl, h.1.2.2.trans g6⟩⟩⟩
theorem c_leaves {M : XM} {k : Int32} {I : In} (hI : InC M k I) (h : Sh M) : g_Program_leaves 102 k M = (if I.c = 5 ∨ I.c = 6 ∨ I.c = 149 then 1 else 0) ∧ K_Program_leaves 102 k M := by
  unfold g_Program_leaves K_Program_leaves g_Program_leaves_0 K_Program_leaves_0 g_Program_leaves_30
  rw [hI.1.1]
  refine ⟨?_, h.T102, hI.1.2, fun _ => ⟨h.T102, hI.1.2, fun _ => ⟨h.T102, hI.1.2⟩⟩⟩
  by_cases c1 : I.c = 5 <;> by_cases c2 : I.c = 6 <;> by_cases c3 : I.c = 149 <;> simp only [c1, c2, c3, if_true, if_false, not_true, not_false_iff, and_self, and_true, true_and, and_false, false_and, or_true, true_or, or_false, false_or, or_self, i32_10, eq_self, true_implies, false_implies, implies_true, ite_self, ne_eq]
theorem c_jump {M : XM} (h : Sh M) {k : Int32} {I : In} (hI : InC M k I) (w : WI I) (hk : kd I.c = 5 ∨ kd I.c = 6) (ws : WS (vwC M 134)) (wm : WM (mpC M)) (g5 : mI M 133 5 = 1) (g6 : mI M 133 6 = 0) :
    K_Transfer_jump 133 k M ∧ JQ M (jmp (mpC M) I k (vwC M 134) (mI M 134 1)) (g_Transfer_jump 133 k M) := by
  obtain ⟨l1, l2⟩ := c_leaves hI h
  obtain ⟨d1, d2⟩ := hI.kind h
  unfold g_Transfer_jump K_Transfer_jump g_Transfer_jump_0 K_Transfer_jump_0 jmp
  rw [h.R133_0, hI.1.1, l1, d1]
  simp only [f10]
  refine kq_and h.T133 (kq_and h.T102 (kq_and hI.1.2 (kq_if (fun a => ?_) (fun a => kq_and h.T133 (kq_and h.T102 (kq_and hI.1.2 (kq_if (fun b => ?_) (fun b => kq_and h.T133 (kq_and h.T102 (kq_and l2 (kq_if (fun c => kq_and h.T133 (kq_and h.T102 (kq_and d2 ?_))) (fun c => ?_))))))))))))
  · rw [if_pos a]
    obtain ⟨k1, k2⟩ := c_call h hI ws wm
    exact ⟨⟨h.T133, k1⟩, k2.jq g5 g6⟩
  · rw [if_neg a, if_pos b]
    have s1 : Sh (wI M 133 5 0) := h.kept rfl
    have v1 : vwC (wI M 133 5 0) 134 = vwC M 134 := vwC_wk (Or.inl rfl) (Or.inr (Or.inr rfl))
    have fr1 : Fr TJ M (wI M 133 5 0) := Fr.wi (Or.inr (Or.inl rfl))
    obtain ⟨x1, x2⟩ := c_isRead s1 (n := 0) (by decide)
    obtain ⟨o1, o2⟩ := c_own s1 (n := 0) (by decide)
    have e0 : Int32.ofNat 0 = 0 := rfl
    rw [e0] at x1 x2 o1 o2
    have t0 := s1.now (n := 0) (by decide)
    obtain ⟨n1, n2⟩ := c_isNum t0
    have en : thC (wI M 133 5 0) (136 + 2 * 0) = vwC M 134 0 := by rw [← v1, vwC_at (by decide)]
    rw [v1] at x1
    rw [en] at n1
    have f5 : mI (wI M 133 5 0) 133 5 = 0 := by rw [mI_wI, if_pos ⟨rfl, rfl⟩]
    have f6 : mI (wI M 133 5 0) 133 6 = 0 := by rw [mI_wI, if_neg (by omega), g6]
    unfold g_Transfer_jump_39 K_Transfer_jump_39
    rw [o1, x1, n1]
    simp only [f01, f10]
    refine kq_and h.T133 (kq_and s1.T133 (kq_and x2 (kq_ifn (fun c => ?_) (fun c => kq_and s1.T133 (kq_and o2 (kq_and t0.1 ⟨n2, ?_⟩))))))
    · rw [if_pos c]; exact ⟨fr1, rfl, fun z => absurd z i1_0⟩
    · rw [if_neg c]
      by_cases q : (vwC M 134 0).so = 1
      · rw [if_pos q, if_neg (fun z => z q)]
        exact ⟨fr1, rfl, fun _ => ⟨Or.inr ⟨rfl, f5⟩, Or.inr ⟨rfl, f6⟩⟩⟩
      · rw [if_neg q, if_pos q]
        exact ⟨fr1, rfl, fun (z : (6 : Int32) = 0) => absurd z (by decide)⟩
  · have c5 : ¬ (I.c = 5 ∨ I.c = 6) := fun z => c (z.elim Or.inl (fun q => Or.inr (Or.inl q)))
    rw [if_neg a, if_neg b, if_neg c5]
    have hn := w.2.2.2.2.2.1 hk
    have hn' := ((hn.resolve_left (fun z => c5 (Or.inl z))).resolve_left (fun z => c5 (Or.inr z))).resolve_left a |>.resolve_left b
    unfold g_Transfer_jump_123 K_Transfer_jump_123
    refine kq_if (fun q => ?_) (fun q => ?_)
    · rw [if_pos q]
      obtain ⟨k1, k2⟩ := c_branch h hI w hn' ws g5 1
      exact ⟨⟨h.T133, k1⟩, k2⟩
    · rw [if_neg q]
      obtain ⟨k1, k2⟩ := c_branch h hI w hn' ws g5 0
      exact ⟨⟨h.T133, k1⟩, k2⟩
  · have c5 : I.c = 5 ∨ I.c = 6 := by
      rcases Classical.not_not.mp c with z | z | z
      · exact Or.inl z
      · exact Or.inr z
      · exact absurd z b
    rw [if_neg a, if_neg b, if_pos c5]
    have s1 : Sh (wI (wI M 133 5 0) 133 6 1) := h.kept rfl
    have v1 : vwC (wI (wI M 133 5 0) 133 6 1) 134 = vwC M 134 := by rw [vwC_wk (Or.inl rfl) (Or.inr (Or.inr rfl)), vwC_wk (Or.inl rfl) (Or.inr (Or.inr rfl))]
    have kn1 : mI (wI (wI M 133 5 0) 133 6 1) 134 1 = mI M 134 1 := by rw [mI_wI, if_neg (by omega), mI_wI, if_neg (by omega)]
    have fr1 : Fr TJ M (wI (wI M 133 5 0) 133 6 1) := (Fr.wi (Or.inr (Or.inl rfl))).trans (Fr.wi (Or.inr (Or.inl rfl)))
    have f5 : mI (wI (wI M 133 5 0) 133 6 1) 133 5 = 0 := by rw [mI_wI, if_neg (by omega), mI_wI, if_pos ⟨rfl, rfl⟩]
    have f6 : mI (wI (wI M 133 5 0) 133 6 1) 133 6 = 1 := by rw [mI_wI, if_pos ⟨rfl, rfl⟩]
    unfold g_Transfer_jump_90 K_Transfer_jump_90 g_Transfer_jump_101
    rw [s1.R133_3, s1.R133_4]
    obtain ⟨c1, c2, c3, c4, c5⟩ := c_scopy s1 s1.St134 (r := 286) (Or.inr rfl) (by omega)
    refine ⟨⟨h.T133, h.T133, s1.T133, s1.T133, s1.St286.1, c1⟩, fr1.trans (c3.tj (Or.inr rfl)), rfl, fun _ => ⟨Or.inr ⟨rfl, (c2 5).trans f5⟩, VO.so ((c2 6).trans f6) (c4.trans v1) (c5.trans kn1)⟩⟩
/-- the whole step: s is a state elsewhere -/
theorem c_run {M : XM} (h : Sh M) {k : Int32} {I : In} (hI : InC M k I) (w : WI I) {o : Nat} (ho : ShSt M o) (no : 442 ≤ o) (ws : WS (vwC M o)) (wm : WM (mpC M)) :
    K_Transfer_run 133 k o M ∧ JQ M (stp (mpC M) I k (vwC M o) (mI M o 1)) (g_Transfer_run 133 k o M) := by
  obtain ⟨c1, c2, c3, c4, c5⟩ := c_scopy h ho (r := 134) (Or.inl rfl) (by omega)
  unfold g_Transfer_run K_Transfer_run g_Transfer_run_0 K_Transfer_run_0 g_Transfer_run_8 K_Transfer_run_8
  rw [h.R133_3]
  refine kq_and h.T133 (kq_and h.St134.1 (kq_and c1 ?_))
  have s1 := c3.sh h
  refine kq_and s1.T133 (kq_and s1.T133 ?_)
  have s2 : Sh (wI (wI (g_State_copy 134 o M) 133 5 1) 133 6 0) := s1.kept rfl
  have hI1 : InC (g_State_copy 134 o M) k I := hI.kept h c3.1 (fun i => (c3.2 103 (by unfold JX; omega) i).1)
  have hI2 : InC (wI (wI (g_State_copy 134 o M) 133 5 1) 133 6 0) k I := hI1.kept s1 rfl (fun i => by rw [mI_wI, if_neg (by omega), mI_wI, if_neg (by omega)])
  have v2 : vwC (wI (wI (g_State_copy 134 o M) 133 5 1) 133 6 0) 134 = vwC M o := by rw [vwC_wk (Or.inl rfl) (Or.inr (Or.inr rfl)), vwC_wk (Or.inl rfl) (Or.inr (Or.inr rfl)), c4]
  have k2 : mI (wI (wI (g_State_copy 134 o M) 133 5 1) 133 6 0) 134 1 = mI M o 1 := by rw [mI_wI, if_neg (by omega), mI_wI, if_neg (by omega), c5]
  have f5 : mI (wI (wI (g_State_copy 134 o M) 133 5 1) 133 6 0) 133 5 = 1 := by rw [mI_wI, if_neg (by omega), mI_wI, if_pos ⟨rfl, rfl⟩]
  have f6 : mI (wI (wI (g_State_copy 134 o M) 133 5 1) 133 6 0) 133 6 = 0 := by rw [mI_wI, if_pos ⟨rfl, rfl⟩]
  have fr2 : Fr TJ M (wI (wI (g_State_copy 134 o M) 133 5 1) 133 6 0) := (c3.tj (Or.inl rfl)).trans ((Fr.wi (Or.inr (Or.inl rfl))).trans (Fr.wi (Or.inr (Or.inl rfl))))
  have m2 : mpC (wI (wI (g_State_copy 134 o M) 133 5 1) 133 6 0) = mpC M := by
    have : ∀ a, a = 107 ∨ a = 108 ∨ a = 109 → ∀ i, mI (wI (wI (g_State_copy 134 o M) 133 5 1) 133 6 0) a i = mI M a i := fun a ha i => (fr2.2 a (by unfold TJ JX; omega) i).1
    unfold mpC
    rw [funext (this 107 (Or.inl rfl)), funext (this 108 (Or.inr (Or.inl rfl))), funext (this 109 (Or.inr (Or.inr rfl)))]
  refine And.imp_right (fun z => JQ.mv z fr2) ?_
  generalize wI (wI (g_State_copy 134 o M) 133 5 1) 133 6 0 = N at *
  rw [← v2, ← k2, ← m2]
  rw [← v2] at ws
  rw [← m2] at wm
  obtain ⟨d1, d2⟩ := hI2.kind s2
  obtain ⟨e1, e2⟩ := hI2.mode s2
  obtain ⟨i1, i2⟩ := hI2.2.2.2.2.1
  obtain ⟨q1, q2⟩ := hI2.2.2.1
  have s75 : I.s < 75 := by have := w.2.2.1; omega
  obtain ⟨o1, o2⟩ := c_own s2 s75
  have T : ∀ {x : Int32 × Sg} {r : Int32 × XM}, TQ N (x.1, x.2, mI N 134 1) r → JQ N (on1 x (mI N 134 1)) r := fun z => z.jq f5 f6
  have kds : ∀ m : Fin 256, kd (Int32.ofNat m.val) = 0 ∨ kd (Int32.ofNat m.val) = 1 ∨ kd (Int32.ofNat m.val) = 2 ∨ kd (Int32.ofNat m.val) = 3 ∨ kd (Int32.ofNat m.val) = 4 ∨ kd (Int32.ofNat m.val) = 5 ∨ kd (Int32.ofNat m.val) = 6 ∨ kd (Int32.ofNat m.val) = 7 := by decide +kernel
  have kdc : kd I.c = 0 ∨ kd I.c = 1 ∨ kd I.c = 2 ∨ kd I.c = 3 ∨ kd I.c = 4 ∨ kd I.c = 5 ∨ kd I.c = 6 ∨ kd I.c = 7 := by
    obtain ⟨m, hm, e⟩ := w.1
    rw [e]; exact kds ⟨m, hm⟩
  unfold g_Transfer_run_18 K_Transfer_run_18 g_Transfer_run_124 g_Transfer_run_96 K_Transfer_run_96 g_Transfer_run_145 K_Transfer_run_145 g_Transfer_run_151 K_Transfer_run_151 g_Transfer_run_170 K_Transfer_run_170 stp
  rw [s2.R133_0, s2.R133_7, d1, e1, i1, q1, o1]
  refine kq_and s2.T133 (kq_and s2.T102 (kq_and d2 (kq_if (fun a0 => ?_) (fun a0 => kq_if (fun a1 => ?_) (fun a1 => kq_if (fun a2 => ?_) (fun a2 => kq_if (fun a3 => ?_) (fun a3 => kq_if (fun a4 => ?_) (fun a4 => kq_if (fun a5 => ?_) (fun a5 => kq_if (fun a6 => ?_) (fun a6 => ?_))))))))))
  · rw [if_pos a0]
    obtain ⟨x1, x2⟩ := c_wide s2 hI2 w a0
    exact ⟨⟨s2.T133, x1⟩, T x2⟩
  · rw [if_neg a0, if_pos a1]
    obtain ⟨x1, x2⟩ := c_load s2 hI2 w ws
    exact ⟨⟨s2.T133, x1⟩, T x2⟩
  · rw [if_neg a0, if_neg a1, if_pos a2]
    obtain ⟨u1, u2⟩ := h_number s2.Th438 I.i.toInt64
    rw [u1]
    have ox : OX 438 N (sT N 438 (1, 0, -1, vOne I.i.toInt64)) := OX.st _
    obtain ⟨t1, t2, t3⟩ := ox.tmp (Or.inl rfl)
    have s3 := ox.sh s2
    have mp3 : mpC (sT N 438 (1, 0, -1, vOne I.i.toInt64)) = mpC N := rfl
    rw [s3.R133_7]
    obtain ⟨x1, x2⟩ := c_store s3 (hI2.ts s2 t3) w (by rw [t1]; exact ws) s3.Th438 (by omega)
    rw [t1, t2, thC_sT] at x2
    exact ⟨⟨s2.T133, s2.T133, s2.T102, i2, s2.Th438.1, u2, s3.T133, s3.T133, x1⟩, T (x2.mv t3)⟩
  · rw [if_neg a0, if_neg a1, if_neg a2, if_pos a3]
    refine kq_and s2.T133 (kq_and s2.T102 (kq_and e2 (kq_if (fun b => ?_) (fun b => ?_))))
    · rw [if_pos b]
      obtain ⟨x1, x2⟩ := c_atomic s2 hI2 w ws
      exact ⟨⟨s2.T133, x1⟩, T x2⟩
    · rw [if_neg b]
      obtain ⟨x1, x2⟩ := c_store s2 hI2 w ws (s2.now s75) (by omega)
      rw [show thC N (136 + 2 * I.s) = vwC N 134 I.s from (vwC_at s75).symm] at x2
      exact ⟨⟨s2.T133, s2.T102, q2, s2.T133, o2, s2.T133, x1⟩, T x2⟩
  · have n5 : ¬ (kd I.c = 5 ∨ kd I.c = 6) := fun z => by rcases z with z | z <;> rw [a4] at z <;> exact absurd z (by decide)
    rw [if_neg a0, if_neg a1, if_neg a2, if_neg a3, if_neg n5]
    refine kq_and s2.T133 (kq_and s2.T102 (kq_and d2 (kq_if (fun b => ?_) (fun b => absurd a4 b))))
    rw [if_pos b]
    obtain ⟨x1, x2⟩ := c_reckoning s2 hI2 w (Or.inl a4) ws 1
    exact ⟨⟨s2.T133, x1⟩, T x2⟩
  · rw [if_neg a0, if_neg a1, if_neg a2, if_neg a3, if_pos (Or.inl a5)]
    obtain ⟨x1, x2⟩ := c_jump s2 hI2 w (Or.inl a5) ws wm f5 f6
    exact ⟨⟨s2.T133, x1⟩, x2⟩
  · rw [if_neg a0, if_neg a1, if_neg a2, if_neg a3, if_pos (Or.inr a6)]
    obtain ⟨x1, x2⟩ := c_jump s2 hI2 w (Or.inr a6) ws wm f5 f6
    exact ⟨⟨s2.T133, x1⟩, x2⟩
  · have n5 : ¬ (kd I.c = 5 ∨ kd I.c = 6) := fun z => z.elim a5 a6
    have a7 : kd I.c = 7 := by
      rcases kdc with q | q | q | q | q | q | q | q
      · exact absurd q a0
      · exact absurd q a1
      · exact absurd q a2
      · exact absurd q a3
      · exact absurd q a4
      · exact absurd q a5
      · exact absurd q a6
      · exact q
    rw [if_neg a0, if_neg a1, if_neg a2, if_neg a3, if_neg n5]
    refine kq_and s2.T133 (kq_and s2.T102 (kq_and d2 (kq_if (fun b => absurd b a4) (fun b => ?_))))
    rw [if_neg b]
    obtain ⟨x1, x2⟩ := c_reckoning s2 hI2 w (Or.inr a7) ws 0
    exact ⟨⟨s2.T133, x1⟩, T x2⟩
