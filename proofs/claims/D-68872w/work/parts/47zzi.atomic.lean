/-! part 47zzi: the component's Transfer: atomic, wide (gen/tpl.py) -/
theorem f01 {p : Prop} [Decidable p] : ((if p then (0 : Int32) else 1) = 0) = p := by
  by_cases h : p
  · rw [if_pos h]; exact propext ⟨fun _ => h, fun _ => rfl⟩
  · rw [if_neg h]; exact propext ⟨fun z => absurd z i1_0, fun z => absurd z h⟩
theorem f10 {p : Prop} [Decidable p] : ((if p then (1 : Int32) else 0) = 0) = ¬ p := by
  by_cases h : p
  · rw [if_pos h]; exact propext ⟨fun z => absurd z i1_0, fun z => absurd h z⟩
  · rw [if_neg h]; exact propext ⟨fun _ => h, fun _ => rfl⟩
theorem TQ.err {M : XM} {x : Int32 × Sg} {kn : Int32} (w : Int32) (hw : w ≠ 0) (e : x.1 = w) : TQ M (x.1, x.2, kn) (w, M) := by
  rw [e]; exact TQ.no hw _ _
theorem TQ.eq {M : XM} {x y : Int32 × Sg} {kn : Int32} {r : Int32 × XM} (h : TQ M (y.1, y.2, kn) r) (e : x = y) : TQ M (x.1, x.2, kn) r := by rw [e]; exact h
theorem c_atomic {M : XM} (h : Sh M) {k : Int32} {I : In} (hI : InC M k I) (w : WI I) (ws : WS (vwC M 134)) :
    K_Transfer_atomic 133 k M ∧ TQ M ((atm (mpC M) I (vwC M 134)).1, (atm (mpC M) I (vwC M 134)).2, mI M 134 1) (g_Transfer_atomic 133 k M) := by
  have hd : I.d < 75 := by have := w.2.1; omega
  have hs : I.s < 75 := by have := w.2.2.1; omega
  obtain ⟨z1, z2⟩ := hI.size h
  obtain ⟨d1, d2⟩ := hI.2.1
  obtain ⟨s1, s2⟩ := hI.2.2.1
  obtain ⟨o1, o2⟩ := hI.2.2.2.1
  obtain ⟨m1, m2⟩ := hI.2.2.2.2.1
  obtain ⟨p1, p2⟩ := c_own h hd
  obtain ⟨p3, p4⟩ := c_own h hs
  obtain ⟨p5, p6⟩ := c_own h (n := 0) (by decide)
  have e00 : Int32.ofNat 0 = 0 := rfl
  rw [e00] at p5 p6
  obtain ⟨q1, q2⟩ := c_isRead h hd
  obtain ⟨q3, q4⟩ := c_isRead h hs
  obtain ⟨q5', q6⟩ := c_isRead h (n := 0) (by decide)
  rw [e00] at q5' q6
  have tD := h.now hd
  have tS := h.now hs
  have t0 := h.now (n := 0) (by decide)
  obtain ⟨n1, n2⟩ := c_isNum tS
  obtain ⟨n3, n4⟩ := c_isNum t0
  have eD : thC M (136 + 2 * I.d) = vwC M 134 I.d := (vwC_at hd).symm
  have eS : thC M (136 + 2 * I.s) = vwC M 134 I.s := (vwC_at hs).symm
  have e0 : thC M (136 + 2 * 0) = vwC M 134 0 := (vwC_at (by decide)).symm
  have eD0 : mI M (136 + 2 * I.d) 0 = (vwC M 134 I.d).so := by rw [← eD]; rfl
  have eD1 : mI M (136 + 2 * I.d) 1 = (vwC M 134 I.d).de := by rw [← eD]; rfl
  have eDu : mL M (136 + 2 * I.d + 1) 1 = (vwC M 134 I.d).va.u := by rw [← eD]; rfl
  have eDb : mL M (136 + 2 * I.d + 1) 0 = (vwC M 134 I.d).va.b := by rw [← eD]; rfl
  have eDv : gv6 M (136 + 2 * I.d + 1) = (vwC M 134 I.d).va := by rw [← eD]; rfl
  obtain ⟨l1, l2⟩ := c_lies (M := M) tD.2.2 I.o (sz I.c) (mI M 109 (ix (vwC M 134 I.d).de))
  rw [eDv] at l1
  have wD := ws I.d
  rw [eS] at n1
  rw [e0] at n3
  obtain ⟨y1, y2, y3⟩ := c_any h tS (by omega) (sz I.c)
  obtain ⟨y4, y5, y6⟩ := c_any h t0 (by omega) (sz I.c)
  unfold g_Transfer_atomic K_Transfer_atomic g_Transfer_atomic_0 K_Transfer_atomic_0 g_Transfer_atomic_13 K_Transfer_atomic_13 g_Transfer_atomic_26 K_Transfer_atomic_26 g_Transfer_atomic_36 K_Transfer_atomic_36
  rw [h.R133_0, d1, p1, s1, p3, z1, m1]
  refine kq_and h.T133 (kq_and h.T102 (kq_and d2 (kq_and h.T133 (kq_and p2 (kq_and h.T133 (kq_and h.T102 (kq_and s2 (kq_and h.T133 (kq_and p4 (kq_and h.T133 (kq_and h.T102 (kq_and z2 (kq_and h.T133 (kq_and h.T102 (kq_and m2 ?_)))))))))))))))
  have main : K_Transfer_atomic_59 133 k (136 + 2 * I.d) (136 + 2 * I.s) (sz I.c) I.i (if I.i = 241 then 1 else 0) M ∧ TQ M ((atm (mpC M) I (vwC M 134)).1, (atm (mpC M) I (vwC M 134)).2, mI M 134 1) (g_Transfer_atomic_59 133 k (136 + 2 * I.d) (136 + 2 * I.s) (sz I.c) I.i (if I.i = 241 then 1 else 0) M) := by
    unfold g_Transfer_atomic_59 K_Transfer_atomic_59 g_Transfer_atomic_106 K_Transfer_atomic_106 g_Transfer_atomic_127 K_Transfer_atomic_127 g_Transfer_atomic_134 K_Transfer_atomic_134 g_Transfer_atomic_172 K_Transfer_atomic_172 g_Transfer_atomic_173 K_Transfer_atomic_173 g_Transfer_atomic_234 K_Transfer_atomic_234 g_Transfer_atomic_268 g_Transfer_atomic_231
    rw [h.R133_0, h.R133_1, h.R106_2, tD.2.1, d1, s1, o1, eD0, eD1, eDu, eDb, q1, q3, q5', p5, n1, n3, l1]
    simp only [f01, f10, cmp_eq]
    have ed : (atm (mpC M) I (vwC M 134)) = if (vwC M 134 I.d).so = 0 ∨ (vwC M 134 I.s).so = 0 ∨ (I.i = 241 ∧ (vwC M 134 0).so = 0) then (1, vwC M 134) else if (vwC M 134 I.d).so ≠ 7 then (3, vwC M 134) else if ¬ (((vwC M 134 I.d).va.u &&& ((sz I.c).toInt64 - 1) = 0 ∧ ((vwC M 134 I.d).va.b + I.o.toInt64) &&& ((sz I.c).toInt64 - 1) = 0) ∧ lie (vwC M 134 I.d).va I.o (sz I.c) (mI M 109 (ix (vwC M 134 I.d).de))) then (4, vwC M 134) else if (vwC M 134 I.s).so ≠ 1 ∨ (I.i = 241 ∧ (vwC M 134 0).so ≠ 1) then (6, vwC M 134) else (0, if I.i = 241 then up (vwC M 134) 0 (tNu (vCut (8 * sz I.c) vFree)) else if I.i &&& 1 = 1 then up (vwC M 134) I.s (tNu (vCut (8 * sz I.c) vFree)) else vwC M 134) := rfl
    -- behind the reading
    have B : ¬ ((vwC M 134 I.d).so = 0 ∨ (vwC M 134 I.s).so = 0 ∨ (I.i = 241 ∧ (vwC M 134 0).so = 0)) → (K_Transfer_atomic_106 133 k (136 + 2 * I.d) (136 + 2 * I.s) (sz I.c) I.i (if I.i = 241 then 1 else 0) M) ∧ TQ M ((atm (mpC M) I (vwC M 134)).1, (atm (mpC M) I (vwC M 134)).2, mI M 134 1) (g_Transfer_atomic_106 133 k (136 + 2 * I.d) (136 + 2 * I.s) (sz I.c) I.i (if I.i = 241 then 1 else 0) M) := by
      intro ng
      unfold g_Transfer_atomic_106 K_Transfer_atomic_106 g_Transfer_atomic_127 K_Transfer_atomic_127 g_Transfer_atomic_134 K_Transfer_atomic_134 g_Transfer_atomic_172 K_Transfer_atomic_172 g_Transfer_atomic_173 K_Transfer_atomic_173 g_Transfer_atomic_234 K_Transfer_atomic_234 g_Transfer_atomic_268 g_Transfer_atomic_231
      rw [h.R133_0, h.R133_1, h.R106_2, tD.2.1, o1, eD0, eD1, eDu, eDb, p5, n1, n3, l1]
      simp only [f01, f10, cmp_eq]
      rw [if_neg ng] at ed
      refine kq_and tD.1 (kq_ifp (fun c7 => ?_) (fun c7 => ?_))
      rotate_left
      · exact TQ.err 3 (by decide) (by rw [ed, if_pos c7])
      rw [if_neg (fun z => z c7)] at ed
      obtain ⟨w1, w2⟩ := wD.2.2.2.2.1 (Or.inr (Or.inl c7))
      have v8 : vp_in (vwC M 134 I.d).de (mN M 109) := by rw [h.N109]; exact (ix8 w1 w2).2.2
      refine kq_and h.T133 (kq_and h.T102 (kq_and o2 (kq_and tD.1 (kq_and tD.2.2 (kq_if (fun a1 => kq_and tD.1 (kq_and tD.2.2 (kq_if (fun a2 => ?_) (fun a2 => ?_)))) (fun a1 => ?_))))))
      · refine kq_ifn (fun z => absurd z i1_0) (fun _ => ?_)
        refine kq_and tD.1 (kq_and h.T133 (kq_and h.T106 (kq_and tD.1 (kq_and h.T109 (kq_and v8 (kq_and l2 (kq_ifn (fun a3 => ?_) (fun a3 => ?_))))))))
        · exact TQ.err 4 (by decide) (by rw [ed, if_pos (fun z => a3 z.2)])
        have a3' := Classical.not_not.mp a3
        rw [if_neg (fun z => z ⟨⟨a1, a2⟩, a3'⟩)] at ed
        refine kq_and tS.1 (kq_and n2 (kq_ifn (fun a4 => ?_) (fun a4 => ?_)))
        · exact TQ.err 6 (by decide) (by rw [ed, if_pos (Or.inl a4)])
        have a4' := Classical.not_not.mp a4
        refine kq_if (fun a5 => ?_) (fun a5 => ?_)
        · rw [if_neg (fun (z : _ ∨ _) => z.elim (fun q => q a4') (fun q => a5 q.1)), if_neg a5] at ed
          refine kq_if (fun _ => kq_ifp (fun a6 => ?_) (fun a6 => ?_)) (fun z => absurd a5 z)
          · rw [if_pos a6] at ed
            exact ⟨⟨h.T133, y1⟩, (TQ.ox hs y2 y3).eq ed⟩
          · rw [if_neg a6] at ed
            exact TQ.id.eq ed
        · have a5' := Classical.not_not.mp a5
          refine kq_and h.T133 (kq_and p6 (kq_and t0.1 (kq_and n4 (kq_ifn (fun a6 => ?_) (fun a6 => ?_)))))
          · exact TQ.err 6 (by decide) (by rw [ed, if_pos (Or.inr ⟨a5', a6⟩)])
          · have a6' := Classical.not_not.mp a6
            rw [if_neg (fun (z : _ ∨ _) => z.elim (fun q => q a4') (fun q => q.2 a6')), if_pos a5'] at ed
            refine kq_if (fun z => absurd a5' z) (fun _ => ?_)
            exact ⟨⟨h.T133, p6, h.T133, y4⟩, (TQ.ox (by decide) y5 y6).eq ed⟩
      · refine kq_ifn (fun _ => ?_) (fun z => absurd trivial z)
        exact TQ.err 4 (by decide) (by rw [ed, if_pos (fun z => a2 z.1.2)])
      · refine kq_ifn (fun _ => ?_) (fun z => absurd trivial z)
        exact TQ.err 4 (by decide) (by rw [ed, if_pos (fun z => a1 z.1.1)])
    unfold g_Transfer_atomic_106 K_Transfer_atomic_106 g_Transfer_atomic_127 K_Transfer_atomic_127 g_Transfer_atomic_134 K_Transfer_atomic_134 g_Transfer_atomic_172 K_Transfer_atomic_172 g_Transfer_atomic_173 K_Transfer_atomic_173 g_Transfer_atomic_234 K_Transfer_atomic_234 g_Transfer_atomic_268 g_Transfer_atomic_231 at B
    rw [h.R133_0, h.R133_1, h.R106_2, tD.2.1, o1, eD0, eD1, eDu, eDb, p5, n1, n3, l1] at B
    simp only [f01, f10, cmp_eq] at B
    refine kq_and h.T133 (kq_and h.T102 (kq_and d2 (kq_and h.T133 (kq_and q2 (kq_ifn (fun c1 => ?_) (fun c1 => ?_))))))
    · exact TQ.err 1 (by decide) (by rw [ed, if_pos (Or.inl c1)])
    refine kq_and h.T133 (kq_and h.T102 (kq_and s2 (kq_and h.T133 (kq_and q4 (kq_ifn (fun c2 => ?_) (fun c2 => ?_))))))
    · exact TQ.err 1 (by decide) (by rw [ed, if_pos (Or.inr (Or.inl c2))])
    refine kq_if (fun c3 => ?_) (fun c3 => ?_)
    · exact B (fun z => z.elim c1 (fun z => z.elim c2 (fun z => c3 z.1)))
    refine kq_and h.T133 (kq_and q6 (kq_ifn (fun c4 => ?_) (fun c4 => ?_)))
    · exact TQ.err 1 (by decide) (by rw [ed, if_pos (Or.inr (Or.inr ⟨Classical.not_not.mp c3, c4⟩))])
    · exact B (fun z => z.elim c1 (fun z => z.elim c2 (fun z => c4 z.2)))
  unfold g_Transfer_atomic_46 K_Transfer_atomic_46
  by_cases c : I.i = 241
  · rw [if_pos c] at main ⊢
    exact ⟨⟨fun _ => main.1, fun z => absurd c z⟩, main.2⟩
  · rw [if_neg c] at main ⊢
    exact ⟨⟨fun z => absurd z c, fun _ => main.1⟩, main.2⟩
theorem s_0 {s : Nat} (h : s < 11) : Int32.ofNat s = 0 ↔ s = 0 := by
  have : ∀ s : Fin 11, Int32.ofNat s.val = 0 ↔ s.val = 0 := by decide +kernel
  exact this ⟨s, h⟩
theorem c_has {M : XM} (h : Sh M) (i : Int32) : g_Maps_has 106 i M = (if 0 ≤ i ∧ i < 8 ∧ 0 < mI M 107 (ix i) then 1 else 0) ∧ K_Maps_has 106 i M := by
  unfold g_Maps_has K_Maps_has g_Maps_has_0 K_Maps_has_0
  rw [h.R106_0]
  have q1 : i < 0 ↔ ¬ 0 ≤ i := by rw [lt_u3, Int32.le_iff_toInt_le]; omega
  have q2 : 8 ≤ i ↔ ¬ i < 8 := by rw [lt_u3, Int32.le_iff_toInt_le]; omega
  have q3 : mI M 107 (ix i) ≤ 0 ↔ ¬ 0 < mI M 107 (ix i) := by rw [lt_u3, Int32.le_iff_toInt_le]; omega
  refine ⟨?_, fun c1 c2 => ⟨h.T106, h.T107, ?_⟩⟩
  · simp only [q1, q2, q3]
    by_cases p1 : 0 ≤ i <;> by_cases p2 : i < 8 <;> by_cases p3 : 0 < mI M 107 (ix i) <;> simp only [p1, p2, p3, if_true, if_false, not_true, not_false_iff, and_self, and_true, true_and, and_false, false_and, or_true, true_or, or_false, false_or, or_self, i32_10, eq_self, true_implies, false_implies, implies_true, ite_self, ne_eq]
  · rw [h.N107]
    rw [q1, Classical.not_not] at c1
    rw [q2, Classical.not_not] at c2
    exact (ix8 c1 c2).2.2
theorem c_wide {M : XM} (h : Sh M) {k : Int32} {I : In} (hI : InC M k I) (w : WI I) (k0 : kd I.c = 0) :
    K_Transfer_wide 133 k M ∧ TQ M ((wid (mpC M) I (vwC M 134)).1, (wid (mpC M) I (vwC M 134)).2, mI M 134 1) (g_Transfer_wide 133 k M) := by
  have hd : I.d < 75 := by have := w.2.1; omega
  obtain ⟨d1, d2⟩ := hI.2.1
  obtain ⟨s1, s2⟩ := hI.2.2.1
  obtain ⟨m1, m2⟩ := hI.2.2.2.2.1
  obtain ⟨j1, j2⟩ := hI.2.2.2.2.2 k0
  obtain ⟨p1, p2⟩ := c_own h hd
  have tD := h.now hd
  obtain ⟨a1, a2⟩ := c_has h I.i
  unfold g_Transfer_wide K_Transfer_wide g_Transfer_wide_0 K_Transfer_wide_0 g_Transfer_wide_13 K_Transfer_wide_13 g_Transfer_wide_22 K_Transfer_wide_22 g_Transfer_wide_58 g_Transfer_wide_82
  rw [h.R133_0, h.R133_1, d1, p1, s1, m1, j1, a1]
  simp only [f10, s_0 w.2.2.1]
  obtain ⟨u1, u2⟩ := h_number tD (j_lshl I.j.toInt64 32 ||| (I.i.toInt64 &&& 4294967295))
  obtain ⟨v1, v2⟩ := h_become tD 6 I.i (-1)
  rw [u1, v1]
  refine kq_and h.T133 (kq_and h.T102 (kq_and d2 (kq_and h.T133 (kq_and p2 (kq_and h.T133 (kq_and h.T102 (kq_and m2 (kq_and h.T133 (kq_and h.T102 (kq_and s2 ?_))))))))))
  have ed : wid (mpC M) I (vwC M 134) = if I.s = 0 then (0, up (vwC M 134) I.d (tNu (vOne (j_lshl I.j.toInt64 32 ||| (I.i.toInt64 &&& 4294967295))))) else if 0 ≤ I.i ∧ I.i < 8 ∧ 0 < mI M 107 (ix I.i) then (0, up (vwC M 134) I.d (6, I.i, -1, vOne 0)) else (8, vwC M 134) := rfl
  refine kq_if (fun c => ?_) (fun c => kq_and h.T133 (kq_and h.T106 (kq_and a2 (kq_ifn (fun c2 => ?_) (fun c2 => ?_)))))
  · rw [if_pos c] at ed
    exact ⟨⟨h.T133, h.T102, j2, tD.1, u2⟩, (TQ.st hd _).eq ed⟩
  · exact TQ.err 8 (by decide) (by rw [ed, if_neg c, if_neg c2])
  · rw [if_neg c, if_pos (Classical.not_not.mp c2)] at ed
    exact ⟨⟨tD.1, v2⟩, (TQ.st hd _).eq ed⟩
