/-! part 47zzv: the twin: bytes that are written (gen/tpl.py) -/
theorem fst_0 (a : Int32) : g_Model_first a 0 = a := by
  unfold g_Model_first g_Model_first_0
  by_cases c : a = 0
  · rw [if_pos c, c]
  · rw [if_neg c, if_pos rfl]
theorem fst_6 {a : Int32} (h : a = 0 ∨ a = 1 ∨ a = 3 ∨ a = 4 ∨ a = 6) : g_Model_first a 6 = if a = 0 then 6 else a := by
  rcases h with e | e | e | e | e <;> rw [e] <;> decide
theorem fst_1 {p q : Prop} [Decidable p] [Decidable q] {R : Int32} (h : R = 0 ∨ R = 3 ∨ R = 4) : g_Model_first (if p then 1 else R) (if q then 1 else 0) = if p ∨ q then 1 else R := by
  rcases h with e | e | e <;> rw [e] <;> by_cases c1 : p <;> by_cases c2 : q <;> simp only [c1, c2, if_true, if_false, true_or, or_true, or_false] <;> decide
section ST
variable {M : XM}
theorem m_store (h : TW M) {I : In} (hI : InT M I) (w : WI I) (hk : kd I.c = 2 ∨ kd I.c = 3) (wt : WS (vwT M 1024)) {v : TH} (hv : v = if kd I.c = 2 then tNu (vOne I.i.toInt64) else vwT M 1024 I.s) :
    K_Model_store 448 M ∧ ZQ M ((sto (mpT M) I v (vwT M 1024) (mI M 455 1024)).1, (sto (mpT M) I v (vwT M 1024) (mI M 455 1024)).2, mI M 455 1024) (g_Model_store 448 M) := by
  have s := h.1
  have hd : I.d < 75 := by have := w.2.1; omega
  have hs : I.s < 75 := by have := w.2.2.1; omega
  have hb := sz_cases I.c
  obtain ⟨z1, z2⟩ := hI.size s
  obtain ⟨d1, d2⟩ := hI.kind s
  obtain ⟨r1, r2⟩ := m_reach s hd (wt I.d) hI.2.2.2.1 w.2.2.2.1 hb 1
  obtain ⟨a1, a2⟩ := m_sortOf s hd
  obtain ⟨b1, b2⟩ := m_sortOf s hs
  obtain ⟨e1, e2⟩ := m_reads s hs
  have de : mI M 458 (76800 + I.d) = (vwT M 1024 I.d).de := tw_de hd
  have rvs := rch_vals (mp := mpT M) (kn := mI M 455 1024) (t := vwT M 1024 I.d) (o := I.o) (b := sz I.c) (w := 1)
  have hR : ∃ R, R = rch (mpT M) (mI M 455 1024) (vwT M 1024 I.d) I.o (sz I.c) 1 := ⟨_, rfl⟩
  obtain ⟨R, hR⟩ := hR
  rw [← hR] at r1 rvs
  have es : (sto (mpT M) I v (vwT M 1024) (mI M 455 1024)) = (if (vwT M 1024 I.d).so = 0 ∨ v.so = 0 then (1, vwT M 1024)
  else if R ≠ 0 then (R, vwT M 1024)
  else if ¬ ((vwT M 1024 I.d).so = 3 ∧ sz I.c = 8) ∧ v.so ≠ 1 then (6, vwT M 1024)
  else if (vwT M 1024 I.d).so = 3 then
    (if sz I.c = 8 then (0, up (vwT M 1024) (slo (q5 (adr (vwT M 1024 I.d) I.o))) v) else (0, up (vwT M 1024) (slo (q5 (adr (vwT M 1024 I.d) I.o))) (tBy (wrT (vwT M 1024 (slo (q5 (adr (vwT M 1024 I.d) I.o)))) ||| msk (sz I.c) (q5 (adr (vwT M 1024 I.d) I.o) % 8)))))
  else (0, vwT M 1024)) := by unfold sto; rw [← hR]
  -- the reason
  have hW : ∃ W : Int32, W = if (vwT M 1024 I.d).so = 0 ∨ v.so = 0 then 1 else if R ≠ 0 then R else if ¬ ((vwT M 1024 I.d).so = 3 ∧ sz I.c = 8) ∧ v.so ≠ 1 then 6 else 0 := ⟨_, rfl⟩
  obtain ⟨W, hW⟩ := hW
  have Wv : W = 0 ∨ W = 1 ∨ W = 3 ∨ W = 4 ∨ W = 6 := by
    rw [hW]
    split
    · exact Or.inr (Or.inl rfl)
    · split
      · rcases rvs with e | e | e
        · exact Or.inl e
        · exact Or.inr (Or.inr (Or.inl e))
        · exact Or.inr (Or.inr (Or.inr (Or.inl e)))
      · split
        · exact Or.inr (Or.inr (Or.inr (Or.inr rfl)))
        · exact Or.inl rfl
  have bad : W ≠ 0 → sto (mpT M) I v (vwT M 1024) (mI M 455 1024) = (W, vwT M 1024) := by
    intro n0
    rw [es]
    by_cases c1 : (vwT M 1024 I.d).so = 0 ∨ v.so = 0
    · rw [if_pos c1] at hW ⊢; rw [hW]
    · rw [if_neg c1] at hW ⊢
      by_cases c2 : R ≠ 0
      · rw [if_pos c2] at hW ⊢; rw [hW]
      · rw [if_neg c2] at hW ⊢
        by_cases c3 : ¬ ((vwT M 1024 I.d).so = 3 ∧ sz I.c = 8) ∧ v.so ≠ 1
        · rw [if_pos c3] at hW ⊢; rw [hW]
        · rw [if_neg c3] at hW; exact absurd hW n0
  have A130 : ∀ x2 x3 x4 : Int32, (x2 = 0 ↔ ¬ kd I.c = 2) → (x3 = 0 ↔ ¬ (vwT M 1024 I.d).so = 3) → x4 = W → K_Model_store_130 448 (sz I.c) x2 x3 x4 M ∧ ZQ M ((sto (mpT M) I v (vwT M 1024) (mI M 455 1024)).1, (sto (mpT M) I v (vwT M 1024) (mI M 455 1024)).2, mI M 455 1024) (g_Model_store_130 448 (sz I.c) x2 x3 x4 M) := by
    intro x2 x3 x4 hx2 hx3 hx4
    unfold g_Model_store_130 K_Model_store_130 g_Model_store_139
    refine kq_ifn (fun c => ?_) (fun c => ?_)
    · have n0 : W ≠ 0 := fun z => by rw [hx4, z] at c; exact absurd c (by decide)
      rw [bad n0, hx4]
      exact ZQ.bad h n0
    · have n0 : W = 0 := by
        rw [hx4] at c
        rcases Wv with e | e | e | e | e
        · exact e
        all_goals rw [e] at c; exact absurd (by decide) c
      have c1 : ¬ ((vwT M 1024 I.d).so = 0 ∨ v.so = 0) := fun z => by rw [if_pos z, n0] at hW; exact absurd hW (by decide)
      rw [if_neg c1, n0] at hW
      have c2 : ¬ R ≠ 0 := fun z => by rw [if_pos z] at hW; exact z hW.symm
      rw [if_neg c2] at hW
      have c3 : ¬ (¬ ((vwT M 1024 I.d).so = 3 ∧ sz I.c = 8) ∧ v.so ≠ 1) := fun z => by rw [if_pos z] at hW; exact absurd hW (by decide)
      rw [es, if_neg c1, if_neg c2, if_neg c3, hx4, n0]
      refine kq_ifn (fun q => ?_) (fun q => ?_)
      · rw [if_neg (hx3.mp q)]
        exact ZQ.ok (MX.rf h)
      · have s3 : (vwT M 1024 I.d).so = 3 := Decidable.not_not.mp (fun z => q (hx3.mpr z))
        have cr : R = 0 := Decidable.not_not.mp c2
        rw [if_pos s3]
        have rr : -512 ≤ adr (vwT M 1024 I.d) I.o ∧ adr (vwT M 1024 I.d) I.o ≤ -(sz I.c).toInt := by
          rw [hR] at cr
          unfold rch at cr
          rw [if_pos s3] at cr
          by_cases q : adr (vwT M 1024 I.d) I.o % (sz I.c).toInt = 0 ∧ -512 ≤ adr (vwT M 1024 I.d) I.o ∧ adr (vwT M 1024 I.d) I.o ≤ -(sz I.c).toInt
          · exact q.2
          · rw [if_neg q] at cr; exact absurd cr (by decide)
        have bp : 1 ≤ (sz I.c).toInt := by rcases hb with e | e | e | e <;> rw [e] <;> decide
        have vp : vp_in (Int32.ofNat (76800 + I.d)) (mN M 458) := by rw [s.N458]; exact vpN (by omega) (by omega)
        have ea := adr64 (vwT M 1024 I.d).de I.o
        have ad : adr (vwT M 1024 I.d) I.o = (vwT M 1024 I.d).de.toInt + I.o.toInt := rfl
        rw [← ad] at ea
        rw [hI.2.1, hI.2.2.2.1, s.R448_14, thN, ixN (show 76800 + I.d < 2147483648 by omega), de]
        refine kq_and s.T448 (kq_and s.T448 (kq_and s.T458 (kq_and vp (kq_and s.T448 ?_))))
        obtain ⟨t1, t2, t3⟩ := m_slotOf (a := (vwT M 1024 I.d).de.toInt64 + I.o.toInt64) (by omega) (by omega)
        unfold g_Model_store_166 K_Model_store_166 g_Model_store_173 K_Model_store_173
        rw [t1, t2]
        rw [ea] at t3 ⊢
        generalize slo (q5 (adr (vwT M 1024 I.d) I.o)) = k at t3 ⊢
        refine kq_if (fun c8 => ?_) (fun c8 => ?_)
        · have e8 : sz I.c = 8 := by
            rcases hb with e | e | e | e
            · rw [e] at c8; exact absurd c8 (by decide)
            · rw [e] at c8; exact absurd c8 (by decide)
            · rw [e] at c8; exact absurd c8 (by decide)
            · exact e
          rw [if_pos e8]
          unfold g_Model_store_271 g_Model_store_241 K_Model_store_241 g_Model_store_271
          refine kq_if (fun cx => ?_) (fun cx => ?_)
          · have ev : v = vwT M 1024 I.s := by rw [hv, if_neg (hx2.mp cx)]
            rw [ev, hI.2.2.1]
            obtain ⟨k1, k2⟩ := m_copyThing s (k := 1024) (m := I.s) (k' := 1024) (m' := k) (by decide) hs (by decide) t3
            rw [i1024, k1]
            have x := MX.sx h t3 (t := tR M (75 * 1024 + I.s)) (e := j_z (tE M (75 * 1024 + I.s))) (by rw [(h.2.1 (75 * 1024 + I.s) (by omega)).1, jz0]) (h.2.1 (75 * 1024 + I.s) (by omega)).2
            rw [← vwT_at (k := 1024) hs] at x
            exact ⟨⟨s.T448, s.T448, k2⟩, ZQ.ok x⟩
          · have ev : v = tNu (vOne I.i.toInt64) := by rw [hv, if_pos (Decidable.not_not.mp (fun z => cx (hx2.mpr z)))]
            rw [ev, hI.2.2.2.2, s.R448_16, t_single s, ix7]
            have m1 : MX M (vwT M 1024) (sR M 7 (vOne I.i.toInt64) 0) := MX.sr h (by decide) (by decide)
            obtain ⟨k1, k2⟩ := m_setNum m1.1 t3 (tvk_sR _ _ _ _) (tek_sR _ _ _ _) (one_T _)
            rw [m1.2.2.1] at k2
            exact ⟨⟨s.T448, s.T448, s.T460, kt_single s rk7, m1.1.1.T448, k1⟩, ZQ.ok (m1.trans k2)⟩
        · have e8 : ¬ sz I.c = 8 := fun z => by rw [z] at c8; exact absurd (by decide) c8
          rw [if_neg e8]
          unfold g_Model_store_197 K_Model_store_197 g_Model_store_271
          obtain ⟨u1, u2⟩ := m_written s t3
          rw [u1]
          obtain ⟨k1, k2⟩ := m_put h t3 9 (wrT (vwT M 1024 k) ||| msk (sz I.c) (q5 (adr (vwT M 1024 I.d) I.o) % 8)) (by decide)
          exact ⟨⟨s.T448, u2, s.T448, k1⟩, ZQ.ok k2⟩
  have vso : ∀ x2 : Int32, (x2 = 0 ↔ ¬ kd I.c = 2) → (x2 = 0 → v = vwT M 1024 I.s) ∧ (¬ x2 = 0 → v.so = 1) := by
    intro x2 hx2
    refine ⟨fun z => by rw [hv, if_neg (hx2.mp z)], fun z => ?_⟩
    rw [hv, if_pos (Decidable.not_not.mp (fun q => z (hx2.mpr q)))]
  have A83 : ∀ x2 x3 x4 s0 : Int32, (x2 = 0 ↔ ¬ kd I.c = 2) → (x3 = 0 ↔ ¬ (vwT M 1024 I.d).so = 3) → (s0 = 0 ↔ ¬ ((vwT M 1024 I.d).so = 3 ∧ sz I.c = 8)) → x4 = (if (vwT M 1024 I.d).so = 0 ∨ v.so = 0 then 1 else R) → K_Model_store_83 448 (sz I.c) x2 x3 x4 s0 M ∧ ZQ M ((sto (mpT M) I v (vwT M 1024) (mI M 455 1024)).1, (sto (mpT M) I v (vwT M 1024) (mI M 455 1024)).2, mI M 455 1024) (g_Model_store_83 448 (sz I.c) x2 x3 x4 s0 M) := by
    intro x2 x3 x4 s0 hx2 hx3 hs0 hx4
    obtain ⟨v1, v2⟩ := vso x2 hx2
    have none : (v.so = 0 ∨ v.so = 1 ∨ ¬ s0 = 0) → K_Model_store_124 448 (sz I.c) x2 x3 x4 M ∧ ZQ M ((sto (mpT M) I v (vwT M 1024) (mI M 455 1024)).1, (sto (mpT M) I v (vwT M 1024) (mI M 455 1024)).2, mI M 455 1024) (g_Model_store_124 448 (sz I.c) x2 x3 x4 M) := by
      intro q
      unfold g_Model_store_124 K_Model_store_124 g_Model_store_125 K_Model_store_125
      rw [fst_0]
      refine A130 x2 x3 x4 hx2 hx3 ?_
      rw [hx4, hW]
      by_cases c1 : (vwT M 1024 I.d).so = 0 ∨ v.so = 0
      · rw [if_pos c1, if_pos c1]
      · rw [if_neg c1, if_neg c1]
        have c3 : ¬ (¬ ((vwT M 1024 I.d).so = 3 ∧ sz I.c = 8) ∧ v.so ≠ 1) := by
          rcases q with q | q | q
          · exact absurd (Or.inr q) c1
          · exact fun z => z.2 q
          · exact fun z => q (hs0.mpr z.1)
        rw [if_neg c3]
        by_cases c2 : R = 0
        · rw [if_neg (fun z => z c2), c2]
        · rw [if_pos c2]
    unfold g_Model_store_83 K_Model_store_83
    rw [hI.2.2.1, e1, b1]
    simp only [f10]
    refine kq_if (fun cx => kq_and s.T448 (kq_and s.T448 (kq_and e2 (kq_if (fun cr => kq_and s.T448 (kq_and s.T448 (kq_and b2 (kq_if (fun c1 => none ?_) (fun c1 => kq_if (fun cs => ?_) (fun cs => none (Or.inr (Or.inr cs)))))))) (fun cr => none ?_))))) (fun cx => none (Or.inr (Or.inl (v2 cx))))
    · rw [v1 cx]; exact Or.inr (Or.inl c1)
    · unfold g_Model_store_125 K_Model_store_125
      have n0 : ¬ v.so = 0 := by rw [v1 cx]; exact cr
      have n1 : ¬ v.so = 1 := by rw [v1 cx]; exact c1
      have x4v : x4 = 0 ∨ x4 = 1 ∨ x4 = 3 ∨ x4 = 4 ∨ x4 = 6 := by
        rw [hx4]
        split
        · exact Or.inr (Or.inl rfl)
        · rcases rvs with e | e | e
          · exact Or.inl e
          · exact Or.inr (Or.inr (Or.inl e))
          · exact Or.inr (Or.inr (Or.inr (Or.inl e)))
      rw [fst_6 x4v]
      refine A130 x2 x3 _ hx2 hx3 ?_
      rw [hx4, hW]
      by_cases c1 : (vwT M 1024 I.d).so = 0 ∨ v.so = 0
      · rw [if_pos c1, if_pos c1, if_neg i1_0]
      · rw [if_neg c1, if_neg c1]
        have c3 : ¬ ((vwT M 1024 I.d).so = 3 ∧ sz I.c = 8) ∧ v.so ≠ 1 := ⟨hs0.mp cs, n1⟩
        rw [if_pos c3]
        by_cases c2 : R = 0
        · rw [if_pos c2, if_neg (fun z => z c2)]
        · rw [if_neg c2, if_pos c2]
    · rw [v1 cx]; exact Or.inl (Decidable.not_not.mp cr)
  have A68 : ∀ x2 x3 x4 : Int32, (x2 = 0 ↔ ¬ kd I.c = 2) → (x3 = 0 ↔ ¬ (vwT M 1024 I.d).so = 3) → x4 = (if (vwT M 1024 I.d).so = 0 ∨ v.so = 0 then 1 else R) → K_Model_store_68 448 (sz I.c) x2 x3 x4 M ∧ ZQ M ((sto (mpT M) I v (vwT M 1024) (mI M 455 1024)).1, (sto (mpT M) I v (vwT M 1024) (mI M 455 1024)).2, mI M 455 1024) (g_Model_store_68 448 (sz I.c) x2 x3 x4 M) := by
    intro x2 x3 x4 hx2 hx3 hx4
    unfold g_Model_store_68 K_Model_store_68 g_Model_store_82 K_Model_store_82
    refine kq_if (fun c => A83 x2 x3 x4 0 hx2 hx3 ⟨fun _ z => hx3.mp c z.1, fun _ => rfl⟩ hx4) (fun c => kq_if (fun c8 => A83 x2 x3 x4 1 hx2 hx3 ⟨fun z => absurd z i1_0, fun z => absurd ⟨Decidable.not_not.mp (fun q => c (hx3.mpr q)), c8⟩ z⟩ hx4) (fun c8 => A83 x2 x3 x4 0 hx2 hx3 ⟨fun _ z => c8 z.2, fun _ => rfl⟩ hx4))
  have A36 : ∀ x2 x3 : Int32, (x2 = 0 ↔ ¬ kd I.c = 2) → (x3 = 0 ↔ ¬ (vwT M 1024 I.d).so = 3) → K_Model_store_36 448 (sz I.c) x2 x3 M ∧ ZQ M ((sto (mpT M) I v (vwT M 1024) (mI M 455 1024)).1, (sto (mpT M) I v (vwT M 1024) (mI M 455 1024)).2, mI M 455 1024) (g_Model_store_36 448 (sz I.c) x2 x3 M) := by
    intro x2 x3 hx2 hx3
    obtain ⟨v1, v2⟩ := vso x2 hx2
    unfold g_Model_store_36 K_Model_store_36 g_Model_store_63 K_Model_store_63
    rw [hI.2.1, hI.2.2.1, r1, e1]
    refine kq_and s.T448 (kq_and s.T448 (kq_and r2 (kq_if (fun c => kq_and s.T448 (kq_and s.T448 (kq_and e2 ?_))) (fun c => ?_))))
    · refine A68 x2 x3 _ hx2 hx3 ?_
      rw [fst_1 rvs, v1 c]
    · refine A68 x2 x3 _ hx2 hx3 ?_
      have n0 : ¬ v.so = 0 := by rw [v2 c]; decide
      rw [fst_0]
      by_cases c1 : (vwT M 1024 I.d).so = 0
      · rw [if_pos c1, if_pos (Or.inl c1)]
      · rw [if_neg c1, if_neg (fun z => z.elim c1 n0)]
  unfold g_Model_store K_Model_store g_Model_store_0 K_Model_store_0 g_Model_store_5 K_Model_store_5 g_Model_store_18 K_Model_store_18
  rw [z1, d1, hI.2.1, a1]
  refine kq_and s.T448 (kq_and z2 (kq_and s.T448 (kq_and d2 (kq_if (fun c2 => ?_) (fun c2 => ?_)))))
  · exact kq_and s.T448 (kq_and s.T448 (kq_and a2 (kq_if (fun c3 => A36 1 1 ⟨fun z => absurd z i1_0, fun z => absurd c2 z⟩ ⟨fun z => absurd z i1_0, fun z => absurd c3 z⟩) (fun c3 => A36 1 0 ⟨fun z => absurd z i1_0, fun z => absurd c2 z⟩ ⟨fun _ => c3, fun _ => rfl⟩))))
  · exact kq_and s.T448 (kq_and s.T448 (kq_and a2 (kq_if (fun c3 => A36 0 1 ⟨fun _ => c2, fun _ => rfl⟩ ⟨fun z => absurd z i1_0, fun z => absurd c3 z⟩) (fun c3 => A36 0 0 ⟨fun _ => c2, fun _ => rfl⟩ ⟨fun _ => c3, fun _ => rfl⟩))))
theorem irem_2 {i : Int32} (h : i = 0 ∨ i = 1 ∨ i = 64 ∨ i = 65 ∨ i = 80 ∨ i = 81 ∨ i = 160 ∨ i = 161 ∨ i = 225 ∨ i = 241) : j_irem i 2 = 1 ↔ i &&& 1 = 1 := by
  rcases h with e | e | e | e | e | e | e | e | e | e <;> rw [e] <;> decide
theorem fst_3 {p q : Prop} [Decidable p] [Decidable q] : g_Model_first (if p then 1 else 0) (if q then 3 else 0) = if p then 1 else if q then 3 else 0 := by
  by_cases c1 : p <;> by_cases c2 : q <;> simp only [c1, c2, if_true, if_false, not_true, not_false_iff, and_self, and_true, true_and, and_false, false_and, or_true, true_or, or_false, false_or, or_self, i32_10, eq_self, true_implies, false_implies, implies_true, ite_self, ne_eq] <;> decide
theorem fst_4 {p q : Prop} [Decidable p] [Decidable q] : g_Model_first (if p then 1 else 0) (if q then 0 else 4) = if p then 1 else if q then 0 else 4 := by
  by_cases c1 : p <;> by_cases c2 : q <;> simp only [c1, c2, if_true, if_false, not_true, not_false_iff, and_self, and_true, true_and, and_false, false_and, or_true, true_or, or_false, false_or, or_self, i32_10, eq_self, true_implies, false_implies, implies_true, ite_self, ne_eq] <;> decide
theorem m_atomic (h : TW M) {I : In} (hI : InT M I) (w : WI I) (hk : kd I.c = 3) (hm : md I.c = 6) (wt : WS (vwT M 1024)) :
    K_Model_atomic 448 M ∧ ZQ M ((atm (mpT M) I (vwT M 1024)).1, (atm (mpT M) I (vwT M 1024)).2, mI M 455 1024) (g_Model_atomic 448 M) := by
  have s := h.1
  have hd : I.d < 75 := by have := w.2.1; omega
  have hs : I.s < 75 := by have := w.2.2.1; omega
  have hb := sz_cases I.c
  have hi := (w.2.2.2.2.2.2.1 hk hm).2
  obtain ⟨z1, z2⟩ := hI.size s
  obtain ⟨r1, r2⟩ := m_reach s hd (wt I.d) hI.2.2.2.1 w.2.2.2.1 hb 1
  obtain ⟨a1, a2⟩ := m_sortOf s hd
  obtain ⟨b1, b2⟩ := m_sortOf s hs
  obtain ⟨c1, c2⟩ := m_sortOf s (n := 0) (by decide)
  obtain ⟨e1, e2⟩ := m_reads s hs
  obtain ⟨f1, f2⟩ := m_reads s hd
  obtain ⟨g1, g2⟩ := m_reads s (n := 0) (by decide)
  rw [show Int32.ofNat 0 = 0 from rfl] at c1 c2 g1 g2
  have hP : ∃ P : Prop, P = ((vwT M 1024 I.d).so = 0 ∨ (vwT M 1024 I.s).so = 0 ∨ (I.i = 241 ∧ (vwT M 1024 0).so = 0)) := ⟨_, rfl⟩
  have A247 : ∀ x2 : Int32, x2 = (atm (mpT M) I (vwT M 1024)).1 → (¬ x2 = 0 → atm (mpT M) I (vwT M 1024) = (x2, vwT M 1024)) → (x2 = 0 → atm (mpT M) I (vwT M 1024) = (0, if I.i = 241 then up (vwT M 1024) 0 (tNu (vCut (8 * sz I.c) vFree)) else if I.i &&& 1 = 1 then up (vwT M 1024) I.s (tNu (vCut (8 * sz I.c) vFree)) else vwT M 1024)) → (x2 = 0 ∨ x2 = 1 ∨ x2 = 3 ∨ x2 = 4 ∨ x2 = 6) → K_Model_atomic_247 448 (sz I.c) x2 M ∧ ZQ M ((atm (mpT M) I (vwT M 1024)).1, (atm (mpT M) I (vwT M 1024)).2, mI M 455 1024) (g_Model_atomic_247 448 (sz I.c) x2 M) := by
    intro x2 q1 q2 q3 q4
    unfold g_Model_atomic_247 K_Model_atomic_247 g_Model_atomic_291
    rw [hI.2.2.2.2, hI.2.2.1]
    refine kq_ifp (fun c => kq_and s.T448 ?_) (fun c => ?_)
    · have n0 : x2 = 0 := by
        rcases q4 with e | e | e | e | e
        · exact e
        all_goals rw [e] at c; exact absurd c (by decide)
      rw [q3 n0]
      refine kq_if (fun c => ?_) (fun c => kq_and s.T448 (kq_ifp (fun c' => ?_) (fun c' => ?_)))
      · rw [if_pos c]
        obtain ⟨k1, k2⟩ := m_setAny h (n := 0) (by decide) hb
        exact ⟨⟨s.T448, k1⟩, ZQ.ok k2⟩
      · rw [if_neg c, if_pos ((irem_2 hi).mp c')]
        obtain ⟨k1, k2⟩ := m_setAny h hs hb
        exact ⟨⟨s.T448, s.T448, k1⟩, ZQ.ok k2⟩
      · rw [if_neg c, if_neg (fun z => c' ((irem_2 hi).mpr z))]
        exact ZQ.ok (MX.rf h)
    · have n0 : ¬ x2 = 0 := fun z => by rw [z] at c; exact absurd (by decide) c
      rw [q2 n0]
      exact ZQ.bad h n0
  -- the three values on the way
  have A175 : ∀ x2 : Int32, x2 = (if (vwT M 1024 I.d).so = 0 ∨ (vwT M 1024 I.s).so = 0 ∨ (I.i = 241 ∧ (vwT M 1024 0).so = 0) then 1 else if (vwT M 1024 I.d).so ≠ 7 then 3 else if ¬ ((((vwT M 1024 I.d).va.u &&& ((sz I.c).toInt64 - 1) = 0 ∧ ((vwT M 1024 I.d).va.b + I.o.toInt64) &&& ((sz I.c).toInt64 - 1) = 0)) ∧ lie (vwT M 1024 I.d).va I.o (sz I.c) ((mpT M).2.2 (ix (vwT M 1024 I.d).de))) then 4 else 0) → K_Model_atomic_175 448 (sz I.c) x2 M ∧ ZQ M ((atm (mpT M) I (vwT M 1024)).1, (atm (mpT M) I (vwT M 1024)).2, mI M 455 1024) (g_Model_atomic_175 448 (sz I.c) x2 M) := by
    intro x2 hx2
    have x2v : x2 = 0 ∨ x2 = 1 ∨ x2 = 3 ∨ x2 = 4 ∨ x2 = 6 := by
      rw [hx2]
      split
      · exact Or.inr (Or.inl rfl)
      · split
        · exact Or.inr (Or.inr (Or.inl rfl))
        · split
          · exact Or.inr (Or.inr (Or.inr (Or.inl rfl)))
          · exact Or.inl rfl
    have x2n : ¬ x2 = 0 → atm (mpT M) I (vwT M 1024) = (x2, vwT M 1024) := by
      intro n0
      unfold atm
      by_cases p1 : (vwT M 1024 I.d).so = 0 ∨ (vwT M 1024 I.s).so = 0 ∨ (I.i = 241 ∧ (vwT M 1024 0).so = 0)
      · rw [if_pos p1] at hx2 ⊢; rw [hx2]
      · rw [if_neg p1] at hx2 ⊢
        by_cases p2 : (vwT M 1024 I.d).so ≠ 7
        · rw [if_pos p2] at hx2 ⊢; rw [hx2]
        · rw [if_neg p2] at hx2 ⊢
          by_cases p3 : ¬ ((((vwT M 1024 I.d).va.u &&& ((sz I.c).toInt64 - 1) = 0 ∧ ((vwT M 1024 I.d).va.b + I.o.toInt64) &&& ((sz I.c).toInt64 - 1) = 0)) ∧ lie (vwT M 1024 I.d).va I.o (sz I.c) ((mpT M).2.2 (ix (vwT M 1024 I.d).de)))
          · rw [if_pos p3] at hx2 ⊢; rw [hx2]
          · rw [if_neg p3] at hx2; exact absurd hx2 n0
    have x2z : x2 = 0 → ¬ ((vwT M 1024 I.d).so = 0 ∨ (vwT M 1024 I.s).so = 0 ∨ (I.i = 241 ∧ (vwT M 1024 0).so = 0)) ∧ atm (mpT M) I (vwT M 1024) = if (vwT M 1024 I.s).so ≠ 1 ∨ (I.i = 241 ∧ (vwT M 1024 0).so ≠ 1) then (6, vwT M 1024) else (0, if I.i = 241 then up (vwT M 1024) 0 (tNu (vCut (8 * sz I.c) vFree)) else if I.i &&& 1 = 1 then up (vwT M 1024) I.s (tNu (vCut (8 * sz I.c) vFree)) else vwT M 1024) := by
      intro n0
      rw [n0] at hx2
      unfold atm
      by_cases p1 : (vwT M 1024 I.d).so = 0 ∨ (vwT M 1024 I.s).so = 0 ∨ (I.i = 241 ∧ (vwT M 1024 0).so = 0)
      · rw [if_pos p1] at hx2; exact absurd hx2 (by decide)
      · rw [if_neg p1] at hx2 ⊢
        by_cases p2 : (vwT M 1024 I.d).so ≠ 7
        · rw [if_pos p2] at hx2; exact absurd hx2 (by decide)
        · rw [if_neg p2] at hx2 ⊢
          by_cases p3 : ¬ ((((vwT M 1024 I.d).va.u &&& ((sz I.c).toInt64 - 1) = 0 ∧ ((vwT M 1024 I.d).va.b + I.o.toInt64) &&& ((sz I.c).toInt64 - 1) = 0)) ∧ lie (vwT M 1024 I.d).va I.o (sz I.c) ((mpT M).2.2 (ix (vwT M 1024 I.d).de)))
          · rw [if_pos p3] at hx2; exact absurd hx2 (by decide)
          · rw [if_neg p3]; exact ⟨p1, rfl⟩
    -- after the source
    have A209 : ∀ x3 : Int32, x3 = (if x2 = 0 then (if (vwT M 1024 I.s).so = 1 then 0 else 6) else x2) → K_Model_atomic_209 448 (sz I.c) x3 M ∧ ZQ M ((atm (mpT M) I (vwT M 1024)).1, (atm (mpT M) I (vwT M 1024)).2, mI M 455 1024) (g_Model_atomic_209 448 (sz I.c) x3 M) := by
      intro x3 hx3
      have x3v : x3 = 0 ∨ x3 = 1 ∨ x3 = 3 ∨ x3 = 4 ∨ x3 = 6 := by
        rw [hx3]
        split
        · split
          · exact Or.inl rfl
          · exact Or.inr (Or.inr (Or.inr (Or.inr rfl)))
        · exact x2v
      have fin : ∀ x4 : Int32, x4 = (if x3 = 0 then (if I.i = 241 ∧ (vwT M 1024 0).so ≠ 1 then 6 else 0) else x3) → K_Model_atomic_247 448 (sz I.c) x4 M ∧ ZQ M ((atm (mpT M) I (vwT M 1024)).1, (atm (mpT M) I (vwT M 1024)).2, mI M 455 1024) (g_Model_atomic_247 448 (sz I.c) x4 M) := by
        intro x4 hx4
        by_cases n2 : x2 = 0
        · obtain ⟨p1, p2⟩ := x2z n2
          rw [if_pos n2] at hx3
          by_cases s1 : (vwT M 1024 I.s).so = 1
          · rw [if_pos s1] at hx3
            rw [if_pos hx3] at hx4
            by_cases i1 : I.i = 241 ∧ (vwT M 1024 0).so ≠ 1
            · rw [if_pos i1] at hx4
              rw [if_pos (Or.inr i1)] at p2
              exact A247 x4 (by rw [p2, hx4]) (fun _ => by rw [p2, hx4]) (fun z => by rw [hx4] at z; exact absurd z (by decide)) (by rw [hx4]; decide)
            · rw [if_neg i1] at hx4
              rw [if_neg (fun z => z.elim (fun q => q s1) i1)] at p2
              exact A247 x4 (by rw [p2, hx4]) (fun z => absurd hx4 z) (fun _ => p2) (Or.inl hx4)
          · rw [if_neg s1] at hx3
            rw [if_neg (by rw [hx3]; decide), hx3] at hx4
            rw [if_pos (Or.inl s1)] at p2
            exact A247 x4 (by rw [p2, hx4]) (fun _ => by rw [p2, hx4]) (fun z => by rw [hx4] at z; exact absurd z (by decide)) (by rw [hx4]; decide)
        · have p2 := x2n n2
          rw [if_neg n2] at hx3
          rw [if_neg (by rw [hx3]; exact n2), hx3] at hx4
          exact A247 x4 (by rw [p2, hx4]) (fun _ => by rw [p2, hx4]) (fun z => absurd (hx4.symm.trans z) n2) (by rw [hx4]; exact x2v)
      unfold g_Model_atomic_209 K_Model_atomic_209 g_Model_atomic_242 K_Model_atomic_242 g_Model_atomic_243 K_Model_atomic_243
      rw [hI.2.2.2.2, c1, fst_0, fst_6 x3v]
      refine kq_and s.T448 (kq_if (fun ci => kq_and s.T448 (kq_and c2 (kq_if (fun c0 => fin _ ?_) (fun c0 => kq_and s.T448 (kq_and c2 (kq_if (fun c01 => fin _ ?_) (fun c01 => fin _ ?_))))))) (fun ci => fin _ ?_))
      · have n3 : ¬ x3 = 0 := by
          intro z
          by_cases n2 : x2 = 0
          · exact (x2z n2).1 (Or.inr (Or.inr ⟨ci, c0⟩))
          · rw [if_neg n2, z] at hx3; exact n2 hx3.symm
        rw [if_neg n3]
      · by_cases n3 : x3 = 0
        · rw [if_pos n3, if_neg (fun (z : I.i = 241 ∧ (vwT M 1024 0).so ≠ 1) => z.2 c01), n3]
        · rw [if_neg n3]
      · have q : I.i = 241 ∧ (vwT M 1024 0).so ≠ 1 := ⟨ci, c01⟩
        rw [if_pos q]
      · have q : ¬ (I.i = 241 ∧ (vwT M 1024 0).so ≠ 1) := fun z => ci z.1
        rw [if_neg q]
        by_cases n3 : x3 = 0
        · rw [if_pos n3, n3]
        · rw [if_neg n3]
    unfold g_Model_atomic_175 K_Model_atomic_175 g_Model_atomic_204 K_Model_atomic_204 g_Model_atomic_205 K_Model_atomic_205
    rw [hI.2.2.1, b1, fst_0, fst_6 x2v]
    refine kq_and s.T448 (kq_and s.T448 (kq_and b2 (kq_if (fun c0 => A209 _ ?_) (fun c0 => kq_and s.T448 (kq_and s.T448 (kq_and b2 (kq_if (fun c01 => A209 _ ?_) (fun c01 => A209 _ ?_))))))))
    · have n2 : ¬ x2 = 0 := fun z => (x2z z).1 (Or.inr (Or.inl c0))
      rw [if_neg n2]
    · by_cases n2 : x2 = 0
      · rw [if_pos n2, if_pos c01, n2]
      · rw [if_neg n2]
    · rw [if_neg c01]
  have A49 : ∀ x2 : Int32, x2 = (if (vwT M 1024 I.d).so = 0 ∨ (vwT M 1024 I.s).so = 0 ∨ (I.i = 241 ∧ (vwT M 1024 0).so = 0) then 1 else 0) → K_Model_atomic_49 448 (sz I.c) x2 M ∧ ZQ M ((atm (mpT M) I (vwT M 1024)).1, (atm (mpT M) I (vwT M 1024)).2, mI M 455 1024) (g_Model_atomic_49 448 (sz I.c) x2 M) := by
    intro x2 hx2
    unfold g_Model_atomic_49 K_Model_atomic_49 g_Model_atomic_58 K_Model_atomic_58 g_Model_atomic_69 K_Model_atomic_69 g_Model_atomic_74 K_Model_atomic_74 g_Model_atomic_78 K_Model_atomic_78
    rw [hI.2.1, a1, fst_0]
    have no7 : ∀ x3 : Int32, ¬ (vwT M 1024 I.d).so = 7 → x3 = (if (vwT M 1024 I.d).so = 0 ∨ (vwT M 1024 I.s).so = 0 ∨ (I.i = 241 ∧ (vwT M 1024 0).so = 0) then 1 else 3) → K_Model_atomic_175 448 (sz I.c) x3 M ∧ ZQ M ((atm (mpT M) I (vwT M 1024)).1, (atm (mpT M) I (vwT M 1024)).2, mI M 455 1024) (g_Model_atomic_175 448 (sz I.c) x3 M) := by
      intro x3 n7 hx3
      refine A175 x3 ?_
      rw [hx3, if_pos n7]
    refine kq_and s.T448 (kq_and s.T448 (kq_and a2 (kq_if (fun c0 => ?_) (fun c0 => kq_if (fun c7 => ?_) (fun c7 => ?_)))))
    · have n7 : ¬ (vwT M 1024 I.d).so = 7 := by rw [c0]; decide
      refine kq_if (fun z => absurd z n7) (fun _ => no7 x2 n7 ?_)
      rw [hx2, if_pos (Or.inl c0), if_pos (Or.inl c0)]
    · refine kq_if (fun _ => kq_and s.T448 ?_) (fun z => absurd c7 z)
      have e := tw_va (M := M) hd (hv47 (Or.inr c7))
      have l1 : mL M 461 (8 + (76800 + I.d)) = (vwT M 1024 I.d).va.b := by rw [← e]; rfl
      have l2 : mL M 462 (8 + (76800 + I.d)) = (vwT M 1024 I.d).va.u := by rw [← e]; rfl
      have k1 : rk (Int32.ofNat (8 + (76800 + I.d))) := rkN (by omega)
      unfold g_Model_atomic_96 K_Model_atomic_96 g_Model_atomic_102 K_Model_atomic_102 g_Model_atomic_148 K_Model_atomic_148 g_Model_atomic_149 K_Model_atomic_149 g_Model_atomic_171 K_Model_atomic_171
      rw [s.R448_16, s.R460_1, s.R460_0, roN, ixN (show 8 + (76800 + I.d) < 2147483648 by omega), l1, l2, hI.2.2.2.1, hI.2.1, r1, if_neg c0]
      have er : rch (mpT M) (mI M 455 1024) (vwT M 1024 I.d) I.o (sz I.c) 1 = if lie (vwT M 1024 I.d).va I.o (sz I.c) ((mpT M).2.2 (ix (vwT M 1024 I.d).de)) then 0 else 4 := by
        unfold rch
        rw [if_neg (by rw [c7]; decide), if_neg (by rw [c7]; decide), if_neg (by rw [c7]; decide), if_pos c7]
      rw [er]
      have no : ¬ (((vwT M 1024 I.d).va.u &&& ((sz I.c).toInt64 - 1) = 0 ∧ ((vwT M 1024 I.d).va.b + I.o.toInt64) &&& ((sz I.c).toInt64 - 1) = 0)) → g_Model_first x2 4 = (if (vwT M 1024 I.d).so = 0 ∨ (vwT M 1024 I.s).so = 0 ∨ (I.i = 241 ∧ (vwT M 1024 0).so = 0) then 1 else if (vwT M 1024 I.d).so ≠ 7 then 3 else if ¬ ((((vwT M 1024 I.d).va.u &&& ((sz I.c).toInt64 - 1) = 0 ∧ ((vwT M 1024 I.d).va.b + I.o.toInt64) &&& ((sz I.c).toInt64 - 1) = 0)) ∧ lie (vwT M 1024 I.d).va I.o (sz I.c) ((mpT M).2.2 (ix (vwT M 1024 I.d).de))) then 4 else 0) := by
        intro na
        rw [if_neg (fun (z : (vwT M 1024 I.d).so ≠ 7) => z c7), if_pos (fun z => na z.1), hx2]
        split <;> decide
      refine kq_and s.T448 (kq_and s.T460 (kq_and s.T462 (kq_and (by rw [s.N462]; exact k1) (kq_if (fun p1 => kq_and s.T448 (kq_and s.T460 (kq_and s.T461 (kq_and (by rw [s.N461]; exact k1) (kq_and s.T448 (kq_if (fun p2 => ?_) (fun p2 => ?_))))))) (fun p1 => ?_)))))
      · have al : (vwT M 1024 I.d).va.u &&& ((sz I.c).toInt64 - 1) = 0 ∧ ((vwT M 1024 I.d).va.b + I.o.toInt64) &&& ((sz I.c).toInt64 - 1) = 0 := ⟨cmp_eq.mp p1, cmp_eq.mp p2⟩
        refine kq_if (fun z => absurd z i1_0) (fun _ => kq_and s.T448 (kq_and s.T448 (kq_and r2 (A175 _ ?_))))
        rw [if_neg (fun (z : (vwT M 1024 I.d).so ≠ 7) => z c7), hx2, fst_4]
        by_cases q1 : (vwT M 1024 I.d).so = 0 ∨ (vwT M 1024 I.s).so = 0 ∨ (I.i = 241 ∧ (vwT M 1024 0).so = 0)
        · rw [if_pos q1, if_pos q1]
        · rw [if_neg q1, if_neg q1]
          by_cases q2 : lie (vwT M 1024 I.d).va I.o (sz I.c) ((mpT M).2.2 (ix (vwT M 1024 I.d).de))
          · rw [if_pos q2, if_neg (fun z => z ⟨al, q2⟩)]
          · rw [if_neg q2, if_pos (fun z => q2 z.2)]
      · exact kq_if (fun _ => A175 _ (no (fun z => p2 (cmp_eq.mpr z.2)))) (fun z => absurd rfl z)
      · exact kq_if (fun _ => A175 _ (no (fun z => p1 (cmp_eq.mpr z.1)))) (fun z => absurd rfl z)
    · refine kq_if (fun z => absurd z c7) (fun _ => no7 _ c7 ?_)
      rw [hx2]
      split <;> decide
  have A25 : ∀ x2 : Int32, x2 = (if (vwT M 1024 I.d).so = 0 ∨ (vwT M 1024 I.s).so = 0 then 1 else 0) → K_Model_atomic_25 448 (sz I.c) x2 M ∧ ZQ M ((atm (mpT M) I (vwT M 1024)).1, (atm (mpT M) I (vwT M 1024)).2, mI M 455 1024) (g_Model_atomic_25 448 (sz I.c) x2 M) := by
    intro x2 hx2
    unfold g_Model_atomic_25 K_Model_atomic_25 g_Model_atomic_45 K_Model_atomic_45
    rw [hI.2.2.2.2, g1, fst_0]
    refine kq_and s.T448 (kq_if (fun ci => kq_and s.T448 (kq_and g2 (A49 _ ?_))) (fun ci => A49 _ ?_))
    · rw [hx2, fst_1 (Or.inl rfl)]
      simp only [ci, true_and, or_assoc]
    · rw [hx2]
      simp only [ci, false_and, or_false]
  unfold g_Model_atomic K_Model_atomic g_Model_atomic_0 K_Model_atomic_0 g_Model_atomic_5 K_Model_atomic_5
  rw [z1, hI.2.1, hI.2.2.1, e1, f1]
  refine kq_and s.T448 (kq_and z2 (kq_and s.T448 (kq_and s.T448 (kq_and f2 (kq_and s.T448 (kq_and s.T448 (kq_and e2 (A25 _ ?_))))))))
  exact fst_1 (Or.inl rfl)
end ST
