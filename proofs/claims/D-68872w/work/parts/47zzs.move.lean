/-! part 47zzs: the twin moves pointers (gen/tpl.py) -/
theorem t_isSingle {M : XM} (h : Sh M) {r : Int32} (rr : rk r) {v : AV} (ev : tvk M (ix r) = v) (tv : Tt v) : g_Sets_isSingle 460 r M = (if v.u = 0 then 1 else 0) ∧ K_Sets_isSingle 460 r M := by
  unfold g_Sets_isSingle K_Sets_isSingle g_Sets_isSingle_0 K_Sets_isSingle_0
  rw [h.R460_2, h.R460_3]
  have e1 : mL M 463 (ix r) = v.lo := by rw [← ev]; rfl
  have e2 : mL M 464 (ix r) = v.hi := by rw [← ev]; rfl
  rw [e1, e2]
  refine ⟨?_, h.T460, h.T463, by rw [h.N463]; exact rr, h.T460, h.T464, by rw [h.N464]; exact rr⟩
  by_cases c : v.u = 0
  · rw [if_pos c, if_pos (cmp_eq.mpr (tv.single.mp c))]
  · rw [if_neg c, if_neg (fun z => c (tv.single.mpr (cmp_eq.mp z)))]
theorem m_put {M : XM} (h : TW M) {n : Nat} (hn : n < 75) (w d : Int32) (hw : hvB w = false) : K_Model_set 448 1024 (Int32.ofNat n) w d M ∧ MX M (up (vwT M 1024) n (w, d, -1, vOne 0)) (g_Model_set 448 1024 (Int32.ofNat n) w d M) := by
  obtain ⟨a, b⟩ := m_set h.1 (k := 1024) (by decide) hn w d
  rw [i1024, a]
  have x := MX.sx h hn (t := (w, d, -1, (tR M (76800 + n)).va)) (e := tE M (76800 + n)) (h.2.1 _ (by omega)).1 (h.2.1 _ (by omega)).2
  rw [nrm_no (show hvB (TH.so (w, d, -1, (tR M (76800 + n)).va)) = false from hw)] at x
  exact ⟨b, x⟩
theorem m_putV {M : XM} (h : TW M) {n : Nat} (hn : n < 75) (w d : Int32) {r : Int32} (rr : rk r) (lr : ix r < 8) {v : AV} (ev : tvk M (ix r) = v) (fv : tek M (ix r) = 0) (tv : Tt v) : K_Model_set 448 1024 (Int32.ofNat n) w d M ∧ Sh (g_Model_set 448 1024 (Int32.ofNat n) w d M) ∧ mI (g_Model_set 448 1024 (Int32.ofNat n) w d M) 448 20 = mI M 448 20 ∧ K_Sets_copy 460 r (g_Model_row 1024 (Int32.ofNat n)) (g_Model_set 448 1024 (Int32.ofNat n) w d M) ∧ MX M (up (vwT M 1024) n (nrm (w, d, -1, v))) (g_Sets_copy 460 r (g_Model_row 1024 (Int32.ofNat n)) (g_Model_set 448 1024 (Int32.ofNat n) w d M)) := by
  obtain ⟨a, b⟩ := m_set h.1 (k := 1024) (by decide) hn w d
  rw [i1024, rowN, a]
  have sS : Sh (sX M (75 * 1024 + n) (w, d, -1, (tR M (75 * 1024 + n)).va) (tE M (75 * 1024 + n))) := h.1.kept rfl
  have tc := t_copy sS r (Int32.ofNat (8 + (75 * 1024 + n)))
  rw [ixN (show 8 + (75 * 1024 + n) < 2147483648 by omega), tvk_sXne _ _ _ _ (show ix r ≠ 8 + (75 * 1024 + n) by omega), tek_sXne _ _ _ _ (show ix r ≠ 8 + (75 * 1024 + n) by omega), ev, fv, jz0, sX_r, tR_sX, sX_sX] at tc
  rw [tc]
  exact ⟨b, sS, mI_sXa _ _ _ _ (by decide) 20, kt_copy sS rr (rkN (by omega)), MX.sx h hn rfl tv⟩
theorem ZQ.any {M : XM} {w : Int32} {σ σ' : Sg} {kn kn' : Int32} {r : Int32 × XM} (h : ZQ M (w, σ, kn) r) (hw : w ≠ 0) : ZQ M (w, σ', kn') r := ⟨h.1, h.2.1, h.2.2.1, fun z => absurd z hw⟩
theorem ZQ.ok {M : XM} {σ : Sg} {X : XM} (h : MX M σ X) : ZQ M (0, σ, mI M 455 1024) (0, X) := h.mq
theorem ZQ.mv {M M1 : XM} {w : Int32 × Sg × Int32} {r : Int32 × XM} {σ : Sg} (h : ZQ M1 w r) (m : MX M σ M1) : ZQ M w r := ⟨h.1, m.2.1.trans h.2.1, h.2.2⟩
theorem ZQ.bad {M : XM} (h : TW M) {w : Int32} {σ : Sg} {kn : Int32} (hw : w ≠ 0) : ZQ M (w, σ, kn) (w, M) := ZQ.err hw h FX.rf
section MV
variable {M : XM} {I : In}
theorem m_mv128 (h : TW M) (hI : InT M I) (hd : I.d < 75) {so : Int32} (hv : hvB so = false) (c : Int64) : K_Model_move_128 448 so c M ∧ ZQ M (if (-536870912 : Int64) ≤ c ∧ c ≤ 536870912 then 0 else 2, up (vwT M 1024) I.d (so, c.toInt32, -1, vOne 0), mI M 455 1024) (g_Model_move_128 448 so c M) := by
  unfold g_Model_move_128 K_Model_move_128 g_Model_move_165
  rw [hI.2.1]
  refine kq_ifn (fun c1 => ?_) (fun c1 => kq_ifp (fun c2 => ?_) (fun c2 => ?_))
  · rw [if_neg (fun z => by rw [cmp_ltN] at c1; exact c1 z.1)]
    exact ZQ.bad (w := 2) h (by decide)
  · have c1' : (-536870912 : Int64) ≤ c := Decidable.not_not.mp (by rw [cmp_ltN] at c1; exact c1)
    rw [if_pos ⟨c1', cmp_le.mp c2⟩]
    obtain ⟨a, b⟩ := m_put h hd so c.toInt32 hv
    exact ⟨⟨h.1.T448, h.1.T448, a⟩, ZQ.ok b⟩
  · rw [if_neg (fun z => c2 (cmp_le.mpr z.2))]
    exact ZQ.bad (w := 2) h (by decide)
theorem hv23 {s : Int32} (h : s = 2 ∨ s = 3) : hvB s = false := by rcases h with e | e <;> rw [e] <;> decide
theorem hv47 {s : Int32} (h : s = 4 ∨ s = 7) : hvB s = true := by rcases h with e | e <;> rw [e] <;> decide
theorem m_move (h : TW M) (hI : InT M I) (hd : I.d < 75) (wt : WS (vwT M 1024)) (hn : nm I.c = 0 ∨ nm I.c = 1) {b : Nat} (hb : b < 75) {x2 r : Int32} (er : (if 0 ≤ x2 then g_Model_row 1024 x2 else 5) = r) (rr : rk r) (gr : 4 < ix r) {v : AV} (ev : tvk M (ix r) = v) (fv : tek M (ix r) = 0) (tv : Tt v)
    (mv : (vwT M 1024 b).so = 2 ∨ (vwT M 1024 b).so = 3 ∨ (vwT M 1024 b).so = 4 ∨ (vwT M 1024 b).so = 7) :
    K_Model_move 448 (Int32.ofNat b) x2 M ∧ ZQ M ((ptr1 (nm I.c) (vwT M 1024 b) v).1, up (vwT M 1024) I.d (ptr1 (nm I.c) (vwT M 1024 b) v).2, mI M 455 1024) (g_Model_move 448 (Int32.ofNat b) x2 M) := by
  have s := h.1
  obtain ⟨a1, a2⟩ := m_sortOf s hb
  obtain ⟨n1, n2⟩ := hI.num s
  obtain ⟨w1, w2, w3, w4, w5, w6, w7⟩ := wt b
  have de : mI M 458 (76800 + b) = (vwT M 1024 b).de := tw_de hb
  have va := fun z => tw_va (M := M) hb z
  have M33 : ((vwT M 1024 b).so = 2 ∨ (vwT M 1024 b).so = 3) → K_Model_move_33 448 (Int32.ofNat b) (vwT M 1024 b).so r M ∧ ZQ M ((ptr1 (nm I.c) (vwT M 1024 b) v).1, up (vwT M 1024) I.d (ptr1 (nm I.c) (vwT M 1024 b) v).2, mI M 455 1024) (g_Model_move_33 448 (Int32.ofNat b) (vwT M 1024 b).so r M) := by
    intro m23
    have hv := hv23 m23
    have og := w4 (by rcases m23 with e | e <;> rw [e] <;> decide)
    have n47 : ¬ ((vwT M 1024 b).so = 4 ∨ (vwT M 1024 b).so = 7) := by rcases m23 with e | e <;> rw [e] <;> decide
    have lo : mL M 463 (ix r) = v.lo := by rw [← ev]; rfl
    unfold g_Model_move_33 K_Model_move_33 g_Model_move_45 K_Model_move_45 g_Model_move_60 K_Model_move_60 g_Model_move_94 K_Model_move_94 g_Model_move_95 K_Model_move_95
    obtain ⟨q1, q2⟩ := t_isSingle s rr ev tv
    rw [s.R448_16, s.R460_2, s.R448_14, thN, ixN (show 76800 + b < 2147483648 by omega), de, lo, q1, n1]
    have vp : vp_in (Int32.ofNat (76800 + b)) (mN M 458) := by rw [s.N458]; exact vpN (by omega) (by omega)
    refine kq_and s.T448 (kq_and s.T460 (kq_and s.T463 (kq_and (by rw [s.N463]; exact rr) (kq_and s.T448 (kq_and s.T458 (kq_and vp (kq_and s.T448 (kq_and s.T460 (kq_and q2 ?_)))))))))
    have far : ∀ {p : Prop}, p → ZQ M (2, up (vwT M 1024) I.d (vwT M 1024 b), mI M 455 1024) (g_Model_move_128 448 (vwT M 1024 b).so 1073741824 M) ∧ K_Model_move_128 448 (vwT M 1024 b).so 1073741824 M := fun _ => by
      obtain ⟨k1, k2⟩ := m_mv128 h hI hd hv 1073741824
      rw [if_neg (by decide)] at k2
      exact ⟨k2.any (by decide), k1⟩
    obtain ⟨far1, far2⟩ := far trivial
    by_cases cu : v.u = 0
    · have e1 := tv.one_of cu
      have el : v.lo = v.le := by rw [e1]
      rw [if_pos cu, el]
      by_cases g1 : (-1073741824 : Int64) ≤ v.le
      · by_cases g2 : v.le ≤ 1073741824
        · have ep : ptr1 (nm I.c) (vwT M 1024 b) v = (if (-536870912 : Int64) ≤ (if nm I.c = 0 then (vwT M 1024 b).de.toInt64 + v.le else (vwT M 1024 b).de.toInt64 - v.le) ∧ (if nm I.c = 0 then (vwT M 1024 b).de.toInt64 + v.le else (vwT M 1024 b).de.toInt64 - v.le) ≤ 536870912 then 0 else 2, ((vwT M 1024 b).so, (if nm I.c = 0 then (vwT M 1024 b).de.toInt64 + v.le else (vwT M 1024 b).de.toInt64 - v.le).toInt32, (vwT M 1024 b).og, (vwT M 1024 b).va)) := by
            unfold ptr1
            rw [if_neg n47, if_pos ⟨m23, cu, g1, g2⟩]
          rw [ep, og, w1 hv]
          simp only [cmp_ltN, cmp_gtN, g1, g2, i1_0, if_true, if_false, not_true, not_false_iff, and_self, and_true, true_and, and_false, false_and, or_true, true_or, or_false, false_or, or_self, i32_10, eq_self, true_implies, false_implies, implies_true, ite_self, ne_eq]
          by_cases c0 : nm I.c = 0
          · simp only [c0, if_true, if_false, not_true, not_false_iff, and_self, and_true, true_and, and_false, false_and, or_true, true_or, or_false, false_or, or_self, i32_10, eq_self, true_implies, false_implies, implies_true, ite_self, ne_eq]
            obtain ⟨k1, k2⟩ := m_mv128 h hI hd hv ((vwT M 1024 b).de.toInt64 + v.le)
            exact ⟨⟨s.T448, n2, k1⟩, k2⟩
          · simp only [c0, if_true, if_false, not_true, not_false_iff, and_self, and_true, true_and, and_false, false_and, or_true, true_or, or_false, false_or, or_self, i32_10, eq_self, true_implies, false_implies, implies_true, ite_self, ne_eq]
            obtain ⟨k1, k2⟩ := m_mv128 h hI hd hv ((vwT M 1024 b).de.toInt64 - v.le)
            exact ⟨⟨s.T448, n2, k1⟩, k2⟩
        · have ep : ptr1 (nm I.c) (vwT M 1024 b) v = (2, vwT M 1024 b) := by
            unfold ptr1
            rw [if_neg n47, if_neg (fun z => g2 z.2.2.2)]
          rw [ep]
          simp only [cmp_ltN, cmp_gtN, g1, g2, i1_0, if_true, if_false, not_true, not_false_iff, and_self, and_true, true_and, and_false, false_and, or_true, true_or, or_false, false_or, or_self, i32_10, eq_self, true_implies, false_implies, implies_true, ite_self, ne_eq]
          exact ⟨by simp [far2], far1⟩
      · have ep : ptr1 (nm I.c) (vwT M 1024 b) v = (2, vwT M 1024 b) := by
          unfold ptr1
          rw [if_neg n47, if_neg (fun z => g1 z.2.2.1)]
        rw [ep]
        simp only [cmp_ltN, cmp_gtN, g1, i1_0, if_true, if_false, not_true, not_false_iff, and_self, and_true, true_and, and_false, false_and, or_true, true_or, or_false, false_or, or_self, i32_10, eq_self, true_implies, false_implies, implies_true, ite_self, ne_eq]
        exact ⟨by simp [far2], far1⟩
    · have ep : ptr1 (nm I.c) (vwT M 1024 b) v = (2, vwT M 1024 b) := by
        unfold ptr1
        rw [if_neg n47, if_neg (fun z => cu z.2.1)]
      rw [ep, if_neg cu]
      simp only [if_true, if_false, not_true, not_false_iff, and_self, and_true, true_and, and_false, false_and, or_true, true_or, or_false, false_or, or_self, i32_10, eq_self, true_implies, false_implies, implies_true, ite_self, ne_eq]
      exact ⟨by simp [far2], far1⟩
  have M81 : ((vwT M 1024 b).so = 4 ∨ (vwT M 1024 b).so = 7) → K_Model_move_181 448 (Int32.ofNat b) (vwT M 1024 b).so r (vwT M 1024 b).de M ∧ ZQ M ((ptr1 (nm I.c) (vwT M 1024 b) v).1, up (vwT M 1024) I.d (ptr1 (nm I.c) (vwT M 1024 b) v).2, mI M 455 1024) (g_Model_move_181 448 (Int32.ofNat b) (vwT M 1024 b).so r (vwT M 1024 b).de M) := by
    intro m47
    have hv := hv47 m47
    have og := w4 (by rcases m47 with e | e <;> rw [e] <;> decide)
    have ep : ptr1 (nm I.c) (vwT M 1024 b) v = (if nearV (vOp (ix (nm I.c)) 64 (vwT M 1024 b).va v) then 0 else 2, ((vwT M 1024 b).so, (vwT M 1024 b).de, -1, vOp (ix (nm I.c)) 64 (vwT M 1024 b).va v)) := by
      unfold ptr1
      rw [if_pos m47, og]
    rw [ep]
    have nk : ix (nm I.c) < 12 ∧ nm I.c = Int32.ofNat (ix (nm I.c)) := by rcases hn with e | e <;> rw [e] <;> decide
    obtain ⟨u1, u2⟩ := tw_tt h hb
    have ixb : ix (Int32.ofNat (8 + (76800 + b))) = 8 + (76800 + b) := ixN (by omega)
    obtain ⟨k1, k2, k3, k4⟩ := m_op (k := ix (nm I.c)) (n := 64) h nk.1 (Or.inl rfl) (a := Int32.ofNat (8 + (76800 + b))) (b := r) (rkN (by omega)) rr (by rw [ixb]; omega) gr (by rw [ixb]; exact u1) (by rw [ev]; exact tv) (by rw [ixb]; exact u2) fv
    rw [← nk.2] at k1 k2 k3 k4
    rw [ixb, va hv, ev] at k3
    unfold g_Model_move_181 K_Model_move_181
    rw [s.R448_16, n1, roN]
    generalize g_Sets_operate 460 (nm I.c) 64 7 (Int32.ofNat (8 + (76800 + b))) r M = X at k2 k3 k4 ⊢
    have s1 := k2.1.1
    have hI1 := hI.fx k2.2.1
    have tz : Tt (vOp (ix (nm I.c)) 64 (vwT M 1024 b).va v) := op_T nk.1 (Or.inl rfl) (w2) tv
    refine kq_and s.T448 (kq_and s.T448 (kq_and n2 (kq_and s.T460 (kq_and k1 ?_))))
    generalize vOp (ix (nm I.c)) 64 (vwT M 1024 b).va v = z at k3 tz ⊢
    unfold g_Model_move_205 K_Model_move_205 g_Model_move_255 K_Model_move_255 g_Model_move_274
    have l1 : mL X 465 7 = z.le := by rw [← k3]; rfl
    have l2 : mL X 466 7 = z.gr := by rw [← k3]; rfl
    rw [s1.R448_16, s1.R460_4, s1.R460_5, ix7, l1, l2, hI1.2.1]
    obtain ⟨p1, p2, p3, p4, p5⟩ := m_putV k2.1 hd (vwT M 1024 b).so (vwT M 1024 b).de rk7 (by rw [ix7]; decide) (by rw [ix7]; exact k3) (by rw [ix7]; exact k4) tz
    rw [p2.R448_16, p3, hI1.2.1]
    rw [nrm_id (show hvB (TH.so ((vwT M 1024 b).so, (vwT M 1024 b).de, -1, z)) = true from hv), k2.2.2.1] at p5
    refine kq_and s1.T448 (kq_and s1.T460 (kq_and s1.T465 (kq_and (by rw [s1.N465]; exact rk7) (kq_ifn (fun c1 => ?_) (fun c1 => kq_and s1.T448 (kq_and s1.T460 (kq_and s1.T466 (kq_and (by rw [s1.N466]; exact rk7) (kq_ifp (fun c2 => ?_) (fun c2 => ?_))))))))))
    · rw [if_neg (fun (q : nearV z) => by rw [cmp_ltN] at c1; exact c1 q.1)]
      exact ZQ.err (w := 2) (by decide) k2.1 k2.2.1
    · have c1' : (-536870912 : Int64) ≤ z.le := Decidable.not_not.mp (by rw [cmp_ltN] at c1; exact c1)
      have q : nearV z := ⟨c1', cmp_le.mp c2⟩
      rw [if_pos q]
      exact ⟨⟨s1.T448, s1.T448, p1, p2.T448, p2.T448, p2.T460, p4⟩, ZQ.ok (k2.trans p5)⟩
    · rw [if_neg (fun (q : nearV z) => c2 (cmp_le.mpr q.2))]
      exact ZQ.err (w := 2) (by decide) k2.1 k2.2.1
  have body : K_Model_move_21 448 (Int32.ofNat b) (vwT M 1024 b).so r M ∧ ZQ M ((ptr1 (nm I.c) (vwT M 1024 b) v).1, up (vwT M 1024) I.d (ptr1 (nm I.c) (vwT M 1024 b) v).2, mI M 455 1024) (g_Model_move_21 448 (Int32.ofNat b) (vwT M 1024 b).so r M) := by
    unfold g_Model_move_21 K_Model_move_21
    have vp : vp_in (Int32.ofNat (76800 + b)) (mN M 458) := by rw [s.N458]; exact vpN (by omega) (by omega)
    rw [s.R448_14, thN, ixN (show 76800 + b < 2147483648 by omega), de]
    refine kq_if (fun c => M33 (Or.inl c)) (fun c => kq_if (fun c' => M33 (Or.inr c')) (fun c' => kq_and s.T448 (kq_and s.T458 (kq_and vp (M81 ?_)))))
    rcases mv with e | e | e | e
    · exact absurd e c
    · exact absurd e c'
    · exact Or.inl e
    · exact Or.inr e
  unfold g_Model_move K_Model_move g_Model_move_0 K_Model_move_0 g_Model_move_6 K_Model_move_6
  rw [a1]
  by_cases c : 0 ≤ x2
  · rw [if_pos c] at er
    rw [if_pos c, er]
    exact ⟨⟨s.T448, a2, fun _ => body.1, fun z => absurd c z⟩, body.2⟩
  · rw [if_neg c] at er
    subst er
    rw [if_neg c]
    exact ⟨⟨s.T448, a2, fun z => absurd z c, fun _ => body.1⟩, body.2⟩
end MV
