/-! part 47zzh: the component's Transfer: load, store (gen/tpl.py) -/
theorem sz_toInt {b : Int32} (hb : b = 1 ∨ b = 2 ∨ b = 4 ∨ b = 8) : b.toInt = 1 ∨ b.toInt = 2 ∨ b.toInt = 4 ∨ b.toInt = 8 := by
  rcases hb with e | e | e | e <;> rw [e] <;> decide
theorem rch_3 {mp : Mp} {kn : Int32} {t : TH} {o b w : Int32} (s : t.so = 3) (h : rch mp kn t o b w = 0) : adr t o % b.toInt = 0 ∧ -512 ≤ adr t o ∧ adr t o ≤ -b.toInt := by
  unfold rch at h
  rw [if_pos s] at h
  by_cases q : adr t o % b.toInt = 0 ∧ -512 ≤ adr t o ∧ adr t o ≤ -b.toInt
  · exact q
  · rw [if_neg q] at h; exact absurd h (by decide)
theorem adr_i {t : TH} {o : Int32} (wt : WT t) (s : t.so = 2 ∨ t.so = 3) (ho : -32768 ≤ o.toInt ∧ o.toInt ≤ 32767) : (t.de + o).toInt = adr t o := by
  obtain ⟨w1, w2⟩ := wt.2.2.2.2.2.1 s
  exact add_small w1 w2 ho.1 ho.2
theorem c_load {M : XM} (h : Sh M) {k : Int32} {I : In} (hI : InC M k I) (w : WI I) (ws : WS (vwC M 134)) :
    K_Transfer_load 133 k M ∧ TQ M ((lod (mpC M) I (vwC M 134) (mI M 134 1)).1, (lod (mpC M) I (vwC M 134) (mI M 134 1)).2, mI M 134 1) (g_Transfer_load 133 k M) := by
  have hd : I.d < 75 := by have := w.2.1; omega
  have hs : I.s < 75 := by have := w.2.2.1; omega
  have hd11 := w.2.1
  have ho := w.2.2.2.1
  obtain ⟨m1, m2⟩ := hI.mode h
  obtain ⟨z1, z2⟩ := hI.size h
  obtain ⟨d1, d2⟩ := hI.2.1
  obtain ⟨s1, s2⟩ := hI.2.2.1
  obtain ⟨o1, o2⟩ := hI.2.2.2.1
  obtain ⟨p1, p2⟩ := c_own h hd
  obtain ⟨p3, p4⟩ := c_own h hs
  obtain ⟨q1, q2⟩ := c_isRead h hs
  have tB := h.now hs
  have tD := h.now hd
  have eB : thC M (136 + 2 * I.s) = vwC M 134 I.s := (vwC_at hs).symm
  have eB0 : mI M (136 + 2 * I.s) 0 = (vwC M 134 I.s).so := by rw [← eB]; rfl
  have eB1 : mI M (136 + 2 * I.s) 1 = (vwC M 134 I.s).de := by rw [← eB]; rfl
  have wB := ws I.s
  obtain ⟨r1, r2⟩ := c_reach h tB (by rw [eB]; exact wB) ho (sz_cases I.c) 0
  rw [eB] at r1
  unfold g_Transfer_load K_Transfer_load g_Transfer_load_0 K_Transfer_load_0 g_Transfer_load_13 K_Transfer_load_13 g_Transfer_load_22 K_Transfer_load_22 g_Transfer_load_32 K_Transfer_load_32 g_Transfer_load_60 K_Transfer_load_60 g_Transfer_load_82 K_Transfer_load_82 g_Transfer_load_91 K_Transfer_load_91
  rw [h.R133_0, s1, p3, z1, o1, q1, r1, d1, p1, m1, eB1]
  refine kq_and h.T133 (kq_and h.T102 (kq_and s2 (kq_and h.T133 (kq_and p4 (kq_and h.T133 (kq_and h.T102 (kq_and z2 (kq_and h.T133 (kq_and h.T102 (kq_and o2 (kq_and h.T133 (kq_and h.T102 (kq_and s2 (kq_and h.T133 (kq_and q2 ?_)))))))))))))))
  unfold lod
  refine kq_ifn (fun c => ?_) (fun c => ?_)
  · have c' : (vwC M 134 I.s).so = 0 := by
      by_cases q : (vwC M 134 I.s).so = 0
      · exact q
      · rw [if_neg q] at c; exact absurd c i1_0
    rw [if_pos c']
    exact TQ.no (w := 1) (by decide) _ _
  · have c' : ¬ (vwC M 134 I.s).so = 0 := fun q => c (if_pos q)
    rw [if_neg c']
    refine kq_and h.T133 (kq_and r2 (kq_ifp (fun c1 => ?_) (fun c1 => ?_)))
    · have c1' := rch_le.mp c1
      rw [if_neg (fun z => z c1')]
      refine kq_and h.T133 (kq_and h.T102 (kq_and d2 (kq_and h.T133 (kq_and p2 (kq_and tB.1 (kq_and h.T133 (kq_and h.T102 (kq_and m2 ?_))))))))
      have main : K_Transfer_load_108 133 (136 + 2 * I.s) (sz I.c) (136 + 2 * I.d) ((vwC M 134 I.s).de + I.o) (if md I.c = 4 then 1 else 0) M ∧ TQ M ((if (vwC M 134 I.s).so = 3 then (if sz I.c = 8 ∧ (vwC M 134 (slo (q5 (adr (vwC M 134 I.s) I.o)))).so ≠ 9 then ((0 : Int32), up (vwC M 134) I.d (vwC M 134 (slo (q5 (adr (vwC M 134 I.s) I.o))))) else cif (hasN (vwC M 134) (q5 (adr (vwC M 134 I.s) I.o)) (ix (sz I.c))) (0, up (vwC M 134) I.d (tNu (ldA (sz I.c) (md I.c)))) (5, vwC M 134)) else if (vwC M 134 I.s).so = 2 ∧ adr (vwC M 134 I.s) I.o < 16 then (0, up (vwC M 134) I.d (if adr (vwC M 134 I.s) I.o = 0 then 4 else 5, 0, -1, vOne 0)) else (0, up (vwC M 134) I.d (tNu (ldA (sz I.c) (md I.c))))).1, (if (vwC M 134 I.s).so = 3 then (if sz I.c = 8 ∧ (vwC M 134 (slo (q5 (adr (vwC M 134 I.s) I.o)))).so ≠ 9 then ((0 : Int32), up (vwC M 134) I.d (vwC M 134 (slo (q5 (adr (vwC M 134 I.s) I.o))))) else cif (hasN (vwC M 134) (q5 (adr (vwC M 134 I.s) I.o)) (ix (sz I.c))) (0, up (vwC M 134) I.d (tNu (ldA (sz I.c) (md I.c)))) (5, vwC M 134)) else if (vwC M 134 I.s).so = 2 ∧ adr (vwC M 134 I.s) I.o < 16 then (0, up (vwC M 134) I.d (if adr (vwC M 134 I.s) I.o = 0 then 4 else 5, 0, -1, vOne 0)) else (0, up (vwC M 134) I.d (tNu (ldA (sz I.c) (md I.c))))).2, mI M 134 1) (g_Transfer_load_108 133 (136 + 2 * I.s) (sz I.c) (136 + 2 * I.d) ((vwC M 134 I.s).de + I.o) (if md I.c = 4 then 1 else 0) M) := by
        unfold g_Transfer_load_108 K_Transfer_load_108 g_Transfer_load_165 K_Transfer_load_165 g_Transfer_load_157 K_Transfer_load_157 g_Transfer_load_174
        rw [eB0]
        obtain ⟨l1, l2, l3⟩ := c_loadAny h tD (by omega) (sz I.c) (md I.c)
        refine kq_and tB.1 (kq_if (fun a1 => ?_) (fun a1 => kq_and tB.1 (kq_if (fun a2 => ?_) (fun a2 => ?_))))
        · rw [if_pos a1]
          have ea := adr_i wB (Or.inr a1) ho
          obtain ⟨g1, g2, g3⟩ := rch_3 a1 c1'
          obtain ⟨k1, k2⟩ := c_loadSlot h hd11 (a := (vwC M 134 I.s).de + I.o) (m := md I.c) (sz_cases I.c) (by rw [ea]; exact g2) (by rw [ea]; exact g3) (by rw [ea]; exact g1)
          rw [ea] at k2
          exact ⟨⟨h.T133, k1⟩, k2⟩
        · rw [if_neg a1]
          have ea := adr_i wB (Or.inl a2) ho
          have e16 : 16 ≤ (vwC M 134 I.s).de + I.o ↔ ¬ adr (vwC M 134 I.s) I.o < 16 := by
            rw [Int32.le_iff_toInt_le, ea]; have : (16 : Int32).toInt = 16 := rfl; omega
          have e0 : (vwC M 134 I.s).de + I.o = 0 ↔ adr (vwC M 134 I.s) I.o = 0 := by
            rw [← Int32.toInt_inj, ea]; exact Iff.rfl
          obtain ⟨b1, b2⟩ := h_become tD 4 0 (-1)
          obtain ⟨b3, b4⟩ := h_become tD 5 0 (-1)
          refine kq_if (fun a3 => ?_) (fun a3 => ?_)
          · rw [if_neg (fun (z : (vwC M 134 I.s).so = 2 ∧ adr (vwC M 134 I.s) I.o < 16) => e16.mp a3 z.2)]
            exact ⟨⟨h.T133, l1⟩, TQ.ox hd l2 l3⟩
          · have a3' : adr (vwC M 134 I.s) I.o < 16 := by
              by_cases q : adr (vwC M 134 I.s) I.o < 16
              · exact q
              · exact absurd (e16.mpr q) a3
            rw [if_pos ⟨a2, a3'⟩]
            refine kq_if (fun a4 => ?_) (fun a4 => ?_)
            · rw [b1, if_pos (e0.mp a4)]
              exact ⟨⟨tD.1, b2⟩, TQ.st hd _⟩
            · rw [b3, if_neg (fun z => a4 (e0.mpr z))]
              exact ⟨⟨tD.1, b4⟩, TQ.st hd _⟩
        · rw [if_neg a1, if_neg (fun (z : (vwC M 134 I.s).so = 2 ∧ adr (vwC M 134 I.s) I.o < 16) => a2 z.1)]
          exact ⟨⟨h.T133, l1⟩, TQ.ox hd l2 l3⟩
      by_cases m4 : md I.c = 4
      · rw [if_pos m4] at main ⊢
        exact ⟨⟨fun _ => main.1, fun z => absurd m4 z⟩, main.2⟩
      · rw [if_neg m4] at main ⊢
        exact ⟨⟨fun z => absurd z m4, fun _ => main.1⟩, main.2⟩
    · have c1' : rch (mpC M) (mI M 134 1) (vwC M 134 I.s) I.o (sz I.c) 0 ≠ 0 := fun z => c1 (rch_le.mpr z)
      rw [if_pos c1']
      exact TQ.no c1' _ _
theorem WT.kn {t : TH} (w : WT t) : Tt t.va := w.2.1
/-- v: the thing at name b, that isn't changed by slotAt -/
theorem c_store {M : XM} (h : Sh M) {k : Int32} {I : In} (hI : InC M k I) (w : WI I) (ws : WS (vwC M 134)) {b : Nat} (hb : ShTh M b) (b1 : 134 ≤ b) :
    K_Transfer_store 133 k b M ∧ TQ M ((sto (mpC M) I (thC M b) (vwC M 134) (mI M 134 1)).1, (sto (mpC M) I (thC M b) (vwC M 134) (mI M 134 1)).2, mI M 134 1) (g_Transfer_store 133 k b M) := by
  have hd : I.d < 75 := by have := w.2.1; omega
  have hd11 := w.2.1
  have ho := w.2.2.2.1
  obtain ⟨z1, z2⟩ := hI.size h
  obtain ⟨d1, d2⟩ := hI.2.1
  obtain ⟨o1, o2⟩ := hI.2.2.2.1
  obtain ⟨p1, p2⟩ := c_own h hd
  obtain ⟨q1, q2⟩ := c_isRead h hd
  have tD := h.now hd
  have eB : thC M (136 + 2 * I.d) = vwC M 134 I.d := (vwC_at hd).symm
  have eB0 : mI M (136 + 2 * I.d) 0 = (vwC M 134 I.d).so := by rw [← eB]; rfl
  have eB1 : mI M (136 + 2 * I.d) 1 = (vwC M 134 I.d).de := by rw [← eB]; rfl
  have wB := ws I.d
  obtain ⟨r1, r2⟩ := c_reach h tD (by rw [eB]; exact wB) ho (sz_cases I.c) 1
  rw [eB] at r1
  obtain ⟨n1, n2⟩ := c_isNum hb
  have ev0 : mI M b 0 = (thC M b).so := rfl
  unfold g_Transfer_store K_Transfer_store g_Transfer_store_0 K_Transfer_store_0 g_Transfer_store_13 K_Transfer_store_13 g_Transfer_store_23 K_Transfer_store_23
  rw [h.R133_0, d1, p1, z1, o1, q1, r1, ev0]
  refine kq_and h.T133 (kq_and h.T102 (kq_and d2 (kq_and h.T133 (kq_and p2 (kq_and h.T133 (kq_and h.T102 (kq_and z2 (kq_and h.T133 (kq_and h.T102 (kq_and d2 (kq_and h.T133 (kq_and q2 ?_))))))))))))
  unfold sto
  refine kq_ifn (fun c => ?_) (fun c => ?_)
  · have c' : (vwC M 134 I.d).so = 0 := by
      by_cases q : (vwC M 134 I.d).so = 0
      · exact q
      · rw [if_neg q] at c; exact absurd c i1_0
    rw [if_pos (Or.inl c')]
    exact TQ.no (w := 1) (by decide) _ _
  have c' : ¬ (vwC M 134 I.d).so = 0 := fun q => c (if_pos q)
  refine kq_and hb.1 (kq_ifn (fun c0 => ?_) (fun c0 => ?_))
  · rw [if_pos (Or.inr c0)]
    exact TQ.no (w := 1) (by decide) _ _
  rw [if_neg (fun z => z.elim c' c0)]
  refine kq_and h.T133 (kq_and h.T102 (kq_and o2 (kq_and h.T133 (kq_and r2 ?_))))
  unfold g_Transfer_store_65 K_Transfer_store_65
  refine kq_ifp (fun c1 => ?_) (fun c1 => ?_)
  rotate_left
  · have c1' : rch (mpC M) (mI M 134 1) (vwC M 134 I.d) I.o (sz I.c) 1 ≠ 0 := fun z => c1 (rch_le.mpr z)
    rw [if_pos c1']
    exact TQ.no c1' _ _
  have c1' := rch_le.mp c1
  rw [if_neg (fun z => z c1'), eB0]
  -- behind the question for numbers
  have S110 : ∀ f : Int32, (f = 0 ∨ f = 1) → (¬ f = 0 ↔ ((vwC M 134 I.d).so = 3 ∧ sz I.c = 8)) → K_Transfer_store_110 133 k b (136 + 2 * I.d) (sz I.c) f M ∧ TQ M ((if (vwC M 134 I.d).so = 3 then (if sz I.c = 8 then ((0 : Int32), up (vwC M 134) (slo (q5 (adr (vwC M 134 I.d) I.o))) (thC M b)) else (0, up (vwC M 134) (slo (q5 (adr (vwC M 134 I.d) I.o))) (tBy (wrT (vwC M 134 (slo (q5 (adr (vwC M 134 I.d) I.o)))) ||| msk (sz I.c) (q5 (adr (vwC M 134 I.d) I.o) % 8))))) else (0, vwC M 134)).1, (if (vwC M 134 I.d).so = 3 then (if sz I.c = 8 then ((0 : Int32), up (vwC M 134) (slo (q5 (adr (vwC M 134 I.d) I.o))) (thC M b)) else (0, up (vwC M 134) (slo (q5 (adr (vwC M 134 I.d) I.o))) (tBy (wrT (vwC M 134 (slo (q5 (adr (vwC M 134 I.d) I.o)))) ||| msk (sz I.c) (q5 (adr (vwC M 134 I.d) I.o) % 8))))) else (0, vwC M 134)).2, mI M 134 1) (g_Transfer_store_110 133 k b (136 + 2 * I.d) (sz I.c) f M) := by
    intro f f01 hf
    unfold g_Transfer_store_110 K_Transfer_store_110
    rw [eB0, eB1, h.R133_0, o1]
    refine kq_and tD.1 (kq_ifp (fun a1 => ?_) (fun a1 => ?_))
    rotate_left
    · rw [if_neg a1]; exact TQ.id
    rw [if_pos a1]
    have ea := adr_i wB (Or.inr a1) ho
    obtain ⟨g1, g2, g3⟩ := rch_3 a1 c1'
    have h2' : ((vwC M 134 I.d).de + I.o).toInt < 0 := by
      rw [ea]; have := sz_toInt (sz_cases I.c); omega
    obtain ⟨k1, e1⟩ := c_slotAt h (a := (vwC M 134 I.d).de + I.o) (by rw [ea]; exact g2) h2'
    have q512 := (a512 (a := (vwC M 134 I.d).de + I.o) (by rw [ea]; exact g2) h2').2
    rw [ea] at e1 q512
    have sl : slo (q5 (adr (vwC M 134 I.d) I.o)) < 75 := by unfold slo; omega
    rw [e1]
    refine kq_and tD.1 (kq_and h.T133 (kq_and h.T102 (kq_and o2 (kq_and h.T133 (kq_and k1 ?_)))))
    show K_Transfer_store_135 133 b (sz I.c) f (136 + 2 * slo (q5 (adr (vwC M 134 I.d) I.o))) (wI M 133 9 (Int32.ofNat (q5 (adr (vwC M 134 I.d) I.o) % 8))) ∧ TQ M _ (g_Transfer_store_135 133 b (sz I.c) f (136 + 2 * slo (q5 (adr (vwC M 134 I.d) I.o))) (wI M 133 9 (Int32.ofNat (q5 (adr (vwC M 134 I.d) I.o) % 8))))
    have e9 : mI (wI M 133 9 (Int32.ofNat (q5 (adr (vwC M 134 I.d) I.o) % 8))) 133 9 = Int32.ofNat (q5 (adr (vwC M 134 I.d) I.o) % 8) := by rw [mI_wI, if_pos ⟨rfl, rfl⟩]
    have tv : vwC (wI M 133 9 (Int32.ofNat (q5 (adr (vwC M 134 I.d) I.o) % 8))) 134 = vwC M 134 := vwC_wI9 (by omega)
    have tk : mI (wI M 133 9 (Int32.ofNat (q5 (adr (vwC M 134 I.d) I.o) % 8))) 134 1 = mI M 134 1 := by rw [mI_wI, if_neg (by omega)]
    have tb' : thC (wI M 133 9 (Int32.ofNat (q5 (adr (vwC M 134 I.d) I.o) % 8))) b = thC M b := thC_wIst (by omega)
    have ts : TS M (wI M 133 9 (Int32.ofNat (q5 (adr (vwC M 134 I.d) I.o) % 8))) := TS.wI9
    have s1 := ts.sh h
    have hb1 : ShTh (wI M 133 9 (Int32.ofNat (q5 (adr (vwC M 134 I.d) I.o) % 8))) b := hb.kept rfl
    unfold g_Transfer_store_135 K_Transfer_store_135 g_Transfer_store_171
    rw [e9]
    generalize wI M 133 9 (Int32.ofNat (q5 (adr (vwC M 134 I.d) I.o) % 8)) = M1 at s1 ts tv tk tb' hb1 ⊢
    refine And.imp_right (fun z => TQ.mv z ts) ?_
    have tS := s1.now sl
    have eS : thC M1 (136 + 2 * slo (q5 (adr (vwC M 134 I.d) I.o))) = vwC M 134 (slo (q5 (adr (vwC M 134 I.d) I.o))) := by
      have := congrFun tv (slo (q5 (adr (vwC M 134 I.d) I.o)))
      rw [vwC_at (M := M1) sl] at this
      exact this
    refine kq_if (fun a2 => ?_) (fun a2 => ?_)
    · have n8 : ¬ sz I.c = 8 := fun q => (hf.mpr ⟨a1, q⟩) a2
      rw [if_neg n8]
      obtain ⟨u1, u2⟩ := h_written tS.1
      rw [eS] at u1
      obtain ⟨v1, v2⟩ := h_bytes tS (g_Thing_written (136 + 2 * slo (q5 (adr (vwC M 134 I.d) I.o))) M1 ||| g_Transfer_maskOf (Int32.ofNat (q5 (adr (vwC M 134 I.d) I.o) % 8)) (sz I.c))
      rw [v1, u1]
      rw [u1] at v2
      refine ⟨⟨tS.1, u2, s1.T133, tS.1, v2⟩, ?_⟩
      have := TQ.st (M := M1) sl (tBy (wrT (vwC M 134 (slo (q5 (adr (vwC M 134 I.d) I.o)))) ||| msk (sz I.c) (q5 (adr (vwC M 134 I.d) I.o) % 8)))
      rw [tv, tk] at this
      exact this
    · rw [if_pos (hf.mp a2).2]
      obtain ⟨v1, v2⟩ := h_copy tS hb1
      rw [v1, tb']
      refine ⟨⟨tS.1, v2⟩, ?_⟩
      have := TQ.st (M := M1) sl (thC M b)
      rw [tv, tk] at this
      exact this
  have i01 : (¬ (0 : Int32) = 0 ↔ False) := by decide
  -- no whole slot
  have S93 : ¬ ((vwC M 134 I.d).so = 3 ∧ sz I.c = 8) → K_Transfer_store_92 133 k b (136 + 2 * I.d) (sz I.c) M ∧ TQ M ((if ¬ ((vwC M 134 I.d).so = 3 ∧ sz I.c = 8) ∧ (thC M b).so ≠ 1 then ((6 : Int32), vwC M 134) else (if (vwC M 134 I.d).so = 3 then (if sz I.c = 8 then ((0 : Int32), up (vwC M 134) (slo (q5 (adr (vwC M 134 I.d) I.o))) (thC M b)) else (0, up (vwC M 134) (slo (q5 (adr (vwC M 134 I.d) I.o))) (tBy (wrT (vwC M 134 (slo (q5 (adr (vwC M 134 I.d) I.o)))) ||| msk (sz I.c) (q5 (adr (vwC M 134 I.d) I.o) % 8))))) else (0, vwC M 134))).1, (if ¬ ((vwC M 134 I.d).so = 3 ∧ sz I.c = 8) ∧ (thC M b).so ≠ 1 then ((6 : Int32), vwC M 134) else (if (vwC M 134 I.d).so = 3 then (if sz I.c = 8 then ((0 : Int32), up (vwC M 134) (slo (q5 (adr (vwC M 134 I.d) I.o))) (thC M b)) else (0, up (vwC M 134) (slo (q5 (adr (vwC M 134 I.d) I.o))) (tBy (wrT (vwC M 134 (slo (q5 (adr (vwC M 134 I.d) I.o)))) ||| msk (sz I.c) (q5 (adr (vwC M 134 I.d) I.o) % 8))))) else (0, vwC M 134))).2, mI M 134 1) (g_Transfer_store_92 133 k b (136 + 2 * I.d) (sz I.c) M) := by
    intro nw
    unfold g_Transfer_store_92 K_Transfer_store_92 g_Transfer_store_93 K_Transfer_store_93
    rw [n1]
    refine kq_if (fun _ => kq_and hb.1 (kq_and n2 (kq_ifn (fun a2 => ?_) (fun a2 => ?_)))) (fun z => absurd rfl z)
    · have a2' : (thC M b).so ≠ 1 := fun q => by rw [if_pos q] at a2; exact i1_0 a2
      have e6 : (if ¬ ((vwC M 134 I.d).so = 3 ∧ sz I.c = 8) ∧ (thC M b).so ≠ 1 then ((6 : Int32), vwC M 134) else (if (vwC M 134 I.d).so = 3 then (if sz I.c = 8 then ((0 : Int32), up (vwC M 134) (slo (q5 (adr (vwC M 134 I.d) I.o))) (thC M b)) else (0, up (vwC M 134) (slo (q5 (adr (vwC M 134 I.d) I.o))) (tBy (wrT (vwC M 134 (slo (q5 (adr (vwC M 134 I.d) I.o)))) ||| msk (sz I.c) (q5 (adr (vwC M 134 I.d) I.o) % 8))))) else (0, vwC M 134))) = (6, vwC M 134) := if_pos ⟨nw, a2'⟩
      rw [e6]
      exact TQ.no (w := 6) (by decide) _ _
    · have a2' : (thC M b).so = 1 := by
        by_cases q : (thC M b).so = 1
        · exact q
        · exact absurd (if_neg q) a2
      rw [if_neg (fun (z : ¬ ((vwC M 134 I.d).so = 3 ∧ sz I.c = 8) ∧ (thC M b).so ≠ 1) => z.2 a2')]
      exact S110 0 (Or.inl rfl) ⟨fun z => absurd rfl z, fun z => absurd z nw⟩
  refine kq_and tD.1 (kq_if (fun a1 => kq_if (fun a2 => ?_) (fun a2 => S93 (fun z => a2 z.2))) (fun a1 => S93 (fun z => a1 z.1)))
  rw [if_neg (fun (z : ¬ ((vwC M 134 I.d).so = 3 ∧ sz I.c = 8) ∧ (thC M b).so ≠ 1) => z.1 ⟨a1, a2⟩)]
  unfold g_Transfer_store_93 K_Transfer_store_93
  exact kq_if (fun z => absurd z i1_0) (fun _ => S110 1 (Or.inr rfl) ⟨fun _ => ⟨a1, a2⟩, fun _ => i1_0⟩)
