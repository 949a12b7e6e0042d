/-! part 47zzj: the component's Transfer: what calls ask of registers (gen/tpl.py) -/
def B9 (M M' : XM) : Prop := ∃ v, M' = wI M 133 9 v
theorem wI_same (M : XM) (r k : Nat) : wI M r k (mI M r k) = M := by
  unfold wI
  refine Prod.ext ?_ rfl
  funext a j
  show (if a = r ∧ j = k then mI M r k else M.1 a j) = M.1 a j
  by_cases h : a = r ∧ j = k
  · rw [if_pos h, h.1, h.2]; rfl
  · rw [if_neg h]
theorem wI_wI (M : XM) (r k : Nat) (v v' : Int32) : wI (wI M r k v) r k v' = wI M r k v' := by
  unfold wI
  refine Prod.ext ?_ rfl
  funext a j
  show (if a = r ∧ j = k then v' else if a = r ∧ j = k then v else M.1 a j) = if a = r ∧ j = k then v' else M.1 a j
  by_cases h : a = r ∧ j = k
  · rw [if_pos h, if_pos h]
  · rw [if_neg h, if_neg h, if_neg h]
theorem B9.rf {M : XM} : B9 M M := ⟨_, (wI_same M 133 9).symm⟩
theorem B9.trans {M M1 M2 : XM} (h : B9 M M1) (h' : B9 M1 M2) : B9 M M2 := by
  obtain ⟨v, e⟩ := h
  obtain ⟨v', e'⟩ := h'
  exact ⟨v', by rw [e', e, wI_wI]⟩
theorem B9.ts {M M' : XM} (h : B9 M M') : TS M M' := by obtain ⟨v, e⟩ := h; rw [e]; exact TS.wI9
theorem B9.vw {M M' : XM} (h : B9 M M') : vwC M' 134 = vwC M 134 := by obtain ⟨v, e⟩ := h; rw [e]; exact vwC_wI9 (by omega)
theorem B9.kn {M M' : XM} (h : B9 M M') : mI M' 134 1 = mI M 134 1 := by obtain ⟨v, e⟩ := h; rw [e, mI_wI, if_neg (by omega)]
theorem B9.mp {M M' : XM} (h : B9 M M') : mpC M' = mpC M := by
  obtain ⟨v, e⟩ := h
  unfold mpC
  simp only [e, mI_wI]
  have : ∀ a, a ≠ 133 → (fun k : Nat => if a = 133 ∧ k = 9 then v else mI M a k) = fun k => mI M a k := fun a ha => by
    funext k; rw [if_neg (fun z => ha z.1)]
  rw [this 107 (by decide), this 108 (by decide), this 109 (by decide)]
theorem add_ofNat {a : Int32} {j : Nat} (h1 : -512 ≤ a.toInt) (h2 : a.toInt ≤ 0) (hj : j ≤ 512) : (a + Int32.ofNat j).toInt = a.toInt + j := by
  rw [Int32.toInt_add, toInt_ofNat32 (by omega)]
  exact Int.bmod_eq_of_le (by omega) (by omega)
theorem aw_loop {M : XM} (h : Sh M) {a : Int32} {bn : Nat} (h1 : -512 ≤ a.toInt) (h2 : a.toInt + bn ≤ 0) : ∀ (m j f : Nat) (M1 : XM) (al : Int32), j + m = bn → m < f → B9 M M1 →
    (al = 1 ∧ hasN (vwC M 134) (q5 a.toInt) j ∨ al = 0 ∧ ¬ hasN (vwC M 134) (q5 a.toInt) j) →
    K_Transfer_areWritten_5 f 133 a (Int32.ofNat bn) al (a + Int32.ofNat j) M1 ∧ B9 M (g_Transfer_areWritten_5 f 133 a (Int32.ofNat bn) al (a + Int32.ofNat j) M1).2 ∧ ((g_Transfer_areWritten_5 f 133 a (Int32.ofNat bn) al (a + Int32.ofNat j) M1).1 = 1 ∧ hasN (vwC M 134) (q5 a.toInt) bn ∨ (g_Transfer_areWritten_5 f 133 a (Int32.ofNat bn) al (a + Int32.ofNat j) M1).1 = 0 ∧ ¬ hasN (vwC M 134) (q5 a.toInt) bn) := by
  intro m
  have hend : ∀ j, j ≤ bn → (a + Int32.ofNat bn ≤ a + Int32.ofNat j ↔ bn ≤ j) := fun j hj => by
    rw [Int32.le_iff_toInt_le, add_ofNat h1 (by omega) (by omega), add_ofNat h1 (by omega) (by omega)]; omega
  have z1 : j_z 1 = 1 := by decide
  induction m with
  | zero =>
    intro j f M1 al hj hf hB hal
    obtain rfl : j = bn := by omega
    obtain ⟨f, rfl⟩ : ∃ f', f = f' + 1 := ⟨f - 1, by omega⟩
    conv => unfold K_Transfer_areWritten_5 g_Transfer_areWritten_5
    have e := (hend j (Nat.le_refl _)).mpr (Nat.le_refl _)
    rw [if_pos e]
    refine ⟨fun z => absurd e z, hB, ?_⟩
    rcases hal with ⟨e1, e2⟩ | ⟨e1, e2⟩
    · exact Or.inl ⟨by rw [e1]; exact z1, e2⟩
    · exact Or.inr ⟨by rw [e1]; exact jz0, e2⟩
  | succ m ih =>
    intro j f M1 al hj hf hB hal
    obtain ⟨f, rfl⟩ : ∃ f', f = f' + 1 := ⟨f - 1, by omega⟩
    conv => unfold K_Transfer_areWritten_5 g_Transfer_areWritten_5
    have ne : ¬ a + Int32.ofNat bn ≤ a + Int32.ofNat j := fun z => by have := (hend j (by omega)).mp z; omega
    rw [if_neg ne]
    have s1 := hB.ts.sh h
    have ej : (a + Int32.ofNat j).toInt = a.toInt + j := add_ofNat h1 (by omega) (by omega)
    obtain ⟨k1, e1⟩ := c_slotAt s1 (a := a + Int32.ofNat j) (by rw [ej]; omega) (by rw [ej]; omega)
    have eq : q5 (a + Int32.ofNat j).toInt = q5 a.toInt + j := by rw [ej]; unfold q5; omega
    have q512 : q5 a.toInt + j < 512 := by unfold q5; omega
    have sl : slo (q5 a.toInt + j) < 75 := by unfold slo; omega
    rw [eq] at e1
    rw [e1]
    have hB2 : B9 M (wI M1 133 9 (Int32.ofNat ((q5 a.toInt + j) % 8))) := hB.trans ⟨_, rfl⟩
    have s2 := hB2.ts.sh h
    have tS := s2.now sl
    have eS : thC (wI M1 133 9 (Int32.ofNat ((q5 a.toInt + j) % 8))) (136 + 2 * slo (q5 a.toInt + j)) = vwC M 134 (slo (q5 a.toInt + j)) := by
      rw [← hB2.vw, vwC_at sl]
    obtain ⟨u1, u2⟩ := h_written tS.1
    rw [eS] at u1
    have e9 : mI (wI M1 133 9 (Int32.ofNat ((q5 a.toInt + j) % 8))) 133 9 = Int32.ofNat ((q5 a.toInt + j) % 8) := by rw [mI_wI, if_pos ⟨rfl, rfl⟩]
    unfold g_Transfer_areWritten_19 K_Transfer_areWritten_19 g_Transfer_areWritten_43 K_Transfer_areWritten_43 g_Transfer_areWritten_45 K_Transfer_areWritten_45
    simp only [u1, e9]
    have ei : a + Int32.ofNat j + 1 = a + Int32.ofNat (j + 1) := by
      apply Int32.toInt_inj.mp
      rw [add_ofNat h1 (by omega) (by omega), Int32.toInt_add, ej]
      have : (1 : Int32).toInt = 1 := rfl
      rw [this, Int.bmod_eq_of_le (by omega) (by omega)]; omega
    rw [ei]
    have a1 : al &&& 1 = al := by rcases hal with ⟨e, _⟩ | ⟨e, _⟩ <;> rw [e] <;> decide
    have a0 : al &&& 0 = 0 := by rcases hal with ⟨e, _⟩ | ⟨e, _⟩ <;> rw [e] <;> decide
    rw [a1, a0]
    have st : hasN (vwC M 134) (q5 a.toInt) (j + 1) ↔ hasN (vwC M 134) (q5 a.toInt) j ∧ j_ishr (wrT (vwC M 134 (slo (q5 a.toInt + j)))) (Int32.ofNat ((q5 a.toInt + j) % 8)) &&& 1 = 1 := by
      unfold hasN
      constructor
      · intro z; exact ⟨fun k hk => z k (by omega), z j (by omega)⟩
      · rintro ⟨z1, z2⟩ k hk
        by_cases q : k = j
        · rw [q]; exact z2
        · exact z1 k (by omega)
    by_cases c : j_ishr (wrT (vwC M 134 (slo (q5 a.toInt + j)))) (Int32.ofNat ((q5 a.toInt + j) % 8)) &&& 1 = 1
    · have nx := ih (j + 1) f _ al (by omega) (by omega) hB2 (by
        rcases hal with ⟨e, e2⟩ | ⟨e, e2⟩
        · exact Or.inl ⟨e, st.mpr ⟨e2, c⟩⟩
        · exact Or.inr ⟨e, fun z => e2 (st.mp z).1⟩)
      rw [if_pos c]
      exact ⟨fun _ => ⟨s1.T133, k1, tS.1, u2, s2.T133, fun _ => nx.1, fun z => absurd c z⟩, nx.2⟩
    · have nx := ih (j + 1) f _ 0 (by omega) (by omega) hB2 (Or.inr ⟨rfl, fun z => c (st.mp z).2⟩)
      rw [if_neg c]
      exact ⟨fun _ => ⟨s1.T133, k1, tS.1, u2, s2.T133, fun z => absurd z c, fun _ => nx.1⟩, nx.2⟩
theorem c_areWritten {M : XM} (h : Sh M) {a : Int32} {bn : Nat} (h1 : -512 ≤ a.toInt) (h2 : a.toInt + bn ≤ 0) : K_Transfer_areWritten 133 a (Int32.ofNat bn) M ∧ B9 M (g_Transfer_areWritten 133 a (Int32.ofNat bn) M).2 ∧ ((g_Transfer_areWritten 133 a (Int32.ofNat bn) M).1 = 1 ∧ hasN (vwC M 134) (q5 a.toInt) bn ∨ (g_Transfer_areWritten 133 a (Int32.ofNat bn) M).1 = 0 ∧ ¬ hasN (vwC M 134) (q5 a.toInt) bn) := by
  have e : a + Int32.ofNat 0 = a := Int32.add_zero a
  have := aw_loop h h1 h2 bn 0 xF M 1 (by omega) (by rw [xF_eq]; omega) B9.rf (Or.inl ⟨rfl, fun k hk => absurd hk (Nat.not_lt_zero k)⟩)
  rw [e] at this
  exact this
def AQ (M : XM) (w : Int32) (r : Int32 × XM) : Prop := r.1 = w ∧ B9 M r.2
theorem AQ.id {M : XM} (w : Int32) : AQ M w (w, M) := ⟨rfl, B9.rf⟩
theorem c_tells {M : XM} (h : Sh M) (ws : WS (vwC M 134)) {n bn : Nat} (hn : n < 75) (hb : bn ≤ 256) : K_Transfer_tells 133 (Int32.ofNat n) (Int32.ofNat bn) M ∧ AQ M (tel (mpC M) (vwC M 134) (mI M 134 1) (vwC M 134 n) (Int32.ofNat bn)) (g_Transfer_tells 133 (Int32.ofNat n) (Int32.ofNat bn) M) := by
  obtain ⟨p1, p2⟩ := c_own h hn
  have tN := h.now hn
  have eN : thC M (136 + 2 * n) = vwC M 134 n := (vwC_at hn).symm
  have eN0 : mI M (136 + 2 * n) 0 = (vwC M 134 n).so := by rw [← eN]; rfl
  have eN1 : mI M (136 + 2 * n) 1 = (vwC M 134 n).de := by rw [← eN]; rfl
  have eNv : gv6 M (136 + 2 * n + 1) = (vwC M 134 n).va := by rw [← eN]; rfl
  have ib : (Int32.ofNat bn).toInt = bn := toInt_ofNat32 (by omega)
  have iib : ix (Int32.ofNat bn) = bn := ixN (by omega)
  have wN := ws n
  obtain ⟨l1, l2⟩ := c_lies (M := M) tN.2.2 0 (Int32.ofNat bn) (mI M 134 1)
  obtain ⟨l3, l4⟩ := c_lies (M := M) tN.2.2 0 (Int32.ofNat bn) (mI M 109 (ix (vwC M 134 n).de))
  rw [eNv] at l1 l3
  unfold g_Transfer_tells K_Transfer_tells g_Transfer_tells_0 K_Transfer_tells_0 g_Transfer_tells_6 K_Transfer_tells_6 g_Transfer_tells_88
  rw [p1, h.R133_1, h.R133_3, h.R106_2, tN.2.1, eN0, eN1, l1, l3]
  simp only [f10]
  have ed : tel (mpC M) (vwC M 134) (mI M 134 1) (vwC M 134 n) (Int32.ofNat bn) = if (vwC M 134 n).so = 0 then 1
  else if (vwC M 134 n).so = 3 then (if (vwC M 134 n).de.toInt < -512 ∨ -(Int32.ofNat bn).toInt < (vwC M 134 n).de.toInt then 4 else cif (hasN (vwC M 134) (q5 (vwC M 134 n).de.toInt) (ix (Int32.ofNat bn))) 0 5)
  else if (vwC M 134 n).so = 4 then (if lie (vwC M 134 n).va 0 (Int32.ofNat bn) (mI M 134 1) then 0 else 4)
  else if (vwC M 134 n).so = 7 then (if lie (vwC M 134 n).va 0 (Int32.ofNat bn) (mI M 109 (ix (vwC M 134 n).de)) then 0 else 4)
  else 3 := rfl
  rw [ed]
  refine kq_and h.T133 (kq_and p2 (kq_and tN.1 (kq_ifn (fun c0 => ?_) (fun c0 => ?_))))
  · rw [if_pos c0]; exact AQ.id 1
  rw [if_neg c0]
  refine kq_ifn (fun c1 => ?_) (fun c1 => kq_ifn (fun c2 => ?_) (fun c2 => kq_if (fun c3 => ?_) (fun c3 => kq_if (fun c4 => ?_) (fun c4 => kq_ifn (fun c5 => ?_) (fun c5 => kq_ifn (fun c6 => ?_) (fun c6 => kq_ifp (fun c7 => ?_) (fun c7 => ?_)))))))
  · have i : ¬ (1 : Int32) = 3 ∧ ¬ (1 : Int32) = 4 ∧ ¬ (1 : Int32) = 7 := by decide
    rw [c1, if_neg i.1, if_neg i.2.1, if_neg i.2.2]; exact AQ.id 3
  · have i : ¬ (2 : Int32) = 3 ∧ ¬ (2 : Int32) = 4 ∧ ¬ (2 : Int32) = 7 := by decide
    rw [c2, if_neg i.1, if_neg i.2.1, if_neg i.2.2]; exact AQ.id 3
  · rw [if_pos c3]
    have q1 : (vwC M 134 n).de < -512 ↔ (vwC M 134 n).de.toInt < -512 := by rw [lt_u3]; exact Iff.rfl
    have q2 : (vwC M 134 n).de ≤ -Int32.ofNat bn ↔ ¬ -(Int32.ofNat bn).toInt < (vwC M 134 n).de.toInt := by
      rw [Int32.le_iff_toInt_le, Int32.toInt_neg, ib, Int.bmod_eq_of_le (by omega) (by omega)]; omega
    simp only [q1, q2]
    refine kq_and tN.1 (kq_ifn (fun a1 => ?_) (fun a1 => kq_and tN.1 (kq_ifp (fun a2 => ?_) (fun a2 => ?_))))
    · rw [if_pos (Or.inl a1)]; exact AQ.id 4
    · rw [if_neg (fun z => z.elim a1 a2)]
      rw [ib] at a2
      obtain ⟨k1, k2, k3⟩ := c_areWritten h (a := (vwC M 134 n).de) (bn := bn) (by omega) (by omega)
      rw [iib]
      refine ⟨⟨tN.1, h.T133, k1⟩, ?_⟩
      rcases k3 with ⟨k4, k5⟩ | ⟨k4, k5⟩
      · rw [k4, if_neg i1_0, cif_pos k5]; exact ⟨rfl, k2⟩
      · rw [k4, if_pos rfl, cif_neg k5]; exact ⟨rfl, k2⟩
    · rw [if_pos (Or.inr (Classical.not_not.mp a2))]; exact AQ.id 4
  · rw [if_neg c3, if_pos c4]
    refine ⟨⟨tN.1, h.T133, h.St134.1, l2⟩, ?_⟩
    by_cases q : lie (vwC M 134 n).va 0 (Int32.ofNat bn) (mI M 134 1)
    · rw [if_pos q, if_neg (fun z => z q)]; exact AQ.id 0
    · rw [if_neg q, if_pos q]; exact AQ.id 4
  · have i : ¬ (5 : Int32) = 3 ∧ ¬ (5 : Int32) = 4 ∧ ¬ (5 : Int32) = 7 := by decide
    rw [c5, if_neg i.1, if_neg i.2.1, if_neg i.2.2]; exact AQ.id 3
  · have i : ¬ (6 : Int32) = 3 ∧ ¬ (6 : Int32) = 4 ∧ ¬ (6 : Int32) = 7 := by decide
    rw [c6, if_neg i.1, if_neg i.2.1, if_neg i.2.2]; exact AQ.id 3
  · rw [if_neg c3, if_neg c4, if_pos c7]
    obtain ⟨w1, w2⟩ := wN.2.2.2.2.1 (Or.inr (Or.inl c7))
    refine ⟨⟨tN.1, h.T133, h.T106, tN.1, h.T109, by rw [h.N109]; exact (ix8 w1 w2).2.2, l4⟩, ?_⟩
    by_cases q : lie (vwC M 134 n).va 0 (Int32.ofNat bn) (mI M 109 (ix (vwC M 134 n).de))
    · rw [if_pos q, if_neg (fun z => z q)]; exact AQ.id 0
    · rw [if_neg q, if_pos q]; exact AQ.id 4
  · rw [if_neg c3, if_neg c4, if_neg c7]; exact AQ.id 3
theorem c_num {M : XM} (h : Sh M) {n : Nat} (hn : n < 75) : g_Transfer_number 133 (Int32.ofNat n) M = numb (vwC M 134 n) ∧ K_Transfer_number 133 (Int32.ofNat n) M := by
  obtain ⟨p1, p2⟩ := c_own h hn
  obtain ⟨q1, q2⟩ := c_isRead h hn
  have tN := h.now hn
  have eN : thC M (136 + 2 * n) = vwC M 134 n := (vwC_at hn).symm
  obtain ⟨n1, n2⟩ := c_isNum tN
  rw [eN] at n1
  unfold g_Transfer_number K_Transfer_number g_Transfer_number_0 K_Transfer_number_0
  rw [p1, q1, n1]
  simp only [f01, f10]
  refine ⟨?_, h.T133, q2, fun _ => ⟨h.T133, p2, tN.1, n2⟩⟩
  unfold numb
  by_cases a1 : (vwC M 134 n).so = 0 <;> by_cases a2 : (vwC M 134 n).so = 1 <;> simp only [a1, a2, if_true, if_false, not_true, not_false_iff, and_self, and_true, true_and, and_false, false_and, or_true, true_or, or_false, false_or, or_self, i32_10, eq_self, true_implies, false_implies, implies_true, ite_self, ne_eq]
theorem c_map {M : XM} (h : Sh M) (ws : WS (vwC M 134)) (x y : Int32) : g_Transfer_map 133 x y M = mpk (mpC M) (vwC M 134 1) x y ∧ K_Transfer_map 133 x y M := by
  obtain ⟨p1, p2⟩ := c_own h (n := 1) (by decide)
  obtain ⟨q1, q2⟩ := c_isRead h (n := 1) (by decide)
  have e1 : Int32.ofNat 1 = 1 := rfl
  rw [e1] at p1 p2 q1 q2
  have tN := h.now (n := 1) (by decide)
  have eN : thC M (136 + 2 * 1) = vwC M 134 1 := (vwC_at (by decide)).symm
  have eN0 : mI M (136 + 2 * 1) 0 = (vwC M 134 1).so := by rw [← eN]; rfl
  have eN1 : mI M (136 + 2 * 1) 1 = (vwC M 134 1).de := by rw [← eN]; rfl
  have wN := ws 1
  have em : (mpC M).1 (ix (vwC M 134 1).de) = mI M 107 (ix (vwC M 134 1).de) := rfl
  unfold g_Transfer_map K_Transfer_map g_Transfer_map_0 K_Transfer_map_0 g_Transfer_map_6 K_Transfer_map_6 g_Transfer_map_47 K_Transfer_map_47 g_Transfer_map_51 K_Transfer_map_51 g_Transfer_map_52 K_Transfer_map_52
  rw [p1, h.R133_1, h.R106_0, eN0, eN1, q1]
  simp only [f01]
  refine ⟨?_, h.T133, p2, tN.1, fun c6 => ?_, fun _ => ⟨h.T133, q2⟩⟩
  · unfold mpk
    rw [em]
    by_cases a1 : (vwC M 134 1).so = 0 <;> by_cases a2 : (vwC M 134 1).so = 6 <;> by_cases a3 : mI M 107 (ix (vwC M 134 1).de) = x <;> by_cases a4 : mI M 107 (ix (vwC M 134 1).de) = y <;> simp only [a1, a2, a3, a4, if_true, if_false, not_true, not_false_iff, and_self, and_true, true_and, and_false, false_and, or_true, true_or, or_false, false_or, or_self, i32_10, eq_self, true_implies, false_implies, implies_true, ite_self, ne_eq]
  · obtain ⟨w1, w2⟩ := wN.2.2.2.2.1 (Or.inl c6)
    have v8 : vp_in (vwC M 134 1).de (mN M 107) := by rw [h.N107]; exact (ix8 w1 w2).2.2
    exact ⟨h.T133, h.T106, tN.1, h.T107, v8, fun _ => ⟨h.T133, q2⟩, fun _ => ⟨h.T133, h.T106, tN.1, h.T107, v8, fun _ => ⟨h.T133, q2⟩, fun _ => ⟨h.T133, q2⟩⟩⟩
