/-! part 47zze: the component's Transfer: reckoning, whole (gen/tpl.py) -/
/-- what comes into register d -/
noncomputable def rckT (I : In) (hf : Int32) (x y : TH) : Int32 × TH :=
  if nm I.c = 11 ∧ hf = 0 ∧ I.o = 0 then (0, y)
  else if (nm I.c = 11 ∨ x.so = 1) ∧ y.so = 1 then (0, tNu (rkV I hf (if nm I.c = 11 then y.va else x.va) y.va))
  else if hf = 0 then ptr (nm I.c) x y else (2, x)
theorem WT.num {t : TH} (h : WT t) (s : t.so = 1) : t = tNu t.va := by
  obtain ⟨a, b, c, v⟩ := t
  have e1 := h.2.2.1 s
  have e2 := h.2.2.2.1 (by rw [s]; decide)
  simp only [TH.so, TH.de, TH.og] at s e1 e2
  rw [s, e1, e2]
theorem WT_nu {w : AV} (h : Tt w) : WT (tNu w) := ⟨fun z => absurd z (by show ¬ hvB 1 = false; decide), h, fun _ => rfl, fun _ => rfl, fun z => absurd z (by show ¬ ((1 : Int32) = 6 ∨ (1 : Int32) = 7 ∨ (1 : Int32) = 8); decide), fun z => absurd z (by show ¬ ((1 : Int32) = 2 ∨ (1 : Int32) = 3); decide), fun z => absurd z (by show ¬ ((1 : Int32) = 4 ∨ (1 : Int32) = 7); decide)⟩
theorem WT_no : WT tNo := ⟨fun _ => rfl, one_T 0, fun _ => rfl, fun _ => rfl, fun z => absurd z (by show ¬ ((0 : Int32) = 6 ∨ (0 : Int32) = 7 ∨ (0 : Int32) = 8); decide), fun z => absurd z (by show ¬ ((0 : Int32) = 2 ∨ (0 : Int32) = 3); decide), fun z => absurd z (by show ¬ ((0 : Int32) = 4 ∨ (0 : Int32) = 7); decide)⟩
theorem WT_by (m : Int32) : WT (tBy m) := ⟨fun _ => rfl, one_T 0, fun z => absurd z (by show ¬ (9 : Int32) = 1; decide), fun _ => rfl, fun z => absurd z (by show ¬ ((9 : Int32) = 6 ∨ (9 : Int32) = 7 ∨ (9 : Int32) = 8); decide), fun z => absurd z (by show ¬ ((9 : Int32) = 2 ∨ (9 : Int32) = 3); decide), fun z => absurd z (by show ¬ ((9 : Int32) = 4 ∨ (9 : Int32) = 7); decide)⟩
theorem WT_opd {I : In} {hf : Int32} {σ : Sg} (ws : WS σ) : WT (opd I hf σ) := by
  unfold opd
  split
  · exact WT_nu (one_T _)
  · exact ws I.s
theorem nm_pos : ∀ m : Fin 256, 0 ≤ nm (Int32.ofNat m.val) := by decide +kernel
theorem WI.nm0 {I : In} (w : WI I) : 0 ≤ nm I.c := by
  obtain ⟨m, hm, e⟩ := w.1
  rw [e]; exact nm_pos ⟨m, hm⟩
theorem c_rck176 {M : XM} (h : Sh M) {k : Int32} {I : In} (hI : InC M k I) (w : WI I) (hk : kd I.c = 4 ∨ kd I.c = 7) {b : Nat} (hb : ShTh M b) (b1 : 134 ≤ b) (b2 : b + 1 < 440) (wx : WT (thC M (136 + 2 * I.d))) (wy : WT (thC M b)) (hf : Int32) :
    ((nm I.c = 11 ∨ (thC M (136 + 2 * I.d)).so = 1) ∧ (thC M b).so = 1 → K_Transfer_reckoning_176 133 k hf (nm I.c) (136 + 2 * I.d) b 1 M ∧ PQ (136 + 2 * I.d) M (0, tNu (rkV I hf (if nm I.c = 11 then (thC M b).va else (thC M (136 + 2 * I.d)).va) (thC M b).va)) (g_Transfer_reckoning_176 133 k hf (nm I.c) (136 + 2 * I.d) b 1 M)) ∧
    (K_Transfer_reckoning_176 133 k hf (nm I.c) (136 + 2 * I.d) b 0 M ∧ PQ (136 + 2 * I.d) M (if hf = 0 then ptr (nm I.c) (thC M (136 + 2 * I.d)) (thC M b) else (2, thC M (136 + 2 * I.d))) (g_Transfer_reckoning_176 133 k hf (nm I.c) (136 + 2 * I.d) b 0 M)) := by
  have hd : I.d < 75 := by have := w.2.1; omega
  have ht := h.now hd
  have t1 : 134 ≤ 136 + 2 * I.d := by omega
  have t2 : 136 + 2 * I.d + 1 < 438 := by have := w.2.1; omega
  unfold g_Transfer_reckoning_176 K_Transfer_reckoning_176 g_Transfer_reckoning_198 K_Transfer_reckoning_198 g_Transfer_reckoning_207 K_Transfer_reckoning_207 g_Transfer_reckoning_224 K_Transfer_reckoning_224 g_Transfer_reckoning_228
  constructor
  · rintro ⟨c1, c2⟩
    refine kq_if (fun z => absurd z i1_0) (fun _ => kq_if (fun c11 => ?_) (fun c11 => ?_))
    · rw [h.R133_8, if_pos c11]
      obtain ⟨u1, u2⟩ := h_copy h.Th440 hb
      rw [u1]
      have s1 : Sh (sT M 440 (thC M b)) := h.kept rfl
      obtain ⟨u3, u4⟩ := h_copy (s1.now hd) s1.Th440
      rw [s1.R133_8, u3, thC_sT]
      have s2 : Sh (sT (sT M 440 (thC M b)) (136 + 2 * I.d) (thC M b)) := h.kept rfl
      have o1 : OY (136 + 2 * I.d) M (sT (sT M 440 (thC M b)) (136 + 2 * I.d) (thC M b)) := OY.trans (OX.oy2 (OX.st _) (Or.inr rfl)) (OX.st _).oy
      have e1 : thC (sT (sT M 440 (thC M b)) (136 + 2 * I.d) (thC M b)) (136 + 2 * I.d) = tNu (thC M b).va := by rw [thC_sT]; exact wy.num c2
      have hI2 : InC (sT (sT M 440 (thC M b)) (136 + 2 * I.d) (thC M b)) k I := hI.ts h (o1.now hd).2.2
      obtain ⟨k1, k2, k3⟩ := c_reckon s2 hI2 w hk hd (b := 136 + 2 * I.d) (s2.now hd) t1 (by omega) e1 (by rw [e1]) wy.2.1 wy.2.1 hf
      refine ⟨⟨h.T133, h.Th440.1, u2, s1.T133, (s1.now hd).1, u4, fun _ => ⟨s2.T133, k1⟩, fun z => absurd c11 z⟩, ?_⟩
      rw [if_pos c11]
      exact ⟨rfl, o1.trans k2, fun _ => k3⟩
    · rw [if_neg c11, if_neg c11]
      have c3 : (thC M (136 + 2 * I.d)).so = 1 := c1.resolve_left c11
      obtain ⟨k1, k2, k3⟩ := c_reckon h hI w hk hd (b := b) hb b1 b2 (wx.num c3) rfl wx.2.1 wy.2.1 hf
      exact ⟨⟨fun z => absurd z c11, fun _ => ⟨h.T133, k1⟩⟩, rfl, k2, fun _ => k3⟩
  · refine kq_if (fun _ => kq_ifp (fun c => ?_) (fun c => ?_)) (fun z => absurd rfl z)
    · rw [if_pos c]
      obtain ⟨k1, k2⟩ := c_pointer h w.nm0 ht hb t1 t2 b1 b2 wx.2.1.bu wy.2.1.bu
      exact ⟨⟨h.T133, k1⟩, k2⟩
    · rw [if_neg c]
      exact PQ.two
theorem c_rck149 {M : XM} (h : Sh M) {k : Int32} {I : In} (hI : InC M k I) (w : WI I) (hk : kd I.c = 4 ∨ kd I.c = 7) {b : Nat} (hb : ShTh M b) (b1 : 134 ≤ b) (b2 : b + 1 < 440) (wx : WT (thC M (136 + 2 * I.d))) (wy : WT (thC M b)) (hf : Int32) (nc : ¬ (nm I.c = 11 ∧ hf = 0 ∧ I.o = 0)) :
    K_Transfer_reckoning_149 133 k hf (nm I.c) (136 + 2 * I.d) b M ∧ PQ (136 + 2 * I.d) M (rckT I hf (thC M (136 + 2 * I.d)) (thC M b)) (g_Transfer_reckoning_149 133 k hf (nm I.c) (136 + 2 * I.d) b M) := by
  have hd : I.d < 75 := by have := w.2.1; omega
  have ht := h.now hd
  obtain ⟨A, B⟩ := c_rck176 h hI w hk hb b1 b2 wx wy hf
  obtain ⟨u1, u2⟩ := c_isNum ht
  obtain ⟨v1, v2⟩ := c_isNum hb
  unfold g_Transfer_reckoning_149 K_Transfer_reckoning_149 g_Transfer_reckoning_163 K_Transfer_reckoning_163 g_Transfer_reckoning_175 K_Transfer_reckoning_175
  rw [u1, v1]
  by_cases y1 : (thC M b).so = 1
  · by_cases x1 : (nm I.c = 11 ∨ (thC M (136 + 2 * I.d)).so = 1)
    · have e0 : rckT I hf (thC M (136 + 2 * I.d)) (thC M b) = (0, tNu (rkV I hf (if nm I.c = 11 then (thC M b).va else (thC M (136 + 2 * I.d)).va) (thC M b).va)) := by
        unfold rckT; rw [if_neg nc, if_pos ⟨x1, y1⟩]
      rw [e0]
      have A' := A ⟨x1, y1⟩
      refine kq_if (fun c => ?_) (fun c => ?_)
      · exact kq_and hb.1 (kq_and v2 (kq_if (fun z => absurd z (by rw [if_pos y1]; exact i1_0)) (fun _ => A')))
      · have x2 := x1.resolve_left c
        exact kq_and ht.1 (kq_and u2 (kq_if (fun z => absurd z (by rw [if_pos x2]; exact i1_0)) (fun _ => kq_and hb.1 (kq_and v2 (kq_if (fun z => absurd z (by rw [if_pos y1]; exact i1_0)) (fun _ => A'))))))
    · have e0 : rckT I hf (thC M (136 + 2 * I.d)) (thC M b) = if hf = 0 then ptr (nm I.c) (thC M (136 + 2 * I.d)) (thC M b) else (2, thC M (136 + 2 * I.d)) := by
        unfold rckT; rw [if_neg nc, if_neg (fun (z : _ ∧ _) => x1 z.1)]
      rw [e0]
      refine kq_if (fun c => absurd (Or.inl c) x1) (fun c => kq_and ht.1 (kq_and u2 (kq_if (fun _ => B) (fun z => absurd (if_neg (fun q => x1 (Or.inr q))) z))))
  · have e0 : rckT I hf (thC M (136 + 2 * I.d)) (thC M b) = if hf = 0 then ptr (nm I.c) (thC M (136 + 2 * I.d)) (thC M b) else (2, thC M (136 + 2 * I.d)) := by
      unfold rckT; rw [if_neg nc, if_neg (fun (z : _ ∧ _) => y1 z.2)]
    rw [e0]
    refine kq_if (fun c => kq_and hb.1 (kq_and v2 (kq_if (fun _ => B) (fun z => absurd (if_neg y1) z)))) (fun c => kq_and ht.1 (kq_and u2 (kq_if (fun _ => B) (fun _ => kq_and hb.1 (kq_and v2 (kq_if (fun _ => B) (fun z => absurd (if_neg y1) z)))))))
theorem c_rck117 {M : XM} (h : Sh M) {k : Int32} {I : In} (hI : InC M k I) (w : WI I) (hk : kd I.c = 4 ∨ kd I.c = 7) {b : Nat} (hb : ShTh M b) (b1 : 134 ≤ b) (b2 : b + 1 < 440) (wx : WT (thC M (136 + 2 * I.d))) (wy : WT (thC M b)) (hf : Int32) :
    K_Transfer_reckoning_117 133 k hf (nm I.c) (136 + 2 * I.d) b M ∧ PQ (136 + 2 * I.d) M (rckT I hf (thC M (136 + 2 * I.d)) (thC M b)) (g_Transfer_reckoning_117 133 k hf (nm I.c) (136 + 2 * I.d) b M) := by
  have hd : I.d < 75 := by have := w.2.1; omega
  have ht := h.now hd
  obtain ⟨o1, o2⟩ := hI.2.2.2.1
  have A := c_rck149 h hI w hk hb b1 b2 wx wy hf
  unfold g_Transfer_reckoning_117 K_Transfer_reckoning_117 g_Transfer_reckoning_147
  rw [h.R133_0, o1]
  refine kq_if (fun c1 => kq_if (fun c2 => kq_and h.T133 (kq_and h.T102 (kq_and o2 (kq_if (fun c3 => ?_) (fun c3 => A (fun z => c3 z.2.2)))))) (fun c2 => A (fun z => c2 z.2.1))) (fun c1 => A (fun z => c1 z.1))
  obtain ⟨u1, u2⟩ := h_copy ht hb
  refine ⟨⟨ht.1, u2⟩, ?_⟩
  unfold rckT
  rw [if_pos ⟨c1, c2, c3⟩, u1]
  exact ⟨rfl, (OX.st _).oy, fun _ => thC_sT _ _ _⟩
theorem PQ.tq {n : Nat} {M M1 : XM} {w : Int32 × TH} {r : Int32 × XM} {σ : Sg} (hn : n < 75) (h : PQ (136 + 2 * n) M1 w r) (o : OX 438 M M1) (hσ : (w.1 = 0 → up (vwC M 134) n w.2 = σ)) : TQ M (w.1, σ, mI M 134 1) r := by
  obtain ⟨a1, a2, a3⟩ := o.tmp (Or.inl rfl)
  obtain ⟨b1, b2, b3⟩ := h.2.1.now hn
  refine ⟨a3.trans b3, h.1, fun z => ⟨?_, b2.trans a2⟩⟩
  rw [b1, h.2.2 z, a1]; exact hσ z
theorem c_reckoning {M : XM} (h : Sh M) {k : Int32} {I : In} (hI : InC M k I) (w : WI I) (hk : kd I.c = 4 ∨ kd I.c = 7) (ws : WS (vwC M 134)) (hf : Int32) :
    K_Transfer_reckoning 133 k hf M ∧ TQ M ((rck I hf (vwC M 134)).1, (rck I hf (vwC M 134)).2, mI M 134 1) (g_Transfer_reckoning 133 k hf M) := by
  have hd : I.d < 75 := by have := w.2.1; omega
  have hs : I.s < 75 := by have := w.2.2.1; omega
  have ht := h.now hd
  obtain ⟨r1, r2⟩ := hI.reg h
  obtain ⟨n1, n2⟩ := hI.num h
  obtain ⟨d1, d2⟩ := hI.2.1
  obtain ⟨s1, s2⟩ := hI.2.2.1
  obtain ⟨p1, p2⟩ := c_own h hd
  obtain ⟨q1, q2⟩ := c_isRead h hs
  have ed : thC M (136 + 2 * I.d) = vwC M 134 I.d := (vwC_at hd).symm
  -- behind the reading
  have R : K_Transfer_reckoning_92 133 k hf (nm I.c) (136 + 2 * I.d) (if nm I.c = 8 ∨ nm I.c = 13 then 1 else 0) 0 M ∧ TQ M ((rck1 I hf (vwC M 134) (if nm I.c = 8 ∨ nm I.c = 13 then vwC M 134 I.d else opd I hf (vwC M 134))).1, (rck1 I hf (vwC M 134) (if nm I.c = 8 ∨ nm I.c = 13 then vwC M 134 I.d else opd I hf (vwC M 134))).2, mI M 134 1) (g_Transfer_reckoning_92 133 k hf (nm I.c) (136 + 2 * I.d) (if nm I.c = 8 ∨ nm I.c = 13 then 1 else 0) 0 M) := by
    have T : ∀ y, (rck1 I hf (vwC M 134) y).1 = (rckT I hf (vwC M 134 I.d) y).1 ∧ ((rckT I hf (vwC M 134 I.d) y).1 = 0 → up (vwC M 134) I.d (rckT I hf (vwC M 134 I.d) y).2 = (rck1 I hf (vwC M 134) y).2) := by
      intro y
      unfold rck1 rckT
      by_cases c1 : nm I.c = 11 ∧ hf = 0 ∧ I.o = 0
      · rw [if_pos c1, if_pos c1]; exact ⟨rfl, fun _ => rfl⟩
      · rw [if_neg c1, if_neg c1]
        by_cases c2 : (nm I.c = 11 ∨ (vwC M 134 I.d).so = 1) ∧ y.so = 1
        · rw [if_pos c2, if_pos c2]; exact ⟨rfl, fun _ => rfl⟩
        · rw [if_neg c2, if_neg c2]
          by_cases c3 : hf = 0
          · rw [if_pos c3, if_pos c3]; exact ⟨rfl, fun _ => rfl⟩
          · rw [if_neg c3, if_neg c3]; exact ⟨rfl, fun z => absurd z i64_2⟩
    unfold g_Transfer_reckoning_92 K_Transfer_reckoning_92
    refine kq_ifp (fun _ => kq_if (fun c => ?_) (fun c => ?_)) (fun z => absurd rfl z)
    · have c' : ¬ (nm I.c = 8 ∨ nm I.c = 13) := fun z => by rw [if_pos z] at c; exact i1_0 c
      rw [if_neg c']
      obtain ⟨k1, t, M', e1, e2, e3, e4⟩ := c_operand h hI hs hf
      rw [e1]
      have sh' := e4.sh h
      have tb : ShTh M' t := by
        rcases e2 with e2 | e2 <;> rw [e2]
        · exact sh'.Th438
        · exact sh'.now hs
      have b1 : 134 ≤ t := by omega
      have b2 : t + 1 < 440 := by have := w.2.2.1; omega
      have ed' : thC M' (136 + 2 * I.d) = vwC M 134 I.d := by rw [e4.th (by omega) (by omega) (by omega) (by unfold JX; omega) (by unfold JX; omega), ed]
      have wy : WT (opd I hf (vwC M 134)) := WT_opd ws
      obtain ⟨k2, k3⟩ := c_rck117 sh' (hI.ts h (e4.tmp (Or.inl rfl)).2.2) w hk tb b1 b2 (by rw [ed']; exact ws I.d) (by rw [e3]; exact wy) hf
      rw [ed', e3] at k3
      refine ⟨⟨h.T133, k1, k2⟩, ?_⟩
      rw [(T _).1]
      exact k3.tq hd e4 (T _).2
    · have c' : nm I.c = 8 ∨ nm I.c = 13 := by
        by_cases q : nm I.c = 8 ∨ nm I.c = 13
        · exact q
        · exact absurd (if_neg q) c
      rw [if_pos c']
      obtain ⟨k2, k3⟩ := c_rck117 h hI w hk ht (by omega) (by have := w.2.1; omega) (by rw [ed]; exact ws I.d) (by rw [ed]; exact ws I.d) hf
      rw [ed] at k3
      refine ⟨k2, ?_⟩
      rw [(T _).1]
      exact k3.tq hd Fr.rf (T _).2
  have one : TQ M (1, vwC M 134, mI M 134 1) (1, M) := ⟨TS.rf, rfl, fun z => absurd z i1_0⟩
  unfold g_Transfer_reckoning K_Transfer_reckoning g_Transfer_reckoning_0 K_Transfer_reckoning_0 g_Transfer_reckoning_9 K_Transfer_reckoning_9
  rw [h.R133_0, n1, d1, p1]
  refine kq_and h.T133 (kq_and h.T102 (kq_and n2 (kq_and h.T133 (kq_and h.T102 (kq_and d2 (kq_and h.T133 (kq_and p2 ?_)))))))
  have e23 : g_Transfer_reckoning_23 133 k hf (nm I.c) (136 + 2 * I.d) M = g_Transfer_reckoning_40 133 k hf (nm I.c) (136 + 2 * I.d) (if nm I.c = 8 ∨ nm I.c = 13 then 1 else 0) M := by
    unfold g_Transfer_reckoning_23 g_Transfer_reckoning_35
    by_cases c8 : nm I.c = 8 <;> by_cases c13 : nm I.c = 13 <;> simp only [c8, c13, if_true, if_false, not_true, not_false_iff, and_self, and_true, true_and, and_false, false_and, or_true, true_or, or_false, false_or, or_self, i32_10, eq_self, true_implies, false_implies, implies_true, ite_self, ne_eq]
  have k23 : K_Transfer_reckoning_40 133 k hf (nm I.c) (136 + 2 * I.d) (if nm I.c = 8 ∨ nm I.c = 13 then 1 else 0) M → K_Transfer_reckoning_23 133 k hf (nm I.c) (136 + 2 * I.d) M := by
    intro z
    unfold K_Transfer_reckoning_23 K_Transfer_reckoning_35
    refine ⟨fun c => ?_, fun c => ⟨fun c' => ?_, fun c' => ?_⟩⟩
    · rw [if_pos (Or.inl c)] at z; exact z
    · rw [if_pos (Or.inr c')] at z; exact z
    · rw [if_neg (fun q => q.elim c c')] at z; exact z
  rw [e23]
  refine (And.imp_left k23 ?_)
  generalize ha : (if nm I.c = 8 ∨ nm I.c = 13 then (1 : Int32) else 0) = al at R ⊢
  have ha0 : al = 0 ↔ nm I.c ≠ 8 ∧ nm I.c ≠ 13 := by
    rw [← ha]
    by_cases c8 : nm I.c = 8 <;> by_cases c13 : nm I.c = 13 <;> simp only [c8, c13, if_true, if_false, not_true, not_false_iff, and_self, and_true, true_and, and_false, false_and, or_true, true_or, or_false, false_or, or_self, i32_10, eq_self, true_implies, false_implies, implies_true, ite_self, ne_eq] <;> decide
  have K87 : K_Transfer_reckoning_92 133 k hf (nm I.c) (136 + 2 * I.d) al 1 M ∧ g_Transfer_reckoning_92 133 k hf (nm I.c) (136 + 2 * I.d) al 1 M = (1, M) := by
    unfold K_Transfer_reckoning_92 g_Transfer_reckoning_92
    exact ⟨fun z => absurd z i1_0, if_neg i1_0⟩
  have eq0 : mI M (136 + 2 * I.d) 0 = (vwC M 134 I.d).so := by rw [← ed]; rfl
  -- the source
  have S : ¬ (nm I.c ≠ 11 ∧ (vwC M 134 I.d).so = 0) → K_Transfer_reckoning_56 133 k hf (nm I.c) (136 + 2 * I.d) al M ∧ TQ M ((rck I hf (vwC M 134)).1, (rck I hf (vwC M 134)).2, mI M 134 1) (g_Transfer_reckoning_56 133 k hf (nm I.c) (136 + 2 * I.d) al M) := by
    intro nd
    unfold g_Transfer_reckoning_56 K_Transfer_reckoning_56 g_Transfer_reckoning_91 K_Transfer_reckoning_91 g_Transfer_reckoning_87 K_Transfer_reckoning_87
    rw [h.R133_0, r1, s1, q1]
    have good : ¬ ((nm I.c ≠ 11 ∧ (vwC M 134 I.d).so = 0) ∨ (nm I.c ≠ 8 ∧ nm I.c ≠ 13 ∧ rg I.c ≠ 0 ∧ (vwC M 134 I.s).so = 0)) → K_Transfer_reckoning_92 133 k hf (nm I.c) (136 + 2 * I.d) al 0 M ∧ TQ M ((rck I hf (vwC M 134)).1, (rck I hf (vwC M 134)).2, mI M 134 1) (g_Transfer_reckoning_92 133 k hf (nm I.c) (136 + 2 * I.d) al 0 M) := by
      intro ng
      unfold rck
      rw [if_neg ng]; exact R
    refine kq_if (fun c1 => ?_) (fun c1 => good (fun z => z.elim nd (fun z => c1 (ha0.mpr ⟨z.1, z.2.1⟩))))
    refine kq_and h.T133 (kq_and h.T102 (kq_and r2 (kq_if (fun c2 => good (fun z => z.elim nd (fun z => z.2.2.1 c2))) (fun c2 => ?_))))
    refine kq_and h.T133 (kq_and h.T102 (kq_and s2 (kq_and h.T133 (kq_and q2 (kq_if (fun c3 => ?_) (fun c3 => good (fun z => z.elim nd (fun z => c3 (if_pos z.2.2.2)))))))))
    rw [K87.2]
    refine ⟨K87.1, ?_⟩
    have c3' : (vwC M 134 I.s).so = 0 := by
      by_cases q : (vwC M 134 I.s).so = 0
      · exact q
      · rw [if_neg q] at c3; exact absurd c3 i1_0
    unfold rck
    rw [if_pos (Or.inr ⟨(ha0.mp c1).1, (ha0.mp c1).2, c2, c3'⟩)]
    exact one
  unfold g_Transfer_reckoning_40 K_Transfer_reckoning_40 g_Transfer_reckoning_87 K_Transfer_reckoning_87
  rw [eq0]
  refine kq_if (fun c1 => S (fun z => z.1 c1)) (fun c1 => kq_and ht.1 (kq_if (fun c2 => ?_) (fun c2 => S (fun z => c2 z.2))))
  rw [K87.2]
  refine ⟨K87.1, ?_⟩
  unfold rck
  rw [if_pos (Or.inl ⟨c1, c2⟩)]
  exact one
