/-! part 47zzc: the component's Transfer: reckoning (gen/tpl.py) -/
def OY (t : Nat) (M M' : XM) : Prop := Fr (fun q => q = t ∨ q = t + 1 ∨ JX q ∨ (438 ≤ q ∧ q < 442)) M M'
theorem OX.oy {t : Nat} {M M' : XM} (h : OX t M M') : OY t M M' := Fr.weak h (fun q z => by unfold JX at *; omega)
theorem OX.oy2 {t a : Nat} {M M' : XM} (h : OX a M M') (ha : a = 438 ∨ a = 440) : OY t M M' := Fr.weak h (fun q z => by unfold JX at *; omega)
theorem OY.trans {t : Nat} {M M1 M2 : XM} (h : OY t M M1) (h' : OY t M1 M2) : OY t M M2 := Fr.trans h h'
theorem OY.sh {t : Nat} {M M' : XM} (h : OY t M M') (s : Sh M) : Sh M' := s.kept h.1
theorem OY.rf {t : Nat} {M : XM} : OY t M M := Fr.rf
theorem OY.th {t a : Nat} {M M' : XM} (h : OY t M M') (h1 : a ≠ t) (h2 : a ≠ t + 1) (h3 : a + 1 ≠ t) (h4 : 133 < a) (h5 : a + 1 < 438) : thC M' a = thC M a :=
  Fr.th h (by unfold JX; omega) (by unfold JX; omega)
theorem OY.now {n : Nat} {M M' : XM} (hn : n < 75) (h : OY (136 + 2 * n) M M') : vwC M' 134 = up (vwC M 134) n (thC M' (136 + 2 * n)) ∧ mI M' 134 1 = mI M 134 1 ∧ TS M M' := by
  have n5 : ¬ ((133 : Nat) = 136 + 2 * n ∨ 133 = 136 + 2 * n + 1 ∨ JX 133 ∨ (438 ≤ (133 : Nat) ∧ (133 : Nat) < 442)) := by unfold JX; omega
  refine ⟨?_, (h.2 134 (by unfold JX; omega) 1).1, Fr.weak h (fun q z => by unfold TJ JX at *; omega), (h.2 133 n5 5).1, (h.2 133 n5 6).1⟩
  funext m
  unfold vwC up
  by_cases e : m = n
  · rw [if_pos e, e, if_pos hn, show 134 + 2 + 2 * n = 136 + 2 * n from rfl]
  · rw [if_neg e]
    by_cases m75 : m < 75
    · simp only [if_pos m75]
      exact h.th (by omega) (by omega) (by omega) (by omega) (by omega)
    · simp only [if_neg m75]
theorem OY.set {n : Nat} {M M' : XM} (hn : n < 75) (h : OY (136 + 2 * n) M M') {x : TH} (e : thC M' (136 + 2 * n) = x) : NV M' (up (vwC M 134) n x) (mI M 134 1) ∧ TS M M' := by
  obtain ⟨a, b, c⟩ := h.now hn
  rw [e] at a
  exact ⟨⟨a, b⟩, c⟩
theorem opN_ok : ∀ m : Fin 256, nm (Int32.ofNat m.val) ≤ 13 → nm (Int32.ofNat m.val) ≠ 8 → nm (Int32.ofNat m.val) ≠ 13 → g_Transfer_operation (nm (Int32.ofNat m.val)) = Int32.ofNat (opN (nm (Int32.ofNat m.val))) ∧ opN (nm (Int32.ofNat m.val)) < 12 := by decide +kernel
theorem WI.op {I : In} (w : WI I) (h1 : nm I.c ≤ 13) (h2 : nm I.c ≠ 8) (h3 : nm I.c ≠ 13) : g_Transfer_operation (nm I.c) = Int32.ofNat (opN (nm I.c)) ∧ opN (nm I.c) < 12 := by
  obtain ⟨m, hm, e⟩ := w.1
  rw [e] at h1 h2 h3 ⊢
  exact opN_ok ⟨m, hm⟩ h1 h2 h3
/-- operate into a thing's value -/
theorem c_operate {M : XM} (h : Sh M) {t a b k : Nat} {n : Int32} (hk : k < 12) (ht : ShTh M t) (ha : ShTh M a) (hb : ShTh M b) (t1 : 134 ≤ t) (a1 : 134 ≤ a) (b1 : 134 ≤ b) (ba : bu (thC M a).va) (bb : bu (thC M b).va) :
    K_Reckoner_operate 110 (Int32.ofNat k) n (a + 1) (b + 1) (t + 1) M ∧ OX t M (g_Reckoner_operate 110 (Int32.ofNat k) n (a + 1) (b + 1) (t + 1) M) ∧ thC (g_Reckoner_operate 110 (Int32.ofNat k) n (a + 1) (b + 1) (t + 1) M) t = ((thC M t).so, (thC M t).de, (thC M t).og, vOp k n (thC M a).va (thC M b).va) := by
  obtain ⟨k1, k2, k3⟩ := r_op (n := n) h hk ha.2.2 hb.2.2 ht.2.2 (by unfold JR; omega) (by unfold JR; omega) ba bb
  refine ⟨k1, OX.fr k2 (fun q z => by unfold JR at z; unfold JX; omega), ?_⟩
  rw [OX.sort k2 (by unfold JR; omega), k3]; rfl
theorem c_cut {M : XM} (h : Sh M) {t a : Nat} {n : Int32} (ht : ShTh M t) (ha : ShTh M a) (t1 : 134 ≤ t) (a1 : 134 ≤ a) (ba : bu (thC M a).va) :
    K_Reckoner_cut 110 (a + 1) n (t + 1) M ∧ OX t M (g_Reckoner_cut 110 (a + 1) n (t + 1) M) ∧ thC (g_Reckoner_cut 110 (a + 1) n (t + 1) M) t = ((thC M t).so, (thC M t).de, (thC M t).og, vCut n (thC M a).va) := by
  obtain ⟨k1, k2, k3⟩ := r_cut (n := n) h ha.2.2 ht.2.2 (by omega) ba
  refine ⟨k1, OX.fr k2 (fun q z => by unfold J0 at z; unfold JX; omega), ?_⟩
  rw [OX.sort k2 (by unfold J0; omega), k3]; rfl
theorem c_ext {M : XM} (h : Sh M) {t a : Nat} {n : Int32} (ht : ShTh M t) (ha : ShTh M a) (t1 : 134 ≤ t) (a1 : 134 ≤ a) (ba : bu (thC M a).va) :
    K_Reckoner_extend 110 (a + 1) n (t + 1) M ∧ OX t M (g_Reckoner_extend 110 (a + 1) n (t + 1) M) ∧ thC (g_Reckoner_extend 110 (a + 1) n (t + 1) M) t = ((thC M t).so, (thC M t).de, (thC M t).og, vExt n (thC M a).va) := by
  obtain ⟨k1, k2, k3⟩ := r_ext (n := n) h ha.2.2 ht.2.2 (by omega) ba
  refine ⟨k1, OX.fr k2 (fun q z => by unfold J1 at z; unfold JX; omega), ?_⟩
  rw [OX.sort k2 (by unfold J1; omega), k3]; rfl
theorem c_swap {M : XM} (h : Sh M) {t a : Nat} {n : Int32} (hn : n = 16 ∨ n = 32 ∨ n = 64) (ht : ShTh M t) (ha : ShTh M a) (t1 : 134 ≤ t) (a1 : 134 ≤ a) (ba : bu (thC M a).va) :
    K_Reckoner_swap 110 (a + 1) n (t + 1) M ∧ OX t M (g_Reckoner_swap 110 (a + 1) n (t + 1) M) ∧ thC (g_Reckoner_swap 110 (a + 1) n (t + 1) M) t = ((thC M t).so, (thC M t).de, (thC M t).og, vSwap n (thC M a).va) := by
  obtain ⟨k1, k2, k3⟩ := r_swap (n := n) h hn ha.2.2 ht.2.2 (by omega) ba
  refine ⟨k1, OX.fr k2 (fun q z => by unfold J1 at z; unfold JX; omega), ?_⟩
  rw [OX.sort k2 (by unfold J1; omega), k3]; rfl
theorem c_reckon {M : XM} (h : Sh M) {k : Int32} {I : In} (hI : InC M k I) (w : WI I) (hk : kd I.c = 4 ∨ kd I.c = 7) {n b : Nat} (hn : n < 75) (hb : ShTh M b) (b1 : 134 ≤ b) (b2 : b + 1 < 440) {xv yv : AV} (hx : thC M (136 + 2 * n) = tNu xv) (hy : (thC M b).va = yv) (tx : Tt xv) (ty : Tt yv) (hf : Int32) :
    K_Transfer_reckon 133 k (136 + 2 * n) b hf M ∧ OY (136 + 2 * n) M (g_Transfer_reckon 133 k (136 + 2 * n) b hf M) ∧ thC (g_Transfer_reckon 133 k (136 + 2 * n) b hf M) (136 + 2 * n) = tNu (rkV I hf xv yv) := by
  obtain ⟨r1, r2⟩ := hI.reg h
  obtain ⟨m1, m2⟩ := hI.2.2.2.2.1
  obtain ⟨n1, n2⟩ := hI.num h
  obtain ⟨o1, o2⟩ := hI.2.2.2.1
  have ht := h.now hn
  have t1 : 134 ≤ 136 + 2 * n := by omega
  have hxv : (thC M (136 + 2 * n)).va = xv := by rw [hx]
  have bx : bu (thC M (136 + 2 * n)).va := by rw [hxv]; exact tx.bu
  have hby : bu (thC M b).va := by rw [hy]; exact ty.bu
  obtain ⟨w1, w2, w3, w4, w5⟩ := w.2.2.2.2.1 hk
  unfold g_Transfer_reckon K_Transfer_reckon g_Transfer_reckon_0 K_Transfer_reckon_0 g_Transfer_reckon_10 K_Transfer_reckon_10 g_Transfer_reckon_22 K_Transfer_reckon_22
  rw [h.R133_0, n1, o1]
  have main : ∀ bits : Int32, (bits = bw hf) → K_Transfer_reckon_34 133 k (136 + 2 * n) b hf (nm I.c) bits I.o M ∧ OY (136 + 2 * n) M (g_Transfer_reckon_34 133 k (136 + 2 * n) b hf (nm I.c) bits I.o M) ∧ thC (g_Transfer_reckon_34 133 k (136 + 2 * n) b hf (nm I.c) bits I.o M) (136 + 2 * n) = tNu (rkV I hf xv yv) := by
    intro bits hbits
    subst hbits
    unfold g_Transfer_reckon_34 K_Transfer_reckon_34 g_Transfer_reckon_49 K_Transfer_reckon_49 g_Transfer_reckon_74 g_Transfer_reckon_123 g_Transfer_reckon_126 K_Transfer_reckon_126 g_Transfer_reckon_149 g_Transfer_reckon_171 K_Transfer_reckon_171 g_Transfer_reckon_174 g_Transfer_reckon_200 K_Transfer_reckon_200 g_Transfer_reckon_217
    unfold rkV
    rw [h.R133_0, h.R133_2, h.R133_8, r1, m1, ht.2.1, hb.2.1]
    by_cases c8 : nm I.c = 8
    · rw [if_pos c8, if_pos c8]
      obtain ⟨u1, u2⟩ := h_number (M := M) h.Th440 0
      rw [u1]
      have s1 : Sh (sT M 440 (1, 0, -1, vOne 0)) := h.kept rfl
      rw [s1.R133_2, s1.R133_8, s1.Th440.2.1, (s1.now hn).2.1]
      have e1 : thC (sT M 440 (1, 0, -1, vOne 0)) (136 + 2 * n) = tNu xv := by rw [thC_sTne _ _ _ (by omega), hx]
      have e2 : thC (sT M 440 (1, 0, -1, vOne 0)) 440 = (1, 0, -1, vOne 0) := thC_sT _ _ _
      obtain ⟨k1, k2, k3⟩ := c_operate (n := bw hf) s1 (k := 1) (by decide) (s1.now hn) s1.Th440 (s1.now hn) t1 (by omega) t1 (by rw [e2]; exact bu_one 0) (by rw [e1]; exact tx.bu)
      rw [e1, e2] at k3
      refine ⟨⟨fun _ => ⟨h.T133, h.Th440.1, u2, s1.T133, s1.T133, s1.Th440.1, (s1.now hn).1, (s1.now hn).1, s1.T110, k1⟩, fun z => absurd c8 z⟩, ?_, k3⟩
      exact OY.trans (OX.oy2 (OX.st _) (Or.inr rfl)) k2.oy
    · rw [if_neg c8, if_neg c8]
      refine And.intro ⟨fun z => absurd z c8, fun _ => ?_⟩ ?_
      all_goals skip
      · by_cases c13 : nm I.c = 13
        · obtain ⟨_, w6, _⟩ := w4 c13
          obtain ⟨k1, _, _⟩ := c_swap h w6 ht ht t1 t1 bx
          obtain ⟨k2, _, _⟩ := c_cut (n := I.i) h ht ht t1 t1 bx
          exact ⟨fun _ => ⟨fun _ => ⟨h.T133, ht.1, h.T133, h.T102, m2, ht.1, h.T110, k1⟩, fun _ => ⟨h.T133, h.T102, r2, fun _ => ⟨h.T133, ht.1, h.T133, h.T102, m2, ht.1, h.T110, k2⟩, fun _ => ⟨h.T133, ht.1, h.T133, h.T102, m2, ht.1, h.T110, k1⟩⟩⟩, fun z => absurd c13 z⟩
        · refine ⟨fun z => absurd z c13, fun _ => ⟨fun _ => ⟨fun _ => ⟨h.T133, (c_any h ht t1 8).1⟩, fun _ => ⟨h.T133, (c_any h ht t1 4).1⟩⟩, fun c1 => ⟨fun c2 => ?_, fun c2 => ?_⟩⟩⟩
          · obtain ⟨k1, k2⟩ := w.op w2 c8 c13
            rw [k1]
            exact ⟨h.T133, ht.1, hb.1, ht.1, h.T110, (c_operate (n := bw hf) h k2 ht ht hb t1 t1 b1 bx hby).1⟩
          · obtain ⟨k1, k2, k3⟩ := c_ext (n := I.o) h ht hb t1 b1 hby
            have s1 := k2.sh h
            rw [s1.R133_2, (s1.now hn).2.1]
            exact ⟨h.T133, hb.1, ht.1, h.T110, k1, s1.T133, (s1.now hn).1, (s1.now hn).1, s1.T110, (c_cut (n := bw hf) s1 (s1.now hn) (s1.now hn) t1 t1 (by rw [k3]; exact bu_ext)).1⟩
      · by_cases c13 : nm I.c = 13
        · rw [if_pos c13, if_pos c13]
          obtain ⟨_, w6, _⟩ := w4 c13
          obtain ⟨_, k1, e1⟩ := c_swap h w6 ht ht t1 t1 bx
          obtain ⟨_, k2, e2⟩ := c_cut (n := I.i) h ht ht t1 t1 bx
          rw [hx] at e1 e2
          by_cases a1 : hf = 0
          · rw [if_pos a1, if_pos a1]; exact ⟨k1.oy, e1⟩
          · rw [if_neg a1, if_neg a1]
            by_cases a2 : rg I.c = 0
            · rw [if_pos a2, if_pos a2]; exact ⟨k2.oy, e2⟩
            · rw [if_neg a2, if_neg a2]; exact ⟨k1.oy, e1⟩
        · rw [if_neg c13, if_neg c13]
          by_cases c1 : I.o = 1
          · rw [if_pos c1, if_pos c1]
            unfold bw
            by_cases a1 : hf = 0
            · rw [if_pos a1, if_pos a1]
              obtain ⟨_, k1, e1⟩ := c_any h ht t1 8
              exact ⟨k1.oy, e1⟩
            · rw [if_neg a1, if_neg a1]
              obtain ⟨_, k1, e1⟩ := c_any h ht t1 4
              exact ⟨k1.oy, e1⟩
          · rw [if_neg c1, if_neg c1]
            by_cases c2 : I.o ≤ 1
            · rw [if_pos c2, if_pos c2]
              obtain ⟨k1, k2⟩ := w.op w2 c8 c13
              rw [k1]
              obtain ⟨_, k3, e3⟩ := c_operate (n := bw hf) h k2 ht ht hb t1 t1 b1 bx hby
              rw [hx, hy] at e3
              exact ⟨k3.oy, e3⟩
            · rw [if_neg c2, if_neg c2]
              obtain ⟨k1, k2, k3⟩ := c_ext (n := I.o) h ht hb t1 b1 hby
              have s1 := k2.sh h
              rw [s1.R133_2, (s1.now hn).2.1]
              obtain ⟨_, k4, e4⟩ := c_cut (n := bw hf) s1 (s1.now hn) (s1.now hn) t1 t1 (by rw [k3]; exact bu_ext)
              rw [k3, hx, hy] at e4
              exact ⟨(k2.trans k4).oy, e4⟩
  have m64 := main
  refine ⟨⟨h.T133, h.T102, n2, fun a1 => ⟨h.T133, h.T102, o2, (main 64 (by unfold bw; rw [if_pos a1])).1⟩, fun a1 => ⟨h.T133, h.T102, o2, (main 32 (by unfold bw; rw [if_neg a1])).1⟩⟩, ?_⟩
  by_cases a1 : hf = 0
  · rw [if_pos a1]; exact (main 64 (by unfold bw; rw [if_pos a1])).2
  · rw [if_neg a1]; exact (main 32 (by unfold bw; rw [if_neg a1])).2
