/-! part 47zzd: the component's Transfer: pointers (gen/tpl.py) -/
def PQ (t : Nat) (M : XM) (w : Int32 × TH) (r : Int32 × XM) : Prop := r.1 = w.1 ∧ OY t M r.2 ∧ (w.1 = 0 → thC r.2 t = w.2)
theorem PQ.mv {t : Nat} {M M1 : XM} {w : Int32 × TH} {r : Int32 × XM} (h : PQ t M1 w r) (o : OY t M M1) : PQ t M w r := ⟨h.1, o.trans h.2.1, h.2.2⟩
theorem i1_0 : ¬ (1 : Int32) = 0 := by decide
theorem i64_2 : ¬ (2 : Int32) = 0 := by decide
theorem c_ptr83 {M : XM} (h : Sh M) {n : Int32} {j : Nat} (hj : j < 12) (en : n = Int32.ofNat j) (ej : ix n = j) {t a b : Nat} (ht : ShTh M t) (ha : ShTh M a) (hb : ShTh M b) (t1 : 134 ≤ t) (t2 : t + 1 < 438) (a1 : 134 ≤ a) (b1 : 134 ≤ b) (e4 : thC M 440 = thC M a) (ba : bu (thC M a).va) (bb : bu (thC M b).va) :
    K_Transfer_pointer_83 133 n t a b M ∧ PQ t M (if nearV (vOp (ix n) 64 (thC M a).va (thC M b).va) then 0 else 2, ((thC M a).so, (thC M a).de, (thC M a).og, vOp (ix n) 64 (thC M a).va (thC M b).va)) (g_Transfer_pointer_83 133 n t a b M) := by
  rw [ej]
  subst en
  unfold g_Transfer_pointer_83 K_Transfer_pointer_83 g_Transfer_pointer_110 K_Transfer_pointer_110 g_Transfer_pointer_118 K_Transfer_pointer_118
  rw [h.R133_2, h.R133_8, ha.2.1, hb.2.1, h.Th440.2.1]
  obtain ⟨k1, k2, k3⟩ := c_operate (n := 64) h hj h.Th440 ha hb (by omega) a1 b1 ba bb
  rw [e4] at k3
  have s1 := k2.sh h
  rw [s1.R133_8]
  have ht1 : ShTh (g_Reckoner_operate 110 (Int32.ofNat j) 64 (a + 1) (b + 1) (440 + 1) M) t := ht.kept k2.1
  obtain ⟨u1, u2⟩ := h_copy ht1 s1.Th440
  rw [u1, k3]
  have ht2 : ShTh (sT (g_Reckoner_operate 110 (Int32.ofNat j) 64 (a + 1) (b + 1) (440 + 1) M) t ((thC M a).so, (thC M a).de, (thC M a).og, vOp j 64 (thC M a).va (thC M b).va)) t := ht1.kept rfl
  rw [ht2.2.1]
  obtain ⟨v1, v2⟩ := c_isNear ht2.2.2
  rw [gv6_sT] at v1
  have v1' : g_Transfer_isNear (t + 1) (sT (g_Reckoner_operate 110 (Int32.ofNat j) 64 (a + 1) (b + 1) (440 + 1) M) t ((thC M a).so, (thC M a).de, (thC M a).og, vOp j 64 (thC M a).va (thC M b).va)) = if nearV (vOp j 64 (thC M a).va (thC M b).va) then 1 else 0 := v1
  rw [v1']
  refine ⟨⟨h.T133, ha.1, hb.1, h.T133, h.Th440.1, h.T110, k1, s1.T133, ht1.1, u2, ht2.1, v2⟩, ?_⟩
  have fr : OY t M (sT (g_Reckoner_operate 110 (Int32.ofNat j) 64 (a + 1) (b + 1) (440 + 1) M) t ((thC M a).so, (thC M a).de, (thC M a).og, vOp j 64 (thC M a).va (thC M b).va)) := (k2.oy2 (Or.inr rfl)).trans (OX.st _).oy
  by_cases c : nearV (vOp j 64 (thC M a).va (thC M b).va)
  · rw [if_pos c, if_pos c, if_neg i1_0]
    exact ⟨rfl, fr, fun _ => thC_sT _ _ _⟩
  · rw [if_neg c, if_neg c, if_pos rfl]
    exact ⟨rfl, fr, fun z => absurd z i64_2⟩
theorem c_ptr244 {M : XM} (h : Sh M) {t : Nat} (ht : ShTh M t) (t1 : 134 ≤ t) (t2 : t + 1 < 438) (c : Int64) :
    K_Transfer_pointer_244 133 t c M ∧ PQ t M (if (-536870912 : Int64) ≤ c ∧ c ≤ 536870912 then 0 else 2, ((thC M 440).so, c.toInt32, (thC M 440).og, (thC M 440).va)) (g_Transfer_pointer_244 133 t c M) := by
  unfold g_Transfer_pointer_244 K_Transfer_pointer_244 g_Transfer_pointer_256 K_Transfer_pointer_256 g_Transfer_pointer_264
  rw [h.R133_8, sTi1]
  have s1 : Sh (sT M 440 ((thC M 440).so, c.toInt32, (thC M 440).og, (thC M 440).va)) := h.kept rfl
  rw [s1.R133_8]
  have ht1 : ShTh (sT M 440 ((thC M 440).so, c.toInt32, (thC M 440).og, (thC M 440).va)) t := ht.kept rfl
  obtain ⟨u1, u2⟩ := h_copy ht1 s1.Th440
  rw [u1, thC_sT]
  refine ⟨⟨h.T133, h.Th440.1, s1.T133, ht1.1, u2⟩, ?_⟩
  have fr : OY t M (sT (sT M 440 ((thC M 440).so, c.toInt32, (thC M 440).og, (thC M 440).va)) t ((thC M 440).so, c.toInt32, (thC M 440).og, (thC M 440).va)) := OY.trans ((OX.st _).oy2 (Or.inr rfl)) (OX.st _).oy
  simp only [cmp_ltN, cmp_gtN]
  by_cases c1 : (-536870912 : Int64) ≤ c
  · by_cases c2 : c ≤ 536870912
    · simp only [c1, c2, if_true, if_false, not_true, not_false_iff, and_self, and_true, true_and, and_false, false_and, or_true, true_or, or_false, false_or, or_self, i32_10, eq_self, true_implies, false_implies, implies_true, ite_self, ne_eq]
      exact ⟨rfl, fr, fun _ => thC_sT _ _ _⟩
    · simp only [c1, c2, if_true, if_false, not_true, not_false_iff, and_self, and_true, true_and, and_false, false_and, or_true, true_or, or_false, false_or, or_self, i32_10, eq_self, true_implies, false_implies, implies_true, ite_self, ne_eq]
      exact ⟨rfl, fr, fun z => absurd z i64_2⟩
  · simp only [c1, if_true, if_false, not_true, not_false_iff, and_self, and_true, true_and, and_false, false_and, or_true, true_or, or_false, false_or, or_self, i32_10, eq_self, true_implies, false_implies, implies_true, ite_self, ne_eq]
    exact ⟨rfl, fr, fun z => absurd z i64_2⟩
theorem PQ.two {t : Nat} {M : XM} {w : TH} : PQ t M (2, w) (2, M) := ⟨rfl, OY.rf, fun z => absurd z i64_2⟩
theorem c_ptr157 {M : XM} (h : Sh M) {n : Int32} {t a b : Nat} (ht : ShTh M t) (ha : ShTh M a) (hb : ShTh M b) (t1 : 134 ≤ t) (t2 : t + 1 < 438) (e4 : thC M 440 = thC M a) :
    K_Transfer_pointer_157 133 n t a b 1 M ∧ PQ t M (if (thC M b).va.u = 0 ∧ (-1073741824 : Int64) ≤ (thC M b).va.le ∧ (thC M b).va.le ≤ 1073741824 then
    (if (-536870912 : Int64) ≤ (if n = 0 then (thC M a).de.toInt64 + (thC M b).va.le else (thC M a).de.toInt64 - (thC M b).va.le) ∧ (if n = 0 then (thC M a).de.toInt64 + (thC M b).va.le else (thC M a).de.toInt64 - (thC M b).va.le) ≤ 536870912 then 0 else 2, ((thC M a).so, (if n = 0 then (thC M a).de.toInt64 + (thC M b).va.le else (thC M a).de.toInt64 - (thC M b).va.le).toInt32, (thC M a).og, (thC M a).va)) else (2, thC M a)) (g_Transfer_pointer_157 133 n t a b 1 M) := by
  unfold g_Transfer_pointer_157 K_Transfer_pointer_157
  rw [hb.2.1, if_neg i1_0]
  obtain ⟨v1, v2⟩ := c_single hb.2.2
  have k44 := fun c => c_ptr244 h ht t1 t2 c
  rw [e4] at k44
  have eL : mL M (b + 1) 4 = (thC M b).va.le := rfl
  have eD : mI M a 1 = (thC M a).de := rfl
  have eU : (gv6 M (b + 1)).u = (thC M b).va.u := rfl
  simp only [eL, eD, cmp_ltN, cmp_le]
  rw [v1, eU]
  generalize (thC M b).va.le = v
  refine ⟨fun _ => ⟨hb.1, hb.2.2, v2, fun _ => ⟨hb.1, hb.2.2, fun _ => ⟨hb.1, hb.2.2, fun _ => ⟨fun _ => ⟨ha.1, hb.1, hb.2.2, (k44 _).1⟩, fun _ => ⟨ha.1, hb.1, hb.2.2, (k44 _).1⟩⟩⟩⟩⟩, ?_⟩
  generalize (thC M b).va.u = u
  by_cases c1 : u = 0
  · by_cases c2 : (-1073741824 : Int64) ≤ v
    · by_cases c3 : v ≤ 1073741824
      · by_cases c4 : n = 0
        · simp only [c1, c2, c3, c4, if_true, if_false, not_true, not_false_iff, and_self, and_true, true_and, and_false, false_and, or_true, true_or, or_false, false_or, or_self, i32_10, eq_self, true_implies, false_implies, implies_true, ite_self, ne_eq]; exact (k44 _).2
        · simp only [c1, c2, c3, c4, if_true, if_false, not_true, not_false_iff, and_self, and_true, true_and, and_false, false_and, or_true, true_or, or_false, false_or, or_self, i32_10, eq_self, true_implies, false_implies, implies_true, ite_self, ne_eq]; exact (k44 _).2
      · simp only [c1, c2, c3, if_true, if_false, not_true, not_false_iff, and_self, and_true, true_and, and_false, false_and, or_true, true_or, or_false, false_or, or_self, i32_10, eq_self, true_implies, false_implies, implies_true, ite_self, ne_eq]; exact PQ.two
    · simp only [c1, c2, if_true, if_false, not_true, not_false_iff, and_self, and_true, true_and, and_false, false_and, or_true, true_or, or_false, false_or, or_self, i32_10, eq_self, true_implies, false_implies, implies_true, ite_self, ne_eq]; exact PQ.two
  · simp only [c1, if_true, if_false, not_true, not_false_iff, and_self, and_true, true_and, and_false, false_and, or_true, true_or, or_false, false_or, or_self, i32_10, eq_self, true_implies, false_implies, implies_true, ite_self, ne_eq]; exact PQ.two
theorem c_ptr45 {M : XM} (h : Sh M) {n : Int32} {j : Nat} (hj : j < 12) (en : n = Int32.ofNat j) (ej : ix n = j) {t a b : Nat} (ht : ShTh M t) (ha : ShTh M a) (hb : ShTh M b) (t1 : 134 ≤ t) (t2 : t + 1 < 438) (a1 : 134 ≤ a) (a2 : a + 1 < 440) (b1 : 134 ≤ b) (b2 : b + 1 < 440) (ba : bu (thC M a).va) (bb : bu (thC M b).va) :
    K_Transfer_pointer_45 133 n t a b M ∧ PQ t M (if (thC M b).so = 1 then ptr1 n (thC M a) (thC M b).va else (2, thC M t)) (g_Transfer_pointer_45 133 n t a b M) := by
  unfold g_Transfer_pointer_45 K_Transfer_pointer_45
  obtain ⟨u1, u2⟩ := c_isNum hb
  rw [u1, h.R133_8]
  obtain ⟨v1, v2⟩ := h_copy h.Th440 ha
  rw [v1]
  have s1 : Sh (sT M 440 (thC M a)) := h.kept rfl
  have ea : thC (sT M 440 (thC M a)) a = thC M a := thC_sTne _ _ _ (by omega)
  have eb : thC (sT M 440 (thC M a)) b = thC M b := thC_sTne _ _ _ (by omega)
  have e0 : mI (sT M 440 (thC M a)) a 0 = (thC M a).so := by rw [mI_sTne _ _ _ (by omega)]; rfl
  have e4 : thC (sT M 440 (thC M a)) 440 = thC (sT M 440 (thC M a)) a := by rw [thC_sT, ea]
  have ht' : ShTh (sT M 440 (thC M a)) t := ht.kept rfl
  have ha' : ShTh (sT M 440 (thC M a)) a := ha.kept rfl
  have hb' : ShTh (sT M 440 (thC M a)) b := hb.kept rfl
  have o1 : OY t M (sT M 440 (thC M a)) := OX.oy2 (OX.st _) (Or.inr rfl)
  have A := c_ptr83 s1 hj en ej ht' ha' hb' t1 t2 a1 b1 e4 (by rw [ea]; exact ba) (by rw [eb]; exact bb)
  have B := c_ptr157 (n := n) s1 ht' ha' hb' t1 t2 e4
  rw [ea, eb] at A B
  have C : K_Transfer_pointer_157 133 n t a b 0 (sT M 440 (thC M a)) ∧ g_Transfer_pointer_157 133 n t a b 0 (sT M 440 (thC M a)) = (2, sT M 440 (thC M a)) := by
    unfold g_Transfer_pointer_157 K_Transfer_pointer_157
    exact ⟨fun z => absurd rfl z, if_pos rfl⟩
  unfold g_Transfer_pointer_64 K_Transfer_pointer_64 g_Transfer_pointer_152 K_Transfer_pointer_152
  rw [e0]
  refine ⟨⟨hb.1, u2, fun _ => ⟨h.T133, h.Th440.1, v2, ha'.1, fun _ => A.1, fun _ => ⟨ha'.1, fun _ => A.1, fun _ => ⟨ha'.1, fun _ => B.1, fun _ => ⟨ha'.1, fun _ => B.1, fun _ => C.1⟩⟩⟩⟩⟩, ?_⟩
  by_cases c1 : (thC M b).so = 1
  · rw [if_pos c1, if_pos c1, if_neg i1_0]
    unfold ptr1
    by_cases d4 : (thC M a).so = 4
    · rw [if_pos d4, if_pos (Or.inl d4)]; exact A.2.mv o1
    · rw [if_neg d4]
      by_cases d7 : (thC M a).so = 7
      · rw [if_pos d7, if_pos (Or.inr d7)]; exact A.2.mv o1
      · rw [if_neg d7, if_neg (fun z => z.elim d4 d7)]
        by_cases d2 : (thC M a).so = 2
        · rw [if_pos d2]
          simp only [d2, true_or, true_and] at B ⊢
          exact B.2.mv o1
        · rw [if_neg d2]
          by_cases d3 : (thC M a).so = 3
          · rw [if_pos d3]
            simp only [d3, or_true, true_and] at B ⊢
            exact B.2.mv o1
          · rw [if_neg d3, C.2, if_neg (fun z => z.1.elim d2 d3)]
            exact PQ.two.mv o1
  · rw [if_neg c1, if_neg c1, if_pos rfl]; exact PQ.two
theorem c_pointer {M : XM} (h : Sh M) {n : Int32} (n0 : 0 ≤ n) {t b : Nat} (ht : ShTh M t) (hb : ShTh M b) (t1 : 134 ≤ t) (t2 : t + 1 < 438) (b1 : 134 ≤ b) (b2 : b + 1 < 440) (ba : bu (thC M t).va) (bb : bu (thC M b).va) :
    K_Transfer_pointer 133 n t b M ∧ PQ t M (ptr n (thC M t) (thC M b)) (g_Transfer_pointer 133 n t b M) := by
  unfold g_Transfer_pointer K_Transfer_pointer g_Transfer_pointer_0 K_Transfer_pointer_0 g_Transfer_pointer_6 K_Transfer_pointer_6 g_Transfer_pointer_16 K_Transfer_pointer_16 g_Transfer_pointer_28 K_Transfer_pointer_28
  obtain ⟨u1, u2⟩ := c_isNum ht
  rw [u1]
  unfold ptr
  by_cases c1 : 1 < n
  · simp only [if_pos c1]
    refine ⟨⟨ht.1, u2, fun _ => ⟨fun _ z => absurd c1 z, fun _ z => absurd c1 z⟩, fun _ => ⟨fun _ z => absurd c1 z, fun _ z => absurd c1 z⟩⟩, ?_⟩
    simp only [ite_self]
    exact PQ.two
  · have e01 : n = 0 ∨ n = 1 := by
      rw [lt_u3] at c1
      rw [Int32.le_iff_toInt_le] at n0
      have e0 : (0 : Int32).toInt = 0 := rfl
      have e1 : (1 : Int32).toInt = 1 := rfl
      rw [e0] at n0; rw [e1] at c1
      rcases (by omega : n.toInt = 0 ∨ n.toInt = 1) with e | e
      · exact Or.inl (Int32.toInt_inj.mp e)
      · exact Or.inr (Int32.toInt_inj.mp e)
    have i10 : ¬ (0 : Int32) = 1 := by decide
    have A : K_Transfer_pointer_45 133 n t t b M ∧ PQ t M (if (thC M b).so = 1 then ptr1 n (thC M t) (thC M b).va else (2, thC M t)) (g_Transfer_pointer_45 133 n t t b M) := by
      rcases e01 with e | e
      · exact c_ptr45 h (j := 0) (by decide) e (by rw [e]; decide) ht ht hb t1 t2 t1 (by omega) b1 b2 ba bb
      · exact c_ptr45 h (j := 1) (by decide) e (by rw [e]; decide) ht ht hb t1 t2 t1 (by omega) b1 b2 ba bb
    have B : K_Transfer_pointer_45 133 n t b t M ∧ PQ t M (if (thC M t).so = 1 then ptr1 n (thC M b) (thC M t).va else (2, thC M t)) (g_Transfer_pointer_45 133 n t b t M) := by
      rcases e01 with e | e
      · exact c_ptr45 h (j := 0) (by decide) e (by rw [e]; decide) ht hb ht t1 t2 b1 b2 t1 (by omega) bb ba
      · exact c_ptr45 h (j := 1) (by decide) e (by rw [e]; decide) ht hb ht t1 t2 b1 b2 t1 (by omega) bb ba
    simp only [if_neg c1]
    by_cases c2 : (thC M t).so = 1
    · simp only [if_pos c2] at B ⊢
      refine ⟨⟨ht.1, u2, fun z => absurd z i1_0, fun _ => ⟨fun z => absurd z i1_0, fun _ _ => ⟨fun z => absurd z i1_0, fun _ _ => B.1⟩⟩⟩, ?_⟩
      rw [if_neg i1_0, if_neg i1_0, if_neg i1_0]
      by_cases c3 : n = 1
      · rw [if_pos c3, if_pos c3]; exact PQ.two
      · rw [if_neg c3, if_neg c3]; exact B.2
    · simp only [if_neg c2]
      refine ⟨⟨ht.1, u2, fun _ => ⟨fun _ _ => ⟨fun _ => A.1, fun z => absurd trivial z⟩, fun z => absurd trivial z⟩, fun z => absurd trivial z⟩, ?_⟩
      simp only [if_true]
      exact A.2
