/-! part 47zzzg: the twin's does, whole (gen/tpl.py) -/
/-- a memory behind a step, against the one before the visit -/
def PV (M0 : XM) (p : Nat) (X : XM) : Prop := TW X ∧ J10 X ∧ FD M0 X ∧ mI X 448 18 = Int32.ofNat p ∧ mI X 448 17 = mI M0 448 17 ∧ ∀ k, k < 1024 → TbT X k = TbT M0 k
section DW
variable {M M0 X : XM} {p : Nat} {I : In}
theorem PV.fx (h : PV M0 p M) (t : TW X) (f : FX JN M X) : PV M0 p X :=
  ⟨t, h.2.1.fx f, h.2.2.1.trans f.fd, by rw [f.2.1 448 18 (by unfold XJ; omega)]; exact h.2.2.2.1, by rw [f.2.1 448 17 (by unfold XJ; omega)]; exact h.2.2.2.2.1, fun k hk => by rw [f.tb hk]; exact h.2.2.2.2.2 k hk⟩
theorem PV.ok (h : PV M0 p X) {q : Nat} (hq : q < 1024) (hn : nxN I p = q) {σ : Sg} {kn : Int32} (v1 : vwT X 1024 = σ) (v2 : mI X 455 1024 = kn) : K_Model_goTo 448 1024 (Int32.ofNat q) X ∧ DQ M0 (pVi I p (TbT M0) (0, some (σ, kn), none)) (0, g_Model_goTo 448 1024 (Int32.ofNat q) X) := by
  obtain ⟨t, j, fd, p18, p17, tb⟩ := h
  obtain ⟨k1, t1, j2, f1, tb1, e17⟩ := m_go1 t j (p := p) (q := q) (kk := 1024) hq (Or.inl rfl) p18 (s := (σ, kn)) v1 v2
  obtain ⟨g1, g2⟩ := pTo_congr (p := p) (q := q) (o := some (σ, kn)) tb (fun _ => hq)
  rw [← i1024] at k1 t1 j2 f1 tb1 e17
  unfold pVi
  have z0 : ((0, some (σ, kn), none) : Rs).1 = 0 := rfl
  rw [if_pos z0, hn]
  refine ⟨k1, t1, j2, fd.trans (FG.fd f1), rfl, fun k hk => (tb1 k hk).trans (g1 k hk), ?_⟩
  show _ = if orC (pTo p (TbT M0) q (some (σ, kn))).2 0 = 0 then mI M0 448 17 else 1
  rw [orC_0 _ pTo_01, ← g2, ← p17]; exact e17
theorem PV.far (h : PV M0 p X) {q : Nat} (hq : q < 1024) (hn : ix (glI I p) = q) {σ : Sg} {kn : Int32} (v1 : vwT X 1024 = σ) (v2 : mI X 455 1024 = kn) : K_Model_goTo 448 1024 (Int32.ofNat q) X ∧ DQ M0 (pVi I p (TbT M0) (0, none, some (σ, kn))) (0, g_Model_goTo 448 1024 (Int32.ofNat q) X) := by
  obtain ⟨t, j, fd, p18, p17, tb⟩ := h
  obtain ⟨k1, t1, j2, f1, tb1, e17⟩ := m_go1 t j (p := p) (q := q) (kk := 1024) hq (Or.inl rfl) p18 (s := (σ, kn)) v1 v2
  obtain ⟨g1, g2⟩ := pTo_congr (p := p) (q := q) (o := some (σ, kn)) tb (fun _ => hq)
  rw [← i1024] at k1 t1 j2 f1 tb1 e17
  unfold pVi
  have z0 : ((0, none, some (σ, kn)) : Rs).1 = 0 := rfl
  rw [if_pos z0, hn]
  refine ⟨k1, t1, j2, fd.trans (FG.fd f1), rfl, fun k hk => (tb1 k hk).trans (g1 k hk), ?_⟩
  show _ = if (if (0 : Int32) = 0 then (pTo p (TbT M0) q (some (σ, kn))).2 else 1) = 0 then mI M0 448 17 else 1
  rw [if_pos rfl, ← g2, ← p17]; exact e17
theorem PV.bad (h : PV M0 p X) {w : Int32} {R : Rs} (hw : R.1 = w) (e : w = 0 → R.2.1 = none ∧ R.2.2 = none) : DQ M0 (pVi I p (TbT M0) R) (w, X) := DQ.end h.1 h.2.1 h.2.2.1 h.2.2.2.2.1 h.2.2.2.2.2 hw e
theorem PV.on (h : PV M0 p M) (hp1 : p + 1 < 1024) (hn : nxN I p = p + 1) {w kn : Int32} {σ : Sg} {r : Int32 × XM} (z : ZQ M (w, σ, kn) r) : K_Model_does_136 448 (Int32.ofNat p) r.1 r.2 ∧ DQ M0 (pVi I p (TbT M0) (w, some (σ, kn), none)) (g_Model_does_136 448 (Int32.ofNat p) r.1 r.2) :=
  m_on h.2.2.1 h.2.1 hp1 h.2.2.2.1 h.2.2.2.2.1 h.2.2.2.2.2 hn z
theorem m_wide (h : PV M0 p M) (hI : InT M I) (w : WI I) (wg : WG I p) (hk : kd I.c = 0) (hc : I.c = 24) (wm : WM (mpT M)) (hj : K_Model_number 450 (Int32.ofNat (8 * p + 12)) 4 M ∧ g_Model_number 450 (Int32.ofNat (8 * p + 12)) 4 M = I.j) :
    K_Model_wide 448 (Int32.ofNat p) M ∧ DQ M0 (pVi I p (TbT M0) (on1 (wid (mpT M) I (vwT M 1024)) (mI M 455 1024))) (g_Model_wide 448 (Int32.ofNat p) M) := by
  have t := h.1
  have s := t.1
  have hd : I.d < 75 := by have := w.2.1; omega
  have n2 : nxN I p = p + 2 := by unfold nxN; rw [if_pos hk]
  have hq : p + 2 < 1024 := by
    have := wg.1 ⟨by rw [hc]; decide, by rw [hc]; decide, by rw [hc]; decide⟩
    rw [n2] at this
    exact this
  have e2 : Int32.ofNat p + 2 = Int32.ofNat (p + 2) := by rw [Int32.ofNat_add]; rfl
  have s01 := w.2.2.2.2.2.2.2.1 hk
  have hs : (mI M 448 21 = 1) ↔ I.s = 1 := by
    rw [hI.2.2.1]
    rcases s01 with e | e
    · rw [e]; decide
    · rw [e.1]; decide
  have F : ∀ {σ : Sg} {Y : XM}, MX M σ Y → K_Model_wide_111 448 (Int32.ofNat p) Y ∧ DQ M0 (pVi I p (TbT M0) (0, some (σ, mI M 455 1024), none)) (g_Model_wide_111 448 (Int32.ofNat p) Y) := by
    intro σ Y m
    obtain ⟨k1, k2⟩ := (h.fx m.1 m.2.1).ok (I := I) hq n2 m.2.2.1 m.2.2.2
    unfold K_Model_wide_111 g_Model_wide_111 g_Model_wide_121
    rw [e2]
    exact ⟨⟨m.1.1.T448, k1⟩, k2⟩
  unfold K_Model_wide g_Model_wide K_Model_wide_0 g_Model_wide_0 g_Model_wide_29
  have A32 : (I.s = 1 → 0 ≤ I.i ∧ I.i < 8 ∧ 0 < (mpT M).1 (ix I.i)) → K_Model_wide_32 448 (Int32.ofNat p) M ∧ DQ M0 (pVi I p (TbT M0) (on1 (wid (mpT M) I (vwT M 1024)) (mI M 455 1024))) (g_Model_wide_32 448 (Int32.ofNat p) M) := by
    intro q
    unfold K_Model_wide_32 g_Model_wide_32
    refine kq_and s.T448 (kq_if (fun c => ?_) (fun c => ?_))
    · have c1 := hs.mp c
      have n0 : ¬ I.s = 0 := by omega
      have ew : wid (mpT M) I (vwT M 1024) = (0, up (vwT M 1024) I.d (6, I.i, -1, vOne 0)) := by
        unfold wid
        rw [if_neg n0, if_pos (q c1)]
      rw [ew, hI.2.1, hI.2.2.2.2]
      obtain ⟨k1, k2⟩ := m_put t hd 6 I.i (by decide)
      obtain ⟨k3, k4⟩ := F k2
      exact ⟨⟨s.T448, s.T448, s.T448, k1, k3⟩, k4⟩
    · have c1 : I.s = 0 := by
        rcases s01 with e | e
        · exact e
        · exact absurd (hs.mpr e.1) c
      have ew : wid (mpT M) I (vwT M 1024) = (0, up (vwT M 1024) I.d (tNu (vOne (j_lshl I.j.toInt64 32 ||| (I.i.toInt64 &&& 4294967295))))) := by
        unfold wid
        rw [if_pos c1]
      have e12 : (8 : Int32) * Int32.ofNat p + 12 = Int32.ofNat (8 * p + 12) := mul8N p 12
      rw [ew, hI.2.2.2.2, s.R448_3, e12, hj.2, s.R448_16, t_single s, ix7]
      have m1 : MX M (vwT M 1024) (sR M 7 (vOne (j_lshl I.j.toInt64 32 ||| (I.i.toInt64 &&& 4294967295))) 0) := MX.sr t (by decide) (by decide)
      unfold K_Model_wide_98 g_Model_wide_98
      have hI1 := hI.fx m1.2.1
      rw [hI1.2.1]
      obtain ⟨k1, k2⟩ := m_setNum m1.1 hd (tvk_sR _ _ _ _) (tek_sR _ _ _ _) (one_T _)
      rw [m1.2.2.1] at k2
      obtain ⟨k3, k4⟩ := F (m1.trans k2)
      exact ⟨⟨s.T448, s.T448, hj.1, s.T448, s.T460, kt_single s rk7, m1.1.1.T448, m1.1.1.T448, k1, k3⟩, k4⟩
  have bad : I.s = 1 → ¬ (0 ≤ I.i ∧ I.i < 8 ∧ 0 < (mpT M).1 (ix I.i)) → DQ M0 (pVi I p (TbT M0) (on1 (wid (mpT M) I (vwT M 1024)) (mI M 455 1024))) (8, M) := by
    intro c q
    have ew : wid (mpT M) I (vwT M 1024) = (8, vwT M 1024) := by
      unfold wid
      rw [if_neg (by omega), if_neg q]
    rw [ew]
    exact h.bad rfl (fun z => absurd z (by decide))
  rw [hI.2.2.2.2, s.R448_7]
  refine kq_and s.T448 (kq_if (fun c => kq_and s.T448 (kq_ifn (fun c7 => bad (hs.mp c) (fun z => ?_)) (fun c7 => ?_))) (fun c => A32 (fun z => absurd (hs.mpr z) c)))
  · have z1 := lt_u3.mp c7
    have z2 := lt_u3.mp z.2.1
    have e7 : (7 : Int32).toInt = 7 := rfl
    have e8 : (8 : Int32).toInt = 8 := rfl
    omega
  · have c1 := hs.mp c
    have i0 : 0 ≤ I.i := by
      rcases s01 with e | e
      · omega
      · exact e.2
    have i8 : I.i < 8 := by
      rw [lt_u3]
      have z1 : ¬ (7 : Int32).toInt < I.i.toInt := fun z => c7 (lt_u3.mpr z)
      have e7 : (7 : Int32).toInt = 7 := rfl
      have e8 : (8 : Int32).toInt = 8 := rfl
      omega
    obtain ⟨x1, x2, x3⟩ := ix8 i0 i8
    obtain ⟨⟨m1, m2⟩, _⟩ := wm (ix I.i) x1
    refine kq_and s.T448 (kq_and s.T448 (kq_and s.T451 (kq_and (by rw [s.N451]; exact x3) (kq_ifn (fun c0 => bad c1 (fun z => ?_)) (fun c0 => A32 (fun _ => ⟨i0, i8, ?_⟩))))))
    · have z3 := z.2.2
      have e : (mpT M).1 (ix I.i) = 0 := c0
      rw [e] at z3
      exact absurd z3 (by decide)
    · have m1' := Int32.le_iff_toInt_le.mp m1
      rw [lt_u3]
      have e0 : (0 : Int32).toInt = 0 := rfl
      have : (mpT M).1 (ix I.i) ≠ 0 := c0
      have : ((mpT M).1 (ix I.i)).toInt ≠ 0 := fun z => this (Int32.toInt_inj.mp z)
      omega
theorem JB.pv {R : Rs} {f g : Int32} (h : PV M0 p M) (jb : JB M R f g X) : PV M0 p X := by
  obtain ⟨t, fb, _, _, _, j⟩ := jb
  exact ⟨t, J10.vw j, h.2.2.1.trans fb.fd, by rw [fb.2.1 448 18 (by unfold PB PK; omega)]; exact h.2.2.2.1, by rw [fb.2.1 448 17 (by unfold PB PK; omega)]; exact h.2.2.2.2.1, fun k hk => by rw [fb.tb hk]; exact h.2.2.2.2.2 k hk⟩
/-- both ways of a jump -/
theorem m_564 (h : PV M0 p M) (hI : InT M I) (hp1 : p + 1 < 1024) (hn : nxN I p = p + 1) {g : Nat} (hg : g < 1024) (eg : ix (glI I p) = g) (eo : Int32.ofNat p + 1 + I.o = Int32.ofNat g) {R : Rs} {x11 x12 : Int32} (jb : JB M R x11 x12 X) :
    K_Model_jump_564 448 (Int32.ofNat p) x11 x12 X ∧ DQ M0 (pVi I p (TbT M0) R) (g_Model_jump_564 448 (Int32.ofNat p) x11 x12 X) := by
  have pv := JB.pv h jb
  obtain ⟨t, fb, r0, o7, o5, j⟩ := jb
  obtain ⟨_, j10, fd, p18, p17, tb⟩ := pv
  have eo22 : mI X 448 22 = I.o := by rw [fb.2.1 448 22 (by unfold PB PK; omega)]; exact hI.2.2.2.1
  have e1 : Int32.ofNat p + 1 = Int32.ofNat (p + 1) := add1_32 p
  -- the far way, behind what the first one left
  have F2 : ∀ (Y : XM) (T1 : Tb), TW Y → J10 Y → FD M0 Y → mI Y 448 18 = Int32.ofNat p → mI Y 448 22 = I.o → (∀ k, k < 1024 → TbT Y k = T1 k) → OB R.2.2 1025 x12 Y → K_Model_jump_579 448 (Int32.ofNat p) x12 Y ∧ TW (g_Model_jump_579 448 (Int32.ofNat p) x12 Y).2 ∧ J10 (g_Model_jump_579 448 (Int32.ofNat p) x12 Y).2 ∧ FD M0 (g_Model_jump_579 448 (Int32.ofNat p) x12 Y).2 ∧ (g_Model_jump_579 448 (Int32.ofNat p) x12 Y).1 = 0 ∧ (∀ k, k < 1024 → TbT (g_Model_jump_579 448 (Int32.ofNat p) x12 Y).2 k = (pTo p T1 g R.2.2).1 k) ∧ mI (g_Model_jump_579 448 (Int32.ofNat p) x12 Y).2 448 17 = if (pTo p T1 g R.2.2).2 = 0 then mI Y 448 17 else 1 := by
    intro Y T1 ty jy fy y18 y22 tby oy
    unfold K_Model_jump_579 g_Model_jump_579 g_Model_jump_599
    rcases oy with ⟨q1, q2⟩ | ⟨st, q1, q2, q3, q4⟩
    · rw [q1, q2]
      rw [if_pos rfl]
      exact ⟨fun z => absurd rfl z, ty, jy, fy, rfl, tby, by rw [if_pos (show (pTo p T1 g none).2 = 0 from rfl)]⟩
    · rw [q1, q2, if_neg i1_0, y22, eo]
      obtain ⟨k1, t1, j2, f1, tb1, e17⟩ := m_go1 ty jy (p := p) (q := g) (kk := 1025) hg (Or.inr (Or.inl rfl)) y18 (s := st) q3 q4
      rw [← i32_1025] at k1 t1 j2 f1 tb1 e17
      obtain ⟨g1, g2⟩ := pTo_congr (p := p) (q := g) (o := some st) tby (fun _ => hg)
      exact ⟨fun _ => ⟨ty.1.T448, ty.1.T448, k1⟩, t1, j2, fy.trans (FG.fd f1), rfl, fun k hk => (tb1 k hk).trans (g1 k hk), by rw [← g2]; exact e17⟩
  unfold K_Model_jump_564 g_Model_jump_564 pVi
  rw [if_pos r0, hn, eg]
  rcases o7 with ⟨q1, q2⟩ | ⟨st, q1, q2, q3, q4⟩
  · rw [q1, q2, if_pos rfl]
    obtain ⟨k1, t1, j2, f1, e0, tb1, e17⟩ := F2 X (TbT M0) t j10 fd p18 eo22 tb o5
    refine ⟨⟨fun _ => k1, fun z => absurd rfl z⟩, t1, j2, f1, e0, tb1, ?_⟩
    show _ = if (if (0 : Int32) = 0 then (pTo p (TbT M0) g R.2.2).2 else 1) = 0 then mI M0 448 17 else 1
    rw [if_pos rfl, ← p17]; exact e17
  · rw [q1, q2, if_neg i1_0, e1]
    obtain ⟨k1, t1, j2, f1, tb1, e17⟩ := m_go1 t j10 (p := p) (q := p + 1) (kk := 1027) hp1 (Or.inr (Or.inr rfl)) p18 (s := st) q3 q4
    rw [← i32_1027] at k1 t1 j2 f1 tb1 e17
    obtain ⟨g1, g2⟩ := pTo_congr (p := p) (q := p + 1) (o := some st) tb (fun _ => hp1)
    have o5' : OB R.2.2 1025 x12 (g_Model_goTo 448 1027 (Int32.ofNat (p + 1)) X) := by
      rcases o5 with y | ⟨s2, y1, y2, y3, y4⟩
      · exact Or.inl y
      · exact Or.inr ⟨s2, y1, y2, by rw [FG.vwk f1 (by omega) (by omega)]; exact y3, by rw [f1.2.1 455 1025 (by unfold PG PK; omega)]; exact y4⟩
    obtain ⟨k3, t3, j3, f3, e0, tb3, e173⟩ := F2 (g_Model_goTo 448 1027 (Int32.ofNat (p + 1)) X) (pTo p (TbT M0) (p + 1) (some st)).1 t1 j2 (fd.trans (FG.fd f1)) (by rw [f1.2.1 448 18 (by unfold PG PK; omega)]; exact p18) (by rw [f1.2.1 448 22 (by unfold PG PK; omega)]; exact eo22) (fun k hk => (tb1 k hk).trans (g1 k hk)) o5'
    refine ⟨⟨fun z => absurd z i1_0, fun _ => ⟨t.1.T448, k1, k3⟩⟩, t3, j3, f3, e0, tb3, ?_⟩
    rw [e173, e17, g2, p17]
    show (if (pTo p (pTo p (TbT M0) (p + 1) (some st)).1 g R.2.2).2 = 0 then (if (pTo p (TbT M0) (p + 1) (some st)).2 = 0 then mI M0 448 17 else 1) else 1) = if (if (pTo p (TbT M0) (p + 1) (some st)).2 = 0 then (pTo p (pTo p (TbT M0) (p + 1) (some st)).1 g R.2.2).2 else 1) = 0 then mI M0 448 17 else 1
    by_cases a : (pTo p (TbT M0) (p + 1) (some st)).2 = 0
    · rw [if_pos a, if_pos a]
    · rw [if_neg a, if_neg a, if_neg i1_0]
      simp only [ite_self]
theorem nm_list {c : Int32} (hn : nm c = 1 ∨ nm c = 2 ∨ nm c = 3 ∨ nm c = 4 ∨ nm c = 5 ∨ nm c = 6 ∨ nm c = 7 ∨ nm c = 10 ∨ nm c = 11 ∨ nm c = 12 ∨ nm c = 13) : ¬ nm c = 0 ∧ ¬ c = 5 ∧ ¬ c = 6 ∧ ¬ c = 133 ∧ ¬ c = 149 := by
  have a : nm 5 = 0 := by decide
  have b : nm 6 = 0 := by decide
  have c' : nm 133 = 8 := by decide
  have d : nm 149 = 9 := by decide
  refine ⟨fun z => ?_, fun z => ?_, fun z => ?_, fun z => ?_, fun z => ?_⟩
  · rw [z] at hn; exact absurd hn (by decide)
  · rw [z, a] at hn; exact absurd hn (by decide)
  · rw [z, b] at hn; exact absurd hn (by decide)
  · rw [z, c'] at hn; exact absurd hn (by decide)
  · rw [z, d] at hn; exact absurd hn (by decide)
theorem m_flow (h : PV M0 p M) (hI : InT M I) (w : WI I) (wg : WG I p) (hp : p < 1024) (hk : kd I.c = 5 ∨ kd I.c = 6) (wt : WS (vwT M 1024)) (h10 : (vwT M 1024 10).so = 3) (wm : WM (mpT M)) :
    K_Model_flow 448 (Int32.ofNat p) M ∧ DQ M0 (pVi I p (TbT M0) (jmp (mpT M) I (Int32.ofNat p) (vwT M 1024) (mI M 455 1024))) (g_Model_flow 448 (Int32.ofNat p) M) := by
  have t := h.1
  have s := t.1
  have nk : ¬ kd I.c = 0 := by rcases hk with e | e <;> rw [e] <;> decide
  have nx : nxN I p = p + 1 := by unfold nxN; rw [if_neg nk]
  obtain ⟨a1, a2⟩ := m_sortOf s (n := 0) (by decide)
  rw [show Int32.ofNat 0 = 0 from rfl] at a1 a2
  obtain ⟨n1, n2⟩ := hI.num s
  obtain ⟨d1, d2⟩ := hI.kind s
  have e1 : Int32.ofNat p + 1 = Int32.ofNat (p + 1) := add1_32 p
  unfold K_Model_flow g_Model_flow K_Model_flow_0 g_Model_flow_0 jmp
  rw [hI.1, n1, d1, a1]
  refine kq_and s.T448 (kq_if (fun c149 => ?_) (fun c149 => kq_and s.T448 (kq_if (fun c133 => ?_) (fun c133 => kq_and s.T448 (kq_and n2 (kq_if (fun c0 => ?_) (fun c0 => ?_)))))))
  · have n133 : ¬ I.c = 133 := by rw [c149]; decide
    rw [if_neg n133, if_pos c149]
    refine ⟨⟨s.T448, a2, fun _ => ⟨s.T448, a2⟩⟩, ?_⟩
    by_cases q0 : (vwT M 1024 0).so = 0
    · rw [if_pos q0, if_pos q0]
      exact h.bad rfl (fun z => absurd z i1_0)
    · rw [if_neg q0, if_neg q0]
      by_cases q1 : (vwT M 1024 0).so = 1
      · rw [if_pos q1, if_pos q1]
        exact h.bad rfl (fun _ => ⟨rfl, rfl⟩)
      · rw [if_neg q1, if_neg q1]
        exact h.bad rfl (fun z => absurd z (by decide))
  · rw [if_pos c133]
    have hq : p + 1 < 1024 := by
      have := wg.1 ⟨by rw [c133]; decide, by rw [c133]; decide, by rw [c133]; decide⟩
      rw [nx] at this; exact this
    have np : ¬ Int32.ofNat p = -1 := fun z => by
      have := congrArg Int32.toInt z
      rw [toInt_ofNat32 (by omega)] at this
      have e : (-1 : Int32).toInt = -1 := rfl
      omega
    obtain ⟨k1, k2⟩ := m_call t hI h.2.1 wt wm np
    refine kq_and s.T448 (kq_and k1 ?_)
    generalize g_Model_call 448 (Int32.ofNat p) M = G at k2 ⊢
    obtain ⟨z1, z2, z3, z4⟩ := k2
    have z3' : G.1 = args (mpT M) I.i (vwT M 1024) (mI M 455 1024) := z3
    have pv := h.fx z1 z2
    unfold K_Model_flow_53 g_Model_flow_53 g_Model_flow_68
    by_cases c : G.1 = 0
    · have c' : args (mpT M) I.i (vwT M 1024) (mI M 455 1024) = 0 := by rw [← z3']; exact c
      obtain ⟨v1, v2⟩ := z4 c'
      obtain ⟨g1, g2⟩ := pv.ok (I := I) hq nx v1 v2
      rw [if_pos c, c, c', e1]
      exact ⟨fun _ => ⟨z1.1.T448, g1⟩, g2⟩
    · rw [if_neg c]
      exact ⟨fun z => absurd z c, pv.bad z3'.symm (fun z => absurd z c)⟩
  · have c56 : I.c = 5 ∨ I.c = 6 := by
      rcases w.2.2.2.2.2.1 hk with e | e | e | e | e
      · exact Or.inl e
      · exact Or.inr e
      · exact absurd e c133
      · exact absurd e c149
      · exact absurd c0 (nm_list e).1
    obtain ⟨g1, g2⟩ := wg.2 ⟨hk, c133, c149⟩
    rw [if_neg c133, if_neg c149, if_pos c56]
    have go : ∀ x, x = glI I p → K_Model_flow_109 448 1024 x M ∧ DQ M0 (pVi I p (TbT M0) (0, none, some (vwT M 1024, mI M 455 1024))) (g_Model_flow_109 448 1024 x M) := by
      intro x ex
      unfold K_Model_flow_109 g_Model_flow_109 g_Model_flow_112
      rw [ex, g2]
      obtain ⟨q1, q2⟩ := h.far (I := I) g1 rfl rfl rfl
      exact ⟨⟨s.T448, q1⟩, q2⟩
    rw [hI.2.2.2.2, hI.2.2.2.1]
    refine kq_and s.T448 (kq_and d2 (kq_if (fun c6 => kq_and s.T448 (go _ ?_)) (fun c6 => kq_and s.T448 (go _ ?_))))
    · have c : I.c = 6 := by
        rcases c56 with e | e
        · rw [e] at c6; exact absurd c6 (by decide)
        · exact e
      unfold glI; rw [if_pos c]
    · have c : ¬ I.c = 6 := fun e => by rw [e] at c6; exact c6 (by decide)
      unfold glI; rw [if_neg c]
  · have hn : nm I.c = 1 ∨ nm I.c = 2 ∨ nm I.c = 3 ∨ nm I.c = 4 ∨ nm I.c = 5 ∨ nm I.c = 6 ∨ nm I.c = 7 ∨ nm I.c = 10 ∨ nm I.c = 11 ∨ nm I.c = 12 ∨ nm I.c = 13 := by
      rcases w.2.2.2.2.2.1 hk with e | e | e | e | e
      · rw [e] at c0; exact absurd (by decide) c0
      · rw [e] at c0; exact absurd (by decide) c0
      · exact absurd e c133
      · exact absurd e c149
      · exact e
    obtain ⟨_, m5, m6, _, _⟩ := nm_list hn
    obtain ⟨g1, g2⟩ := wg.2 ⟨hk, c133, c149⟩
    have hq : p + 1 < 1024 := by
      have := wg.1 ⟨m5, m6, c149⟩
      rw [nx] at this; exact this
    rw [if_neg c133, if_neg c149, if_neg (fun z => z.elim m5 m6)]
    have eo : Int32.ofNat p + 1 + I.o = Int32.ofNat (ix (glI I p)) := by
      rw [← g2]
      unfold glI; rw [if_neg m6]
    refine kq_and s.T448 ?_
    refine m_jump t hI w h.2.1 wt h10 hk hn (fun x11 x12 X jb => m_564 h hI hq nx g1 rfl eo jb) (fun X tx fb jx ne => ?_)
    have pv : PV M0 p X := ⟨tx, jx, h.2.2.1.trans fb.fd, by rw [fb.2.1 448 18 (by unfold PB PK; omega)]; exact h.2.2.2.1, by rw [fb.2.1 448 17 (by unfold PB PK; omega)]; exact h.2.2.2.2.1, fun k hk => by rw [fb.tb hk]; exact h.2.2.2.2.2 k hk⟩
    exact pv.bad rfl (fun z => absurd z ne)
theorem kd_list : ∀ m : Fin 256, kd (Int32.ofNat m.val) = 0 ∨ kd (Int32.ofNat m.val) = 1 ∨ kd (Int32.ofNat m.val) = 2 ∨ kd (Int32.ofNat m.val) = 3 ∨ kd (Int32.ofNat m.val) = 4 ∨ kd (Int32.ofNat m.val) = 5 ∨ kd (Int32.ofNat m.val) = 6 ∨ kd (Int32.ofNat m.val) = 7 := by decide +kernel
theorem m_does (h : TW M) (j10 : J10 M) (hp : p < 1024) (hb : BYT (fun i => mI M 450 i)) (eI : I = IB (fun i => mI M 450 i) p) (w : WI I) (wj : WJ I) (wg : WG I p) (wt : WS (vwT M p)) (h10 : (vwT M p 10).so = 3) (wm : WM (mpT M)) :
    K_Model_does 448 (Int32.ofNat p) M ∧ DQ M (pVi I p (TbT M) (stp (mpT M) I (Int32.ofNat p) (vwT M p) (mI M 455 p))) (g_Model_does 448 (Int32.ofNat p) M) := by
  have s := h.1
  unfold K_Model_does g_Model_does K_Model_does_0 g_Model_does_0 K_Model_does_5 g_Model_does_5 K_Model_does_13 g_Model_does_13
  have t1 : TW (wI M 448 18 (Int32.ofNat p)) := h.wi (by decide)
  have f1 : FD M (wI M 448 18 (Int32.ofNat p)) := FD.wi (by decide)
  have b1 : ∀ k, k < 1024 → TbT (wI M 448 18 (Int32.ofNat p)) k = TbT M k := fun k _ => TbT.eq (vwT_wi (by decide)) (by rw [mI_wI, if_neg (by omega)]) (by rw [mI_wI, if_neg (by omega)]) (by rw [mI_wI, if_neg (by omega)])
  have p1 : PV M p (wI M 448 18 (Int32.ofNat p)) := ⟨t1, j10.same (by rw [mI_wI, if_neg (by omega)]), f1, by rw [mI_wI, if_pos ⟨rfl, rfl⟩], by rw [mI_wI, if_neg (by omega)], b1⟩
  have v1 : vwT (wI M 448 18 (Int32.ofNat p)) p = vwT M p := vwT_wi (by decide)
  have n1 : mI (wI M 448 18 (Int32.ofNat p)) 455 p = mI M 455 p := by rw [mI_wI, if_neg (by omega)]
  have g50 : ∀ i, mI (wI M 448 18 (Int32.ofNat p)) 450 i = mI M 450 i := fun i => by rw [mI_wI, if_neg (by omega)]
  refine kq_and s.T448 ?_
  generalize wI M 448 18 (Int32.ofNat p) = M1 at t1 p1 v1 n1 g50 ⊢
  obtain ⟨k1, ⟨t2, f2, v2, n2⟩, _⟩ := m_copyState t1 (k := p) (kk := 1024) (by omega) (by decide) (by omega)
  rw [← i1024] at k1 t2 f2 v2 n2
  rw [v1] at v2
  rw [n1] at n2
  refine kq_and t1.1.T448 (kq_and k1 ?_)
  generalize g_Model_copyState 448 (Int32.ofNat p) 1024 M1 = M2 at t2 f2 v2 n2 ⊢
  have p2 : PV M p M2 := ⟨t2, p1.2.1.same (f2.2.1 457 76885 (by unfold PK; omega)), p1.2.2.1.trans f2.fd, by rw [f2.oth (by omega)]; exact p1.2.2.2.1, by rw [f2.oth (by omega)]; exact p1.2.2.2.2.1, fun k hk => by rw [f2.tb (by omega)]; exact p1.2.2.2.2.2 k hk⟩
  have h50 : (fun i => mI M2 450 i) = fun i => mI M 450 i := by funext i; rw [f2.oth (by omega), g50]
  have s2 := t2.1
  rw [s2.R448_3]
  obtain ⟨k2, f3, hI⟩ := m_take s2.T448 s2.T450 s2.N450 (by decide) (by rw [h50]; exact hb) hp
  rw [h50, ← eI] at hI
  refine kq_and s2.T448 (kq_and s2.T448 (kq_and k2 ?_))
  have j450 : ∀ i, mI (g_Model_take 448 450 (Int32.ofNat p) M2) 450 i = mI M 450 i := fun i => by rw [f3.2 450 i (by omega)]; exact congrFun h50 i
  generalize g_Model_take 448 450 (Int32.ofNat p) M2 = M3 at f3 hI j450 ⊢
  have t3 := f3.tw t2
  have s3 := t3.1
  have p3 : PV M p M3 := ⟨t3, p2.2.1.same (f3.2 457 76885 (by omega)), p2.2.2.1.trans f3.fd, by rw [f3.2 448 18 (by omega)]; exact p2.2.2.2.1, by rw [f3.2 448 17 (by omega)]; exact p2.2.2.2.2.1, fun k hk => by rw [f3.tb]; exact p2.2.2.2.2.2 k hk⟩
  have v3 : vwT M3 1024 = vwT M p := by rw [f3.vw]; exact v2
  have n3 : mI M3 455 1024 = mI M 455 p := by rw [f3.2 455 1024 (by omega)]; exact n2
  have mp3 : mpT M3 = mpT M := p3.2.2.1.mp
  have wt3 : WS (vwT M3 1024) := by rw [v3]; exact wt
  have wm3 : WM (mpT M3) := by rw [mp3]; exact wm
  rw [← v3, ← n3, ← mp3]
  obtain ⟨d1, d2⟩ := hI.kind s3
  obtain ⟨o1, o2⟩ := hI.mode s3
  unfold K_Model_does_22 g_Model_does_22 K_Model_does_76 g_Model_does_76 K_Model_does_80 g_Model_does_80 K_Model_does_88 g_Model_does_88 K_Model_does_96 g_Model_does_96 K_Model_does_120 g_Model_does_120 K_Model_does_130 g_Model_does_130
  rw [d1, o1]
  have nx : ¬ kd I.c = 0 → nxN I p = p + 1 := fun z => by unfold nxN; rw [if_neg z]
  have hq : ¬ kd I.c = 0 → ¬ (kd I.c = 5 ∨ kd I.c = 6) → p + 1 < 1024 := fun z z2 => by
    have e5 : kd 5 = 5 := by decide
    have e6 : kd 6 = 6 := by decide
    have e149 : kd 149 = 5 := by decide
    have := wg.1 ⟨fun e => z2 (by rw [e, e5]; exact Or.inl rfl), fun e => z2 (by rw [e, e6]; exact Or.inr rfl), fun e => z2 (by rw [e, e149]; exact Or.inl rfl)⟩
    rw [nx z] at this; exact this
  have es := fun (R : Rs) (e : stp (mpT M3) I (Int32.ofNat p) (vwT M3 1024) (mI M3 455 1024) = R) => e
  refine kq_and s3.T448 (kq_and d2 (kq_if (fun c0 => kq_and s3.T448 ?_) (fun c0 => kq_if (fun c1 => kq_and s3.T448 ?_) (fun c1 => kq_if (fun c2 => kq_and s3.T448 ?_) (fun c2 => kq_if (fun c3 => kq_and s3.T448 (kq_and o2 (kq_if (fun c6 => kq_and s3.T448 ?_) (fun c6 => kq_and s3.T448 ?_)))) (fun c3 => kq_if (fun c4 => kq_and s3.T448 ?_) (fun c4 => kq_if (fun c5 => kq_and s3.T448 ?_) (fun c5 => kq_if (fun c6 => kq_and s3.T448 ?_) (fun c6 => kq_if (fun c7 => kq_and s3.T448 ?_) (fun c7 => ?_))))))))))
  · have e : stp (mpT M3) I (Int32.ofNat p) (vwT M3 1024) (mI M3 455 1024) = on1 (wid (mpT M3) I (vwT M3 1024)) (mI M3 455 1024) := by unfold stp; rw [if_pos c0]
    rw [e]
    have hc := (wj.1 c0).2
    have hq2 : p + 2 < 1024 := by
      have := wg.1 ⟨by rw [hc]; decide, by rw [hc]; decide, by rw [hc]; decide⟩
      unfold nxN at this
      rw [if_pos c0] at this; exact this
    obtain ⟨y1, y2⟩ := m_num4 s3.T450 s3.N450 (a := 8 * p + 12) (by omega)
    refine m_wide p3 hI w wg c0 hc wm3 ⟨y1, ?_⟩
    rw [y2, eI, IB_at hp]
    show imB (fun i => mI M3 450 i) (8 * p + 12) = imB (tr8 (fun i => mI M 450 i)) (8 * (p + 1) + 4)
    rw [imB_tr (by omega), show 8 * (p + 1) + 4 = 8 * p + 12 by omega]
    unfold imB
    simp only [j450]
  · have e : stp (mpT M3) I (Int32.ofNat p) (vwT M3 1024) (mI M3 455 1024) = on1 (lod (mpT M3) I (vwT M3 1024) (mI M3 455 1024)) (mI M3 455 1024) := by unfold stp; rw [if_neg c0, if_pos c1]
    rw [e]
    obtain ⟨x1, x2⟩ := m_load t3 hI w c1 wt3
    exact kq_and x1 (p3.on (hq c0 (by rw [c1]; decide)) (nx c0) x2)
  · have e : stp (mpT M3) I (Int32.ofNat p) (vwT M3 1024) (mI M3 455 1024) = on1 (sto (mpT M3) I (tNu (vOne I.i.toInt64)) (vwT M3 1024) (mI M3 455 1024)) (mI M3 455 1024) := by unfold stp; rw [if_neg c0, if_neg c1, if_pos c2]
    rw [e]
    obtain ⟨x1, x2⟩ := m_store t3 hI w (Or.inl c2) wt3 (v := tNu (vOne I.i.toInt64)) (by rw [if_pos c2])
    exact kq_and x1 (p3.on (hq c0 (by rw [c2]; decide)) (nx c0) x2)
  · have e : stp (mpT M3) I (Int32.ofNat p) (vwT M3 1024) (mI M3 455 1024) = on1 (atm (mpT M3) I (vwT M3 1024)) (mI M3 455 1024) := by unfold stp; rw [if_neg c0, if_neg c1, if_neg c2, if_pos c3, if_pos c6]
    rw [e]
    obtain ⟨x1, x2⟩ := m_atomic t3 hI w c3 c6 wt3
    exact kq_and x1 (p3.on (hq c0 (by rw [c3]; decide)) (nx c0) x2)
  · have e : stp (mpT M3) I (Int32.ofNat p) (vwT M3 1024) (mI M3 455 1024) = on1 (sto (mpT M3) I (vwT M3 1024 I.s) (vwT M3 1024) (mI M3 455 1024)) (mI M3 455 1024) := by unfold stp; rw [if_neg c0, if_neg c1, if_neg c2, if_pos c3, if_neg c6]
    rw [e]
    obtain ⟨x1, x2⟩ := m_store t3 hI w (Or.inr c3) wt3 (v := vwT M3 1024 I.s) (by rw [if_neg c2])
    exact kq_and x1 (p3.on (hq c0 (by rw [c3]; decide)) (nx c0) x2)
  · have n56 : ¬ (kd I.c = 5 ∨ kd I.c = 6) := by rw [c4]; decide
    have e : stp (mpT M3) I (Int32.ofNat p) (vwT M3 1024) (mI M3 455 1024) = on1 (rck I (if kd I.c = 4 then 1 else 0) (vwT M3 1024)) (mI M3 455 1024) := by unfold stp; rw [if_neg c0, if_neg c1, if_neg c2, if_neg c3, if_neg n56]
    rw [e]
    obtain ⟨x1, x2⟩ := m_arith t3 hI w (Or.inl c4) wt3
    exact kq_and x1 (p3.on (hq c0 n56) (nx c0) x2)
  · have e : stp (mpT M3) I (Int32.ofNat p) (vwT M3 1024) (mI M3 455 1024) = jmp (mpT M3) I (Int32.ofNat p) (vwT M3 1024) (mI M3 455 1024) := by unfold stp; rw [if_neg c0, if_neg c1, if_neg c2, if_neg c3, if_pos (Or.inl c5)]
    rw [e]
    exact m_flow p3 hI w wg hp (Or.inl c5) wt3 (by rw [v3]; exact h10) wm3
  · have e : stp (mpT M3) I (Int32.ofNat p) (vwT M3 1024) (mI M3 455 1024) = jmp (mpT M3) I (Int32.ofNat p) (vwT M3 1024) (mI M3 455 1024) := by unfold stp; rw [if_neg c0, if_neg c1, if_neg c2, if_neg c3, if_pos (Or.inr c6)]
    rw [e]
    exact m_flow p3 hI w wg hp (Or.inr c6) wt3 (by rw [v3]; exact h10) wm3
  · have n56 : ¬ (kd I.c = 5 ∨ kd I.c = 6) := by rw [c7]; decide
    have e : stp (mpT M3) I (Int32.ofNat p) (vwT M3 1024) (mI M3 455 1024) = on1 (rck I (if kd I.c = 4 then 1 else 0) (vwT M3 1024)) (mI M3 455 1024) := by unfold stp; rw [if_neg c0, if_neg c1, if_neg c2, if_neg c3, if_neg n56]
    rw [e]
    obtain ⟨x1, x2⟩ := m_arith t3 hI w (Or.inr c7) wt3
    exact kq_and x1 (p3.on (hq c0 n56) (nx c0) x2)
  · exfalso
    obtain ⟨m, hm, em⟩ := w.1
    have := kd_list ⟨m, hm⟩
    rw [← em] at this
    rcases this with e | e | e | e | e | e | e | e
    · exact c0 e
    · exact c1 e
    · exact c2 e
    · exact c3 e
    · exact c4 e
    · exact c5 e
    · exact c6 e
    · exact c7 e
end DW
