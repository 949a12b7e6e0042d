/-! part 47zzr: the twin's reckoning (gen/tpl.py) -/
theorem op_11 {n : Int32} (x x' y : AV) : vOp 11 n x y = vOp 11 n x' y := by
  have o : ∀ m w a b, oRaw 11 m w a b = b := fun m w a b => rfl
  unfold vOp
  rw [o, o]
theorem op_11_64 {x y : AV} (hy : Tt y) : vOp 11 64 x y = y := by
  unfold vOp oRaw
  show vCut 64 (tite (vCut 64 y)) = y
  rw [cut_64 hy, hy.tte, cut_64 hy]
theorem vin_one1 {a z : Int64} : vin (vOne a) z ↔ z = a := by
  constructor
  · intro h
    apply tb_ext
    intro j _
    exact h.1 j (by show tb (0 : Int64) j = false; exact tb_zero j)
  · intro h
    rw [h]
    exact ⟨fun j _ => rfl, Nat.le_refl _, Nat.le_refl _, Int.le_refl _, Int.le_refl _⟩
theorem cut_one32 (v : Int64) : vCut 32 (vOne v) = vOne (v &&& 4294967295) := by
  have t1 := cut_T (one_T v) (n := 32) (by decide)
  have e32 : Int32.ofNat 32 = 32 := rfl
  rw [e32] at t1
  have i1 : ¬ (32 : Int32) = 64 := by decide
  have mm : g_Sieve_mask 32 = 4294967295 := by decide
  have eu : (rCut 32 (vOne v)).u = 0 &&& 4294967295 ∧ (rCut 32 (vOne v)).b = (v &&& 4294967295) &&& (((0 : Int64) &&& 4294967295) ^^^ (-1)) := by
    unfold rCut AV.unsIf
    rw [if_neg i1, mm]
    split <;> exact ⟨rfl, rfl⟩
  have m : ∀ z, vin (vCut 32 (vOne v)) z → z = v &&& 4294967295 := by
    intro z hz
    have hz' := (cut_same (one_T v) (n := 32) (by decide) z).mp hz
    rw [e32] at hz'
    apply tb_ext
    intro j hj
    have := hz'.1 j (by rw [eu.1, tb_and, tb_zero]; rfl)
    have z0 : (0 : Int64) &&& 4294967295 = 0 := rfl
    rw [this, eu.2, z0, tb_and, tb_xor, tb_and, tb_zero, tb_ones]
    simp [hj]
  have s : ∀ z, vin (vCut 32 (vOne v)) z ↔ vin (vOne (v &&& 4294967295)) z := by
    intro z
    rw [vin_one1]
    constructor
    · exact m z
    · intro e
      obtain ⟨y, hy⟩ := t1.ex
      rw [e, ← m y hy]; exact hy
  exact IsT.one (t1.iff s) (one_T _)
theorem MX.frt {J' : Nat → Prop} {M M' : XM} (h : TW M) (f : FrT J' M M') (hJ : ∀ q, J' q → q < 8 ∧ q ≠ 6) : MX M (vwT M 1024) M' :=
  MX.no (h.frt f hJ) (FX.frt f hJ) (f.2.1 455 1024 (by omega))
theorem MX.rf {M : XM} (h : TW M) : MX M (vwT M 1024) M := ⟨h, FX.rf, rfl, rfl⟩
theorem opo_ok : ∀ m : Fin 256, nm (Int32.ofNat m.val) ≤ 13 → nm (Int32.ofNat m.val) ≠ 8 → nm (Int32.ofNat m.val) ≠ 13 → (if nm (Int32.ofNat m.val) = 4 then (6 : Int32) else if nm (Int32.ofNat m.val) = 5 then 5 else if nm (Int32.ofNat m.val) = 6 then 8 else if nm (Int32.ofNat m.val) = 7 then 9 else if nm (Int32.ofNat m.val) = 8 then 1 else if nm (Int32.ofNat m.val) = 9 then 4 else if nm (Int32.ofNat m.val) = 10 then 7 else if nm (Int32.ofNat m.val) = 11 then nm (Int32.ofNat m.val) else if nm (Int32.ofNat m.val) = 12 then 10 else nm (Int32.ofNat m.val)) = Int32.ofNat (opN (nm (Int32.ofNat m.val))) ∧ opN (nm (Int32.ofNat m.val)) < 12 := by decide +kernel
theorem m_opOf {M : XM} {I : In} (h : InT M I) (s : Sh M) (w : WI I) (h1 : nm I.c ≤ 13) (h2 : nm I.c ≠ 8) (h3 : nm I.c ≠ 13) : g_Model_operationOf 448 M = Int32.ofNat (opN (nm I.c)) ∧ opN (nm I.c) < 12 ∧ K_Model_operationOf 448 M := by
  obtain ⟨n1, n2⟩ := h.num s
  unfold g_Model_operationOf K_Model_operationOf g_Model_operationOf_0 K_Model_operationOf_0 g_Model_operationOf_77 K_Model_operationOf_77
  rw [n1]
  have e : (if nm I.c = 4 then (6 : Int32) else if nm I.c = 5 then 5 else if nm I.c = 6 then 8 else if nm I.c = 7 then 9 else if nm I.c = 8 then 1 else if nm I.c = 9 then 4 else if nm I.c = 10 then 7 else if nm I.c = 11 then nm I.c else if nm I.c = 12 then 10 else nm I.c) = Int32.ofNat (opN (nm I.c)) ∧ opN (nm I.c) < 12 := by
    obtain ⟨m, hm, e⟩ := w.1
    rw [e] at h1 h2 h3 ⊢
    exact opo_ok ⟨m, hm⟩ h1 h2 h3
  exact ⟨e.1, e.2, s.T448, n2, fun _ _ _ _ _ _ _ => ⟨fun _ => ⟨s.T448, n2⟩, fun _ _ => ⟨s.T448, n2⟩⟩⟩
/-- the last act: the row that came out becomes register d -/
theorem m_out {M M1 : XM} (m : MX M (vwT M 1024) M1) {I : In} (hI : InT M I) (hd : I.d < 75) {w : AV} (hw : tvk M1 7 = w) (he : tek M1 7 = 0) (ht : Tt w) : K_Model_reckon_212 448 M1 ∧ MX M (up (vwT M 1024) I.d (tNu w)) (g_Model_reckon_212 448 M1) := by
  have hI1 := hI.fx m.2.1
  unfold g_Model_reckon_212 K_Model_reckon_212
  rw [hI1.2.1]
  obtain ⟨k1, k2⟩ := m_setNum m.1 hd hw he ht
  rw [m.2.2.1] at k2
  exact ⟨⟨m.1.1.T448, m.1.1.T448, k1⟩, m.trans k2⟩
theorem m_cut {M : XM} (h : TW M) {i : Int32} (ri : rk i) {n : Nat} (hn : n ≤ 64) (hx : Tt (tvk M (ix i))) : K_Sets_cutRow 460 i 7 (Int32.ofNat n) M ∧ MX M (vwT M 1024) (g_Sets_cutRow 460 i 7 (Int32.ofNat n) M) ∧ tvk (g_Sets_cutRow 460 i 7 (Int32.ofNat n) M) 7 = vCut (Int32.ofNat n) (tvk M (ix i)) ∧ tek (g_Sets_cutRow 460 i 7 (Int32.ofNat n) M) 7 = 0 := by
  obtain ⟨k1, k2⟩ := t_cut h.1 ri rk7 (by rw [ix7]; decide) hn hx
  rw [ix7] at k2
  rw [k2]
  have m2 := MX.sr h (k := 3) (w := tvk M (ix i)) (e := j_z (tek M (ix i))) (by decide) (by decide)
  have m3 := MX.sr m2.1 (k := 7) (w := vCut (Int32.ofNat n) (tvk M (ix i))) (e := 0) (by decide) (by decide)
  have m4 := m2.trans m3
  rw [m2.2.2.1] at m4
  exact ⟨k1, m4, tvk_sR _ _ _ _, tek_sR _ _ _ _⟩
theorem m_swap {M : XM} (h : TW M) {i : Int32} (ri : rk i) {n : Nat} (hn : n = 16 ∨ n = 32 ∨ n = 64) (hx : Tt (tvk M (ix i))) : K_Sets_swapRow 460 i 7 (Int32.ofNat n) M ∧ MX M (vwT M 1024) (g_Sets_swapRow 460 i 7 (Int32.ofNat n) M) ∧ tvk (g_Sets_swapRow 460 i 7 (Int32.ofNat n) M) 7 = vSwap (Int32.ofNat n) (tvk M (ix i)) ∧ tek (g_Sets_swapRow 460 i 7 (Int32.ofNat n) M) 7 = 0 := by
  obtain ⟨k1, k2⟩ := t_swap h.1 ri rk7 (by rw [ix7]; decide) hn hx
  rw [ix7] at k2
  rw [k2]
  have m2 := MX.sr h (k := 3) (w := tvk M (ix i)) (e := j_z (tek M (ix i))) (by decide) (by decide)
  have m3 := MX.sr m2.1 (k := 4) (w := vCut (Int32.ofNat n) (tvk M (ix i))) (e := 0) (by decide) (by decide)
  have m4 := MX.sr m3.1 (k := 7) (w := vSwap (Int32.ofNat n) (tvk M (ix i))) (e := 0) (by decide) (by decide)
  have m5 := m2.trans (m3.trans m4)
  rw [m3.2.2.1, m2.2.2.1] at m5
  exact ⟨k1, m5, tvk_sR _ _ _ _, tek_sR _ _ _ _⟩
theorem m_ext {M : XM} (h : TW M) {i : Int32} (ri : rk i) {n : Nat} (hn : 0 < n) (hn2 : n < 63) (hx : Tt (tvk M (ix i))) : K_Sets_extendRow 460 i 7 (Int32.ofNat n) M ∧ MX M (vwT M 1024) (g_Sets_extendRow 460 i 7 (Int32.ofNat n) M) ∧ tvk (g_Sets_extendRow 460 i 7 (Int32.ofNat n) M) 7 = vExt (Int32.ofNat n) (tvk M (ix i)) ∧ tek (g_Sets_extendRow 460 i 7 (Int32.ofNat n) M) 7 = 0 := by
  obtain ⟨k1, k2⟩ := t_ext h.1 ri rk7 (by rw [ix7]; decide) hn hn2 hx
  rw [ix7] at k2
  rw [k2]
  have m2 := MX.sr h (k := 3) (w := tvk M (ix i)) (e := j_z (tek M (ix i))) (by decide) (by decide)
  have m3 := MX.sr m2.1 (k := 4) (w := vCut (Int32.ofNat n) (tvk M (ix i))) (e := 0) (by decide) (by decide)
  have m4 := MX.sr m3.1 (k := 7) (w := vExt (Int32.ofNat n) (tvk M (ix i))) (e := 0) (by decide) (by decide)
  have m5 := m2.trans (m3.trans m4)
  rw [m3.2.2.1, m2.2.2.1] at m5
  exact ⟨k1, m5, tvk_sR _ _ _ _, tek_sR _ _ _ _⟩
theorem m_op {M : XM} (h : TW M) {a b : Int32} {k : Nat} {n : Int32} (hk : k < 12) (hn : n = 64 ∨ n = 32) (ra : rk a) (rb : rk b) (ga : 4 < ix a) (gb : 4 < ix b) (hx : Tt (tvk M (ix a))) (hy : Tt (tvk M (ix b))) (ea : tek M (ix a) = 0) (eb : tek M (ix b) = 0) :
    K_Sets_operate 460 (Int32.ofNat k) n 7 a b M ∧ MX M (vwT M 1024) (g_Sets_operate 460 (Int32.ofNat k) n 7 a b M) ∧ tvk (g_Sets_operate 460 (Int32.ofNat k) n 7 a b M) 7 = vOp k n (tvk M (ix a)) (tvk M (ix b)) ∧ tek (g_Sets_operate 460 (Int32.ofNat k) n 7 a b M) 7 = 0 := by
  obtain ⟨k1, k2, k3, k4⟩ := t_op (n := n) h.1 hk hn ra rb rk7 ga gb (by rw [ix7]; decide) hx hy ea eb
  rw [ix7] at k2 k3 k4
  exact ⟨k1, MX.frt h k2 (fun q z => by omega), k3, k4⟩
theorem m_reckon {M : XM} (h : TW M) {I : In} (hI : InT M I) (w : WI I) (hk : kd I.c = 4 ∨ kd I.c = 7) {x y : Int32} (rx : rk x) (ry : rk y) (gx : 4 < ix x) (gy : 4 < ix y) {xv yv : AV} (ex : tvk M (ix x) = xv) (ey : tvk M (ix y) = yv) (fx : tek M (ix x) = 0) (fy : tek M (ix y) = 0) (tx : Tt xv) (ty : Tt yv) :
    K_Model_reckon 448 x y M ∧ MX M (up (vwT M 1024) I.d (tNu (rkV I (if kd I.c = 4 then 1 else 0) (if nm I.c = 11 then yv else xv) yv))) (g_Model_reckon 448 x y M) := by
  have s := h.1
  have hd : I.d < 75 := by have := w.2.1; omega
  obtain ⟨n1, n2⟩ := hI.num s
  obtain ⟨d1, d2⟩ := hI.kind s
  obtain ⟨r1, r2⟩ := hI.bit s w
  obtain ⟨w1, w2, w3, w4, w5⟩ := w.2.2.2.2.1 hk
  have ebw : bw (if kd I.c = 4 then 1 else 0) = (if kd I.c = 7 then 64 else 32) := by
    unfold bw
    rcases hk with e | e <;> rw [e] <;> decide
  have bwN : ∃ bn : Nat, bn ≤ 64 ∧ (if kd I.c = 7 then (64 : Int32) else 32) = Int32.ofNat bn ∧ ((if kd I.c = 7 then (64 : Int32) else 32) = 64 ∨ (if kd I.c = 7 then (64 : Int32) else 32) = 32) := by
    split
    · exact ⟨64, by decide, rfl, Or.inl rfl⟩
    · exact ⟨32, by decide, rfl, Or.inr rfl⟩
  obtain ⟨bn, b1, b2, b3⟩ := bwN
  have hfz : (if kd I.c = 4 then (1 : Int32) else 0) = 0 ↔ kd I.c = 7 := by
    rcases hk with e | e <;> rw [e] <;> decide
  -- the body, at the width
  have body : K_Model_reckon_16 448 x y (if kd I.c = 7 then 64 else 32) M ∧ MX M (up (vwT M 1024) I.d (tNu (rkV I (if kd I.c = 4 then 1 else 0) (if nm I.c = 11 then yv else xv) yv))) (g_Model_reckon_16 448 x y (if kd I.c = 7 then 64 else 32) M) := by
    unfold rkV
    rw [ebw]
    have out : ∀ {M1 : XM} {v : AV}, MX M (vwT M 1024) M1 → tvk M1 7 = v → tek M1 7 = 0 → Tt v → K_Model_reckon_212 448 M1 ∧ MX M (up (vwT M 1024) I.d (tNu v)) (g_Model_reckon_212 448 M1) := fun m a b c => m_out m hI hd a b c
    -- 111: what isn't o = 1 nor a widening
    have R111 : (I.o = 0) → K_Model_reckon_111 448 x y (if kd I.c = 7 then 64 else 32) M ∧ MX M (up (vwT M 1024) I.d (tNu (if nm I.c = 8 then vOp 1 (if kd I.c = 7 then 64 else 32) (vOne 0) (if nm I.c = 11 then yv else xv) else if nm I.c = 13 then (if (if kd I.c = 4 then (1 : Int32) else 0) = 0 then vSwap I.i (if nm I.c = 11 then yv else xv) else if rg I.c = 0 then vCut I.i (if nm I.c = 11 then yv else xv) else vSwap I.i (if nm I.c = 11 then yv else xv)) else if I.o = 1 then vCut (if kd I.c = 7 then 64 else 32) vFree else if I.o ≤ 1 then vOp (opN (nm I.c)) (if kd I.c = 7 then 64 else 32) (if nm I.c = 11 then yv else xv) yv else vCut (if kd I.c = 7 then 64 else 32) (vExt I.o yv)))) (g_Model_reckon_111 448 x y (if kd I.c = 7 then 64 else 32) M) := by
      intro o0
      have o1 : ¬ I.o = 1 := by rw [o0]; decide
      have o2 : I.o ≤ 1 := by rw [o0]; decide
      unfold g_Model_reckon_111 K_Model_reckon_111 g_Model_reckon_136 K_Model_reckon_136
      rw [s.R448_16, n1, d1, r1, hI.2.2.2.2]
      refine kq_and s.T448 (kq_and n2 (kq_if (fun c13 => ?_) (fun c13 => kq_and s.T448 (kq_and n2 (kq_if (fun c8 => ?_) (fun c8 => ?_))))))
      · have c8 : ¬ nm I.c = 8 := by rw [c13]; decide
        have c11 : ¬ nm I.c = 11 := by rw [c13]; decide
        rw [if_neg c8, if_pos c13, if_neg c11]
        obtain ⟨_, w6, _⟩ := w4 c13
        have iN : ∃ n : Nat, (n = 16 ∨ n = 32 ∨ n = 64) ∧ I.i = Int32.ofNat n := by
          rcases w6 with e | e | e
          · exact ⟨16, by decide, e⟩
          · exact ⟨32, by decide, e⟩
          · exact ⟨64, by decide, e⟩
        obtain ⟨nn, hnn, ei⟩ := iN
        obtain ⟨a1, a2, a3, a4⟩ := m_swap h rx hnn (by rw [ex]; exact tx)
        obtain ⟨q1, q2⟩ := out a2 a3 a4 (by rw [ex]; exact swap_T)
        obtain ⟨b1', b2', b3', b4'⟩ := m_cut h rx (n := nn) (by omega) (by rw [ex]; exact tx)
        obtain ⟨q3, q4⟩ := out b2' b3' b4' (by rw [ex]; exact cut_T tx (by omega))
        rw [← ei, ex] at q2 q4
        rw [← ei] at a1 q1 b1' q3
        refine kq_and s.T448 (kq_and d2 (kq_if (fun c7 => ?_) (fun c7 => kq_and s.T448 (kq_and r2 (kq_if (fun cr => ?_) (fun cr => ?_))))))
        · rw [if_pos (hfz.mpr c7)]
          exact ⟨⟨s.T448, s.T448, s.T460, a1, q1⟩, q2⟩
        · rw [if_neg (fun z => c7 (hfz.mp z)), if_pos cr]
          exact ⟨⟨s.T448, s.T448, s.T460, b1', q3⟩, q4⟩
        · rw [if_neg (fun z => c7 (hfz.mp z)), if_neg cr]
          exact ⟨⟨s.T448, s.T448, s.T460, a1, q1⟩, q2⟩
      · have c11 : ¬ nm I.c = 11 := by rw [c8]; decide
        rw [if_pos c8, if_neg c11]
        obtain ⟨a1, a2, a3, a4⟩ := m_op (k := 1) h (by decide) b3 rk6 rx (by rw [ix6]; decide) gx (by rw [ix6, h.2.2.1]; exact one_T 0) (by rw [ex]; exact tx) (by rw [ix6]; exact h.2.2.2) fx
        rw [ix6, h.2.2.1, ex] at a3
        obtain ⟨q1, q2⟩ := out a2 a3 a4 (op_T (by decide) b3 (one_T 0) tx)
        exact ⟨⟨s.T448, s.T460, a1, q1⟩, q2⟩
      · rw [if_neg c8, if_neg c13, if_neg o1, if_pos o2]
        obtain ⟨z1, z2, z3⟩ := m_opOf hI s w w2 c8 c13
        rw [z1]
        obtain ⟨a1, a2, a3, a4⟩ := m_op h z2 b3 rx ry gx gy (by rw [ex]; exact tx) (by rw [ey]; exact ty) fx fy
        rw [ex, ey] at a3
        have e11 : vOp (opN (nm I.c)) (if kd I.c = 7 then 64 else 32) xv yv = vOp (opN (nm I.c)) (if kd I.c = 7 then 64 else 32) (if nm I.c = 11 then yv else xv) yv := by
          by_cases c11 : nm I.c = 11
          · rw [if_pos c11, c11]; exact op_11 _ _ _
          · rw [if_neg c11]
        rw [e11] at a3
        obtain ⟨q1, q2⟩ := out a2 a3 a4 (op_T z2 b3 (by split; exact ty; exact tx) ty)
        exact ⟨⟨s.T448, s.T448, z3, s.T460, a1, q1⟩, q2⟩
    have R66 : (¬ I.o = 1) → K_Model_reckon_66 448 x y (if kd I.c = 7 then 64 else 32) M ∧ MX M (up (vwT M 1024) I.d (tNu (if nm I.c = 8 then vOp 1 (if kd I.c = 7 then 64 else 32) (vOne 0) (if nm I.c = 11 then yv else xv) else if nm I.c = 13 then (if (if kd I.c = 4 then (1 : Int32) else 0) = 0 then vSwap I.i (if nm I.c = 11 then yv else xv) else if rg I.c = 0 then vCut I.i (if nm I.c = 11 then yv else xv) else vSwap I.i (if nm I.c = 11 then yv else xv)) else if I.o = 1 then vCut (if kd I.c = 7 then 64 else 32) vFree else if I.o ≤ 1 then vOp (opN (nm I.c)) (if kd I.c = 7 then 64 else 32) (if nm I.c = 11 then yv else xv) yv else vCut (if kd I.c = 7 then 64 else 32) (vExt I.o yv)))) (g_Model_reckon_66 448 x y (if kd I.c = 7 then 64 else 32) M) := by
      intro o1
      unfold g_Model_reckon_66 K_Model_reckon_66
      rw [n1, hI.2.2.2.1, s.R448_16]
      refine kq_and s.T448 (kq_and n2 (kq_if (fun c11 => kq_and s.T448 (kq_if (fun c0 => ?_) (fun c0 => ?_))) (fun c11 => ?_)))
      · rcases w5 with e | e | e
        · exact R111 e
        · exact absurd e.1 o1
        · rcases e.2.2 with e | e | e
          · rw [e] at c0; exact absurd c0 (by decide)
          · rw [e] at c0; exact absurd c0 (by decide)
          · rw [e.1] at c0; exact absurd c0 (by decide)
      · have c8 : ¬ nm I.c = 8 := by rw [c11]; decide
        have c13 : ¬ nm I.c = 13 := by rw [c11]; decide
        have oN : ∃ n : Nat, 0 < n ∧ n < 63 ∧ I.o = Int32.ofNat n ∧ ¬ I.o ≤ 1 := by
          rcases w5 with e | e | e
          · rw [e] at c0; exact absurd (by decide) c0
          · exact absurd e.1 o1
          · rcases e.2.2 with e | e | e
            · exact ⟨8, by decide, by decide, e, by rw [e]; decide⟩
            · exact ⟨16, by decide, by decide, e, by rw [e]; decide⟩
            · exact ⟨32, by decide, by decide, e.1, by rw [e.1]; decide⟩
        obtain ⟨on, p1, p2, p3, p4⟩ := oN
        rw [if_neg c8, if_neg c13, if_neg o1, if_neg p4]
        obtain ⟨a1, a2, a3, a4⟩ := m_ext h ry p1 p2 (by rw [ey]; exact ty)
        rw [← p3] at a1 a2 a3 a4
        rw [ey] at a3
        unfold g_Model_reckon_96 K_Model_reckon_96
        have s1 := a2.1.1
        rw [s1.R448_16, b2]
        have tE := ext_T ty p1 p2
        rw [← p3] at tE
        obtain ⟨c1, c2, c3, c4⟩ := m_cut a2.1 rk7 b1 (by rw [ix7, a3]; exact tE)
        rw [ix7, a3] at c3
        have m3 := a2.trans c2
        rw [a2.2.2.1] at m3
        obtain ⟨q1, q2⟩ := out m3 c3 c4 (cut_T tE b1)
        exact ⟨⟨s.T448, s.T448, s.T460, a1, s1.T448, s1.T460, c1, q1⟩, q2⟩
      · rcases w5 with e | e | e
        · exact R111 e
        · exact absurd e.1 o1
        · exact absurd e.1 c11
    have R34 : (nm I.c = 3 ∨ nm I.c = 9) → K_Model_reckon_34 448 x y (if kd I.c = 7 then 64 else 32) M ∧ MX M (up (vwT M 1024) I.d (tNu (if nm I.c = 8 then vOp 1 (if kd I.c = 7 then 64 else 32) (vOne 0) (if nm I.c = 11 then yv else xv) else if nm I.c = 13 then (if (if kd I.c = 4 then (1 : Int32) else 0) = 0 then vSwap I.i (if nm I.c = 11 then yv else xv) else if rg I.c = 0 then vCut I.i (if nm I.c = 11 then yv else xv) else vSwap I.i (if nm I.c = 11 then yv else xv)) else if I.o = 1 then vCut (if kd I.c = 7 then 64 else 32) vFree else if I.o ≤ 1 then vOp (opN (nm I.c)) (if kd I.c = 7 then 64 else 32) (if nm I.c = 11 then yv else xv) yv else vCut (if kd I.c = 7 then 64 else 32) (vExt I.o yv)))) (g_Model_reckon_34 448 x y (if kd I.c = 7 then 64 else 32) M) := by
      intro c39
      unfold g_Model_reckon_34 K_Model_reckon_34
      rw [hI.2.2.2.1, s.R448_16]
      refine kq_and s.T448 (kq_if (fun o1 => ?_) (fun o1 => R66 o1))
      have c8 : ¬ nm I.c = 8 := by rcases c39 with e | e <;> rw [e] <;> decide
      have c13 : ¬ nm I.c = 13 := by rcases c39 with e | e <;> rw [e] <;> decide
      rw [if_neg c8, if_neg c13, if_pos o1, t_free s, ix7]
      unfold g_Model_reckon_51 K_Model_reckon_51
      have m1 : MX M (vwT M 1024) (sR M 7 vFree 0) := MX.sr h (by decide) (by decide)
      have v7 : tvk (sR M 7 vFree 0) 7 = vFree := tvk_sR _ _ _ _
      have s1 := m1.1.1
      rw [s1.R448_16, b2]
      obtain ⟨c1, c2, c3, c4⟩ := m_cut m1.1 rk7 b1 (by rw [ix7, v7]; exact free_T)
      rw [ix7, v7] at c3
      have m3 := m1.trans c2
      rw [m1.2.2.1] at m3
      obtain ⟨q1, q2⟩ := out m3 c3 c4 (cut_T free_T b1)
      exact ⟨⟨s.T448, s.T460, kt_free s rk7, s1.T448, s1.T460, c1, q1⟩, q2⟩
    unfold g_Model_reckon_16 K_Model_reckon_16
    rw [n1]
    refine kq_and s.T448 (kq_and n2 (kq_if (fun c3 => R34 (Or.inl c3)) (fun c3 => kq_and s.T448 (kq_and n2 (kq_if (fun c9 => R34 (Or.inr c9)) (fun c9 => ?_))))))
    refine R66 (fun o1 => ?_)
    rcases w5 with e | e | e
    · rw [e] at o1; exact absurd o1 (by decide)
    · exact e.2.elim c3 c9
    · rcases e.2.2 with e | e | e
      · rw [e] at o1; exact absurd o1 (by decide)
      · rw [e] at o1; exact absurd o1 (by decide)
      · rw [e.1] at o1; exact absurd o1 (by decide)
  unfold g_Model_reckon K_Model_reckon g_Model_reckon_0 K_Model_reckon_0
  rw [d1]
  by_cases c7 : kd I.c = 7
  · rw [if_pos c7] at body ⊢
    exact ⟨⟨s.T448, d2, fun _ => body.1, fun z => absurd c7 z⟩, body.2⟩
  · rw [if_neg c7] at body ⊢
    exact ⟨⟨s.T448, d2, fun z => absurd z c7, fun _ => body.1⟩, body.2⟩
