/-! part 47zzw: the twin: what a call is given (gen/tpl.py) -/
/-- register 10 of JUMPED has no byte that is written -/
def J10 (M : XM) : Prop := mI M 457 76885 = 0 ∨ mI M 457 76885 = 3
theorem J10.fx {M M' : XM} (h : J10 M) (f : FX JN M M') : J10 M' := by
  unfold J10
  rw [f.2.1 457 76885 (by unfold XJ JN; omega)]
  exact h
section CL
variable {M : XM}
theorem slot93 : ∀ q : Fin 593, 11 + Int64.toInt32 (Int64.ofNat q.val / 8) = Int32.ofNat (11 + q.val / 8) := by decide +kernel
theorem b593 {a : Int64} (h1 : -512 ≤ a.toInt) (h2 : a.toInt ≤ 80) : g_Model_slotOf a = Int32.ofNat (11 + q5 a.toInt / 8) ∧ q5 a.toInt < 593 := by
  have e : a + 512 = Int64.ofNat (q5 a.toInt) ∧ q5 a.toInt < 593 := by
    unfold q5
    refine ⟨?_, by omega⟩
    apply Int64.toInt_inj.mp
    rw [toInt_ofNat64 (by omega), Int64.toInt_add]
    have : (512 : Int64).toInt = 512 := rfl
    rw [this, Int.bmod_eq_of_le (by omega) (by omega)]
    omega
  unfold g_Model_slotOf g_Model_slotOf_0
  rw [e.1]
  exact ⟨slot93 ⟨_, e.2⟩, e.2⟩
theorem wr_any (h : Sh M) {n : Nat} (hn : n < 300) : K_Model_written 448 1024 (Int32.ofNat n) M ∧ (mI M 457 (76800 + n) = 0 ∨ mI M 457 (76800 + n) = 3 → g_Model_written 448 1024 (Int32.ofNat n) M = 0) := by
  unfold g_Model_written K_Model_written g_Model_written_0 K_Model_written_0 g_Model_written_11 K_Model_written_11
  rw [h.R448_13, h.R448_14, thN, ixN (show 76800 + n < 2147483648 by omega)]
  refine ⟨⟨h.T448, h.T457, by rw [h.N457]; exact vpN (by omega) (by omega), fun _ => ⟨h.T448, h.T458, by rw [h.N458]; exact vpN (by omega) (by omega)⟩⟩, fun z => ?_⟩
  rcases z with e | e <;> rw [e]
  · rw [if_neg (by decide), if_neg (by decide)]
  · rw [if_neg (by decide), if_neg (by decide)]
theorem ishr_0 (a : Int32) : ¬ (j_ishr 0 a &&& 1) = 1 := by
  have : j_ishr 0 a = 0 := by
    unfold j_ishr
    apply Int32.toBitVec_inj.mp
    rw [Int32.toBitVec_shiftRight]
    exact BitVec.zero_sshiftRight
  rw [this]; decide
theorem have_any (h : Sh M) (j10 : J10 M) {x1 x3 : Int64} : ∀ (m f : Nat) (x5 : Int32) (x6 : Int64), -512 ≤ x6.toInt → (x1 + x3).toInt - x6.toInt ≤ m → m < f → (x6.toInt ≤ 80 ∨ x5 = 0 ∨ (x1 + x3).toInt ≤ x6.toInt) → K_Model_haveNumbers_6 f 448 x1 x3 x5 x6 M := by
  intro m
  induction m with
  | zero =>
    intro f x5 x6 h1 h2 h3 h4
    obtain ⟨f, rfl⟩ : ∃ f', f = f' + 1 := ⟨f - 1, by omega⟩
    unfold K_Model_haveNumbers_6
    intro c
    rw [cmp_geI] at c
    exact absurd (by omega) c
  | succ m ih =>
    intro f x5 x6 h1 h2 h3 h4
    obtain ⟨f, rfl⟩ : ∃ f', f = f' + 1 := ⟨f - 1, by omega⟩
    unfold K_Model_haveNumbers_6
    intro c
    rw [cmp_geI] at c
    have lt := Int64.toInt_lt (x1 + x3)
    have e6 : (x6 + 1).toInt = x6.toInt + 1 := by
      rw [Int64.toInt_add]
      have : (1 : Int64).toInt = 1 := rfl
      rw [this, Int.bmod_eq_of_le (by omega) (by omega)]
    unfold K_Model_haveNumbers_53 K_Model_haveNumbers_54
    have K0 : K_Model_haveNumbers_6 f 448 x1 x3 0 (x6 + 1) M := ih f 0 (x6 + 1) (by omega) (by omega) (by omega) (Or.inr (Or.inl rfl))
    refine ⟨fun _ => K0, fun c5 => ?_⟩
    have l80 : x6.toInt ≤ 80 := by
      rcases h4 with e | e | e
      · exact e
      · exact absurd e c5
      · exact absurd e c
    obtain ⟨s1, s2⟩ := b593 h1 l80
    obtain ⟨u1, u2⟩ := wr_any h (n := 11 + q5 x6.toInt / 8) (by omega)
    rw [s1]
    refine ⟨h.T448, u1, fun cw => ?_, fun _ => K0⟩
    refine ih f 1 (x6 + 1) (by omega) (by omega) (by omega) (Or.inl ?_)
    by_cases q : x6.toInt = 80
    · have q80 : 11 + q5 x6.toInt / 8 = 85 := by rw [q]; decide
      rw [q80] at u2 cw
      rw [u2 j10] at cw
      exact absurd cw (ishr_0 _)
    · omega
theorem neg64 {a : Int64} (h : a.toInt ≠ -9223372036854775808) : (-a).toInt = -a.toInt := by
  rw [Int64.toInt_neg]
  have h1 := Int64.le_toInt a
  have h2 := Int64.toInt_lt a
  exact Int.bmod_eq_of_le (by omega) (by omega)
theorem m_tells (h : Sh M) (j10 : J10 M) {n : Nat} (hn : n < 75) (wt : WT (vwT M 1024 n)) (x2 : Int64) : K_Model_tells 448 (Int32.ofNat n) x2 M ∧ (∀ b : Int32, x2 = b.toInt64 → 0 ≤ b.toInt → g_Model_tells 448 (Int32.ofNat n) x2 M = tel (mpT M) (vwT M 1024) (mI M 455 1024) (vwT M 1024 n) b) := by
  obtain ⟨a1, a2⟩ := m_sortOf h hn
  have de : mI M 458 (76800 + n) = (vwT M 1024 n).de := tw_de hn
  have vp : vp_in (Int32.ofNat (76800 + n)) (mN M 458) := by rw [h.N458]; exact vpN (by omega) (by omega)
  have kp : vp_in (1024 : Int32) (mN M 455) := by rw [h.N455]; exact vpN (a := 1024) (by decide) (by decide)
  have ix24 : ix (1024 : Int32) = 1024 := by decide
  have dI : (vwT M 1024 n).de.toInt64.toInt = (vwT M 1024 n).de.toInt := Int32.toInt_toInt64 _
  have cm : (-512 : Int64).toInt = -512 := rfl
  unfold g_Model_tells K_Model_tells g_Model_tells_0 K_Model_tells_0 g_Model_tells_7 K_Model_tells_7
  rw [a1, h.R448_14, thN, ixN (show 76800 + n < 2147483648 by omega), de]
  constructor
  · refine ⟨h.T448, a2, h.T448, h.T458, vp, ?_⟩
    unfold K_Model_tells_22
    rw [h.R448_14, thN, ixN (show 76800 + n < 2147483648 by omega), de, h.R448_11, h.R448_9, ix24]
    refine fun _ _ _ => ⟨fun c3 l1 l2 => ⟨h.T448, ?_⟩, fun _ => ⟨fun c4 => ?_, fun _ _ _ c7 => ?_⟩⟩
    · obtain ⟨w1, w2⟩ := wt.2.2.2.2.2.1 (Or.inr c3)
      rw [cmp_ltI, cm, dI] at l1
      rw [cmp_leI, dI] at l2
      have l1' : -512 ≤ (vwT M 1024 n).de.toInt := by omega
      have e1 := Int64.toInt_lt ((vwT M 1024 n).de.toInt64 + x2)
      refine have_any h j10 9223372036854777000 xF 1 _ (by rw [dI]; exact l1') (by rw [dI]; omega) (by rw [xF_eq]; decide) ?_
      rw [dI]
      by_cases q : (vwT M 1024 n).de.toInt ≤ 80
      · exact Or.inl q
      · refine Or.inr (Or.inr ?_)
        have nm : x2.toInt ≠ -9223372036854775808 := by
          intro z
          have : x2 = -9223372036854775808 := Int64.toInt_inj.mp (by rw [z]; rfl)
          rw [this] at l2
          have : (-(-9223372036854775808 : Int64)).toInt = -9223372036854775808 := rfl
          omega
        rw [neg64 nm] at l2
        have g1 := Int64.le_toInt x2
        rw [Int64.toInt_add, dI, Int.bmod_eq_of_le (by omega) (by omega)]
        omega
    · exact ⟨h.T448, h.T455, kp, h.T448, (m_within h hn (hv47 (Or.inl c4)) _ _ _).2⟩
    · obtain ⟨w1, w2⟩ := wt.2.2.2.2.1 (Or.inr (Or.inl c7))
      exact ⟨h.T448, h.T448, h.T458, vp, h.T453, by rw [h.N453]; exact (ix8 w1 w2).2.2, h.T448, (m_within h hn (hv47 (Or.inr c7)) _ _ _).2⟩
  · intro b e2 b0
    unfold g_Model_tells_22 g_Model_tells_91
    rw [h.R448_14, thN, ixN (show 76800 + n < 2147483648 by omega), de, h.R448_11, h.R448_9, ix24, e2]
    unfold tel
    by_cases s0 : (vwT M 1024 n).so = 0
    · rw [if_pos s0, if_pos s0]
    by_cases s1 : (vwT M 1024 n).so = 1
    · simp only [s1, i1_0, show ¬ (1 : Int32) = 3 from by decide, show ¬ (1 : Int32) = 4 from by decide, show ¬ (1 : Int32) = 7 from by decide, if_true, if_false, not_true, not_false_iff, and_self, and_true, true_and, and_false, false_and, or_true, true_or, or_false, false_or, or_self, i32_10, eq_self, true_implies, false_implies, implies_true, ite_self, ne_eq]
    by_cases s2 : (vwT M 1024 n).so = 2
    · simp only [s2, show ¬ (2 : Int32) = 0 from by decide, show ¬ (2 : Int32) = 1 from by decide, show ¬ (2 : Int32) = 3 from by decide, show ¬ (2 : Int32) = 4 from by decide, show ¬ (2 : Int32) = 7 from by decide, if_true, if_false, not_true, not_false_iff, and_self, and_true, true_and, and_false, false_and, or_true, true_or, or_false, false_or, or_self, i32_10, eq_self, true_implies, false_implies, implies_true, ite_self, ne_eq]
    rw [if_neg s0, if_neg s1, if_neg s2, if_neg s0]
    by_cases s3 : (vwT M 1024 n).so = 3
    · have bI : b.toInt64.toInt = b.toInt := Int32.toInt_toInt64 b
      have b31 := Int32.toInt_lt b
      have nb : (-b.toInt64).toInt = -b.toInt := by rw [neg64 (by rw [bI]; omega), bI]
      rw [if_pos s3, if_pos s3]
      simp only [cmp_ltI, cmp_leI, dI, cm, nb]
      by_cases l1 : -512 ≤ (vwT M 1024 n).de.toInt
      · by_cases l2 : (vwT M 1024 n).de.toInt ≤ -b.toInt
        · have bN : b.toInt64.toInt = ((ix b : Nat) : Int) := by
            rw [bI]
            show b.toInt = ((b.toInt.toNat : Nat) : Int)
            omega
          have bN' : ((ix b : Nat) : Int) = b.toInt := by rw [← bN, bI]
          obtain ⟨v1, v2⟩ := m_have h (x1 := (vwT M 1024 n).de.toInt64) (x3 := b.toInt64) (b := ix b) bN (by rw [dI]; exact l1) (by rw [dI]; omega)
          rw [dI] at v2
          have nq : ¬ ((vwT M 1024 n).de.toInt < -512 ∨ -b.toInt < (vwT M 1024 n).de.toInt) := by omega
          rw [if_neg (fun z => z l1), if_pos l2, if_neg nq]
          by_cases q : hasN (vwT M 1024) (q5 (vwT M 1024 n).de.toInt) (ix b)
          · rw [cif_pos q, if_neg (fun z => v2.mp z q)]
          · rw [cif_neg q, if_pos (v2.mpr q)]
        · have nq : (vwT M 1024 n).de.toInt < -512 ∨ -b.toInt < (vwT M 1024 n).de.toInt := by omega
          rw [if_neg (fun z => z l1), if_neg l2, if_pos nq]
      · have nq : (vwT M 1024 n).de.toInt < -512 ∨ -b.toInt < (vwT M 1024 n).de.toInt := by omega
        rw [if_pos l1, if_pos nq]
    rw [if_neg s3, if_neg s3]
    have z0 : (0 : Int32).toInt64 = 0 := rfl
    by_cases s4 : (vwT M 1024 n).so = 4
    · rw [if_pos s4, if_pos s4, (m_within h hn (hv47 (Or.inl s4)) 0 b.toInt64 (mI M 455 1024).toInt64).1]
      by_cases p : lie (vwT M 1024 n).va 0 b (mI M 455 1024)
      · have p' : -(0 : Int64) ≤ (vwT M 1024 n).va.le ∧ (vwT M 1024 n).va.gr ≤ (mI M 455 1024).toInt64 - b.toInt64 - 0 := p
        rw [if_pos p, if_pos p', if_neg i1_0]
      · have p' : ¬ (-(0 : Int64) ≤ (vwT M 1024 n).va.le ∧ (vwT M 1024 n).va.gr ≤ (mI M 455 1024).toInt64 - b.toInt64 - 0) := p
        rw [if_neg p, if_neg p', if_pos rfl]
    rw [if_neg s4, if_neg s4]
    by_cases s7 : (vwT M 1024 n).so = 7
    · have s5 : ¬ (vwT M 1024 n).so = 5 := by rw [s7]; decide
      have s6 : ¬ (vwT M 1024 n).so = 6 := by rw [s7]; decide
      rw [if_neg s5, if_neg s6, if_pos s7, if_pos s7, (m_within h hn (hv47 (Or.inr s7)) 0 b.toInt64 (mI M 453 (ix (vwT M 1024 n).de)).toInt64).1]
      by_cases p : lie (vwT M 1024 n).va 0 b ((mpT M).2.2 (ix (vwT M 1024 n).de))
      · have p' : -(0 : Int64) ≤ (vwT M 1024 n).va.le ∧ (vwT M 1024 n).va.gr ≤ (mI M 453 (ix (vwT M 1024 n).de)).toInt64 - b.toInt64 - 0 := p
        rw [if_pos p, if_pos p', if_neg i1_0]
      · have p' : ¬ (-(0 : Int64) ≤ (vwT M 1024 n).va.le ∧ (vwT M 1024 n).va.gr ≤ (mI M 453 (ix (vwT M 1024 n).de)).toInt64 - b.toInt64 - 0) := p
        rw [if_neg p, if_neg p', if_pos rfl]
    rw [if_neg s7, if_neg s7]
    simp only [ite_self]
theorem m_isMap (h : Sh M) {n : Nat} (hn : n < 75) (wt : WT (vwT M 1024 n)) (k k' : Int32) : K_Model_isMap 448 (Int32.ofNat n) k k' M ∧ g_Model_isMap 448 (Int32.ofNat n) k k' M = mpk (mpT M) (vwT M 1024 n) k k' := by
  obtain ⟨a1, a2⟩ := m_sortOf h hn
  have de : mI M 458 (76800 + n) = (vwT M 1024 n).de := tw_de hn
  have vp : vp_in (Int32.ofNat (76800 + n)) (mN M 458) := by rw [h.N458]; exact vpN (by omega) (by omega)
  unfold g_Model_isMap K_Model_isMap g_Model_isMap_0 K_Model_isMap_0 g_Model_isMap_30 K_Model_isMap_30 g_Model_isMap_33 K_Model_isMap_33 g_Model_isMap_71 g_Model_isMap_67 mpk
  rw [a1, h.R448_14, h.R448_7, thN, ixN (show 76800 + n < 2147483648 by omega), de]
  have v0 : vp_in (0 : Int32) (mN M 451) := by rw [h.N451]; exact vpN (a := 0) (by decide) (by decide)
  refine ⟨⟨h.T448, h.T448, a2, fun c6 => ⟨h.T448, h.T458, vp, h.T451, ?_, h.T448, a2, fun _ => ⟨h.T448, a2⟩⟩, fun _ => ⟨h.T451, v0, h.T448, a2, fun _ => ⟨h.T448, a2⟩⟩⟩, ?_⟩
  · obtain ⟨w1, w2⟩ := wt.2.2.2.2.1 (Or.inl c6)
    rw [h.N451]; exact (ix8 w1 w2).2.2
  · by_cases s0 : (vwT M 1024 n).so = 0
    · have s6 : ¬ (vwT M 1024 n).so = 6 := by rw [s0]; decide
      rw [if_neg s6, if_pos s0, if_pos s0]
    · by_cases s6 : (vwT M 1024 n).so = 6
      · rw [if_pos s6, if_neg s0, if_pos s6, if_neg s0]
        have em : ∀ i, mI M 451 i = (mpT M).1 i := fun _ => rfl
        rw [em]
        by_cases c1 : (mpT M).1 (ix (vwT M 1024 n).de) = k
        · have q : (vwT M 1024 n).so = 6 ∧ ((mpT M).1 (ix (vwT M 1024 n).de) = k ∨ (mpT M).1 (ix (vwT M 1024 n).de) = k') := ⟨s6, Or.inl c1⟩
          rw [if_pos c1, if_pos q]
        · rw [if_neg c1]
          by_cases c2 : (mpT M).1 (ix (vwT M 1024 n).de) = k'
          · have q : (vwT M 1024 n).so = 6 ∧ ((mpT M).1 (ix (vwT M 1024 n).de) = k ∨ (mpT M).1 (ix (vwT M 1024 n).de) = k') := ⟨s6, Or.inr c2⟩
            rw [if_pos c2, if_pos q]
          · rw [if_neg c2, if_neg (fun (z : (vwT M 1024 n).so = 6 ∧ _) => z.2.elim c1 c2)]
      · rw [if_neg s6, if_neg s0, if_neg s6, if_neg s0, if_neg (fun (z : (vwT M 1024 n).so = 6 ∧ _) => s6 z.1)]
theorem m_isNum (h : Sh M) {n : Nat} (hn : n < 75) : K_Model_isNumber 448 (Int32.ofNat n) M ∧ g_Model_isNumber 448 (Int32.ofNat n) M = numb (vwT M 1024 n) := by
  obtain ⟨a1, a2⟩ := m_sortOf h hn
  unfold g_Model_isNumber K_Model_isNumber g_Model_isNumber_0 K_Model_isNumber_0 numb
  rw [a1]
  exact ⟨⟨h.T448, a2, fun _ => ⟨h.T448, a2⟩⟩, rfl⟩
theorem then_ok {a b : Int32} (h : 0 ≤ a) : g_Model_then a b = thn a b := by
  unfold g_Model_then g_Model_then_0 thn
  rw [Int32.le_iff_toInt_le] at h
  have e0 : (0 : Int32).toInt = 0 := rfl
  by_cases c : a = 0
  · rw [if_pos c, c, if_pos (by decide)]
  · rw [if_neg c, if_neg]
    intro z
    rw [Int32.le_iff_toInt_le] at z
    exact c (Int32.toInt_inj.mp (by omega))
theorem mpk_v {mp : Mp} {t : TH} {k k' : Int32} : 0 ≤ mpk mp t k k' := by
  unfold mpk
  split
  · decide
  · split <;> decide
theorem numb_v {t : TH} : 0 ≤ numb t := by
  unfold numb
  split
  · decide
  · split <;> decide
theorem tel_v {mp : Mp} {σ : Sg} {kn : Int32} {t : TH} {b : Int32} : 0 ≤ tel mp σ kn t b := by
  unfold tel cif
  split
  · decide
  · split
    · split
      · decide
      · split <;> decide
    · split
      · split <;> decide
      · split
        · split <;> decide
        · decide
theorem thn_l {a b b' : Int32} (h : a = 0 → b = b') : thn a b = thn a b' := by
  unfold thn
  by_cases c : a = 0
  · rw [if_pos c, if_pos c, h c]
  · rw [if_neg c, if_neg c]
theorem mpk_6 {mp : Mp} {t : TH} {k k' : Int32} (h : mpk mp t k k' = 0) : t.so = 6 := by
  unfold mpk at h
  by_cases s0 : t.so = 0
  · rw [if_pos s0] at h; exact absurd h (by decide)
  · rw [if_neg s0] at h
    by_cases c : t.so = 6 ∧ (mp.1 (ix t.de) = k ∨ mp.1 (ix t.de) = k')
    · exact c.1
    · rw [if_neg c] at h; exact absurd h (by decide)
theorem numb_1 {t : TH} (h : numb t = 0) : t.so = 1 := by
  unfold numb at h
  by_cases s0 : t.so = 0
  · rw [if_pos s0] at h; exact absurd h (by decide)
  · rw [if_neg s0] at h
    by_cases c : t.so = 1
    · exact c
    · rw [if_neg c] at h; exact absurd h (by decide)
theorem m_args (h : Sh M) (j10 : J10 M) (wt : WS (vwT M 1024)) (wm : WM (mpT M)) (i : Int32) : K_Model_argumentsOf 448 i M ∧ g_Model_argumentsOf 448 i M = args (mpT M) i (vwT M 1024) (mI M 455 1024) := by
  obtain ⟨a1, a2⟩ := m_sortOf h (n := 1) (by decide)
  have de : mI M 458 (76800 + 1) = (vwT M 1024 1).de := tw_de (by decide)
  have vp : vp_in (Int32.ofNat (76800 + 1)) (mN M 458) := by rw [h.N458]; exact vpN (by omega) (by omega)
  have i1 : Int32.ofNat 1 = 1 := rfl
  have i2 : Int32.ofNat 2 = 2 := rfl
  have i3 : Int32.ofNat 3 = 3 := rfl
  have i4 : Int32.ofNat 4 = 4 := rfl
  have mk := fun k k' => m_isMap h (n := 1) (by decide) (wt 1) k k'
  have t2 := fun x => m_tells h j10 (n := 2) (by decide) (wt 2) x
  have t3 := fun x => m_tells h j10 (n := 3) (by decide) (wt 3) x
  obtain ⟨n2a, n2b⟩ := m_isNum h (n := 2) (by decide)
  obtain ⟨n3a, n3b⟩ := m_isNum h (n := 3) (by decide)
  obtain ⟨n4a, n4b⟩ := m_isNum h (n := 4) (by decide)
  rw [i1] at a1 a2
  simp only [i1] at mk
  simp only [i2] at t2
  simp only [i3] at t3
  rw [i2] at n2a n2b
  rw [i3] at n3a n3b
  rw [i4] at n4a n4b
  have th1 : g_Model_thing 1024 1 = Int32.ofNat (76800 + 1) := thN 1
  -- for any index of a map
  have body : ∀ s0 : Int32, 0 ≤ s0 → s0 < 8 → ((vwT M 1024 1).so = 6 → s0 = (vwT M 1024 1).de) → K_Model_argumentsOf_26 448 i s0 M ∧ g_Model_argumentsOf_26 448 i s0 M = args (mpT M) i (vwT M 1024) (mI M 455 1024) := by
    intro s0 z1 z2 z3
    obtain ⟨x1, x2, x3⟩ := ix8 z1 z2
    obtain ⟨⟨m1, m2⟩, ⟨m3, m4⟩, ⟨m5, m6⟩⟩ := wm (ix s0) x1
    have k0 : 0 ≤ (mI M 452 (ix s0)).toInt := by
      have := Int32.le_iff_toInt_le.mp m3
      exact this
    have v0 : 0 ≤ (mI M 453 (ix s0)).toInt := by
      have := Int32.le_iff_toInt_le.mp m5
      exact this
    have ek := (t2 (mI M 452 (ix s0)).toInt64).2 _ rfl k0
    have ev := (t3 (mI M 453 (ix s0)).toInt64).2 _ rfl v0
    have s8 : vp_in s0 (mN M 452) := by rw [h.N452]; exact x3
    have s9 : vp_in s0 (mN M 453) := by rw [h.N453]; exact x3
    unfold g_Model_argumentsOf_26 K_Model_argumentsOf_26
    rw [h.R448_8, h.R448_9, h.R448_14, th1, ixN (show 76800 + 1 < 2147483648 by omega), de, (mk 1 2).2, (mk 2 2).2, ek, ev, n4b, n3b, a1]
    have kk : ∀ k k', mpk (mpT M) (vwT M 1024 1) k k' = 0 → mI M 452 (ix s0) = (mpT M).2.1 (ix (vwT M 1024 1).de) ∧ mI M 453 (ix s0) = (mpT M).2.2 (ix (vwT M 1024 1).de) := fun k k' z => by
      rw [z3 (mpk_6 z)]; exact ⟨rfl, rfl⟩
    -- the fourth call
    have A166 : K_Model_argumentsOf_166 448 (numb (vwT M 1024 3)) M ∧ g_Model_argumentsOf_166 448 (numb (vwT M 1024 3)) M = thn (mpk (mpT M) (vwT M 1024 1) 3 3) (thn (numb (vwT M 1024 3)) (if (vwT M 1024 3).va.le < 1 ∨ 256 < (vwT M 1024 3).va.gr then 8 else tel (mpT M) (vwT M 1024) (mI M 455 1024) (vwT M 1024 2) (vwT M 1024 3).va.gr.toInt32)) := by
      have r3 : g_Model_row 1024 3 = Int32.ofNat (8 + (76800 + 3)) := roN 3
      have k3 : rk (Int32.ofNat (8 + (76800 + 3))) := rkN (by omega)
      unfold g_Model_argumentsOf_166 K_Model_argumentsOf_166 g_Model_argumentsOf_183 K_Model_argumentsOf_183 g_Model_argumentsOf_217 K_Model_argumentsOf_217 g_Model_argumentsOf_219 K_Model_argumentsOf_219 g_Model_argumentsOf_223 K_Model_argumentsOf_223
      rw [h.R448_16, h.R460_4, h.R460_5, r3, ixN (show 8 + (76800 + 3) < 2147483648 by omega), (mk 3 3).2]
      have kt : ∀ x3 : Int32, mT M 448 = 26 ∧ K_Model_isMap 448 1 3 3 M ∧ mT M 448 = 26 ∧ K_Model_tells 448 2 (mL M 466 (8 + (76800 + 3))) M := fun _ => ⟨h.T448, (mk 3 3).1, h.T448, (t2 _).1⟩
      refine ⟨⟨h.T448, h.T460, h.T466, by rw [h.N466]; exact k3, h.T448, h.T460, h.T465, by rw [h.N465]; exact k3, fun _ => kt 0, fun _ => ⟨fun _ => kt 0, fun _ => kt 0⟩⟩, ?_⟩
      have nn : ∀ x y, 0 ≤ x → 0 ≤ y → (0 : Int32) ≤ thn x y := fun x y a b => by unfold thn; split; exact b; exact a
      have t8 : ∀ z, g_Model_then (g_Model_then (numb (vwT M 1024 3)) 8) z = thn (numb (vwT M 1024 3)) 8 := fun z => by
        rw [then_ok numb_v, then_ok (nn _ _ numb_v (by decide))]
        unfold thn
        by_cases c : numb (vwT M 1024 3) = 0
        · rw [if_pos c, if_neg (by decide)]
        · rw [if_neg c, if_neg c]
      have t0 : ∀ z, g_Model_then (g_Model_then (numb (vwT M 1024 3)) 0) z = thn (numb (vwT M 1024 3)) z := fun z => by
        rw [then_ok numb_v, then_ok (nn _ _ numb_v (by decide))]
        unfold thn
        by_cases c : numb (vwT M 1024 3) = 0
        · rw [if_pos c, if_pos rfl, if_pos c]
        · rw [if_neg c, if_neg c]
      simp only [t8, t0, then_ok mpk_v]
      by_cases cn : numb (vwT M 1024 3) = 0
      · have e := tw_va (M := M) (n := 3) (by decide) (by rw [numb_1 cn]; decide)
        have l1 : mL M 465 (8 + (76800 + 3)) = (vwT M 1024 3).va.le := by rw [← e]; rfl
        have l2 : mL M 466 (8 + (76800 + 3)) = (vwT M 1024 3).va.gr := by rw [← e]; rfl
        rw [l1, l2]
        by_cases c1 : (vwT M 1024 3).va.le < 1
        · rw [if_pos (cmp_lt.mpr c1), if_pos (Or.inl c1)]
        · rw [if_neg (fun z => c1 (cmp_lt.mp z))]
          by_cases c2 : 256 < (vwT M 1024 3).va.gr
          · rw [if_pos (cmp_gt.mpr c2), if_pos (Or.inr c2)]
          · rw [if_neg (fun z => c2 (cmp_gt.mp z)), if_neg (fun z => z.elim c1 c2)]
            have tv := (wt 3).2.1
            have lg : (vwT M 1024 3).va.le.toInt ≤ (vwT M 1024 3).va.gr.toInt := by
              obtain ⟨x, hx⟩ := tv.ex
              have a1 := hx.2.2.2.1
              have a2 := hx.2.2.2.2
              omega
            have g1 : 1 ≤ (vwT M 1024 3).va.le.toInt := by
              have : ¬ (vwT M 1024 3).va.le.toInt < (1 : Int64).toInt := fun z => c1 (Int64.lt_iff_toInt_lt.mpr z)
              have e1 : (1 : Int64).toInt = 1 := rfl
              omega
            have g2 : (vwT M 1024 3).va.gr.toInt ≤ 256 := by
              have : ¬ (256 : Int64).toInt < (vwT M 1024 3).va.gr.toInt := fun z => c2 (Int64.lt_iff_toInt_lt.mpr z)
              have e1 : (256 : Int64).toInt = 256 := rfl
              omega
            have eb : (vwT M 1024 3).va.gr.toInt32.toInt = (vwT M 1024 3).va.gr.toInt := by
              rw [Int64.toInt_toInt32]
              exact Int.bmod_eq_of_le (by omega) (by omega)
            rw [(t2 (vwT M 1024 3).va.gr).2 (vwT M 1024 3).va.gr.toInt32 (Int64.toInt_inj.mp (by rw [Int32.toInt_toInt64, eb])) (by rw [eb]; omega)]
      · have eN : ∀ z z', thn (numb (vwT M 1024 3)) z = thn (numb (vwT M 1024 3)) z' := fun z z' => by
          unfold thn
          rw [if_neg cn, if_neg cn]
        split
        · rw [eN]
        · split
          · rw [eN]
          · rw [eN]
    refine ⟨?_, ?_⟩
    · refine ⟨fun _ => ⟨h.T448, (mk 1 2).1, h.T448, h.T452, s8, h.T448, (t2 _).1⟩, fun _ => ⟨fun _ => ⟨h.T448, (mk 1 2).1, h.T448, h.T452, s8, h.T448, (t2 _).1, h.T448, h.T453, s9, h.T448, (t3 _).1, h.T448, n4a⟩, fun _ => ⟨fun _ => ⟨h.T448, (mk 2 2).1, h.T448, h.T452, s8, h.T448, (t2 _).1⟩, fun _ => ⟨fun _ => ⟨h.T448, n3a, A166.1⟩, fun _ _ _ => ?_⟩⟩⟩⟩
      have c275 : ∀ x, K_Model_argumentsOf_276 448 x M := fun x => by
        unfold K_Model_argumentsOf_276 K_Model_argumentsOf_301
        exact ⟨h.T448, a2, fun _ => ⟨h.T448, n2a⟩, fun _ => ⟨fun _ => ⟨h.T448, n2a⟩, fun _ => ⟨h.T448, n2a⟩⟩⟩
      unfold K_Model_argumentsOf_275
      exact ⟨h.T448, a2, fun _ => ⟨h.T448, h.T458, vp, fun _ => c275 1, fun _ => c275 0⟩, fun _ => c275 0⟩
    · unfold args
      by_cases c1 : i = 1
      · rw [if_pos c1, if_pos c1, then_ok mpk_v]
        exact thn_l (fun z => by rw [(kk _ _ z).1])
      rw [if_neg c1, if_neg c1]
      by_cases c2 : i = 2
      · rw [if_pos c2, if_pos c2, then_ok mpk_v, then_ok tel_v, then_ok tel_v]
        exact thn_l (fun z => by rw [(kk _ _ z).1, (kk _ _ z).2])
      rw [if_neg c2, if_neg c2]
      by_cases c3 : i = 3
      · rw [if_pos c3, if_pos c3, then_ok mpk_v]
        exact thn_l (fun z => by rw [(kk _ _ z).1])
      rw [if_neg c3, if_neg c3]
      by_cases c4 : i = 4
      · rw [if_pos c4, if_pos c4]
        exact A166.2
      rw [if_neg c4, if_neg c4]
      by_cases c5 : i = 5
      · rw [if_pos c5, if_pos c5]
      rw [if_neg c5, if_neg c5]
      by_cases c6 : i = 6
      · rw [if_pos c6, if_pos c6]
        unfold g_Model_argumentsOf_275 g_Model_argumentsOf_276 g_Model_argumentsOf_301
        rw [a1, n2b]
        by_cases s0' : (vwT M 1024 1).so = 0
        · have s2 : ¬ (vwT M 1024 1).so = 2 := by rw [s0']; decide
          rw [if_neg s2, if_pos s0', if_pos s0', then_ok (by decide)]
          unfold thn
          rw [if_neg i1_0]
        · simp only [if_neg s0', i1_0, if_true, if_false]
          by_cases s2 : (vwT M 1024 1).so = 2
          · rw [if_pos s2]
            by_cases d0 : (vwT M 1024 1).de = 0
            · rw [if_pos d0, if_neg (fun (z : (vwT M 1024 1).so ≠ 2 ∨ _) => z.elim (fun q => q s2) (fun q => q d0)), then_ok (by decide)]
              unfold thn
              rw [if_pos rfl]
            · rw [if_neg d0, if_pos (Or.inr d0), then_ok (by decide)]
              unfold thn
              rw [if_neg (by decide)]
          · rw [if_neg s2, if_pos (Or.inl s2), then_ok (by decide)]
            unfold thn
            rw [if_neg (by decide)]
      rw [if_neg c6, if_neg c6]
  unfold g_Model_argumentsOf K_Model_argumentsOf g_Model_argumentsOf_0 K_Model_argumentsOf_0
  rw [a1, h.R448_14, th1, ixN (show 76800 + 1 < 2147483648 by omega), de]
  by_cases c6 : (vwT M 1024 1).so = 6
  · obtain ⟨w1, w2⟩ := (wt 1).2.2.2.2.1 (Or.inl c6)
    obtain ⟨b1, b2⟩ := body _ w1 w2 (fun _ => rfl)
    rw [if_pos c6]
    exact ⟨⟨h.T448, a2, fun _ => ⟨h.T448, h.T458, vp, b1⟩, fun z => absurd c6 z⟩, b2⟩
  · obtain ⟨b1, b2⟩ := body 0 (by decide) (by decide) (fun z => absurd z c6)
    rw [if_neg c6]
    exact ⟨⟨h.T448, a2, fun z => absurd z c6, fun _ => b1⟩, b2⟩
end CL
