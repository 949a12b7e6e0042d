/-! part 47zzzzj: feed, on both sides (gen/tpl.py) -/
theorem and255b (x : BitVec 32) (i : Nat) : (x &&& 255#32).getLsbD i = (x.getLsbD i && decide (i < 8)) := by
  rw [BitVec.getLsbD_and]
  by_cases c : i < 8
  · have : (255#32).getLsbD i = true := by
      have T : ∀ i : Fin 8, (255#32).getLsbD i.val = true := by decide
      exact T ⟨i, c⟩
    rw [this, decide_eq_true c]
  · have : (255#32).getLsbD i = false := by
      by_cases h : i < 32
      · have T : ∀ i : Fin 32, ¬ i.val < 8 → (255#32).getLsbD i.val = false := by decide
        exact T ⟨i, h⟩ c
      · exact BitVec.getLsbD_of_ge _ _ (by omega)
    rw [this, decide_eq_false c]
theorem i2b_bit (x : Int32) {i : Nat} (h : i < 8) : (j_i2b x).toBitVec.getLsbD i = x.toBitVec.getLsbD i := by
  show (BitVec.signExtend 32 (BitVec.signExtend 8 x.toBitVec)).getLsbD i = _
  rw [BitVec.getLsbD_signExtend, BitVec.getLsbD_signExtend]
  simp only [show i < 32 by omega, h, decide_true, if_true, Bool.true_and]
theorem i2b255 (y : Int32) : j_i2b (j_i2b y) &&& 255 = y &&& 255 := by
  apply Int32.toBitVec_inj.mp
  show (j_i2b (j_i2b y)).toBitVec &&& 255#32 = y.toBitVec &&& 255#32
  apply BitVec.eq_of_getLsbD_eq
  intro i hi
  rw [and255b, and255b]
  by_cases c : i < 8
  · rw [i2b_bit _ c, i2b_bit _ c]
  · rw [decide_eq_false c, Bool.and_false, Bool.and_false]
theorem i2b_fits (z : Int32) : fits .byte (.int (j_i2b z)) = true := by
  have a := Int8.le_toInt z.toInt8
  have b := Int8.toInt_lt z.toInt8
  have e : (j_i2b z).toInt = z.toInt8.toInt := Int8.toInt_toInt32 _
  have l1 : (-128 : Int32) ≤ j_i2b z := by
    rw [Int32.le_iff_toInt_le, e]
    have : (-128 : Int32).toInt = -128 := rfl
    omega
  have l2 : j_i2b z ≤ 127 := by
    rw [Int32.le_iff_toInt_le, e]
    have : (127 : Int32).toInt = 127 := rfl
    omega
  show (decide ((-128 : Int32) ≤ j_i2b z) && decide (j_i2b z ≤ 127)) = true
  rw [decide_eq_true l1, decide_eq_true l2]; rfl
def fdv (a b c d e : Int32) (k : Nat) : Int32 := j_ishr (if (4 : Int32) ≤ Int32.ofNat k then (if (8 : Int32) ≤ Int32.ofNat k then (if (12 : Int32) ≤ Int32.ofNat k then (if (16 : Int32) ≤ Int32.ofNat k then e else d) else c) else b) else a) ((24 : Int32) - (8 : Int32) * j_irem (Int32.ofNat k) 4)
section FDs
variable {n : Nat} {M X : XM}
def AD (M : XM) (m c : Nat) (f : Nat → Int32) (X : XM) : Prop := X.2 = M.2 ∧ (∀ i, mI X 446 i = if m ≤ i ∧ i < m + c then j_i2b (j_i2b (f (i - m))) else mI M 446 i) ∧ mI X 445 1 = Int32.ofNat (m + c) ∧ ∀ a i, a ≠ 446 → ¬ (a = 445 ∧ i = 1) → mI X a i = mI M a i
theorem c_add {m c : Nat} {f : Nat → Int32} (s : Sh M) (h : AD M m c f X) (lt : m + c < 8192) {v : Int32} (hv : f c = v) : K_Program_add 445 v X ∧ AD M m (c + 1) f (g_Program_add 445 v X) := by
  obtain ⟨h1, h2, h3, h4⟩ := h
  have sX : Sh X := s.kept (by rw [h1])
  unfold K_Program_add g_Program_add K_Program_add_0 g_Program_add_0
  rw [sX.R445_0, h3, sX.N446, ixN (by omega), add1_32]
  refine ⟨⟨sX.T445, sX.T445, sX.T445, sX.T446, vpN lt (by omega)⟩, h1, fun i => ?_, ?_, fun a i x y => ?_⟩
  · rw [mI_wI]
    by_cases q : i = m + c
    · rw [if_pos ⟨rfl, q⟩, if_pos (show m ≤ i ∧ i < m + (c + 1) by omega), show i - m = c by omega, hv]
    · rw [if_neg (fun z => q z.2), mI_wI, if_neg (by omega), h2 i]
      by_cases q2 : m ≤ i ∧ i < m + c
      · rw [if_pos q2, if_pos (show m ≤ i ∧ i < m + (c + 1) by omega)]
      · rw [if_neg q2, if_neg (show ¬ (m ≤ i ∧ i < m + (c + 1)) by omega)]
  · rw [mI_wI, if_neg (by omega), mI_wI, if_pos ⟨rfl, rfl⟩]; rfl
  · rw [mI_wI, if_neg (fun z => x z.1), mI_wI, if_neg y]; exact h4 a i x y
theorem ty_step {m c : Nat} {f : Nat → Int32} (s : Sh M) (h : AD M m c f X) (lt : m + c < 8192) {v sh sh' : Int32} (hv : f c = j_ishr v sh) (h0 : ¬ sh < 0) (e : sh + (-8) = sh') (N : Nat) : ∃ Y, AD M m (c + 1) f Y ∧ (K_PC_type_3 N 100 v sh' Y → K_PC_type_3 (N + 1) 100 v sh X) ∧ g_PC_type_3 (N + 1) 100 v sh X = g_PC_type_3 N 100 v sh' Y := by
  obtain ⟨k1, a1⟩ := c_add s h lt hv
  have sX : Sh X := s.kept (by rw [h.1])
  refine ⟨_, a1, fun z => ?_, ?_⟩
  · unfold K_PC_type_3
    rw [sX.R100_1]
    unfold K_PC_type_17
    rw [e]
    exact fun _ => ⟨sX.T100, sX.T445, k1, z⟩
  · conv => lhs; unfold g_PC_type_3
    rw [if_neg h0, sX.R100_1]
    unfold g_PC_type_17
    rw [e]
theorem c_type {m c : Nat} {f : Nat → Int32} (s : Sh M) (h : AD M m c f X) (lt : m + c + 4 ≤ 8192) {v : Int32} (v0 : f c = j_ishr v 24) (v1 : f (c + 1) = j_ishr v 16) (v2 : f (c + 2) = j_ishr v 8) (v3 : f (c + 3) = j_ishr v 0) : K_PC_type 100 v X ∧ AD M m (c + 4) f (g_PC_type 100 v X) := by
  have xf := xF_eq
  obtain ⟨N, hN⟩ : ∃ N, xF = N + 1 + 1 + 1 + 1 + 1 := ⟨xF - 5, by omega⟩
  obtain ⟨Y1, a1, k1, g1⟩ := ty_step (sh := 24) (sh' := 16) s h (by omega) v0 (by decide) (by decide) (N + 1 + 1 + 1 + 1)
  obtain ⟨Y2, a2, k2, g2⟩ := ty_step (sh := 16) (sh' := 8) s a1 (by omega) v1 (by decide) (by decide) (N + 1 + 1 + 1)
  obtain ⟨Y3, a3, k3, g3⟩ := ty_step (sh := 8) (sh' := 0) s a2 (by omega) v2 (by decide) (by decide) (N + 1 + 1)
  obtain ⟨Y4, a4, k4, g4⟩ := ty_step (sh := 0) (sh' := -8) s a3 (by omega) v3 (by decide) (by decide) (N + 1)
  have k5 : K_PC_type_3 (N + 1) 100 v (-8) Y4 := by
    unfold K_PC_type_3
    exact fun z => absurd (show (-8 : Int32) < 0 by decide) z
  have g5 : g_PC_type_3 (N + 1) 100 v (-8) Y4 = Y4 := by
    unfold g_PC_type_3
    exact if_pos (show (-8 : Int32) < 0 by decide)
  unfold K_PC_type g_PC_type K_PC_type_0 g_PC_type_0
  rw [hN, g1, g2, g3, g4, g5]
  exact ⟨k1 (k2 (k3 (k4 k5))), a4⟩
def TD (M : XM) (m c : Nat) (f : Nat → Int32) (X : XM) : Prop := X.2 = M.2 ∧ (∀ i, mI X 449 i = if m ≤ i ∧ i < m + c then f (i - m) &&& 255 else mI M 449 i) ∧ mI X 448 2 = Int32.ofNat (m + c) ∧ ∀ a i, a ≠ 449 → ¬ (a = 448 ∧ i = 2) → mI X a i = mI M a i
theorem t_fd {m : Nat} {a b c d e : Int32} (s : Sh M) (lt : m + 20 ≤ 8192) : ∀ (r k f : Nat) (X : XM), k + r = 20 → r < f → TD M m k (fdv a b c d e) X → K_Model_feed_34 f 448 a b c d e (Int32.ofNat k) X ∧ TD M m 20 (fdv a b c d e) (g_Model_feed_34 f 448 a b c d e (Int32.ofNat k) X).2 ∧ (g_Model_feed_34 f 448 a b c d e (Int32.ofNat k) X).1 = Int32.ofNat (m + 20) := by
  intro r
  induction r with
  | zero =>
    intro k f X kr rf h
    obtain rfl : k = 20 := by omega
    obtain ⟨f, rfl⟩ : ∃ f', f = f' + 1 := ⟨f - 1, by omega⟩
    have sX : Sh X := s.kept (by rw [h.1])
    conv => unfold K_Model_feed_34 g_Model_feed_34
    have le : (20 : Int32) ≤ Int32.ofNat 20 := by decide
    rw [if_pos le]
    exact ⟨⟨fun _ => sX.T448, fun z => absurd le z⟩, h, h.2.2.1⟩
  | succ r ih =>
    intro k f X kr rf h
    obtain ⟨f, rfl⟩ : ∃ f', f = f' + 1 := ⟨f - 1, by omega⟩
    have sX : Sh X := s.kept (by rw [h.1])
    have le : ¬ (20 : Int32) ≤ Int32.ofNat k := fun z => by have := (le_ofNat (a := 20) (by decide) (by omega)).mp z; omega
    have st : ∀ v : Int32, fdv a b c d e k = j_ishr v ((24 : Int32) - (8 : Int32) * j_irem (Int32.ofNat k) 4) → K_Model_feed_87 (g_Model_feed_34 f) (K_Model_feed_34 f) 448 a b c d e (Int32.ofNat k) v X ∧ TD M m 20 (fdv a b c d e) (g_Model_feed_87 (g_Model_feed_34 f) 448 a b c d e (Int32.ofNat k) v X).2 ∧ (g_Model_feed_87 (g_Model_feed_34 f) 448 a b c d e (Int32.ofNat k) v X).1 = Int32.ofNat (m + 20) := by
      intro v hv
      obtain ⟨h1, h2, h3, h4⟩ := h
      unfold K_Model_feed_87 g_Model_feed_87 K_Model_feed_115 g_Model_feed_115
      rw [sX.R448_1, h3, sX.N449, ixN (by omega), ← hv, add1_32]
      have e2 : mI (wI X 449 (m + k) (fdv a b c d e k &&& 255)) 448 2 = Int32.ofNat (m + k) := by rw [mI_wI, if_neg (by omega)]; exact h3
      rw [e2, add1_32]
      obtain ⟨i1, i2, i3⟩ := ih (k + 1) f (wI (wI X 449 (m + k) (fdv a b c d e k &&& 255)) 448 2 (Int32.ofNat (m + k + 1))) (by omega) (by omega) ⟨h1, fun i => by
        rw [mI_wI, if_neg (by omega), mI_wI]
        by_cases q : i = m + k
        · rw [if_pos ⟨rfl, q⟩, if_pos (show m ≤ i ∧ i < m + (k + 1) by omega), show i - m = k by omega]
        · rw [if_neg (fun z => q z.2), h2 i]
          by_cases q2 : m ≤ i ∧ i < m + k
          · rw [if_pos q2, if_pos (show m ≤ i ∧ i < m + (k + 1) by omega)]
          · rw [if_neg q2, if_neg (show ¬ (m ≤ i ∧ i < m + (k + 1)) by omega)], by rw [mI_wI, if_pos ⟨rfl, rfl⟩]; rfl, fun a' i x y => by
        rw [mI_wI, if_neg y, mI_wI, if_neg (fun z => x z.1)]; exact h4 a' i x y⟩
      exact ⟨⟨sX.T448, sX.T448, sX.T449, vpN (by omega) (by omega), sX.T448, sX.T448, i1⟩, i2, i3⟩
    conv => unfold K_Model_feed_34 g_Model_feed_34
    rw [if_neg le]
    unfold fdv at st
    by_cases c4 : (4 : Int32) ≤ Int32.ofNat k
    · rw [if_pos c4]
      by_cases c8 : (8 : Int32) ≤ Int32.ofNat k
      · rw [if_pos c8]
        by_cases c12 : (12 : Int32) ≤ Int32.ofNat k
        · rw [if_pos c12]
          by_cases c16 : (16 : Int32) ≤ Int32.ofNat k
          · rw [if_pos c16]
            have y := st e (by rw [if_pos c4, if_pos c8, if_pos c12, if_pos c16])
            exact ⟨⟨fun z => absurd z le, fun _ => ⟨fun _ => ⟨fun _ => ⟨fun _ => ⟨fun _ => y.1, fun z => absurd c16 z⟩, fun z => absurd c12 z⟩, fun z => absurd c8 z⟩, fun z => absurd c4 z⟩⟩, y.2⟩
          · rw [if_neg c16]
            have y := st d (by rw [if_pos c4, if_pos c8, if_pos c12, if_neg c16])
            exact ⟨⟨fun z => absurd z le, fun _ => ⟨fun _ => ⟨fun _ => ⟨fun _ => ⟨fun z => absurd z c16, fun _ => y.1⟩, fun z => absurd c12 z⟩, fun z => absurd c8 z⟩, fun z => absurd c4 z⟩⟩, y.2⟩
        · rw [if_neg c12]
          have y := st c (by rw [if_pos c4, if_pos c8, if_neg c12])
          exact ⟨⟨fun z => absurd z le, fun _ => ⟨fun _ => ⟨fun _ => ⟨fun z => absurd z c12, fun _ => y.1⟩, fun z => absurd c8 z⟩, fun z => absurd c4 z⟩⟩, y.2⟩
      · rw [if_neg c8]
        have y := st b (by rw [if_pos c4, if_neg c8])
        exact ⟨⟨fun z => absurd z le, fun _ => ⟨fun _ => ⟨fun z => absurd z c8, fun _ => y.1⟩, fun z => absurd c4 z⟩⟩, y.2⟩
    · rw [if_neg c4]
      have y := st a (by rw [if_neg c4])
      exact ⟨⟨fun z => absurd z le, fun _ => ⟨fun z => absurd z c4, fun _ => y.1⟩⟩, y.2⟩
theorem q_feed (h : LI n M) (hn : n + 20 ≤ 8192) (a b c d e : Int32) : K_Law_feed 100 a b c d e 468 M ∧ K_Model_feed 448 a b c d e (g_Law_feed 100 a b c d e 468 M).2 ∧ AN (n + 20) M (g_Law_feed 100 a b c d e 468 M).1 ((g_Model_feed 448 a b c d e (g_Law_feed 100 a b c d e 468 M).2).1.toInt64) (g_Model_feed 448 a b c d e (g_Law_feed 100 a b c d e 468 M).2).2 := by
  have s := h.sh
  have n8 := h.2.2.2.2.2.2.2.1
  have n9 := h.2.2.2.2.2.2.2.2.1
  have e20 : Int32.ofNat n + 20 = Int32.ofNat (n + 20) := by rw [Int32.ofNat_add]; rfl
  have le : Int32.ofNat (n + 20) ≤ 8192 := (le_ofNat (b := 8192) (by omega) (by decide)).mpr hn
  have A0 : AD M n 0 (fdv a b c d e) M := ⟨rfl, fun i => by rw [if_neg (by omega)], n8, fun _ _ _ _ => rfl⟩
  obtain ⟨k1, A1⟩ := c_type s A0 (by omega) (v := a) rfl rfl rfl rfl
  obtain ⟨k2, A2⟩ := c_type s A1 (by omega) (v := b) rfl rfl rfl rfl
  obtain ⟨k3, A3⟩ := c_type s A2 (by omega) (v := c) rfl rfl rfl rfl
  obtain ⟨k4, A4⟩ := c_type s A3 (by omega) (v := d) rfl rfl rfl rfl
  obtain ⟨k5, A5⟩ := c_type s A4 (by omega) (v := e) rfl rfl rfl rfl
  have sh := fun {c' : Nat} {X' : XM} (y : AD M n c' (fdv a b c d e) X') => (s.kept (by rw [y.1]) : Sh X')
  unfold K_Law_feed g_Law_feed K_LawN_feed g_LawN_feed K_LawN_feed_0 g_LawN_feed_0 K_LawN_feed_14 g_LawN_feed_14 K_PC_feed g_PC_feed K_PC_feed_0 g_PC_feed_0 K_PC_feed_29 g_PC_feed_29 K_PC_feed_34 g_PC_feed_34 K_PC_feed_39 g_PC_feed_39 K_PC_feed_45 g_PC_feed_45 K_PC_feed_51 g_PC_feed_51
  rw [s.R100_1, n8, e20, if_pos le, show ix (0 : Int32) = 0 from rfl]
  have s1 := sh A1
  have s2 := sh A2
  have s3 := sh A3
  have s4 := sh A4
  have s5 := sh A5
  generalize g_PC_type 100 e (g_PC_type 100 d (g_PC_type 100 c (g_PC_type 100 b (g_PC_type 100 a M)))) = X5 at A5 s5 ⊢
  rw [s5.R100_1]
  obtain ⟨a1, a2, a3, a4⟩ := A5
  have v1 : vp_in (0 : Int32) (mN X5 468) := by rw [s5.N468]; exact vpN (a := 0) (by decide) (by decide)
  refine ⟨⟨s.T100, ⟨s.T100, s.T445, fun _ => ⟨s.T100, k1, s1.T100, k2, s2.T100, k3, s3.T100, k4, s4.T100, k5, s5.T100, s5.T445⟩, fun z => absurd le z⟩, s5.T468, v1⟩, ?_⟩
  show K_Model_feed 448 a b c d e (wL X5 468 0 (mI X5 445 1).toInt64) ∧ AN (n + 20) M 0 ((g_Model_feed 448 a b c d e (wL X5 468 0 (mI X5 445 1).toInt64)).1.toInt64) (g_Model_feed 448 a b c d e (wL X5 468 0 (mI X5 445 1).toInt64)).2
  rw [a3]
  -- the twin
  have sZ : Sh (wL X5 468 0 (Int32.ofNat (n + (0 + 4 + 4 + 4 + 4 + 4))).toInt64) := s5.kept rfl
  have z2 : mI (wL X5 468 0 (Int32.ofNat (n + (0 + 4 + 4 + 4 + 4 + 4))).toInt64) 448 2 = Int32.ofNat n := by
    show mI X5 448 2 = _
    rw [a4 448 2 (by decide) (by omega)]; exact n9
  unfold K_Model_feed g_Model_feed K_Model_feed_0 g_Model_feed_0 K_Model_feed_19 g_Model_feed_19 K_Model_feed_22 g_Model_feed_22
  rw [z2, e20, if_pos le]
  have sW : Sh (wI (wL X5 468 0 (Int32.ofNat (n + (0 + 4 + 4 + 4 + 4 + 4))).toInt64) 448 0 0) := s5.kept rfl
  have w0 : mI (wI (wL X5 468 0 (Int32.ofNat (n + (0 + 4 + 4 + 4 + 4 + 4))).toInt64) 448 0 0) 448 0 = 0 := by rw [mI_wI, if_pos ⟨rfl, rfl⟩]
  have wq : ∀ x i, ¬ (x = 448 ∧ i = 0) → mI (wI (wL X5 468 0 (Int32.ofNat (n + (0 + 4 + 4 + 4 + 4 + 4))).toInt64) 448 0 0) x i = mI X5 x i := fun x i z => by rw [mI_wI, if_neg z]; rfl
  have wl : ∀ x i, x ≠ 468 → mL (wI (wL X5 468 0 (Int32.ofNat (n + (0 + 4 + 4 + 4 + 4 + 4))).toInt64) 448 0 0) x i = mL X5 x i := fun x i z => by
    show mL (wL X5 468 0 _) x i = _
    rw [mL_wL, if_neg (fun q => z q.1)]
  have w8 : mL (wI (wL X5 468 0 (Int32.ofNat (n + (0 + 4 + 4 + 4 + 4 + 4))).toInt64) 448 0 0) 468 0 = (Int32.ofNat (n + 20)).toInt64 := by
    show mL (wL X5 468 0 _) 468 0 = _
    rw [mL_wL, if_pos ⟨rfl, rfl⟩]
  have w2 : (wI (wL X5 468 0 (Int32.ofNat (n + (0 + 4 + 4 + 4 + 4 + 4))).toInt64) 448 0 0).2.2 = X5.2.2 := rfl
  have tZ : ∀ v, mT (wL X5 468 0 (Int32.ofNat (n + (0 + 4 + 4 + 4 + 4 + 4))).toInt64) 448 = v ↔ mT X5 448 = v := fun v => Iff.rfl
  rw [w0, if_pos (show (0 : Int32) ≤ 0 by decide)]
  have kz : mT (wL X5 468 0 (Int32.ofNat (n + (0 + 4 + 4 + 4 + 4 + 4))).toInt64) 448 = 26 := s5.T448
  generalize wI (wL X5 468 0 (Int32.ofNat (n + (0 + 4 + 4 + 4 + 4 + 4))).toInt64) 448 0 0 = W at sW w0 wq wl w8 w2 ⊢
  have T0 : TD W n 0 (fdv a b c d e) W := ⟨rfl, fun i => by rw [if_neg (by omega)], by rw [wq 448 2 (by omega), a4 448 2 (by decide) (by omega)]; exact n9, fun _ _ _ _ => rfl⟩
  have xf := xF_eq
  obtain ⟨i1, i2, i3⟩ := t_fd sW hn 20 0 xF W (by decide) (by omega) T0
  rw [show Int32.ofNat 0 = 0 from rfl] at i1 i2 i3
  refine ⟨⟨kz, fun _ => ⟨kz, sW.T448, fun _ => i1⟩, fun z => absurd le z⟩, ?_⟩
  rw [i3]
  generalize (g_Model_feed_34 xF 448 a b c d e 0 W).2 = Y at i2 ⊢
  obtain ⟨y1, y2, y3, y4⟩ := i2
  have st : Y.2.2 = M.2.2 := by rw [y1, w2, a1]
  have q : ∀ x i, ¬ (x = 448 ∧ (i = 0 ∨ i = 2)) → ¬ (x = 445 ∧ i = 1) → x ≠ 446 → x ≠ 449 → mI Y x i = mI M x i := fun x i p1 p2 p3 p4 => by
    rw [y4 x i p4 (by omega), wq x i (by omega)]; exact a4 x i p3 p2
  have yl : ∀ x i, mL Y x i = mL W x i := fun x i => by show Y.2.1 x i = W.2.1 x i; rw [y1]
  have ll : ∀ x i, x ≠ 468 → mL Y x i = mL M x i := fun x i hx => by
    rw [yl, wl x i hx]
    show X5.2.1 x i = M.2.1 x i
    rw [a1]
  have mt : mpT Y = mpT M := by
    unfold mpT
    simp only [fun i => q 451 i (by omega) (by omega) (by decide) (by decide), fun i => q 452 i (by omega) (by omega) (by decide) (by decide), fun i => q 453 i (by omega) (by omega) (by decide) (by decide)]
  have mc : mpC Y = mpC M := by
    unfold mpC
    simp only [fun i => q 107 i (by omega) (by omega) (by decide) (by decide), fun i => q 108 i (by omega) (by omega) (by decide) (by decide), fun i => q 109 i (by omega) (by omega) (by decide) (by decide)]
  have y46 : ∀ i, mI Y 446 i = if n ≤ i ∧ i < n + 20 then j_i2b (j_i2b (fdv a b c d e (i - n))) else mI M 446 i := fun i => by
    rw [y4 446 i (by decide) (by omega), wq 446 i (by omega)]; exact a2 i
  have y49 : ∀ i, mI Y 449 i = if n ≤ i ∧ i < n + 20 then fdv a b c d e (i - n) &&& 255 else mI M 449 i := fun i => by
    rw [y2 i, wq 449 i (by omega), a4 449 i (by decide) (by omega)]
  obtain ⟨g1, g2, g3⟩ := LI.gen (X := Y) (n' := n + 20) h st ll (fun x i p1 p2 p3 p4 _ _ => q x i p1 p2 p3 p4) (by rw [mc, mt]; exact h.2.2.2.2.1) (by rw [mt]; exact h.2.2.2.2.2.1) hn (by rw [y4 445 1 (by decide) (by omega), wq 445 1 (by omega)]; exact a3) y3 (fun i hi => by
      unfold bC
      rw [y46, y49]
      by_cases p : n ≤ i ∧ i < n + 20
      · rw [if_pos p, if_pos p]; exact i2b255 _
      · rw [if_neg p, if_neg p]; exact h.2.2.2.2.2.2.2.2.2.1 i hi) (fun i => by
      rw [y46]
      by_cases p : n ≤ i ∧ i < n + 20
      · rw [if_pos p]; exact i2b_fits _
      · rw [if_neg p]; exact h.2.2.2.2.2.2.2.2.2.2.1 i)
  refine ⟨by rw [y4 448 0 (by decide) (by omega)]; exact w0, fun _ => by rw [yl]; exact w8, g1, by omega, by omega⟩
end FDs
