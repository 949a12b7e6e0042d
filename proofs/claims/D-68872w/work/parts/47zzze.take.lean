/-! part 47zzze: places: what an instruction is, out of bytes (gen/tpl.py) -/
def imB (B : Nat → Int32) (a : Nat) : Int32 := ((B a ||| j_ishl (B (a + 1)) 8) ||| j_ishl (B (a + 2)) 16) ||| j_ishl (B (a + 3)) 24
/-- the instruction of a place -/
def IBr (B : Nat → Int32) (p : Nat) : In := (B (8 * p), ix (B (8 * p + 1) &&& 15), ix (j_ishr (B (8 * p + 1)) 4), j_i2s (B (8 * p + 2) ||| j_ishl (B (8 * p + 3)) 8), imB B (8 * p + 4), imB B (8 * (p + 1) + 4))
def tr8 (B : Nat → Int32) : Nat → Int32 := fun i => if i < 8192 then B i else 0
def IB (B : Nat → Int32) (p : Nat) : In := IBr (tr8 B) p
theorem tr8_at {B : Nat → Int32} {i : Nat} (h : i < 8192) : tr8 B i = B i := if_pos h
theorem imB_tr {B : Nat → Int32} {a : Nat} (h : a + 4 ≤ 8192) : imB (tr8 B) a = imB B a := by
  unfold imB
  rw [tr8_at (by omega), tr8_at (by omega), tr8_at (by omega), tr8_at (by omega)]
theorem IB_at {B : Nat → Int32} {p : Nat} (hp : p < 1024) : IB B p = (B (8 * p), ix (B (8 * p + 1) &&& 15), ix (j_ishr (B (8 * p + 1)) 4), j_i2s (B (8 * p + 2) ||| j_ishl (B (8 * p + 3)) 8), imB B (8 * p + 4), imB (tr8 B) (8 * (p + 1) + 4)) := by
  unfold IB IBr
  rw [tr8_at (by omega), tr8_at (by omega), tr8_at (by omega), tr8_at (by omega), imB_tr (a := 8 * p + 4) (by omega)]
theorem IB_congr {B B' : Nat → Int32} (h : ∀ i, i < 8192 → B i = B' i) (p : Nat) : IB B p = IB B' p := by
  have : tr8 B = tr8 B' := by
    funext i
    unfold tr8
    by_cases q : i < 8192
    · rw [if_pos q, if_pos q, h i q]
    · rw [if_neg q, if_neg q]
  unfold IB
  rw [this]
def BYT (B : Nat → Int32) : Prop := ∀ i, i < 8192 → ∃ m, m < 256 ∧ B i = Int32.ofNat m
theorem by_d : ∀ m : Fin 256, Int32.ofNat m.val &&& 15 = Int32.ofNat (ix (Int32.ofNat m.val &&& 15)) ∧ j_ishr (Int32.ofNat m.val) 4 = Int32.ofNat (ix (j_ishr (Int32.ofNat m.val) 4)) := by decide +kernel
theorem bv_shl8 (x : Int32) : (j_ishl x 8).toBitVec = x.toBitVec <<< 8 := rfl
theorem bv_shl16 (x : Int32) : (j_ishl x 16).toBitVec = x.toBitVec <<< 16 := rfl
theorem bv_shl24 (x : Int32) : (j_ishl x 24).toBitVec = x.toBitVec <<< 24 := rfl
theorem nst2 (b0 b1 : Int32) : j_ishl (j_ishl 0 8 ||| b1) 8 ||| b0 = b0 ||| j_ishl b1 8 := by
  apply Int32.toBitVec_inj.mp
  have z : (j_ishl 0 8) = 0 := by decide
  rw [z, Int32.toBitVec_or, Int32.toBitVec_or, bv_shl8, bv_shl8, Int32.toBitVec_or]
  have z2 : (0 : Int32).toBitVec = 0#32 := rfl
  rw [z2, BitVec.zero_or, BitVec.or_comm]
theorem nst4 (b0 b1 b2 b3 : Int32) : j_ishl (j_ishl (j_ishl (j_ishl 0 8 ||| b3) 8 ||| b2) 8 ||| b1) 8 ||| b0 = ((b0 ||| j_ishl b1 8) ||| j_ishl b2 16) ||| j_ishl b3 24 := by
  apply Int32.toBitVec_inj.mp
  have z : (j_ishl 0 8) = 0 := by decide
  have z2 : (0 : Int32).toBitVec = 0#32 := rfl
  simp only [z, Int32.toBitVec_or, bv_shl8, bv_shl16, bv_shl24, z2, BitVec.zero_or, BitVec.shiftLeft_or_distrib, ← BitVec.shiftLeft_add, Nat.reduceAdd]
  generalize b3.toBitVec <<< 24 = x3
  generalize b2.toBitVec <<< 16 = x2
  generalize b1.toBitVec <<< 8 = x1
  generalize b0.toBitVec = x0
  rw [BitVec.or_comm _ x0, BitVec.or_comm _ x1, BitVec.or_comm x3 x2, BitVec.or_assoc (x0 ||| x1) x2 x3, BitVec.or_assoc x0 x1 (x2 ||| x3)]
theorem num_step (f x0 : Nat) (x1 x3 x4 : Int32) (M : XM) : g_Model_number_7 (f + 1) x0 x1 x3 x4 M = if x4 < 0 then x3 else g_Model_number_7 f x0 x1 (j_ishl x3 8 ||| mI M x0 (ix (x1 + x4))) (x4 + -1) M := rfl
theorem knum_step (f x0 : Nat) (x1 x3 x4 : Int32) (M : XM) : K_Model_number_7 (f + 1) x0 x1 x3 x4 M = (¬ x4 < 0 → (mT M x0 = 103 ∧ vp_in (x1 + x4) (mN M x0) ∧ K_Model_number_7 f x0 x1 (j_ishl x3 8 ||| mI M x0 (ix (x1 + x4))) (x4 + -1) M)) := rfl
theorem xF_6 : ∃ f, xF = f + 6 := ⟨18446744073709551610, by rw [xF_eq]⟩
section NU
variable {M : XM} {r a : Nat}
theorem m_num2 (hr : mT M r = 103) (hl : mN M r = 8192) (ha : a + 2 ≤ 8192) : K_Model_number r (Int32.ofNat a) 2 M ∧ g_Model_number r (Int32.ofNat a) 2 M = (mI M r a ||| j_ishl (mI M r (a + 1)) 8) := by
  obtain ⟨f, hf⟩ := xF_6
  have e1 : Int32.ofNat a + (2 - 1) = Int32.ofNat (a + 1) := by rw [Int32.ofNat_add]; rfl
  have e0 : Int32.ofNat a + (2 - 1 + -1) = Int32.ofNat a := by rw [show (2 - 1 + -1 : Int32) = 0 from rfl, Int32.add_zero]
  unfold K_Model_number g_Model_number K_Model_number_0 g_Model_number_0
  rw [hf]
  constructor
  · rw [knum_step, e1, hl]
    intro _
    refine ⟨hr, vpN (by omega) (by omega), ?_⟩
    rw [knum_step, e0, hl]
    intro _
    refine ⟨hr, vpN (by omega) (by omega), ?_⟩
    rw [knum_step]
    exact fun z => absurd (by decide) z
  · rw [num_step, if_neg (by decide), e1, num_step, if_neg (by decide), e0, num_step, if_pos (by decide), ixN (by omega), ixN (by omega), nst2]
theorem m_num4 (hr : mT M r = 103) (hl : mN M r = 8192) (ha : a + 4 ≤ 8192) : K_Model_number r (Int32.ofNat a) 4 M ∧ g_Model_number r (Int32.ofNat a) 4 M = imB (fun i => mI M r i) a := by
  obtain ⟨f, hf⟩ := xF_6
  have e3 : Int32.ofNat a + (4 - 1) = Int32.ofNat (a + 3) := by rw [Int32.ofNat_add]; rfl
  have e2 : Int32.ofNat a + (4 - 1 + -1) = Int32.ofNat (a + 2) := by rw [Int32.ofNat_add]; rfl
  have e1 : Int32.ofNat a + (4 - 1 + -1 + -1) = Int32.ofNat (a + 1) := by rw [Int32.ofNat_add]; rfl
  have e0 : Int32.ofNat a + (4 - 1 + -1 + -1 + -1) = Int32.ofNat a := by rw [show (4 - 1 + -1 + -1 + -1 : Int32) = 0 from rfl, Int32.add_zero]
  unfold K_Model_number g_Model_number K_Model_number_0 g_Model_number_0 imB
  rw [hf]
  constructor
  · rw [knum_step, e3, hl]
    intro _
    refine ⟨hr, vpN (by omega) (by omega), ?_⟩
    rw [knum_step, e2, hl]
    intro _
    refine ⟨hr, vpN (by omega) (by omega), ?_⟩
    rw [knum_step, e1, hl]
    intro _
    refine ⟨hr, vpN (by omega) (by omega), ?_⟩
    rw [knum_step, e0, hl]
    intro _
    refine ⟨hr, vpN (by omega) (by omega), ?_⟩
    rw [knum_step]
    exact fun z => absurd (by decide) z
  · rw [num_step, if_neg (by decide), e3, num_step, if_neg (by decide), e2, num_step, if_neg (by decide), e1, num_step, if_neg (by decide), e0, num_step, if_pos (by decide), ixN (by omega), ixN (by omega), ixN (by omega), ixN (by omega), nst4]
end NU
/-- what take changes -/
def FT (M X : XM) : Prop := X.2 = M.2 ∧ ∀ a i, ¬ (a = 448 ∧ 19 ≤ i ∧ i ≤ 23) → mI X a i = mI M a i
theorem FT.trans {M M1 M2 : XM} (h : FT M M1) (h' : FT M1 M2) : FT M M2 := ⟨h'.1.trans h.1, fun a i z => (h'.2 a i z).trans (h.2 a i z)⟩
theorem FT.wi {M : XM} {i : Nat} {v : Int32} (h : 19 ≤ i ∧ i ≤ 23) : FT M (wI M 448 i v) := ⟨rfl, fun a j z => by rw [mI_wI, if_neg (fun q => z ⟨q.1, by omega, by omega⟩)]⟩
theorem mul8N (p k : Nat) : (8 : Int32) * Int32.ofNat p + Int32.ofNat k = Int32.ofNat (8 * p + k) := by rw [Int32.ofNat_add, Int32.ofNat_mul]; rfl
theorem mul8 (p : Nat) : (8 : Int32) * Int32.ofNat p = Int32.ofNat (8 * p) := by rw [Int32.ofNat_mul]; rfl
theorem m_take {M : XM} (h4 : mT M 448 = 26) {r : Nat} (hr : mT M r = 103) (hl : mN M r = 8192) (r4 : r ≠ 448) (hb : BYT (fun i => mI M r i)) {p : Nat} (hp : p < 1024) : K_Model_take 448 r (Int32.ofNat p) M ∧ FT M (g_Model_take 448 r (Int32.ofNat p) M) ∧ InT (g_Model_take 448 r (Int32.ofNat p) M) (IB (fun i => mI M r i) p) := by
  have e1 : (8 : Int32) * Int32.ofNat p + 1 = Int32.ofNat (8 * p + 1) := mul8N p 1
  have e2 : (8 : Int32) * Int32.ofNat p + 2 = Int32.ofNat (8 * p + 2) := mul8N p 2
  have e4 : (8 : Int32) * Int32.ofNat p + 4 = Int32.ofNat (8 * p + 4) := mul8N p 4
  have keep : ∀ (N : XM) i v b j, b = r → mI (wI N 448 i v) b j = mI N b j := fun N i v b j hb => by rw [mI_wI, if_neg (fun z => r4 (by omega))]
  obtain ⟨m, hm, eb⟩ := hb (8 * p + 1) (by omega)
  obtain ⟨q1, q2⟩ := by_d ⟨m, hm⟩
  have eb' : mI M r (8 * p + 1) = Int32.ofNat m := eb
  unfold K_Model_take g_Model_take K_Model_take_0 g_Model_take_0 K_Model_take_10 g_Model_take_10 K_Model_take_25 g_Model_take_25 K_Model_take_39 g_Model_take_39 K_Model_take_55 g_Model_take_55
  rw [e1, e2, e4, mul8, ixN (show 8 * p < 2147483648 by omega), ixN (show 8 * p + 1 < 2147483648 by omega)]
  rw [keep _ _ _ r _ rfl, keep _ _ _ r _ rfl, keep _ _ _ r _ rfl]
  have n2 : ∀ N : XM, N.2 = M.2 → (∀ j, mI N r j = mI M r j) → K_Model_number r (Int32.ofNat (8 * p + 2)) 2 N ∧ g_Model_number r (Int32.ofNat (8 * p + 2)) 2 N = (mI M r (8 * p + 2) ||| j_ishl (mI M r (8 * p + 3)) 8) := fun N eN eI => by
    have t : mT N r = 103 := by rw [← hr]; show N.2.2.2.1 r = M.2.2.2.1 r; rw [eN]
    have l : mN N r = 8192 := by rw [← hl]; show N.2.2.2.2.1 r = M.2.2.2.2.1 r; rw [eN]
    obtain ⟨x, y⟩ := m_num2 t l (a := 8 * p + 2) (by omega)
    exact ⟨x, by rw [y, eI, eI]⟩
  have n4 : ∀ N : XM, N.2 = M.2 → (∀ j, mI N r j = mI M r j) → K_Model_number r (Int32.ofNat (8 * p + 4)) 4 N ∧ g_Model_number r (Int32.ofNat (8 * p + 4)) 4 N = imB (fun i => mI M r i) (8 * p + 4) := fun N eN eI => by
    have t : mT N r = 103 := by rw [← hr]; show N.2.2.2.1 r = M.2.2.2.1 r; rw [eN]
    have l : mN N r = 8192 := by rw [← hl]; show N.2.2.2.2.1 r = M.2.2.2.2.1 r; rw [eN]
    obtain ⟨x, y⟩ := m_num4 t l (a := 8 * p + 4) (by omega)
    refine ⟨x, ?_⟩
    rw [y]
    unfold imB
    simp only [eI]
  obtain ⟨a1, a2⟩ := n2 (wI (wI (wI M 448 19 (mI M r (8 * p))) 448 20 (mI M r (8 * p + 1) &&& 15)) 448 21 (j_ishr (mI M r (8 * p + 1)) 4)) rfl (fun j => by rw [keep _ _ _ r _ rfl, keep _ _ _ r _ rfl, keep _ _ _ r _ rfl])
  rw [a2]
  obtain ⟨b1, b2⟩ := n4 (wI (wI (wI (wI M 448 19 (mI M r (8 * p))) 448 20 (mI M r (8 * p + 1) &&& 15)) 448 21 (j_ishr (mI M r (8 * p + 1)) 4)) 448 22 (j_i2s (mI M r (8 * p + 2) ||| j_ishl (mI M r (8 * p + 3)) 8))) rfl (fun j => by rw [keep _ _ _ r _ rfl, keep _ _ _ r _ rfl, keep _ _ _ r _ rfl, keep _ _ _ r _ rfl])
  rw [b2]
  have v : ∀ k, k < 8 → vp_in (Int32.ofNat (8 * p + k)) (mN M r) := fun k hk => by rw [hl]; exact vpN (by omega) (by omega)
  refine ⟨⟨hr, v 0 (by decide), h4, hr, v 1 (by decide), h4, hr, v 1 (by decide), h4, a1, h4, b1, h4⟩, ((((FT.wi (by decide)).trans (FT.wi (by decide))).trans (FT.wi (by decide))).trans (FT.wi (by decide))).trans (FT.wi (by decide)), ?_⟩
  rw [IB_at hp]
  unfold InT
  simp only [mI_wI]
  refine ⟨rfl, ?_, ?_, rfl, rfl⟩
  · show mI M r (8 * p + 1) &&& 15 = Int32.ofNat (ix (mI M r (8 * p + 1) &&& 15))
    rw [eb']; exact q1
  · show j_ishr (mI M r (8 * p + 1)) 4 = Int32.ofNat (ix (j_ishr (mI M r (8 * p + 1)) 4))
    rw [eb']; exact q2
/-- bytes of the component's program -/
def bC (M : XM) (a : Nat) : Nat → Int32 := fun i => mI M a i &&& 255
theorem c_get {M : XM} (h : Sh M) {i : Nat} (hi : i < 8192) : g_Program_get 102 (Int32.ofNat i) M = bC M 103 i ∧ K_Program_get 102 (Int32.ofNat i) M := by
  unfold g_Program_get K_Program_get g_Program_get_0 K_Program_get_0
  rw [h.R102_0, ixN (by omega), h.N103]
  exact ⟨rfl, h.T102, h.T103, vpN (by omega) (by omega)⟩
theorem c_imm {M : XM} (h : Sh M) {p : Nat} (hp : p < 1024) : g_Program_immediate 102 (Int32.ofNat p) M = imB (bC M 103) (8 * p + 4) ∧ K_Program_immediate 102 (Int32.ofNat p) M := by
  have e4 : (8 : Int32) * Int32.ofNat p + 4 = Int32.ofNat (8 * p + 4) := mul8N p 4
  have e5 : Int32.ofNat (8 * p + 4) + 1 = Int32.ofNat (8 * p + 4 + 1) := add1_32 _
  have e6 : Int32.ofNat (8 * p + 4) + 2 = Int32.ofNat (8 * p + 4 + 2) := by rw [Int32.ofNat_add (8 * p + 4)]; rfl
  have e7 : Int32.ofNat (8 * p + 4) + 3 = Int32.ofNat (8 * p + 4 + 3) := by rw [Int32.ofNat_add (8 * p + 4)]; rfl
  unfold g_Program_immediate K_Program_immediate g_Program_immediate_0 K_Program_immediate_0 g_Program_immediate_7 K_Program_immediate_7 imB
  rw [e4, e5, e6, e7, (c_get h (i := 8 * p + 4) (by omega)).1, (c_get h (i := 8 * p + 4 + 1) (by omega)).1, (c_get h (i := 8 * p + 4 + 2) (by omega)).1, (c_get h (i := 8 * p + 4 + 3) (by omega)).1]
  exact ⟨rfl, h.T102, (c_get h (by omega)).2, h.T102, (c_get h (by omega)).2, h.T102, (c_get h (by omega)).2, h.T102, (c_get h (by omega)).2⟩
theorem and255 (x : Int32) : ∃ m, m < 256 ∧ x &&& 255 = Int32.ofNat m := by
  refine ⟨(x &&& 255).toBitVec.toNat, ?_, ?_⟩
  · rw [Int32.toBitVec_and, BitVec.toNat_and]
    have : (255 : Int32).toBitVec.toNat = 255 := rfl
    rw [this]
    exact Nat.lt_of_le_of_lt Nat.and_le_right (by decide)
  · apply Int32.toBitVec_inj.mp
    show (x &&& 255).toBitVec = BitVec.ofNat 32 (x &&& 255).toBitVec.toNat
    rw [BitVec.ofNat_toNat, BitVec.setWidth_eq]
theorem BYT.c (M : XM) (a : Nat) : BYT (bC M a) := fun i _ => and255 (mI M a i)
theorem c_inC {M : XM} (h : Sh M) {p : Nat} (hp : p < 1024) (h0 : kd (bC M 103 (8 * p)) = 0 → p + 1 < 1024) : InC M (Int32.ofNat p) (IB (bC M 103) p) := by
  have e0 : (8 : Int32) * Int32.ofNat p = Int32.ofNat (8 * p) := mul8 p
  have e1 : (8 : Int32) * Int32.ofNat p + 1 = Int32.ofNat (8 * p + 1) := mul8N p 1
  have e2 : (8 : Int32) * Int32.ofNat p + 2 = Int32.ofNat (8 * p + 2) := mul8N p 2
  have e3 : (8 : Int32) * Int32.ofNat p + 3 = Int32.ofNat (8 * p + 3) := mul8N p 3
  obtain ⟨m, hm, eb⟩ := BYT.c M 103 (8 * p + 1) (by omega)
  obtain ⟨q1, q2⟩ := by_d ⟨m, hm⟩
  have g0 := c_get h (i := 8 * p) (by omega)
  have g1 := c_get h (i := 8 * p + 1) (by omega)
  have g2 := c_get h (i := 8 * p + 2) (by omega)
  have g3 := c_get h (i := 8 * p + 3) (by omega)
  rw [IB_at hp]
  refine ⟨⟨?_, ?_⟩, ⟨?_, ?_⟩, ⟨?_, ?_⟩, ⟨?_, ?_⟩, c_imm h hp, fun z => ?_⟩
  · unfold g_Program_code g_Program_code_0; rw [e0, g0.1]
  · unfold K_Program_code K_Program_code_0; rw [e0]; exact ⟨h.T102, g0.2⟩
  · unfold g_Program_d g_Program_d_0; rw [e1, g1.1]
    show bC M 103 (8 * p + 1) &&& 15 = Int32.ofNat (ix (bC M 103 (8 * p + 1) &&& 15))
    rw [eb]; exact q1
  · unfold K_Program_d K_Program_d_0; rw [e1]; exact ⟨h.T102, g1.2⟩
  · unfold g_Program_s g_Program_s_0; rw [e1, g1.1]
    show j_ishr (bC M 103 (8 * p + 1)) 4 = Int32.ofNat (ix (j_ishr (bC M 103 (8 * p + 1)) 4))
    rw [eb]; exact q2
  · unfold K_Program_s K_Program_s_0; rw [e1]; exact ⟨h.T102, g1.2⟩
  · unfold g_Program_offset g_Program_offset_0; rw [e2, e3, g2.1, g3.1]
  · unfold K_Program_offset K_Program_offset_0; rw [e2, e3]; exact ⟨h.T102, g2.2, h.T102, g3.2⟩
  · have hq := h0 z
    rw [add1_32]
    have := c_imm h hq
    rw [← imB_tr (by omega)] at this
    exact this
