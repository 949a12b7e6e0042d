/-! part 46: highestOneBit, lowestOneBit -/
def u3 (a : Int32) : Nat := a.toBitVec.toNat
theorem u3_lt (a : Int32) : u3 a < 4294967296 := a.toBitVec.isLt
theorem u3_inj {a b : Int32} (h : u3 a = u3 b) : a = b := Int32.toBitVec_inj.mp (BitVec.eq_of_toNat_eq h)
theorem toInt_u3 (a : Int32) : a.toInt = if u3 a < 2147483648 then (u3 a : Int) else (u3 a : Int) - 4294967296 := by
  show a.toBitVec.toInt = _
  rw [BitVec.toInt_eq_toNat_cond]
  unfold u3
  split <;> split <;> omega
theorem lt_u3 {a b : Int32} : a < b ↔ a.toInt < b.toInt := Int32.lt_iff_toInt_lt
theorem u3_iushr (x c : Int32) : u3 (j_iushr x c) = u3 x >>> ((c.toUInt32 &&& Int32.toUInt32 31).toNat % 32) := by
  show (x.toUInt32 >>> (c.toUInt32 &&& Int32.toUInt32 31)).toNat = _
  rw [UInt32.toNat_shiftRight]
  rfl
theorem un_lushr (x : Int64) (c : Int32) : un (j_lushr x c) = un x >>> ((c.toInt64.toUInt64 &&& Int64.toUInt64 63).toNat % 64) := by
  show (x.toUInt64 >>> (c.toInt64.toUInt64 &&& Int64.toUInt64 63)).toNat = _
  rw [UInt64.toNat_shiftRight]
  rfl
theorem u3_l2i (x : Int64) : u3 (Int64.toInt32 x) = un x % 4294967296 := by
  show (Int64.toInt32 x).toBitVec.toNat = _
  rw [Int64.toBitVec_toInt32, BitVec.signExtend_eq_setWidth_of_le _ (by decide), BitVec.toNat_setWidth]
  rfl
theorem u3_ofNat {k : Nat} (h : k < 4294967296) : u3 (Int32.ofNat k) = k := by
  show (Int32.ofNat k).toBitVec.toNat = k
  rw [Int32.toBitVec_ofNat', BitVec.toNat_ofNat]
  exact Nat.mod_eq_of_lt h
theorem i32_sub (n B C : Int32) : n + (-C) - B = n - (B + C) := by
  rw [Int32.sub_eq_add_neg, Int32.sub_eq_add_neg, Int32.neg_add, Int32.add_assoc, Int32.add_comm (-C), Int32.sub_eq_add_neg]
theorem i32_sub' (n : Int32) (b c : Nat) : n + (-(Int32.ofNat c)) - Int32.ofNat b = n - Int32.ofNat (b + c) := by
  rw [i32_sub, Int32.ofNat_add]
theorem lg2_div {x c : Nat} (h : 2 ^ c ≤ x) : Nat.log2 x = Nat.log2 (x >>> c) + c := by
  have hx : x ≠ 0 := fun z => by rw [z] at h; have := Nat.two_pow_pos c; omega
  have hd : x >>> c ≠ 0 := by rw [Nat.shiftRight_eq_div_pow]; exact Nat.ne_of_gt (Nat.div_pos h (Nat.two_pow_pos c))
  refine (Nat.log2_eq_iff hx).mpr ?_
  have h1 := (Nat.log2_eq_iff hd).mp rfl
  generalize Nat.log2 (x >>> c) = L at h1
  rw [Nat.shiftRight_eq_div_pow] at h1
  have hp := Nat.two_pow_pos c
  constructor
  · rw [Nat.pow_add]
    exact (Nat.le_div_iff_mul_le hp).mp h1.1
  · rw [show L + c + 1 = (L + 1) + c by omega, Nat.pow_add]
    exact (Nat.div_lt_iff_lt_mul hp).mp h1.2
theorem lg2_lt {x k : Nat} (hx : x ≠ 0) (h : x < 2 ^ k) : Nat.log2 x < k := (Nat.log2_lt hx).mpr h
theorem nlz73 {x n : Int32} (h1 : u3 x ≠ 0) (h2 : u3 x < 4) : g_Integer_numberOfLeadingZeros_73 x n = n - Int32.ofNat (Nat.log2 (u3 x)) := by
  unfold g_Integer_numberOfLeadingZeros_73
  have : j_iushr x 1 = Int32.ofNat (Nat.log2 (u3 x)) := by
    refine u3_inj ?_
    rw [u3_iushr, u3_ofNat (Nat.lt_trans (lg2_lt h1 (k := 2) h2) (by decide)), show ((1 : Int32).toUInt32 &&& Int32.toUInt32 31).toNat % 32 = 1 by decide]
    rcases (show u3 x = 1 ∨ u3 x = 2 ∨ u3 x = 3 by omega) with h | h | h <;> rw [h] <;> decide
  rw [this]
theorem i32_lt_lit {x : Int32} {c : Int32} (hx : u3 x < 2147483648) (hc : u3 c < 2147483648) : x < c ↔ u3 x < u3 c := by
  rw [lt_u3, toInt_u3, toInt_u3, if_pos hx, if_pos hc]; omega
theorem nlz_step {f g : Int32 → Int32 → Int32} {c : Nat} {cc lim : Int32} (hc : c < 32) (hcc : ((cc.toUInt32 &&& Int32.toUInt32 31).toNat % 32) = c) (hlim : u3 lim = 2 ^ c) (hl2 : 2 ^ c < 2147483648) (hg : ∀ x n, u3 x ≠ 0 → u3 x < 2 ^ c → g x n = n - Int32.ofNat (Nat.log2 (u3 x)))
    (x n : Int32) (h1 : u3 x ≠ 0) (h2 : u3 x < 2 ^ c * 2 ^ c) (h3 : u3 x < 2147483648) (hf : f x n = if x < lim then g x n else g (j_iushr x cc) (n + (-(Int32.ofNat c)))) : f x n = n - Int32.ofNat (Nat.log2 (u3 x)) := by
  rw [hf]
  have hp := Nat.two_pow_pos c
  by_cases h : x < lim
  · rw [if_pos h]
    refine hg x n h1 ?_
    rw [i32_lt_lit h3 (by rw [hlim]; exact hl2), hlim] at h
    exact h
  · rw [if_neg h]
    rw [i32_lt_lit h3 (by rw [hlim]; exact hl2), hlim] at h
    have hu : u3 (j_iushr x cc) = u3 x >>> c := by rw [u3_iushr, hcc]
    rw [hg _ _ (by rw [hu, Nat.shiftRight_eq_div_pow]; exact Nat.ne_of_gt (Nat.div_pos (Nat.not_lt.mp h) hp)) (by rw [hu, Nat.shiftRight_eq_div_pow]; exact (Nat.div_lt_iff_lt_mul hp).mpr h2), hu, i32_sub', ← lg2_div (Nat.not_lt.mp h)]
theorem nlz61 (x n : Int32) (h1 : u3 x ≠ 0) (h2 : u3 x < 2 ^ 4) : g_Integer_numberOfLeadingZeros_61 x n = n - Int32.ofNat (Nat.log2 (u3 x)) :=
  nlz_step (f := g_Integer_numberOfLeadingZeros_61) (g := g_Integer_numberOfLeadingZeros_73) (c := 2) (cc := 2) (lim := 4) (by decide) (by decide) (by decide) (by decide) (fun _ _ a b => nlz73 a b) x n h1 h2 (by omega) rfl
theorem nlz48 (x n : Int32) (h1 : u3 x ≠ 0) (h2 : u3 x < 2 ^ 8) : g_Integer_numberOfLeadingZeros_48 x n = n - Int32.ofNat (Nat.log2 (u3 x)) :=
  nlz_step (f := g_Integer_numberOfLeadingZeros_48) (g := g_Integer_numberOfLeadingZeros_61) (c := 4) (cc := 4) (lim := 16) (by decide) (by decide) (by decide) (by decide) (fun _ _ a b => nlz61 _ _ a b) x n h1 h2 (by omega) rfl
theorem nlz33 (x n : Int32) (h1 : u3 x ≠ 0) (h2 : u3 x < 2 ^ 16) : g_Integer_numberOfLeadingZeros_33 x n = n - Int32.ofNat (Nat.log2 (u3 x)) :=
  nlz_step (f := g_Integer_numberOfLeadingZeros_33) (g := g_Integer_numberOfLeadingZeros_48) (c := 8) (cc := 8) (lim := 256) (by decide) (by decide) (by decide) (by decide) (fun _ _ a b => nlz48 _ _ a b) x n h1 h2 (by omega) rfl
theorem i32_31 : ∀ k : Fin 32, (31 : Int32) - Int32.ofNat k.val = Int32.ofNat (31 - k.val) := by decide +kernel
/-- leading zeros of an int that is not 0 -/
theorem nlzI {x : Int32} (h1 : u3 x ≠ 0) : g_Integer_numberOfLeadingZeros x = Int32.ofNat (31 - Nat.log2 (u3 x)) := by
  unfold g_Integer_numberOfLeadingZeros g_Integer_numberOfLeadingZeros_0
  by_cases h : 0 < x
  · rw [if_pos h]
    have h3 : u3 x < 2147483648 := by
      rw [lt_u3, toInt_u3 x] at h
      refine Nat.not_le.mp fun z => ?_
      rw [if_neg (by omega)] at h
      have := u3_lt x
      have h0 : (0 : Int32).toInt = 0 := rfl
      omega
    have key := nlz_step (f := fun x n => if x < (65536 : Int32) then g_Integer_numberOfLeadingZeros_33 x n else g_Integer_numberOfLeadingZeros_33 (j_iushr x 16) (n + (-16 : Int32))) (g := g_Integer_numberOfLeadingZeros_33) (c := 16) (cc := 16) (lim := 65536) (by decide) (by decide) (by decide) (by decide) (fun _ _ a b => nlz33 _ _ a b) x 31 h1 (by omega) h3 rfl
    have hl : Nat.log2 (u3 x) < 32 := lg2_lt h1 (by omega)
    rw [← i32_31 ⟨_, hl⟩]
    exact key
  · rw [if_neg h]
    have hx0 : ¬ x = 0 := fun z => h1 (by rw [z]; rfl)
    rw [if_neg hx0]
    have h3 : 2147483648 ≤ u3 x := by
      refine Nat.not_lt.mp fun z => h ?_
      rw [lt_u3, toInt_u3 x, if_pos z]
      have h0 : (0 : Int32).toInt = 0 := rfl
      omega
    have := u3_lt x
    have hl : Nat.log2 (u3 x) = 31 := (Nat.log2_eq_iff h1).mpr ⟨h3, by omega⟩
    rw [hl]; rfl
theorem i32_32 : ∀ k : Fin 32, (32 : Int32) + Int32.ofNat (31 - k.val) = Int32.ofNat (63 - k.val) := by decide +kernel
/-- leading zeros of a long that is not 0 -/
theorem nlzL {x : Int64} (h1 : un x ≠ 0) : g_Long_numberOfLeadingZeros x = Int32.ofNat (63 - Nat.log2 (un x)) := by
  unfold g_Long_numberOfLeadingZeros g_Long_numberOfLeadingZeros_0 g_Long_numberOfLeadingZeros_6
  have hx := un_lt x
  have hhi : u3 (Int64.toInt32 (j_lushr x 32)) = un x >>> 32 := by
    rw [u3_l2i, un_lushr, show ((32 : Int32).toInt64.toUInt64 &&& Int64.toUInt64 63).toNat % 64 = 32 by decide, Nat.shiftRight_eq_div_pow]
    omega
  by_cases h : Int64.toInt32 (j_lushr x 32) = 0
  · rw [if_pos h]
    rw [h] at hhi
    have h0 : un x < 4294967296 := by
      have : u3 0 = 0 := rfl
      rw [this, Nat.shiftRight_eq_div_pow] at hhi
      omega
    have hlo : u3 (Int64.toInt32 x) = un x := by rw [u3_l2i]; omega
    rw [nlzI (by rw [hlo]; exact h1), hlo]
    exact i32_32 ⟨_, lg2_lt h1 (by omega)⟩
  · rw [if_neg h]
    have hne : un x >>> 32 ≠ 0 := fun z => h (u3_inj (by rw [hhi, z]; rfl))
    rw [nlzI (by rw [hhi]; exact hne), hhi]
    have hge : 2 ^ 32 ≤ un x := by
      rw [Nat.shiftRight_eq_div_pow] at hne
      omega
    rw [lg2_div hge]
    congr 1
    omega
theorem lshr_min : ∀ k : Fin 64, un (j_lushr (-9223372036854775808) (Int32.ofNat (63 - k.val))) = 2 ^ k.val := by decide +kernel
theorem hob_0 : g_Long_highestOneBit 0 = 0 := by decide
/-- the highest bit that is 1 -/
theorem hob {x : Int64} (hx : x ≠ 0) : ∃ h, h < 64 ∧ tb x h = true ∧ (∀ j, h < j → tb x j = false) ∧ un (g_Long_highestOneBit x) = 2 ^ h ∧ ∀ j, tb (g_Long_highestOneBit x) j = decide (j = h) := by
  have h1 : un x ≠ 0 := fun z => hx (un_inj z)
  have hl : Nat.log2 (un x) < 64 := lg2_lt h1 (un_lt x)
  have hb := (Nat.log2_eq_iff h1).mp rfl
  refine ⟨Nat.log2 (un x), hl, ?_, ?_, ?_⟩
  · rw [tb_un]; exact Nat.testBit_log2 h1
  · intro j hj
    rw [tb_un]
    exact Nat.testBit_lt_two_pow (Nat.lt_of_lt_of_le hb.2 (Nat.pow_le_pow_right (by decide) hj))
  · have ht : ∀ j, tb (g_Long_highestOneBit x) j = decide (j = Nat.log2 (un x)) := by
      intro j
      unfold g_Long_highestOneBit g_Long_highestOneBit_0
      rw [nlzL h1, tb_and, tb_un (j_lushr _ _), lshr_min ⟨_, hl⟩, Nat.testBit_two_pow]
      by_cases e : j = Nat.log2 (un x)
      · rw [e, tb_un, Nat.testBit_log2 h1]; simp
      · have e' : ¬ Nat.log2 (un x) = j := fun z => e z.symm
        simp [e, e']
    refine ⟨Nat.eq_of_testBit_eq fun j => ?_, ht⟩
    rw [← tb_un, ht j, Nat.testBit_two_pow]
    by_cases e : j = Nat.log2 (un x)
    · simp [e]
    · have e' : ¬ Nat.log2 (un x) = j := fun z => e z.symm
      simp [e, e']
