/-! part 47q: numbers: sums, differences, shifts -/
theorem bitN {n : Nat} (hn : n < 64) : un (j_lshl 1 (Int32.ofNat n)) = 2 ^ n := bit_un ⟨n, hn⟩
theorem neg63 (x : Int64) : lg_cmp x 0 < 0 ↔ tb x 63 = true := by
  rw [cmp_lt, lt_un, show (0 : Int64).toInt = 0 from rfl, toInt_un, tb63, decide_eq_true_eq]
  have := un_lt x
  split <;> omega
theorem pos63 (x : Int64) : 0 ≤ lg_cmp x 0 ↔ tb x 63 = false := v63
theorem neg_un (x : Int64) : lg_cmp x 0 < 0 ↔ ¬ un x < 9223372036854775808 := by rw [neg63, tb63, decide_eq_true_eq]
theorem pos_un (x : Int64) : 0 ≤ lg_cmp x 0 ↔ un x < 9223372036854775808 := by
  rw [pos63, tb63, decide_eq_false_iff_not, Classical.not_not]
/-- whether a number is a long -/
def isJ64 (v : Int) : Prop := -9223372036854775808 ≤ v ∧ v < 9223372036854775808
theorem isSum_01 (a b : Int64) : g_Add_isSum a b = 1 ∧ isJ64 (a.toInt + b.toInt) ∨ g_Add_isSum a b = 0 ∧ ¬ isJ64 (a.toInt + b.toInt) := by
  unfold g_Add_isSum g_Add_isSum_0 isJ64
  have h : lg_cmp ((a ^^^ (a + b)) &&& (b ^^^ (a + b))) 0 < 0 ↔ ((¬ un a < 9223372036854775808) ↔ un (a + b) < 9223372036854775808) ∧ ((¬ un b < 9223372036854775808) ↔ un (a + b) < 9223372036854775808) := by
    rw [neg63, tb_and, tb_xor, tb_xor, tb63, tb63, tb63]
    by_cases c1 : un a < 9223372036854775808 <;> by_cases c2 : un b < 9223372036854775808 <;> by_cases c3 : un (a + b) < 9223372036854775808 <;> simp [c1, c2, c3]
  have hs := un_add a b
  have ha := toInt_un a
  have hb := toInt_un b
  have la := un_lt a
  have lb := un_lt b
  by_cases c : lg_cmp ((a ^^^ (a + b)) &&& (b ^^^ (a + b))) 0 < 0
  · rw [if_pos c]; right; refine ⟨rfl, ?_⟩
    have := h.mp c
    split at ha <;> split at hb <;> omega
  · rw [if_neg c]; left; refine ⟨rfl, ?_⟩
    rw [h] at c
    split at ha <;> split at hb <;> omega
theorem isDiff_01 (a b : Int64) : g_Subtract_isDifference a b = 1 ∧ isJ64 (a.toInt - b.toInt) ∨ g_Subtract_isDifference a b = 0 ∧ ¬ isJ64 (a.toInt - b.toInt) := by
  unfold g_Subtract_isDifference g_Subtract_isDifference_0 isJ64
  have h : lg_cmp ((a ^^^ b) &&& (a ^^^ (a - b))) 0 < 0 ↔ ((¬ un a < 9223372036854775808) ↔ un b < 9223372036854775808) ∧ ((¬ un a < 9223372036854775808) ↔ un (a - b) < 9223372036854775808) := by
    rw [neg63, tb_and, tb_xor, tb_xor, tb63, tb63, tb63]
    by_cases c1 : un a < 9223372036854775808 <;> by_cases c2 : un b < 9223372036854775808 <;> by_cases c3 : un (a - b) < 9223372036854775808 <;> simp [c1, c2, c3]
  have hs := un_sub a b
  have ha := toInt_un a
  have hb := toInt_un b
  have la := un_lt a
  have lb := un_lt b
  by_cases c : lg_cmp ((a ^^^ b) &&& (a ^^^ (a - b))) 0 < 0
  · rw [if_pos c]; right; refine ⟨rfl, ?_⟩
    have := h.mp c
    split at ha <;> split at hb <;> omega
  · rw [if_neg c]; left; refine ⟨rfl, ?_⟩
    rw [h] at c
    split at ha <;> split at hb <;> omega
theorem sumIsLong_01 (a b : Int64) : g_Sets_sumIsLong a b = 1 ∧ isJ64 (a.toInt + b.toInt) ∨ g_Sets_sumIsLong a b = 0 ∧ ¬ isJ64 (a.toInt + b.toInt) := by
  unfold g_Sets_sumIsLong g_Sets_sumIsLong_0 g_Sets_sumIsLong_5 g_Sets_sumIsLong_16 g_Sets_sumIsLong_27 g_Sets_sumIsLong_42 g_Sets_sumIsLong_53 g_Sets_sumIsLong_56 isJ64
  simp only [pos_un]
  have hs := un_add a b
  have ha := toInt_un a
  have hb := toInt_un b
  have la := un_lt a
  have lb := un_lt b
  have i1 : ¬ (0 : Int32) = 1 := by decide
  have i2 : ¬ (1 : Int32) = 0 := by decide
  by_cases c1 : un a < 9223372036854775808 <;> by_cases c2 : un b < 9223372036854775808 <;> by_cases c3 : un (a + b) < 9223372036854775808 <;> simp only [c1, c2, c3, i1, i2, if_true, if_false, true_and, false_and, or_false, false_or] at ha hb ⊢ <;> omega
theorem diffIsLong_01 (a b : Int64) : g_Sets_differenceIsLong a b = 1 ∧ isJ64 (a.toInt - b.toInt) ∨ g_Sets_differenceIsLong a b = 0 ∧ ¬ isJ64 (a.toInt - b.toInt) := by
  unfold g_Sets_differenceIsLong g_Sets_differenceIsLong_0 g_Sets_differenceIsLong_5 g_Sets_differenceIsLong_16 g_Sets_differenceIsLong_27 g_Sets_differenceIsLong_42 g_Sets_differenceIsLong_53 g_Sets_differenceIsLong_56 isJ64
  simp only [pos_un]
  have hs := un_sub a b
  have ha := toInt_un a
  have hb := toInt_un b
  have la := un_lt a
  have lb := un_lt b
  have i1 : ¬ (0 : Int32) = 1 := by decide
  have i2 : ¬ (1 : Int32) = 0 := by decide
  by_cases c1 : un a < 9223372036854775808 <;> by_cases c2 : un b < 9223372036854775808 <;> by_cases c3 : un (a - b) < 9223372036854775808 <;> simp only [c1, c2, c3, i1, i2, if_true, if_false, true_and, false_and, or_false, false_or] at ha hb ⊢ <;> omega
theorem or_same {p q : Int32} {P : Prop} (h : p = 1 ∧ P ∨ p = 0 ∧ ¬ P) (h' : q = 1 ∧ P ∨ q = 0 ∧ ¬ P) : p = q := by
  rcases h with ⟨h1, h2⟩ | ⟨h1, h2⟩ <;> rcases h' with ⟨h3, h4⟩ | ⟨h3, h4⟩
  · rw [h1, h3]
  · exact absurd h2 h4
  · exact absurd h4 h2
  · rw [h1, h3]
theorem isSum_eq (a b : Int64) : g_Sets_sumIsLong a b = g_Add_isSum a b := or_same (sumIsLong_01 a b) (isSum_01 a b)
theorem isDiff_eq (a b : Int64) : g_Sets_differenceIsLong a b = g_Subtract_isDifference a b := or_same (diffIsLong_01 a b) (isDiff_01 a b)
theorem below_0 (a b : Int64) : g_Sets_below a b = 0 ↔ un b ≤ un a := by
  rw [below_01]
  by_cases h : un a < un b
  · rw [if_pos h]; exact ⟨fun z => absurd z (by decide), fun z => by omega⟩
  · rw [if_neg h]; exact ⟨fun _ => by omega, fun _ => rfl⟩
theorem below_eq (a b : Int64) : g_Sets_below a b = g_Sieve_isLess a b := by rw [below_01, isLess_01]
theorem lesser_eq (a b : Int64) : g_Sets_lesser a b = g_Sieve_lesser a b := by rw [lesser2_un, lesser_un]
theorem larger_eq (a b : Int64) : g_Sets_larger a b = g_Sieve_greater a b := by rw [larger_un, greater_un]
theorem add_J {a b : Int64} (h : isJ64 (a.toInt + b.toInt)) : (a + b).toInt = a.toInt + b.toInt := by
  have hs := un_add a b
  have ha := toInt_un a
  have hb := toInt_un b
  have hc := toInt_un (a + b)
  have la := un_lt a
  have lb := un_lt b
  unfold isJ64 at h
  split at ha <;> split at hb <;> split at hc <;> omega
theorem sub_J {a b : Int64} (h : isJ64 (a.toInt - b.toInt)) : (a - b).toInt = a.toInt - b.toInt := by
  have hs := un_sub a b
  have ha := toInt_un a
  have hb := toInt_un b
  have hc := toInt_un (a - b)
  have la := un_lt a
  have lb := un_lt b
  unfold isJ64 at h
  split at ha <;> split at hb <;> split at hc <;> omega
/-! shifts by a known number of bits -/
theorem sh_amt : ∀ n : Fin 64, ((Int32.ofNat n.val).toInt64.toUInt64 &&& Int64.toUInt64 63).toNat % 64 = n.val := by decide +kernel
theorem un_shr {n : Nat} (hn : n < 64) (x : Int64) : un (j_lushr x (Int32.ofNat n)) = un x / 2 ^ n := by
  rw [un_lushr, sh_amt ⟨n, hn⟩, Nat.shiftRight_eq_div_pow]
theorem tb_shr {n : Nat} (hn : n < 64) (x : Int64) (j : Nat) : tb (j_lushr x (Int32.ofNat n)) j = tb x (n + j) := by
  rw [tb_un, un_shr hn, Nat.testBit_div_two_pow, tb_un, Nat.add_comm]
theorem shl_amt : ∀ n : Fin 64, ((Int32.ofNat n.val).toInt64 &&& 63).toBitVec.smod 64 = BitVec.ofNat 64 n.val := by decide +kernel
theorem bv_shl {n : Nat} (hn : n < 64) (x : Int64) : (j_lshl x (Int32.ofNat n)).toBitVec = x.toBitVec <<< n := by
  unfold j_lshl
  rw [Int64.toBitVec_shiftLeft, shl_amt ⟨n, hn⟩, BitVec.shiftLeft_eq', BitVec.toNat_ofNat, Nat.mod_eq_of_lt (by omega)]
theorem tb_shl {n : Nat} (hn : n < 64) (x : Int64) (j : Nat) : tb (j_lshl x (Int32.ofNat n)) j = (decide (n ≤ j) && decide (j < 64) && tb x (j - n)) := by
  unfold tb
  rw [bv_shl hn, BitVec.getLsbD_shiftLeft]
  by_cases h1 : j < 64 <;> by_cases h2 : n ≤ j
  · have : ¬ j < n := by omega
    simp [h1, h2, this]
  · have : j < n := by omega
    simp [h1, h2, this]
  · simp [h1]
  · simp [h1]
theorem un_shl {n : Nat} (hn : n < 64) (x : Int64) : un (j_lshl x (Int32.ofNat n)) = (un x * 2 ^ n) % 18446744073709551616 := by
  unfold un
  rw [bv_shl hn, BitVec.toNat_shiftLeft, Nat.shiftLeft_eq]
theorem bv_sar {n : Nat} (hn : n < 64) (x : Int64) : (j_lshr x (Int32.ofNat n)).toBitVec = x.toBitVec.sshiftRight n := by
  unfold j_lshr
  rw [Int64.toBitVec_shiftRight, shl_amt ⟨n, hn⟩, BitVec.sshiftRight_eq', BitVec.toNat_ofNat, Nat.mod_eq_of_lt (by omega)]
theorem toInt_sar {n : Nat} (hn : n < 64) (x : Int64) : (j_lshr x (Int32.ofNat n)).toInt = x.toInt / (2 ^ n : Nat) := by
  show (j_lshr x (Int32.ofNat n)).toBitVec.toInt = _
  rw [bv_sar hn, BitVec.toInt_sshiftRight, Int.shiftRight_eq_div_pow]
  rfl
theorem tb_sar {n : Nat} (hn : n < 64) (x : Int64) (j : Nat) : tb (j_lshr x (Int32.ofNat n)) j = (decide (j < 64) && (if n + j < 64 then tb x (n + j) else tb x 63)) := by
  unfold tb
  rw [bv_sar hn, BitVec.getLsbD_sshiftRight, BitVec.msb_eq_getLsbD_last]
  by_cases h : j < 64
  · have : ¬ 64 ≤ j := by omega
    simp [h, this]
  · have : 64 ≤ j := by omega
    simp [h, this]
theorem amt63 (v : Int32) : ∃ n, n < 64 ∧ v &&& 63 = Int32.ofNat n := by
  refine ⟨u3 (v &&& 63), ?_, ?_⟩
  · show (v &&& 63).toBitVec.toNat < 64
    rw [Int32.toBitVec_and, BitVec.toNat_and]
    exact Nat.lt_of_le_of_lt Nat.and_le_right (by decide)
  · apply u3_inj
    rw [u3_ofNat (u3_lt _)]
theorem amt31 (v : Int32) : ∃ n, n < 32 ∧ v &&& 31 = Int32.ofNat n := by
  refine ⟨u3 (v &&& 31), ?_, ?_⟩
  · show (v &&& 31).toBitVec.toNat < 32
    rw [Int32.toBitVec_and, BitVec.toNat_and]
    exact Nat.lt_of_le_of_lt Nat.and_le_right (by decide)
  · apply u3_inj
    rw [u3_ofNat (u3_lt _)]
/-- one bit of a number, shifted down -/
theorem bit_and1 (x : Int64) : x &&& 1 = if tb x 0 = true then 1 else 0 := by
  refine tb_ext fun j _ => ?_
  have h1 : ∀ j, tb 1 j = decide (j = 0) := fun j => by
    rw [tb_un, show un 1 = 2 ^ 0 from rfl, Nat.testBit_two_pow]
    by_cases h : j = 0
    · simp [h]
    · have h' : ¬ 0 = j := fun z => h z.symm
      simp [h, h']
  rw [tb_and, h1]
  by_cases h : j = 0
  · rw [h]
    cases e : tb x 0
    · rw [if_neg (by decide), tb_zero]; rfl
    · rw [if_pos rfl, h1]; rfl
  · cases e : tb x 0
    · rw [if_neg (by decide), tb_zero]; simp [h]
    · rw [if_pos rfl, h1]; simp [h]
theorem shr_bit {n : Nat} (hn : n < 64) (x : Int64) : j_lushr x (Int32.ofNat n) &&& 1 = if tb x n = true then 1 else 0 := by
  rw [bit_and1, tb_shr hn]; rfl
/-- the lowest bits of numbers -/
theorem mask_tb {n : Nat} (hn : n < 64) (j : Nat) : tb (j_lshl 1 (Int32.ofNat n) - 1) j = decide (j < n) := tb_pred hn (bitN (n := n) hn) j
theorem and_mask {n : Nat} (hn : n < 64) (x : Int64) : un (x &&& (j_lshl 1 (Int32.ofNat n) - 1)) = un x % 2 ^ n := by
  have e : un (j_lshl 1 (Int32.ofNat n) - 1) = 2 ^ n - 1 := by
    rw [un_sub, bitN (n := n) hn, show un 1 = 1 from rfl]
    have := Nat.two_pow_pos n
    have : 2 ^ n < 18446744073709551616 := Nat.pow_lt_pow_right (by decide) (show n < 64 from hn)
    omega
  rw [un_and, e, Nat.and_two_pow_sub_one_eq_mod]
