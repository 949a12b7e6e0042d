/-! part 47zo: Long.bitCount is 1 for single bits alone -/
def rep (m : Nat) : Nat → Nat
  | 0 => 0
  | n + 1 => 256 * rep m n + m
theorem and_step {a b c d : Nat} (hb : b < 256) (hd : d < 256) : (256 * a + b) &&& (256 * c + d) = 256 * (a &&& c) + (b &&& d) := by
  have hbd : b &&& d < 256 := Nat.lt_of_le_of_lt Nat.and_le_left hb
  apply Nat.eq_of_testBit_eq
  intro j
  rw [Nat.testBit_and, show (256 : Nat) = 2 ^ 8 from rfl, Nat.testBit_two_pow_mul_add _ hb, Nat.testBit_two_pow_mul_add _ hd, Nat.testBit_two_pow_mul_add _ hbd]
  split
  · rw [Nat.testBit_and]
  · rw [Nat.testBit_and]
def pf1 (n v : Nat) : Nat := v - (v / 2 &&& rep 85 n)
def pf2 (n v : Nat) : Nat := (v &&& rep 51 n) + (v / 4 &&& rep 51 n)
def pf3 (n v : Nat) : Nat := (v + v / 16) &&& rep 15 n
theorem dc1 : ∀ (p : Fin 2) (r : Fin 256), (128 * p.val + r.val / 2) &&& 85 = r.val / 2 &&& 85 := by decide +kernel
theorem dc2 : ∀ (p : Fin 4) (r : Fin 256), (64 * p.val + r.val / 4) &&& 51 = r.val / 4 &&& 51 := by decide +kernel
theorem dc3 : ∀ (p : Fin 5) (r : Fin 80), (r.val + 16 * p.val + r.val / 16) &&& 15 = (r.val + r.val / 16) &&& 15 := by decide +kernel
theorem dc4 : ∀ r : Fin 256, pf1 1 r.val < 256 ∧ pf2 1 (pf1 1 r.val) < 80 ∧ pf2 1 (pf1 1 r.val) % 16 < 5 ∧ pf3 1 (pf2 1 (pf1 1 r.val)) ≤ 8 ∧ (pf3 1 (pf2 1 (pf1 1 r.val)) = 0 → r.val = 0) ∧ (pf3 1 (pf2 1 (pf1 1 r.val)) = 1 → r.val = 1 ∨ r.val = 2 ∨ r.val = 4 ∨ r.val = 8 ∨ r.val = 16 ∨ r.val = 32 ∨ r.val = 64 ∨ r.val = 128) := by decide +kernel
theorem pf1_step {n q r : Nat} (hr : r < 256) : pf1 (n + 1) (256 * q + r) = 256 * pf1 n q + pf1 1 r := by
  unfold pf1
  have e1 : (256 * q + r) / 2 = 256 * (q / 2) + (128 * (q % 2) + r / 2) := by omega
  have e2 : rep 85 (n + 1) = 256 * rep 85 n + 85 := rfl
  have e3 : rep 85 1 = 85 := rfl
  have d := dc1 ⟨q % 2, by omega⟩ ⟨r, hr⟩
  have d' : (128 * (q % 2) + r / 2) &&& 85 = r / 2 &&& 85 := d
  rw [e1, e2, and_step (by omega) (by decide), d', e3]
  have l1 : q / 2 &&& rep 85 n ≤ q := Nat.le_trans Nat.and_le_left (Nat.div_le_self _ _)
  have l2 : r / 2 &&& 85 ≤ r := Nat.le_trans Nat.and_le_left (Nat.div_le_self _ _)
  omega
theorem pf2_step {n q r : Nat} (hr : r < 256) : pf2 (n + 1) (256 * q + r) = 256 * pf2 n q + pf2 1 r := by
  unfold pf2
  have e1 : (256 * q + r) / 4 = 256 * (q / 4) + (64 * (q % 4) + r / 4) := by omega
  have e2 : rep 51 (n + 1) = 256 * rep 51 n + 51 := rfl
  have e3 : rep 51 1 = 51 := rfl
  have d' : (64 * (q % 4) + r / 4) &&& 51 = r / 4 &&& 51 := dc2 ⟨q % 4, by omega⟩ ⟨r, hr⟩
  rw [e1, e2, and_step hr (by decide), and_step (by omega) (by decide), d', e3]
  omega
theorem pf3_step {n q r : Nat} (hr : r < 80) (hq : q % 16 < 5) : pf3 (n + 1) (256 * q + r) = 256 * pf3 n q + pf3 1 r := by
  unfold pf3
  have e1 : (256 * q + r) + (256 * q + r) / 16 = 256 * (q + q / 16) + (r + 16 * (q % 16) + r / 16) := by omega
  have e2 : rep 15 (n + 1) = 256 * rep 15 n + 15 := rfl
  have e3 : rep 15 1 = 15 := rfl
  have d' : (r + 16 * (q % 16) + r / 16) &&& 15 = (r + r / 16) &&& 15 := dc3 ⟨q % 16, hq⟩ ⟨r, hr⟩
  rw [e1, e2, and_step (by omega) (by decide), d', e3]
def pF (n v : Nat) : Nat := pf3 n (pf2 n (pf1 n v))
theorem pF_low : ∀ (n q : Nat), q < 256 ^ n → pf2 n (pf1 n q) % 16 < 5
  | 0, q, h => by
    have : q = 0 := by simpa using h
    rw [this]; decide
  | n + 1, q, h => by
    have e : q = 256 * (q / 256) + q % 256 := (Nat.div_add_mod q 256).symm
    have d := dc4 ⟨q % 256, Nat.mod_lt _ (by decide)⟩
    rw [e, pf1_step (Nat.mod_lt _ (by decide)), pf2_step d.1]
    have := d.2.2.1
    have : pf2 1 (pf1 1 (q % 256)) % 16 < 5 := this
    omega
theorem pF_step {n q r : Nat} (hq : q < 256 ^ n) (hr : r < 256) : pF (n + 1) (256 * q + r) = 256 * pF n q + pF 1 r := by
  unfold pF
  have d := dc4 ⟨r, hr⟩
  rw [pf1_step hr, pf2_step d.1, pf3_step d.2.1 (pF_low n q hq)]
/-- the bytes of a number -/
theorem pF_8 {v : Nat} (h : v < 18446744073709551616) : pF 8 v = pF 1 (v % 256) + 256 * pF 1 (v / 256 % 256) + 65536 * pF 1 (v / 65536 % 256) + 16777216 * pF 1 (v / 16777216 % 256) + 4294967296 * pF 1 (v / 4294967296 % 256) + 1099511627776 * pF 1 (v / 1099511627776 % 256) + 281474976710656 * pF 1 (v / 281474976710656 % 256) + 72057594037927936 * pF 1 (v / 72057594037927936 % 256) := by
  have st : ∀ (n w : Nat), w < 256 ^ (n + 1) → pF (n + 1) w = 256 * pF n (w / 256) + pF 1 (w % 256) := fun n w hw => by
    have := pF_step (n := n) (q := w / 256) (r := w % 256) (by rw [Nat.pow_succ] at hw; exact Nat.div_lt_of_lt_mul (by rw [Nat.mul_comm]; exact hw)) (Nat.mod_lt _ (by decide))
    rw [Nat.div_add_mod] at this
    exact this
  have z : pF 0 0 = 0 := by decide
  rw [st 7 v (by omega), st 6 (v / 256) (by omega), st 5 (v / 256 / 256) (by omega), st 4 (v / 256 / 256 / 256) (by omega), st 3 (v / 256 / 256 / 256 / 256) (by omega), st 2 (v / 256 / 256 / 256 / 256 / 256) (by omega), st 1 (v / 256 / 256 / 256 / 256 / 256 / 256) (by omega), st 0 (v / 256 / 256 / 256 / 256 / 256 / 256 / 256) (by omega)]
  have e0 : v / 256 / 256 / 256 / 256 / 256 / 256 / 256 / 256 = 0 := by omega
  rw [e0, z]
  have q1 : v / 256 / 256 = v / 65536 := by omega
  have q2 : v / 256 / 256 / 256 = v / 16777216 := by omega
  have q3 : v / 256 / 256 / 256 / 256 = v / 4294967296 := by omega
  have q4 : v / 256 / 256 / 256 / 256 / 256 = v / 1099511627776 := by omega
  have q5 : v / 256 / 256 / 256 / 256 / 256 / 256 = v / 281474976710656 := by omega
  have q6 : v / 256 / 256 / 256 / 256 / 256 / 256 / 256 = v / 72057594037927936 := by omega
  rw [q6, q5, q4, q3, q2, q1]
  generalize pF 1 (v % 256) = g0
  generalize pF 1 (v / 256 % 256) = g1
  generalize pF 1 (v / 65536 % 256) = g2
  generalize pF 1 (v / 16777216 % 256) = g3
  generalize pF 1 (v / 4294967296 % 256) = g4
  generalize pF 1 (v / 1099511627776 % 256) = g5
  generalize pF 1 (v / 281474976710656 % 256) = g6
  generalize pF 1 (v / 72057594037927936 % 256) = g7
  omega
theorem shr2 (x : Int64) : un (j_lushr x 2) = un x / 4 := un_shr (n := 2) (by decide) x
theorem shr4 (x : Int64) : un (j_lushr x 4) = un x / 16 := un_shr (n := 4) (by decide) x
theorem shr8 (x : Int64) : un (j_lushr x 8) = un x / 256 := un_shr (n := 8) (by decide) x
theorem shr16 (x : Int64) : un (j_lushr x 16) = un x / 65536 := un_shr (n := 16) (by decide) x
theorem u3_and (a b : Int32) : u3 (a &&& b) = u3 a &&& u3 b := by
  show (a &&& b).toBitVec.toNat = _
  rw [Int32.toBitVec_and, BitVec.toNat_and]; rfl
/-- the sums of the bytes -/
theorem fold_8 {a h : Nat} (ha : a < 256) (hh : a + 256 * h + h < 18446744073709551616) : (a + 256 * h + (a + 256 * h) / 256) % 18446744073709551616 = a + 256 * h + h := by omega
theorem fold_16 {a h : Nat} (ha : a < 65536) (hh : a + 65536 * h + h < 18446744073709551616) : (a + 65536 * h + (a + 65536 * h) / 65536) % 18446744073709551616 = a + 65536 * h + h := by omega
theorem fold_32 {a b c d : Nat} (ha : a + 256 * b < 4294967296) (hh : a + c < 128) : (a + 256 * b + 4294967296 * (c + 256 * d) + (a + 256 * b + 4294967296 * (c + 256 * d)) / 4294967296) % 18446744073709551616 % 4294967296 % 2 ^ 7 = a + c := by
  have e : (a + 256 * b + 4294967296 * (c + 256 * d)) / 4294967296 = c + 256 * d := by
    generalize a + 256 * b = x at ha ⊢
    generalize c + 256 * d = y
    omega
  rw [e, show (2 : Nat) ^ 7 = 128 from rfl]
  omega
theorem bytes_sum {g0 g1 g2 g3 g4 g5 g6 g7 : Nat} (b0 : g0 ≤ 8) (b1 : g1 ≤ 8) (b2 : g2 ≤ 8) (b3 : g3 ≤ 8) (b4 : g4 ≤ 8) (b5 : g5 ≤ 8) (b6 : g6 ≤ 8) (b7 : g7 ≤ 8) :
    (((g0 + 256 * g1 + 65536 * g2 + 16777216 * g3 + 4294967296 * g4 + 1099511627776 * g5 + 281474976710656 * g6 + 72057594037927936 * g7 + (g0 + 256 * g1 + 65536 * g2 + 16777216 * g3 + 4294967296 * g4 + 1099511627776 * g5 + 281474976710656 * g6 + 72057594037927936 * g7) / 256) % 18446744073709551616 + (g0 + 256 * g1 + 65536 * g2 + 16777216 * g3 + 4294967296 * g4 + 1099511627776 * g5 + 281474976710656 * g6 + 72057594037927936 * g7 + (g0 + 256 * g1 + 65536 * g2 + 16777216 * g3 + 4294967296 * g4 + 1099511627776 * g5 + 281474976710656 * g6 + 72057594037927936 * g7) / 256) % 18446744073709551616 / 65536) % 18446744073709551616 +
      ((g0 + 256 * g1 + 65536 * g2 + 16777216 * g3 + 4294967296 * g4 + 1099511627776 * g5 + 281474976710656 * g6 + 72057594037927936 * g7 + (g0 + 256 * g1 + 65536 * g2 + 16777216 * g3 + 4294967296 * g4 + 1099511627776 * g5 + 281474976710656 * g6 + 72057594037927936 * g7) / 256) % 18446744073709551616 + (g0 + 256 * g1 + 65536 * g2 + 16777216 * g3 + 4294967296 * g4 + 1099511627776 * g5 + 281474976710656 * g6 + 72057594037927936 * g7 + (g0 + 256 * g1 + 65536 * g2 + 16777216 * g3 + 4294967296 * g4 + 1099511627776 * g5 + 281474976710656 * g6 + 72057594037927936 * g7) / 256) % 18446744073709551616 / 65536) % 18446744073709551616 / 4294967296) % 18446744073709551616 % 4294967296 % 2 ^ 7 = g0 + g1 + g2 + g3 + g4 + g5 + g6 + g7 := by
  have e1 : g0 + 256 * g1 + 65536 * g2 + 16777216 * g3 + 4294967296 * g4 + 1099511627776 * g5 + 281474976710656 * g6 + 72057594037927936 * g7 = g0 + 256 * (g1 + 256 * g2 + 65536 * g3 + 16777216 * g4 + 4294967296 * g5 + 1099511627776 * g6 + 281474976710656 * g7) := by omega
  rw [e1, fold_8 (by omega) (by omega)]
  have e2 : g0 + 256 * (g1 + 256 * g2 + 65536 * g3 + 16777216 * g4 + 4294967296 * g5 + 1099511627776 * g6 + 281474976710656 * g7) + (g1 + 256 * g2 + 65536 * g3 + 16777216 * g4 + 4294967296 * g5 + 1099511627776 * g6 + 281474976710656 * g7) = ((g0 + g1) + 256 * (g1 + g2)) + 65536 * ((g2 + g3) + 256 * (g3 + g4) + 65536 * (g4 + g5) + 16777216 * (g5 + g6) + 4294967296 * (g6 + g7) + 1099511627776 * g7) := by omega
  rw [e2, fold_16 (by omega) (by omega)]
  have e3 : ((g0 + g1) + 256 * (g1 + g2)) + 65536 * ((g2 + g3) + 256 * (g3 + g4) + 65536 * (g4 + g5) + 16777216 * (g5 + g6) + 4294967296 * (g6 + g7) + 1099511627776 * g7) + ((g2 + g3) + 256 * (g3 + g4) + 65536 * (g4 + g5) + 16777216 * (g5 + g6) + 4294967296 * (g6 + g7) + 1099511627776 * g7) = (g0 + g1 + g2 + g3) + 256 * ((g1 + g2 + g3 + g4) + 256 * (g2 + g3 + g4 + g5) + 65536 * (g3 + g4 + g5 + g6)) + 4294967296 * ((g4 + g5 + g6 + g7) + 256 * ((g5 + g6 + g7) + 256 * (g6 + g7) + 65536 * g7)) := by omega
  rw [e3, fold_32 (by omega) (by omega)]
  omega
theorem count_un (v : Int64) : u3 (g_Long_bitCount v) = pF 1 (un v % 256) + pF 1 (un v / 256 % 256) + pF 1 (un v / 65536 % 256) + pF 1 (un v / 16777216 % 256) + pF 1 (un v / 4294967296 % 256) + pF 1 (un v / 1099511627776 % 256) + pF 1 (un v / 281474976710656 % 256) + pF 1 (un v / 72057594037927936 % 256) := by
  unfold g_Long_bitCount g_Long_bitCount_0 g_Long_bitCount_10 g_Long_bitCount_24 g_Long_bitCount_34 g_Long_bitCount_41 g_Long_bitCount_48 g_Long_bitCount_55
  have lv := un_lt v
  have m5 : un 6148914691236517205 = rep 85 8 := by decide +kernel
  have m3 : un 3689348814741910323 = rep 51 8 := by decide +kernel
  have m0 : un 1085102592571150095 = rep 15 8 := by decide +kernel
  have r3 : rep 51 8 = 3689348814741910323 := by decide +kernel
  have r0 : rep 15 8 = 1085102592571150095 := by decide +kernel
  -- step 1
  have s1 : un (v - (j_lushr v 1 &&& 6148914691236517205)) = pf1 8 (un v) := by
    rw [un_sub, un_and, shr1, m5]
    unfold pf1
    have l1 : un v / 2 &&& rep 85 8 ≤ un v := Nat.le_trans Nat.and_le_left (Nat.div_le_self _ _)
    generalize un v / 2 &&& rep 85 8 = t at l1
    omega
  generalize v - (j_lushr v 1 &&& 6148914691236517205) = x1 at s1 ⊢
  have s2 : un ((x1 &&& 3689348814741910323) + (j_lushr x1 2 &&& 3689348814741910323)) = pf2 8 (pf1 8 (un v)) ∧ pf2 8 (pf1 8 (un v)) < 9223372036854775808 := by
    rw [un_add, un_and, un_and, shr2, m3, s1]
    unfold pf2
    have l1 : pf1 8 (un v) &&& rep 51 8 ≤ rep 51 8 := Nat.and_le_right
    have l2 : pf1 8 (un v) / 4 &&& rep 51 8 ≤ rep 51 8 := Nat.and_le_right
    rw [r3] at l1 l2 ⊢
    generalize pf1 8 (un v) &&& 3689348814741910323 = t1 at l1
    generalize pf1 8 (un v) / 4 &&& 3689348814741910323 = t2 at l2
    omega
  generalize (x1 &&& 3689348814741910323) + (j_lushr x1 2 &&& 3689348814741910323) = x2 at s2 ⊢
  have s3 : un ((x2 + j_lushr x2 4) &&& 1085102592571150095) = pF 8 (un v) := by
    rw [un_and, un_add, shr4, m0, s2.1, Nat.mod_eq_of_lt (by have := s2.2; omega)]
    rfl
  generalize (x2 + j_lushr x2 4) &&& 1085102592571150095 = x3 at s3 ⊢
  rw [pF_8 lv] at s3
  have b0 := (dc4 ⟨un v % 256, by omega⟩).2.2.2.1
  have b1 := (dc4 ⟨un v / 256 % 256, by omega⟩).2.2.2.1
  have b2 := (dc4 ⟨un v / 65536 % 256, by omega⟩).2.2.2.1
  have b3 := (dc4 ⟨un v / 16777216 % 256, by omega⟩).2.2.2.1
  have b4 := (dc4 ⟨un v / 4294967296 % 256, by omega⟩).2.2.2.1
  have b5 := (dc4 ⟨un v / 1099511627776 % 256, by omega⟩).2.2.2.1
  have b6 := (dc4 ⟨un v / 281474976710656 % 256, by omega⟩).2.2.2.1
  have b7 := (dc4 ⟨un v / 72057594037927936 % 256, by omega⟩).2.2.2.1
  have b0 : pF 1 (un v % 256) ≤ 8 := b0
  have b1 : pF 1 (un v / 256 % 256) ≤ 8 := b1
  have b2 : pF 1 (un v / 65536 % 256) ≤ 8 := b2
  have b3 : pF 1 (un v / 16777216 % 256) ≤ 8 := b3
  have b4 : pF 1 (un v / 4294967296 % 256) ≤ 8 := b4
  have b5 : pF 1 (un v / 1099511627776 % 256) ≤ 8 := b5
  have b6 : pF 1 (un v / 281474976710656 % 256) ≤ 8 := b6
  have b7 : pF 1 (un v / 72057594037927936 % 256) ≤ 8 := b7
  rw [u3_and, show u3 127 = 2 ^ 7 - 1 from rfl, Nat.and_two_pow_sub_one_eq_mod, u3_l2i, un_add, hi32, un_add, shr16, un_add, shr8, s3]
  generalize pF 1 (un v % 256) = g0 at *
  generalize pF 1 (un v / 256 % 256) = g1 at *
  generalize pF 1 (un v / 65536 % 256) = g2 at *
  generalize pF 1 (un v / 16777216 % 256) = g3 at *
  generalize pF 1 (un v / 4294967296 % 256) = g4 at *
  generalize pF 1 (un v / 1099511627776 % 256) = g5 at *
  generalize pF 1 (un v / 281474976710656 % 256) = g6 at *
  generalize pF 1 (un v / 72057594037927936 % 256) = g7 at *
  clear s1 s2 s3
  exact bytes_sum b0 b1 b2 b3 b4 b5 b6 b7
theorem pow_one_bit {v : Int64} {k : Nat} (hk : k < 64) (h : un v = 2 ^ k) : g_Sets_isOneBit v = 1 := by
  have hv : v = j_lshl 1 (Int32.ofNat k) := un_inj (h.trans (bitN (n := k) hk).symm)
  have : ∀ k : Fin 64, g_Sets_isOneBit (j_lshl 1 (Int32.ofNat k.val)) = 1 := by decide +kernel
  rw [hv]; exact this ⟨k, hk⟩
theorem one_pow {v : Int64} (h : g_Sets_isOneBit v = 1) : ∃ k, k < 64 ∧ v = j_lshl 1 (Int32.ofNat k) := by
  unfold g_Sets_isOneBit g_Sets_isOneBit_0 at h
  by_cases c1 : lg_cmp v 0 = 0
  · rw [if_pos c1] at h; exact absurd h (by decide)
  · rw [if_neg c1] at h
    by_cases c2 : lg_cmp (v &&& (v - 1)) 0 = 0
    · have hv : v ≠ 0 := fun z => c1 (cmp_eq.mpr z)
      obtain ⟨l, l1, l2, l3, -⟩ := lob hv
      have hz := cmp_eq.mp c2
      -- above l no bit is set
      have up : ∀ j, l < j → tb v j = false := by
        intro j hj
        by_cases h64 : j < 64
        · cases q : tb v j with
          | false => rfl
          | true =>
            exfalso
            have t := tb_sub h64 v 1
            have one : ∀ i, tb 1 i = decide (i = 0) := fun i => by
              rw [tb_un, show un 1 = 2 ^ 0 from rfl, Nat.testBit_two_pow]
              by_cases h : i = 0
              · simp [h]
              · have h' : ¬ 0 = i := fun z => h z.symm
                simp [h, h']
            -- borrows below l are 1, above they are 0
            have bb : ∀ i, i ≤ l → i ≠ 0 → br i v 1 = true := by
              intro i
              induction i with
              | zero => intro _ z; exact absurd rfl z
              | succ i ih =>
                intro hi _
                rw [br_succ (by omega), l3 i (by omega), one]
                by_cases hz : i = 0
                · rw [hz, br_zero]; decide
                · rw [ih (by omega) hz]; simp [maj]
            have b0 : ∀ i, l < i → i ≤ 64 → br i v 1 = false := by
              intro i
              induction i with
              | zero => intro z; omega
              | succ i ih =>
                intro hi h6
                rw [br_succ (by omega), one]
                by_cases hl : i = l
                · rw [hl, l2]
                  by_cases hz : l = 0
                  · rw [hz, br_zero]; decide
                  · simp [maj, hz]
                · have hz : ¬ i = 0 := by omega
                  rw [ih (by omega) (by omega)]; simp [maj, hz]
            have jz : ¬ j = 0 := by omega
            rw [q, one, b0 j hj (by omega)] at t
            simp [jz] at t
            have := congrArg (fun w => tb w j) hz
            simp only [tb_and, tb_zero, q, t] at this
            cases this
        · exact tb_ge (by omega)
      have hv2 : v = j_lshl 1 (Int32.ofNat l) := tb_ext fun j hj => by
        rw [tb_bit l1]
        rcases Nat.lt_trichotomy j l with e | e | e
        · rw [l3 j e]; have : ¬ j = l := by omega
          simp [this]
        · rw [e, l2]; simp
        · rw [up j e]; have : ¬ j = l := by omega
          simp [this]
      exact ⟨l, l1, hv2⟩
    · rw [if_neg c2] at h; exact absurd h (by decide)
/-- bitCount is 1 where isOneBit says so -/
theorem count_one (v : Int64) : g_Long_bitCount v = 1 ↔ g_Sets_isOneBit v = 1 := by
  constructor
  · intro h
    have e := count_un v
    rw [h, show u3 1 = 1 from rfl] at e
    have lv := un_lt v
    have z : ∀ r : Nat, r < 256 → (pF 1 r = 0 → r = 0) ∧ (pF 1 r = 1 → r = 1 ∨ r = 2 ∨ r = 4 ∨ r = 8 ∨ r = 16 ∨ r = 32 ∨ r = 64 ∨ r = 128) := fun r hr => (dc4 ⟨r, hr⟩).2.2.2.2
    have p : ∀ k, k < 64 → un v = 2 ^ k → g_Sets_isOneBit v = 1 := fun k hk h => pow_one_bit hk h
    have any : ∀ (s m r : Nat), s < 8 → m = 2 ^ (8 * s) → un v = m * r → (r = 1 ∨ r = 2 ∨ r = 4 ∨ r = 8 ∨ r = 16 ∨ r = 32 ∨ r = 64 ∨ r = 128) → g_Sets_isOneBit v = 1 := by
      intro s m r hs hm hv hr
      have f : ∀ t, t < 8 → r = 2 ^ t → g_Sets_isOneBit v = 1 := fun t ht hr => p (8 * s + t) (by omega) (by rw [hv, hm, hr, Nat.pow_add])
      rcases hr with e | e | e | e | e | e | e | e
      · exact f 0 (by decide) e
      · exact f 1 (by decide) e
      · exact f 2 (by decide) e
      · exact f 3 (by decide) e
      · exact f 4 (by decide) e
      · exact f 5 (by decide) e
      · exact f 6 (by decide) e
      · exact f 7 (by decide) e
    have hsum : un v = un v % 256 + 256 * (un v / 256 % 256) + 65536 * (un v / 65536 % 256) + 16777216 * (un v / 16777216 % 256) + 4294967296 * (un v / 4294967296 % 256) + 1099511627776 * (un v / 1099511627776 % 256) + 281474976710656 * (un v / 281474976710656 % 256) + 72057594037927936 * (un v / 72057594037927936 % 256) := by
      have q1 : un v / 65536 = un v / 256 / 256 := by omega
      have q2 : un v / 16777216 = un v / 65536 / 256 := by omega
      have q3 : un v / 4294967296 = un v / 16777216 / 256 := by omega
      have q4 : un v / 1099511627776 = un v / 4294967296 / 256 := by omega
      have q5 : un v / 281474976710656 = un v / 1099511627776 / 256 := by omega
      have q6 : un v / 72057594037927936 = un v / 281474976710656 / 256 := by omega
      have q7 : un v / 72057594037927936 < 256 := by omega
      generalize un v / 72057594037927936 = x7 at *
      generalize un v / 281474976710656 = x6 at *
      generalize un v / 1099511627776 = x5 at *
      generalize un v / 4294967296 = x4 at *
      generalize un v / 16777216 = x3 at *
      generalize un v / 65536 = x2 at *
      omega
    have y0 := z (un v % 256) (by omega)
    have y1 := z (un v / 256 % 256) (by omega)
    have y2 := z (un v / 65536 % 256) (by omega)
    have y3 := z (un v / 16777216 % 256) (by omega)
    have y4 := z (un v / 4294967296 % 256) (by omega)
    have y5 := z (un v / 1099511627776 % 256) (by omega)
    have y6 := z (un v / 281474976710656 % 256) (by omega)
    have y7 := z (un v / 72057594037927936 % 256) (by omega)
    clear z p
    generalize un v % 256 = r0 at *
    generalize un v / 256 % 256 = r1 at *
    generalize un v / 65536 % 256 = r2 at *
    generalize un v / 16777216 % 256 = r3 at *
    generalize un v / 4294967296 % 256 = r4 at *
    generalize un v / 1099511627776 % 256 = r5 at *
    generalize un v / 281474976710656 % 256 = r6 at *
    generalize un v / 72057594037927936 % 256 = r7 at *
    generalize pF 1 r0 = g0 at *
    generalize pF 1 r1 = g1 at *
    generalize pF 1 r2 = g2 at *
    generalize pF 1 r3 = g3 at *
    generalize pF 1 r4 = g4 at *
    generalize pF 1 r5 = g5 at *
    generalize pF 1 r6 = g6 at *
    generalize pF 1 r7 = g7 at *
    have cs : g0 = 1 ∨ g1 = 1 ∨ g2 = 1 ∨ g3 = 1 ∨ g4 = 1 ∨ g5 = 1 ∨ g6 = 1 ∨ g7 = 1 := by omega
    rcases cs with c | c | c | c | c | c | c | c
    · exact any 0 1 r0 (by decide) (by decide) (by have := y1.1 (by omega); have := y2.1 (by omega); have := y3.1 (by omega); have := y4.1 (by omega); have := y5.1 (by omega); have := y6.1 (by omega); have := y7.1 (by omega); omega) (y0.2 c)
    · exact any 1 256 r1 (by decide) (by decide) (by have := y0.1 (by omega); have := y2.1 (by omega); have := y3.1 (by omega); have := y4.1 (by omega); have := y5.1 (by omega); have := y6.1 (by omega); have := y7.1 (by omega); omega) (y1.2 c)
    · exact any 2 65536 r2 (by decide) (by decide) (by have := y0.1 (by omega); have := y1.1 (by omega); have := y3.1 (by omega); have := y4.1 (by omega); have := y5.1 (by omega); have := y6.1 (by omega); have := y7.1 (by omega); omega) (y2.2 c)
    · exact any 3 16777216 r3 (by decide) (by decide) (by have := y0.1 (by omega); have := y1.1 (by omega); have := y2.1 (by omega); have := y4.1 (by omega); have := y5.1 (by omega); have := y6.1 (by omega); have := y7.1 (by omega); omega) (y3.2 c)
    · exact any 4 4294967296 r4 (by decide) (by decide) (by have := y0.1 (by omega); have := y1.1 (by omega); have := y2.1 (by omega); have := y3.1 (by omega); have := y5.1 (by omega); have := y6.1 (by omega); have := y7.1 (by omega); omega) (y4.2 c)
    · exact any 5 1099511627776 r5 (by decide) (by decide) (by have := y0.1 (by omega); have := y1.1 (by omega); have := y2.1 (by omega); have := y3.1 (by omega); have := y4.1 (by omega); have := y6.1 (by omega); have := y7.1 (by omega); omega) (y5.2 c)
    · exact any 6 281474976710656 r6 (by decide) (by decide) (by have := y0.1 (by omega); have := y1.1 (by omega); have := y2.1 (by omega); have := y3.1 (by omega); have := y4.1 (by omega); have := y5.1 (by omega); have := y7.1 (by omega); omega) (y6.2 c)
    · exact any 7 72057594037927936 r7 (by decide) (by decide) (by have := y0.1 (by omega); have := y1.1 (by omega); have := y2.1 (by omega); have := y3.1 (by omega); have := y4.1 (by omega); have := y5.1 (by omega); have := y6.1 (by omega); omega) (y7.2 c)
  · intro h
    obtain ⟨l, l1, hv2⟩ := one_pow h
    have : ∀ k : Fin 64, g_Long_bitCount (j_lshl 1 (Int32.ofNat k.val)) = 1 := by decide +kernel
    rw [hv2]; exact this ⟨l, l1⟩
