/-! part 47zd: members of products -/
theorem i32_add {a b : Nat} : Int32.ofNat a + Int32.ofNat b = Int32.ofNat (a + b) := by rw [Int32.ofNat_add]
theorem toInt_ofNat32 {a : Nat} (h : a < 2147483648) : (Int32.ofNat a).toInt = a := by
  rw [toInt_u3, u3_ofNat (by omega), if_pos h]
theorem min_ii {a b : Nat} (ha : a < 2147483648) (hb : b < 2147483648) : g_Math_min_II (Int32.ofNat a) (Int32.ofNat b) = Int32.ofNat (min a b) := by
  unfold g_Math_min_II g_Math_min_II_0
  have : Int32.ofNat b < Int32.ofNat a ↔ b < a := by
    rw [lt_u3, toInt_ofNat32 ha, toInt_ofNat32 hb]; omega
  by_cases h : b < a
  · rw [if_pos (this.mpr h), Nat.min_eq_right (by omega)]
  · rw [if_neg (fun z => h (this.mp z)), Nat.min_eq_left (by omega)]
theorem mask_tb' {n : Nat} (hn : n ≤ 64) (j : Nat) : tb (g_Sieve_mask (Int32.ofNat n)) j = decide (j < n) := by
  unfold g_Sieve_mask g_Sieve_mask_0
  by_cases h : n = 64
  · rw [h, if_pos (by decide), tb_ones]
  · have : ¬ Int32.ofNat n = 64 := fun z => h (by
      have := congrArg u3 z
      rw [u3_ofNat (by omega)] at this
      exact this)
    rw [if_neg this, mask_tb (by omega)]
theorem low_mod {n : Nat} {x y : Nat} : (∀ j, j < n → x.testBit j = y.testBit j) ↔ x % 2 ^ n = y % 2 ^ n := by
  constructor
  · intro h
    apply Nat.eq_of_testBit_eq
    intro j
    rw [Nat.testBit_mod_two_pow, Nat.testBit_mod_two_pow]
    by_cases c : j < n
    · rw [h j c]
    · simp [c]
  · intro h j hj
    have := congrArg (fun z => z.testBit j) h
    simp only [Nat.testBit_mod_two_pow, hj, decide_true, Bool.true_and] at this
    exact this
theorem dvd_of_mod {n x y : Nat} (h : x % 2 ^ n = y % 2 ^ n) : ((2 ^ n : Nat) : Int) ∣ (x : Int) - (y : Int) := by
  have h1 := Nat.div_add_mod x (2 ^ n)
  have h2 := Nat.div_add_mod y (2 ^ n)
  refine ⟨((x / 2 ^ n : Nat) : Int) - ((y / 2 ^ n : Nat) : Int), ?_⟩
  rw [Int.mul_sub, ← Int.natCast_mul, ← Int.natCast_mul]
  omega
theorem mod_of_dvd {n x y : Nat} (h : ((2 ^ n : Nat) : Int) ∣ (x : Int) - (y : Int)) : x % 2 ^ n = y % 2 ^ n := by
  have h1 : ((x : Int) - y) % ((2 ^ n : Nat) : Int) = 0 := Int.emod_eq_zero_of_dvd h
  have h2 := Int.emod_emod_of_dvd
  have := (Int.emod_eq_emod_iff_emod_sub_eq_zero (n := ((2 ^ n : Nat) : Int)) (m := (x : Int)) (k := (y : Int))).mpr h1
  have e1 : ((x % 2 ^ n : Nat) : Int) = (x : Int) % ((2 ^ n : Nat) : Int) := Int.natCast_emod _ _
  have e2 : ((y % 2 ^ n : Nat) : Int) = (y : Int) % ((2 ^ n : Nat) : Int) := Int.natCast_emod _ _
  omega
theorem pow_dvd_mul {a b : Nat} {p q : Int} (h1 : ((2 ^ a : Nat) : Int) ∣ p) (h2 : ((2 ^ b : Nat) : Int) ∣ q) {K : Nat} (hK : K ≤ a + b) : ((2 ^ K : Nat) : Int) ∣ p * q := by
  have h3 : ((2 ^ (a + b) : Nat) : Int) ∣ p * q := by
    rw [Nat.pow_add, Int.natCast_mul]
    exact Int.mul_dvd_mul h1 h2
  have h4 : ((2 ^ K : Nat) : Int) ∣ ((2 ^ (a + b) : Nat) : Int) := Int.natCast_dvd_natCast.mpr (Nat.pow_dvd_pow 2 hK)
  exact Int.dvd_trans h4 h3
/-- the lowest bits of a product -/
theorem mul_low {a b p q kx ky zx zy K : Nat} (h1 : a % 2 ^ kx = p % 2 ^ kx) (h2 : b % 2 ^ ky = q % 2 ^ ky) (h3 : b % 2 ^ zy = 0) (h4 : p % 2 ^ zx = 0) (hK1 : K ≤ kx + zy) (hK2 : K ≤ zx + ky) : (a * b) % 2 ^ K = (p * q) % 2 ^ K := by
  apply mod_of_dvd
  have e : ((a * b : Nat) : Int) - ((p * q : Nat) : Int) = ((a : Int) - p) * b + (p : Int) * ((b : Int) - q) := by
    rw [Int.natCast_mul, Int.natCast_mul, Int.sub_mul, Int.mul_sub]; omega
  rw [e]
  have d1 := dvd_of_mod h1
  have d2 := dvd_of_mod h2
  have d3 := dvd_of_mod (n := zy) (x := b) (y := 0) (by rw [h3, Nat.zero_mod])
  have d4 := dvd_of_mod (n := zx) (x := p) (y := 0) (by rw [h4, Nat.zero_mod])
  rw [show (b : Int) - ((0 : Nat) : Int) = b by omega] at d3
  rw [show (p : Int) - ((0 : Nat) : Int) = p by omega] at d4
  exact Int.dvd_add (pow_dvd_mul d1 d3 hK1) (pow_dvd_mul d4 d2 hK2)
theorem mulK_ok (x y : AV) : ∃ K kx ky zx zy, mulK x y = Int32.ofNat K ∧ K ≤ 64 ∧ K ≤ kx + zy ∧ K ≤ ky + zx ∧ (∀ j, j < kx → tb x.u j = false) ∧ (∀ j, j < ky → tb y.u j = false) ∧ (∀ j, j < zx → tb (x.u ||| x.b) j = false) ∧ (∀ j, j < zy → tb (y.u ||| y.b) j = false) := by
  obtain ⟨kx, e1, l1⟩ := ntzL x.u
  obtain ⟨ky, e2, l2⟩ := ntzL y.u
  obtain ⟨zx, e3, l3⟩ := ntzL (x.u ||| x.b)
  obtain ⟨zy, e4, l4⟩ := ntzL (y.u ||| y.b)
  have b1 := l1.1
  have b2 := l2.1
  have b3 := l3.1
  have b4 := l4.1
  refine ⟨min 64 (min (kx + zy) (ky + zx)), kx, ky, zx, zy, ?_, by omega, by omega, by omega, l1.2.1, l2.2.1, l3.2.1, l4.2.1⟩
  unfold mulK
  rw [e1, e2, e3, e4, i32_add, i32_add, min_ii (by omega) (by omega), show (64 : Int32) = Int32.ofNat 64 from rfl, min_ii (by omega) (by omega)]
/-- a product lies between those of the bounds -/
theorem mul_side {l g A B lo hi : Int} (h1 : l ≤ A) (h2 : A ≤ g) (c1 : lo ≤ l * B) (c2 : lo ≤ g * B) (c3 : l * B ≤ hi) (c4 : g * B ≤ hi) : lo ≤ A * B ∧ A * B ≤ hi := by
  by_cases hB : 0 ≤ B
  · have := Int.mul_le_mul_of_nonneg_right h1 hB
    have := Int.mul_le_mul_of_nonneg_right h2 hB
    omega
  · have := Int.mul_le_mul_of_nonpos_right h1 (show B ≤ 0 by omega)
    have := Int.mul_le_mul_of_nonpos_right h2 (show B ≤ 0 by omega)
    omega
theorem mul_side' {l g A B lo hi : Int} (h1 : l ≤ B) (h2 : B ≤ g) (c1 : lo ≤ A * l) (c2 : lo ≤ A * g) (c3 : A * l ≤ hi) (c4 : A * g ≤ hi) : lo ≤ A * B ∧ A * B ≤ hi := by
  rw [Int.mul_comm A] at *
  exact mul_side h1 h2 c1 c2 c3 c4
theorem min_jj (a b : Int64) : (g_Math_min_JJ a b).toInt = min a.toInt b.toInt := by
  unfold g_Math_min_JJ g_Math_min_JJ_0
  by_cases h : 0 < lg_cmp a b
  · rw [if_pos h]; rw [cmp_gt, lt_un] at h; omega
  · rw [if_neg h]; rw [cmp_gt, lt_un] at h; omega
theorem max_jj (a b : Int64) : (g_Math_max a b).toInt = max a.toInt b.toInt := by
  unfold g_Math_max g_Math_max_0
  by_cases h : lg_cmp a b < 0
  · rw [if_pos h]; rw [cmp_lt, lt_un] at h; omega
  · rw [if_neg h]; rw [cmp_lt, lt_un] at h; omega
theorem ne_mul {x y : AV} (bx : bu x) (bY : bu y) {a b : Int64} (ha : vin x a) (hb : vin y b) : vin (oMul vFree x y) (a * b) := by
  obtain ⟨a1, a2, a3, a4, a5⟩ := ha
  obtain ⟨b1, b2, b3, b4, b5⟩ := hb
  obtain ⟨K, kx, ky, zx, zy, eK, k64, hK1, hK2, p1, p2, p3, p4⟩ := mulK_ok x y
  refine in_sgnIf (in_unsIf (in_say ?_) fun c => ?_) fun c => ?_
  · rw [eK]
    intro j hj
    rw [tb_cpl, mask_tb' k64] at hj
    by_cases h64 : j < 64
    · have hjK : j < K := by
        by_cases q : j < K
        · exact q
        · simp [h64, q] at hj
      rw [tb_and, tb_cpl, tb_cpl, mask_tb' k64]
      have e1 : un a % 2 ^ kx = un x.b % 2 ^ kx := low_mod.mp fun i hi => a1 i (p1 i hi)
      have e2 : un b % 2 ^ ky = un y.b % 2 ^ ky := low_mod.mp fun i hi => b1 i (p2 i hi)
      have z0 : ∀ i, (0 : Nat).testBit i = false := fun i => Nat.zero_testBit i
      have e3 : un b % 2 ^ zy = 0 := by
        have : un b % 2 ^ zy = 0 % 2 ^ zy := low_mod.mp fun i hi => by
          have q := p4 i hi
          rw [tb_or, Bool.or_eq_false_iff] at q
          rw [z0]; exact (b1 i q.1).trans q.2
        rw [this, Nat.zero_mod]
      have e4 : un x.b % 2 ^ zx = 0 := by
        have : un x.b % 2 ^ zx = 0 % 2 ^ zx := low_mod.mp fun i hi => by
          have q := p3 i hi
          rw [tb_or, Bool.or_eq_false_iff] at q
          rw [z0]; exact q.2
        rw [this, Nat.zero_mod]
      have e5 := mul_low (K := K) e1 e2 e3 e4 hK1 (by omega)
      have e6 : un (a * b) % 2 ^ K = un (x.b * y.b) % 2 ^ K := by
        have d : 2 ^ K ∣ 18446744073709551616 := Nat.pow_dvd_pow 2 k64
        rw [un_mul, un_mul, Nat.mod_mod_of_dvd _ d, Nat.mod_mod_of_dvd _ d, e5]
      have := low_mod.mpr e6 j hjK
      rw [tb_un, tb_un, this]
      simp [hjK, h64]
    · rw [tb_ge (by omega), tb_ge (by omega)]
  · have hc := (upper_0 _ _).mp c
    have m1 := Nat.mul_le_mul a2 b2
    have m2 := Nat.mul_le_mul a3 b3
    rw [un_mul, un_mul, un_mul, Nat.mod_eq_of_lt (by omega), Nat.mod_eq_of_lt (by omega), Nat.mod_eq_of_lt hc]
    exact ⟨m1, m2⟩
  · have q1 := not0 (fits_01 _ _) c.1
    have q2 := not0 (fits_01 _ _) c.2.1
    have q3 := not0 (fits_01 _ _) c.2.2.1
    have q4 := not0 (fits_01 _ _) c.2.2.2
    rw [min_jj, min_jj, min_jj, max_jj, max_jj, max_jj, mul_J q1, mul_J q2, mul_J q3, mul_J q4]
    unfold isJ64 at q1 q2 q3 q4
    have lo1 := mul_side' (lo := min (min (x.le.toInt * y.le.toInt) (x.le.toInt * y.gr.toInt)) (min (x.gr.toInt * y.le.toInt) (x.gr.toInt * y.gr.toInt))) (hi := max (max (x.le.toInt * y.le.toInt) (x.le.toInt * y.gr.toInt)) (max (x.gr.toInt * y.le.toInt) (x.gr.toInt * y.gr.toInt))) (A := x.le.toInt) b4 b5 (by omega) (by omega) (by omega) (by omega)
    have lo2 := mul_side' (lo := min (min (x.le.toInt * y.le.toInt) (x.le.toInt * y.gr.toInt)) (min (x.gr.toInt * y.le.toInt) (x.gr.toInt * y.gr.toInt))) (hi := max (max (x.le.toInt * y.le.toInt) (x.le.toInt * y.gr.toInt)) (max (x.gr.toInt * y.le.toInt) (x.gr.toInt * y.gr.toInt))) (A := x.gr.toInt) b4 b5 (by omega) (by omega) (by omega) (by omega)
    have fin := mul_side a4 a5 lo1.1 lo2.1 lo1.2 lo2.2
    have p5 : isJ64 (a.toInt * b.toInt) := by unfold isJ64; omega
    rw [mul_J p5]
    exact fin
