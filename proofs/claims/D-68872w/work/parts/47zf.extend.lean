/-! part 47zf: extend: a member; tight forms of the operations -/
theorem half_i32 : ∀ n : Fin 64, 0 < n.val → Int32.ofNat n.val - 1 = Int32.ofNat (n.val - 1) := by decide +kernel
theorem ne_ext {w : AV} (bw : bu w) {n : Nat} (hn : 0 < n) (hn2 : n < 63) (hs : ∀ z, vin w z → un z < 2 ^ n) (hlo : un w.lo < 2 ^ n) (hhi : un w.hi < 2 ^ n) (hbits : ∀ j, n ≤ j → tb w.b j = false ∧ tb w.u j = false) {a : Int64} (ha : vin w a) : vin (rExt (Int32.ofNat n) w) (if tb a (n - 1) = true then a ||| (g_Sieve_mask (Int32.ofNat n) ^^^ (-1)) else a) := by
  have e1 : Int32.ofNat n - 1 = Int32.ofNat (n - 1) := half_i32 ⟨n, by omega⟩ hn
  have hb : ∀ j, tb (j_lshl 1 (Int32.ofNat (n - 1))) j = decide (j = n - 1) := tb_bit (by omega)
  have uh : un (j_lshl 1 (Int32.ofNat (n - 1))) = 2 ^ (n - 1) := bitN (n := n - 1) (by omega)
  have hm := mask_tb' (n := n) (by omega)
  have pn : 2 ^ n = 2 * 2 ^ (n - 1) := by
    rw [show n = (n - 1) + 1 by omega, Nat.pow_succ]; simp; omega
  have p62 : 2 ^ n ≤ 4611686018427387904 := by
    have : 2 ^ n ≤ 2 ^ 62 := Nat.pow_le_pow_right (by decide) (by omega)
    exact this
  have zt : ∀ x : Int64, lg_cmp (x &&& j_lshl 1 (Int32.ofNat (n - 1))) 0 = 0 ↔ tb x (n - 1) = false := by
    intro x
    rw [cmp_eq]
    constructor
    · intro h
      have := congrArg (fun z => tb z (n - 1)) h
      simp only [tb_and, hb, tb_zero, decide_true, Bool.and_true] at this
      exact this
    · intro h
      refine tb_ext fun j _ => ?_
      rw [tb_and, hb, tb_zero]
      by_cases q : j = n - 1
      · rw [q, h]; rfl
      · simp [q]
  have ua := hs a ha
  have abit : tb a (n - 1) = decide (2 ^ (n - 1) ≤ un a) := by
    rw [tb_un, Nat.testBit_eq_decide_div_mod_eq, decide_eq_decide]
    have pp := Nat.two_pow_pos (n - 1)
    constructor
    · intro h
      refine Classical.byContradiction fun c => ?_
      rw [Nat.div_eq_of_lt (by omega)] at h
      omega
    · intro h
      have : un a / 2 ^ (n - 1) = 1 := Nat.div_eq_of_lt_le (by omega) (by omega)
      rw [this]
  have ahi : ∀ j, n ≤ j → tb a j = false := fun j hj => by
    have := ha.1 j (hbits j hj).2
    rw [this, (hbits j hj).1]
  -- the number of the extended one
  have hz : (if tb a (n - 1) = true then a ||| (g_Sieve_mask (Int32.ofNat n) ^^^ (-1)) else a).toInt = if 2 ^ (n - 1) ≤ un a then (un a : Int) - ((2 ^ n : Nat) : Int) else (un a : Int) := by
    by_cases c : 2 ^ (n - 1) ≤ un a
    · rw [if_pos (by rw [abit]; exact decide_eq_true c), if_pos c]
      have eo : a ||| (g_Sieve_mask (Int32.ofNat n) ^^^ (-1)) = a - j_lshl 1 (Int32.ofNat n) := by
        have d : a &&& (g_Sieve_mask (Int32.ofNat n) ^^^ (-1)) = 0 := and_0.mpr fun j ⟨h1, h2⟩ => by
          rw [tb_cpl, hm] at h2
          by_cases q : j < n
          · simp [q] at h2
          · rw [ahi j (by omega)] at h1; cases h1
        rw [← add_or d]
        apply un_inj
        have em : un (g_Sieve_mask (Int32.ofNat n)) = 2 ^ n - 1 := by
          have h64 : ¬ Int32.ofNat n = 64 := fun q => by
            have := congrArg u3 q
            rw [u3_ofNat (by omega)] at this
            have : n = 64 := this
            omega
          unfold g_Sieve_mask g_Sieve_mask_0
          rw [if_neg h64, un_sub, bitN (n := n) (by omega), show un 1 = 1 from rfl]
          have := Nat.two_pow_pos n
          show (18446744073709551616 - 1 + 2 ^ n) % 18446744073709551616 = 2 ^ n - 1
          omega
        have pp := Nat.two_pow_pos n
        rw [un_add, un_cpl, em, un_sub, bitN (n := n) (by omega)]
        show (un a + (18446744073709551615 - (2 ^ n - 1))) % 18446744073709551616 = (18446744073709551616 - 2 ^ n + un a) % 18446744073709551616
        omega
      have s := un_sub a (j_lshl 1 (Int32.ofNat n))
      rw [bitN (n := n) (by omega)] at s
      have s' : un (a - j_lshl 1 (Int32.ofNat n)) = (18446744073709551616 - 2 ^ n + un a) % 18446744073709551616 := s
      rw [eo]
      rcases un_int (a - j_lshl 1 (Int32.ofNat n)) with ⟨h1, h2⟩ | ⟨h1, h2⟩ <;> omega
    · rw [if_neg (by rw [abit]; simp [c]), if_neg c, toInt_nn (by omega)]
  unfold rExt
  rw [e1]
  refine in_sgn (in_say fun j hj => ?_) ?_ ?_
  · -- the bits
    have hae := ha.1 (n - 1)
    by_cases cu : tb w.u (n - 1) = false
    · rw [if_pos ((zt w.u).mpr cu)] at hj ⊢
      have ab := hae cu
      rw [tb_and, tb_cpl, hj]
      by_cases cb : tb w.b (n - 1) = false
      · rw [if_pos ((zt w.b).mpr cb), if_neg (by rw [ab, cb]; decide), ha.1 j hj]
        by_cases h64 : j < 64
        · simp [h64]
        · rw [tb_ge (by omega)]; simp
      · have cb' : tb w.b (n - 1) = true := by cases q : tb w.b (n - 1) <;> simp_all
        rw [if_neg (fun q => cb ((zt w.b).mp q)), if_pos (by rw [ab, cb']), tb_or, tb_or, tb_cpl, hm, ha.1 j hj]
        by_cases h64 : j < 64
        · simp [h64]
        · rw [tb_ge (by omega)]; simp [h64]
    · rw [if_neg (fun q => cu ((zt w.u).mp q))] at hj ⊢
      rw [tb_or, tb_cpl, hm, Bool.or_eq_false_iff] at hj
      by_cases h64 : j < 64
      · have hjn : j < n := by
          by_cases q : j < n
          · exact q
          · have := hj.2; simp [q, h64] at this
        have cu' : tb w.u (n - 1) = true := by cases q : tb w.u (n - 1) <;> simp_all
        have cb : tb w.b (n - 1) = false := by
          have := vb_f bw (n - 1)
          rw [cu'] at this
          cases q : tb w.b (n - 1) <;> simp_all
        rw [if_pos ((zt w.b).mpr cb), tb_and, tb_cpl, tb_or, tb_cpl, hm, hj.1]
        have : tb (if tb a (n - 1) = true then a ||| (g_Sieve_mask (Int32.ofNat n) ^^^ (-1)) else a) j = tb a j := by
          split
          · rw [tb_or, tb_cpl, hm]; simp [hjn]
          · rfl
        rw [this, ha.1 j hj.1]; simp [hjn, h64]
      · rw [tb_ge (by omega), tb_ge (by omega)]
  · rw [hz]
    simp only [cmp_ge, cmp_lt, le_un, lt_un, toInt_nn (x := w.hi) (by omega), toInt_nn (x := w.lo) (by omega), toInt_nn (x := j_lshl 1 (Int32.ofNat (n - 1))) (by omega), uh]
    have l1 := ha.2.1
    have l2 := ha.2.2.1
    have u2 : un (2 * j_lshl 1 (Int32.ofNat (n - 1))) = 2 ^ n := by rw [un_mul, uh, show un 2 = 2 from rfl]; omega
    have s1 := un_sub w.lo (2 * j_lshl 1 (Int32.ofNat (n - 1)))
    have s2 := un_neg (j_lshl 1 (Int32.ofNat (n - 1)))
    rw [u2] at s1
    rw [uh] at s2
    rcases un_int (-j_lshl 1 (Int32.ofNat (n - 1))) with ⟨q1, q2⟩ | ⟨q1, q2⟩ <;> rcases un_int (w.lo - 2 * j_lshl 1 (Int32.ofNat (n - 1))) with ⟨q3, q4⟩ | ⟨q3, q4⟩ <;> by_cases c1 : ((2 ^ (n - 1) : Nat) : Int) ≤ ((un w.hi : Nat) : Int) <;> by_cases c2 : ((un w.lo : Nat) : Int) < ((2 ^ (n - 1) : Nat) : Int) <;> by_cases c3 : 2 ^ (n - 1) ≤ un a <;> simp only [c1, c2, c3, if_true, if_false] <;> first | omega | (rw [toInt_nn (x := w.lo) (by omega)]; omega)
  · rw [hz]
    simp only [cmp_ge, cmp_lt, le_un, lt_un, toInt_nn (x := w.hi) (by omega), toInt_nn (x := w.lo) (by omega), toInt_nn (x := j_lshl 1 (Int32.ofNat (n - 1))) (by omega), uh]
    have l1 := ha.2.1
    have l2 := ha.2.2.1
    have u2 : un (2 * j_lshl 1 (Int32.ofNat (n - 1))) = 2 ^ n := by rw [un_mul, uh, show un 2 = 2 from rfl]; omega
    have s1 := un_sub w.hi (2 * j_lshl 1 (Int32.ofNat (n - 1)))
    have s2 := un_sub (j_lshl 1 (Int32.ofNat (n - 1))) 1
    rw [u2] at s1
    rw [uh, show un 1 = 1 from rfl] at s2
    have pp := Nat.two_pow_pos (n - 1)
    rcases un_int (j_lshl 1 (Int32.ofNat (n - 1)) - 1) with ⟨q1, q2⟩ | ⟨q1, q2⟩ <;> rcases un_int (w.hi - 2 * j_lshl 1 (Int32.ofNat (n - 1))) with ⟨q3, q4⟩ | ⟨q3, q4⟩ <;> by_cases c1 : ((2 ^ (n - 1) : Nat) : Int) ≤ ((un w.hi : Nat) : Int) <;> by_cases c2 : ((un w.lo : Nat) : Int) < ((2 ^ (n - 1) : Nat) : Int) <;> by_cases c3 : 2 ^ (n - 1) ≤ un a <;> simp only [c1, c2, c3, if_true, if_false] <;> first | omega | (rw [toInt_nn (x := w.hi) (by omega)]; omega)
theorem cut_bits {x : AV} (hx : Tt x) {n : Nat} (hn : n < 64) (j : Nat) (hj : n ≤ j) : tb (vCut (Int32.ofNat n) x).b j = false ∧ tb (vCut (Int32.ofNat n) x).u j = false := by
  have hT := cut_T hx (n := n) (by omega)
  have z : ∀ y, vin (vCut (Int32.ofNat n) x) y → tb y j = false := fun y hy => by
    have := cut_small hx hn hy
    rw [tb_un]
    exact Nat.testBit_lt_two_pow (Nat.lt_of_lt_of_le this (Nat.pow_le_pow_right (by decide) hj))
  have hu : tb (vCut (Int32.ofNat n) x).u j = false := by
    cases c : tb (vCut (Int32.ofNat n) x).u j with
    | false => rfl
    | true =>
      obtain ⟨p, q, hp, hq, hpq⟩ := hT.2.2.2.2.1 j c
      rw [z p hp, z q hq] at hpq
      exact absurd rfl hpq
  refine ⟨?_, hu⟩
  have := hT.2.2.2.2.2.2 _ hT.1.1 j hu
  rw [← this]; exact z _ hT.1.1
theorem ext_T {x : AV} (hx : Tt x) {n : Nat} (hn : 0 < n) (hn2 : n < 63) : Tt (vExt (Int32.ofNat n) x) := by
  have hT := cut_T hx (n := n) (by omega)
  exact tt_T bu_ext0 (ne_ext hT.bu hn hn2 (fun z hz => cut_small hx (by omega) hz) (cut_small hx (by omega) hT.1.1) (cut_small hx (by omega) hT.2.1.1) (cut_bits hx (by omega)) hT.1.1)
theorem swap_T {x : AV} {n : Int32} : Tt (vSwap n x) := tt_T bu_say (in_say fun _ _ => rfl)
theorem op_T {x y : AV} {k : Nat} {n : Int32} (hk : k < 12) (hn : n = 64 ∨ n = 32) (hx : Tt x) (hy : Tt y) : Tt (vOp k n x y) := by
  unfold vOp
  have e : ∃ m, m ≤ 64 ∧ n = Int32.ofNat m ∧ (n - 1 = 63 ∨ n - 1 = 31) := by
    rcases hn with rfl | rfl
    · exact ⟨64, by decide, rfl, by decide⟩
    · exact ⟨32, by decide, rfl, by decide⟩
  obtain ⟨m, m64, em, h3⟩ := e
  have hc : ∀ z, Tt z → Tt (vCut n z) := fun z hz => by rw [em]; exact cut_T hz m64
  refine hc _ (raw_T hk h3 ?_ (hc y hy))
  split
  · rename_i c
    rw [c.2]; exact ext_T hx (n := 32) (by decide) (by decide)
  · exact hc x hx
theorem one_T (v : Int64) : Tt (vOne v) := by
  have : vin (vOne v) v := ⟨fun _ _ => rfl, Nat.le_refl _, Nat.le_refl _, Int.le_refl _, Int.le_refl _⟩
  exact plain_one fun x => ⟨fun h => vin_known rfl x h, fun h => h ▸ this⟩
theorem free_T : Tt vFree := plain_all
/-- of a tight value: the bits are all known, the bounds are one -/
theorem Tt.single {w : AV} (h : Tt w) : w.u = 0 ↔ w.lo = w.hi := by
  constructor
  · intro z
    have h1 := vin_known z w.lo h.1.1
    have h2 := vin_known z w.hi h.2.1.1
    rw [h1, h2]
  · intro z
    have all : ∀ x, vin w x → x = w.lo := fun x hx => un_inj (by
      have h1 := h.1.2 x hx
      have h2 := h.2.1.2 x hx
      rw [← z] at h2
      omega)
    refine tb_ext fun j _ => ?_
    rw [tb_zero]
    cases c : tb w.u j with
    | false => rfl
    | true =>
      obtain ⟨p, q, hp, hq, hpq⟩ := h.2.2.2.2.1 j c
      rw [all p hp, all q hq] at hpq
      exact absurd rfl hpq
theorem Tt.one_of {w : AV} (h : Tt w) (z : w.u = 0) : w = vOne w.b := by
  have h1 := vin_known z w.lo h.1.1
  have h2 := vin_known z w.hi h.2.1.1
  have h3 := vin_known z w.le h.2.2.1.1
  have h4 := vin_known z w.gr h.2.2.2.1.1
  obtain ⟨a, b, c, d, e, f⟩ := w
  simp only [AV.b, AV.u, AV.lo, AV.hi, AV.le, AV.gr] at *
  rw [h1, h2, h3, h4, z]
