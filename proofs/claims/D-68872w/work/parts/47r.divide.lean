/-! part 47r: quotients without sign, upper halves of products -/
theorem div_nn {a b : Int64} (ha : un a < 9223372036854775808) (hb : un b < 9223372036854775808) : un (a / b) = un a / un b := by
  have h := Int64.toInt_div a b
  rw [toInt_nn ha, toInt_nn hb] at h
  have e : ((un a : Int).tdiv (un b : Int)) = ((un a / un b : Nat) : Int) := rfl
  have hle : un a / un b ≤ un a := Nat.div_le_self _ _
  rw [e] at h
  generalize un a / un b = q at h hle ⊢
  rw [Int.bmod_eq_of_le (by omega) (by omega)] at h
  have hc := toInt_un (a / b)
  have := un_lt (a / b)
  split at hc <;> omega
theorem shl1 (x : Int64) : un (j_lshl x 1) = (un x * 2) % 18446744073709551616 := un_shl (n := 1) (by decide) x
theorem shr1 (x : Int64) : un (j_lushr x 1) = un x / 2 := un_shr (n := 1) (by decide) x
theorem divide_un (a b : Int64) : un (g_Sieve_divide a b) = un a / un b := by
  unfold g_Sieve_divide g_Sieve_divide_0 g_Sieve_divide_37
  have la := un_lt a
  have lb := un_lt b
  by_cases c1 : lg_cmp b 0 = 0
  · rw [if_pos c1, cmp_eq.mp c1, show un 0 = 0 from rfl, Nat.div_zero]
  · rw [if_neg c1]
    have hb0 : 0 < un b := Nat.pos_of_ne_zero fun z => c1 (cmp_eq.mpr (un_inj z))
    by_cases c2 : 0 ≤ lg_cmp b 0
    · rw [if_pos c2]
      have hb := (pos_un b).mp c2
      have hq : un (j_lushr a 1 / b) = un a / 2 / un b := by
        rw [div_nn (by rw [shr1]; omega) hb, shr1]
      have hq2 := shl1 (j_lushr a 1 / b)
      rw [hq] at hq2
      generalize j_lshl (j_lushr a 1 / b) 1 = q at hq2 ⊢
      -- Q is the half quotient
      have hQ := Nat.div_add_mod (un a / 2) (un b)
      have hR := Nat.mod_lt (un a / 2) hb0
      generalize un a / 2 / un b = Q at hQ hq2
      generalize un a / 2 % un b = R at hQ hR
      have hQb : Q ≤ un b * Q := Nat.le_mul_of_pos_left _ hb0
      have hq3 : un q = 2 * Q := by rw [hq2, Nat.mod_eq_of_lt (by omega)]; omega
      have hm : un (q * b) = 2 * (un b * Q) := by
        rw [un_mul, hq3, Nat.mul_assoc, Nat.mul_comm Q, Nat.mod_eq_of_lt (by omega)]
      have hr : un (a - q * b) = un a - 2 * (un b * Q) := by
        rw [un_sub, hm]; omega
      have hl := isLess_0 (x := a - q * b) (y := b)
      rw [hr] at hl
      by_cases c3 : g_Sieve_isLess (a - q * b) b = 0
      · rw [if_pos c3]
        have := hl.mp c3
        rw [un_add, hq3, show un 1 = 1 from rfl]
        symm
        have e : un b * (2 * Q + 1) = 2 * (un b * Q) + un b := by rw [Nat.mul_add, Nat.mul_one, Nat.mul_left_comm]
        have e2 : un b * (2 * Q + 2) = 2 * (un b * Q) + 2 * un b := by rw [Nat.mul_add, Nat.mul_left_comm, Nat.mul_comm (un b) 2]
        rw [Nat.mod_eq_of_lt (by omega)]
        refine Nat.div_eq_of_lt_le ?_ ?_
        · rw [Nat.mul_comm, e]; omega
        · rw [Nat.mul_comm, show 2 * Q + 1 + 1 = 2 * Q + 2 from rfl, e2]; omega
      · rw [if_neg c3, hq3]
        have : un a - 2 * (un b * Q) < un b := Classical.byContradiction fun z => c3 (hl.mpr z)
        symm
        have e : un b * (2 * Q) = 2 * (un b * Q) := by rw [Nat.mul_left_comm]
        have e2 : un b * (2 * Q + 1) = 2 * (un b * Q) + un b := by rw [Nat.mul_add, Nat.mul_one, Nat.mul_left_comm]
        refine Nat.div_eq_of_lt_le ?_ ?_
        · rw [Nat.mul_comm, e]; omega
        · rw [Nat.mul_comm, e2]; omega
    · rw [if_neg c2]
      have hb : ¬ un b < 9223372036854775808 := fun z => c2 ((pos_un b).mpr z)
      have hl := isLess_0 (x := a) (y := b)
      by_cases c3 : g_Sieve_isLess a b = 0
      · rw [if_pos c3]
        have := hl.mp c3
        symm
        rw [show un 1 = 1 from rfl]
        exact Nat.div_eq_of_lt_le (by omega) (by omega)
      · rw [if_neg c3]
        have : un a < un b := Classical.byContradiction fun z => c3 (hl.mpr z)
        rw [Nat.div_eq_of_lt this]; rfl
/-- one step of a long division -/
theorem quo_step {A B k : Nat} (hB : 0 < B) : A / 2 ^ k = 2 * (A / 2 ^ (k + 1)) + (A / 2 ^ k) % 2 := by
  have : A / 2 ^ (k + 1) = A / 2 ^ k / 2 := by rw [Nat.pow_succ, Nat.div_div_eq_div_mul]
  rw [this]; omega
theorem quo_loop (a b : Int64) (hb : un b ≠ 0) : ∀ (m f : Nat) (q r : Int64), m ≤ 64 → m < f → un q = 2 ^ m * (un a / 2 ^ m / un b) → un r = un a / 2 ^ m % un b →
    K_Sets_quotient_18 f a b q r (Int32.ofNat m + (-1)) ∧ un (g_Sets_quotient_18 f a b q r (Int32.ofNat m + (-1))) = un a / un b := by
  intro m
  induction m with
  | zero =>
    intro f q r _ hf hq _
    obtain ⟨f, rfl⟩ : ∃ f', f = f' + 1 := ⟨f - 1, by omega⟩
    unfold K_Sets_quotient_18 g_Sets_quotient_18
    have hm : Int32.ofNat 0 + (-1) < 0 := by decide
    rw [if_pos hm]
    refine ⟨fun z => absurd hm z, ?_⟩
    rw [hq]; simp
  | succ k ih =>
    intro f q r hk hf hq hr
    obtain ⟨f, rfl⟩ : ∃ f', f = f' + 1 := ⟨f - 1, by omega⟩
    have hk64 : k < 64 := by omega
    have hm : Int32.ofNat (k + 1) + (-1) = Int32.ofNat k := i32_down ⟨k, hk64⟩
    have hB : 0 < un b := Nat.pos_of_ne_zero hb
    have lb := un_lt b
    rw [hm]
    have hn : ¬ Int32.ofNat k < 0 := i32_nn ⟨k, hk64⟩
    -- what is known of the step
    have hX := quo_step (A := un a) (k := k) hB
    have hQ := Nat.div_add_mod (un a / 2 ^ (k + 1)) (un b)
    have hR := Nat.mod_lt (un a / 2 ^ (k + 1)) hB
    rw [← hr] at hQ hR
    have hbit : un (j_lushr a (Int32.ofNat k) &&& 1) = un a / 2 ^ k % 2 := by
      rw [shr_bit hk64]
      have : tb a k = decide (un a / 2 ^ k % 2 = 1) := by rw [tb_un, Nat.testBit_eq_decide_div_mod_eq]
      rw [this]
      by_cases h : un a / 2 ^ k % 2 = 1
      · rw [if_pos (decide_eq_true h), h]; rfl
      · rw [if_neg (by simp [h])]
        show 0 = _
        omega
    have h2r : un (2 * r) = (2 * un r) % 18446744073709551616 := by rw [un_mul]; rfl
    have hr' : un (2 * r + (j_lushr a (Int32.ofNat k) &&& 1)) = (2 * un r + un a / 2 ^ k % 2) % 18446744073709551616 := by
      rw [un_add, h2r, hbit]; omega
    have lr := un_lt r
    unfold K_Sets_quotient_18 g_Sets_quotient_18 g_Sets_quotient_35 K_Sets_quotient_35 g_Sets_quotient_52 K_Sets_quotient_52 g_Sets_quotient_66 K_Sets_quotient_66 g_Sets_quotient_72 K_Sets_quotient_72 g_Sets_quotient_81 K_Sets_quotient_81
    rw [if_neg hn]
    generalize 2 * r + (j_lushr a (Int32.ofNat k) &&& 1) = r' at hr' ⊢
    -- the two ways on
    have yes : un b ≤ 2 * un r + un a / 2 ^ k % 2 → K_Sets_quotient_18 f a b (q ||| j_lshl 1 (Int32.ofNat k)) (r' - b) (Int32.ofNat k + (-1)) ∧ un (g_Sets_quotient_18 f a b (q ||| j_lshl 1 (Int32.ofNat k)) (r' - b) (Int32.ofNat k + (-1))) = un a / un b := by
      intro h
      have hX' : un a / 2 ^ k = un b * (2 * (un a / 2 ^ (k + 1) / un b) + 1) + (2 * un r + un a / 2 ^ k % 2 - un b) := by
        rw [Nat.mul_add, Nat.mul_left_comm, Nat.mul_one]
        generalize un b * (un a / 2 ^ (k + 1) / un b) = Z at hQ ⊢
        omega
      have hd : un a / 2 ^ k / un b = 2 * (un a / 2 ^ (k + 1) / un b) + 1 := by
        refine Nat.div_eq_of_lt_le ?_ ?_
        · rw [Nat.mul_comm]; omega
        · rw [Nat.mul_comm, Nat.mul_add, Nat.mul_one]; omega
      have hmod : un a / 2 ^ k % un b = 2 * un r + un a / 2 ^ k % 2 - un b := by
        have h1 := Nat.div_add_mod (un a / 2 ^ k) (un b)
        rw [hd] at h1
        omega
      refine ih f _ _ (by omega) (by omega) ?_ ?_
      · rw [un_or, hq, bitN (n := k) hk64, hd, ← Nat.two_pow_add_eq_or_of_lt (Nat.pow_lt_pow_right (by decide) (Nat.lt_succ_self k)), Nat.mul_add, Nat.mul_one, Nat.pow_succ, Nat.mul_assoc]
      · rw [hmod, un_sub, hr']
        omega
    have no : ¬ un b ≤ 2 * un r + un a / 2 ^ k % 2 → K_Sets_quotient_18 f a b q r' (Int32.ofNat k + (-1)) ∧ un (g_Sets_quotient_18 f a b q r' (Int32.ofNat k + (-1))) = un a / un b := by
      intro h
      have hX' : un a / 2 ^ k = un b * (2 * (un a / 2 ^ (k + 1) / un b)) + (2 * un r + un a / 2 ^ k % 2) := by
        rw [Nat.mul_left_comm]
        generalize un b * (un a / 2 ^ (k + 1) / un b) = Z at hQ ⊢
        omega
      have hd : un a / 2 ^ k / un b = 2 * (un a / 2 ^ (k + 1) / un b) := by
        refine Nat.div_eq_of_lt_le ?_ ?_
        · rw [Nat.mul_comm]; omega
        · rw [Nat.mul_comm, Nat.mul_add, Nat.mul_one]; omega
      have hmod : un a / 2 ^ k % un b = 2 * un r + un a / 2 ^ k % 2 := by
        have h1 := Nat.div_add_mod (un a / 2 ^ k) (un b)
        rw [hd] at h1
        omega
      refine ih f _ _ (by omega) (by omega) ?_ ?_
      · rw [hq, hd, Nat.pow_succ, Nat.mul_assoc]
      · rw [hmod, hr']
        omega
    have i1 : ¬ (1 : Int32) = 0 := by decide
    by_cases c : 0 ≤ lg_cmp r 0
    · rw [if_pos c, if_pos rfl]
      have c' := (pos_un r).mp c
      by_cases d : g_Sets_below r' b = 0
      · rw [if_pos d]
        have d' := (below_0 r' b).mp d
        obtain ⟨k1, k2⟩ := yes (by omega)
        exact ⟨fun _ => ⟨fun _ => ⟨fun _ => ⟨fun _ => k1, fun z => absurd d z⟩, fun z => absurd rfl z⟩, fun z => absurd c z⟩, k2⟩
      · rw [if_neg d]
        have d' : ¬ un b ≤ un r' := fun z => d ((below_0 r' b).mpr z)
        obtain ⟨k1, k2⟩ := no (by omega)
        exact ⟨fun _ => ⟨fun _ => ⟨fun _ => ⟨fun z => absurd z d, fun _ => k1⟩, fun z => absurd rfl z⟩, fun z => absurd c z⟩, k2⟩
    · rw [if_neg c, if_neg i1]
      have c' : ¬ un r < 9223372036854775808 := fun z => c ((pos_un r).mpr z)
      obtain ⟨k1, k2⟩ := yes (by omega)
      exact ⟨fun _ => ⟨fun z => absurd z c, fun _ => ⟨fun z => absurd z i1, fun _ => k1⟩⟩, k2⟩
theorem quotient_un (a b : Int64) : un (g_Sets_quotient a b) = un a / un b ∧ K_Sets_quotient a b := by
  unfold g_Sets_quotient g_Sets_quotient_0 K_Sets_quotient K_Sets_quotient_0
  by_cases c : lg_cmp b 0 = 0
  · rw [if_pos c, cmp_eq.mp c]
    refine ⟨?_, fun z => absurd (cmp_eq.mpr rfl) z⟩
    rw [show un 0 = 0 from rfl, Nat.div_zero]
  · rw [if_neg c]
    have h := quo_loop a b (fun z => c (cmp_eq.mpr (un_inj z))) 64 xF 0 0 (by decide) xF_64 (by rw [Nat.div_eq_of_lt (un_lt a)]; simp; rfl) (by rw [Nat.div_eq_of_lt (un_lt a)]; simp; rfl)
    have e : Int32.ofNat 64 + (-1) = 63 := by decide
    rw [e] at h
    exact ⟨h.2, fun _ => h.1⟩
theorem quotient_eq (a b : Int64) : g_Sets_quotient a b = g_Sieve_divide a b := un_inj ((quotient_un a b).1.trans (divide_un a b).symm)
theorem lo32 (x : Int64) : un (x &&& 4294967295) = un x % 4294967296 := by
  rw [un_and, show un 4294967295 = 2 ^ 32 - 1 from rfl, Nat.and_two_pow_sub_one_eq_mod]
theorem hi32 (x : Int64) : un (j_lushr x 32) = un x / 4294967296 := un_shr (n := 32) (by decide) x
theorem upper_un (a b : Int64) : un (g_Sieve_upper a b) = un a * un b / 18446744073709551616 := by
  unfold g_Sieve_upper g_Sieve_upper_0 g_Sieve_upper_19 g_Sieve_upper_33 g_Sieve_upper_50
  have la := un_lt a
  have lb := un_lt b
  simp only [un_add, un_mul, lo32, hi32]
  have ea : un a = 4294967296 * (un a / 4294967296) + un a % 4294967296 := (Nat.div_add_mod _ _).symm
  have eb : un b = 4294967296 * (un b / 4294967296) + un b % 4294967296 := (Nat.div_add_mod _ _).symm
  have h1 : un a / 4294967296 ≤ 4294967295 := by omega
  have h2 : un b / 4294967296 ≤ 4294967295 := by omega
  have h3 : un a % 4294967296 ≤ 4294967295 := by omega
  have h4 : un b % 4294967296 ≤ 4294967295 := by omega
  generalize un a / 4294967296 = ah at ea h1 ⊢
  generalize un a % 4294967296 = al at ea h3 ⊢
  generalize un b / 4294967296 = bh at eb h2 ⊢
  generalize un b % 4294967296 = bl at eb h4 ⊢
  have p1 : al * bl ≤ 4294967295 * 4294967295 := Nat.mul_le_mul h3 h4
  have p2 : ah * bl ≤ 4294967295 * 4294967295 := Nat.mul_le_mul h1 h4
  have p3 : al * bh ≤ 4294967295 * 4294967295 := Nat.mul_le_mul h3 h2
  have p4 : ah * bh ≤ 4294967295 * 4294967295 := Nat.mul_le_mul h1 h2
  have e : un a * un b = 18446744073709551616 * (ah * bh) + 4294967296 * (ah * bl) + 4294967296 * (al * bh) + al * bl := by
    rw [ea, eb, Nat.add_mul, Nat.mul_add, Nat.mul_add]
    have z1 : 4294967296 * ah * (4294967296 * bh) = 18446744073709551616 * (ah * bh) := by
      rw [Nat.mul_assoc, Nat.mul_left_comm ah, ← Nat.mul_assoc]
    have z2 : 4294967296 * ah * bl = 4294967296 * (ah * bl) := Nat.mul_assoc _ _ _
    have z3 : al * (4294967296 * bh) = 4294967296 * (al * bh) := Nat.mul_left_comm _ _ _
    rw [z1, z2, z3]
    omega
  rw [e]
  generalize ah * bh = P4 at *
  generalize ah * bl = P2 at *
  generalize al * bh = P3 at *
  generalize al * bl = P1 at *
  clear ea eb e
  omega
