/-! part 47ze: members of shifted numbers; cut, extend, join -/
theorem pow64 {n : Nat} (hn : n < 64) : 2 ^ n ≤ 9223372036854775808 := by
  have : 2 ^ n ≤ 2 ^ 63 := Nat.pow_le_pow_right (by decide) (by omega)
  exact this
theorem shl_fit {n : Nat} (hn : n < 64) {h : Int64} (e : j_lushr (j_lshl h (Int32.ofNat n)) (Int32.ofNat n) = h) : un h * 2 ^ n < 18446744073709551616 := by
  have e1 := congrArg un e
  rw [un_shr hn, un_shl hn] at e1
  have pp := Nat.two_pow_pos n
  refine Classical.byContradiction fun c => ?_
  have hlt : un h * 2 ^ n % 18446744073709551616 < un h * 2 ^ n := by
    have := Nat.mod_lt (un h * 2 ^ n) (show 0 < 18446744073709551616 by decide)
    omega
  have := (Nat.div_lt_iff_lt_mul pp).mpr hlt
  omega
theorem shl_cong {n : Nat} (hn : n < 64) (a : Int64) : ∃ t : Int, (j_lshl a (Int32.ofNat n)).toInt = a.toInt * (2 ^ n : Nat) + 18446744073709551616 * t := by
  have h1 := un_shl hn a
  have h2 := Nat.div_add_mod (un a * 2 ^ n) 18446744073709551616
  rw [← h1] at h2
  rcases un_int a with ⟨e1, _⟩ | ⟨e1, _⟩ <;> rcases un_int (j_lshl a (Int32.ofNat n)) with ⟨e2, _⟩ | ⟨e2, _⟩
  · refine ⟨-((un a * 2 ^ n / 18446744073709551616 : Nat) : Int), ?_⟩
    rw [e1, e2, ← Int.natCast_mul]; omega
  · refine ⟨-((un a * 2 ^ n / 18446744073709551616 : Nat) : Int) - 1, ?_⟩
    rw [e1, e2, ← Int.natCast_mul]; omega
  · refine ⟨((2 ^ n : Nat) : Int) - ((un a * 2 ^ n / 18446744073709551616 : Nat) : Int), ?_⟩
    rw [e1, e2, Int.sub_mul, ← Int.natCast_mul]; omega
  · refine ⟨((2 ^ n : Nat) : Int) - ((un a * 2 ^ n / 18446744073709551616 : Nat) : Int) - 1, ?_⟩
    rw [e1, e2, Int.sub_mul, ← Int.natCast_mul]; omega
theorem J_toInt (a : Int64) : isJ64 a.toInt := by
  have := un_lt a
  unfold isJ64
  rcases un_int a with ⟨e1, _⟩ | ⟨e1, _⟩ <;> omega
theorem shl_J {n : Nat} (hn : n < 64) {a : Int64} (h : isJ64 (a.toInt * (2 ^ n : Nat))) : (j_lshl a (Int32.ofNat n)).toInt = a.toInt * (2 ^ n : Nat) := by
  obtain ⟨t, ht⟩ := shl_cong hn a
  have := J_toInt (j_lshl a (Int32.ofNat n))
  unfold isJ64 at h this
  omega
theorem shl_fitS {n : Nat} (hn : n < 64) {a : Int64} (e : j_lshr (j_lshl a (Int32.ofNat n)) (Int32.ofNat n) = a) : (j_lshl a (Int32.ofNat n)).toInt = a.toInt * (2 ^ n : Nat) := by
  obtain ⟨t, ht⟩ := shl_cong hn a
  have e1 := congrArg Int64.toInt e
  rw [toInt_sar hn] at e1
  have pp : (0 : Int) < ((2 ^ n : Nat) : Int) := Int.natCast_pos.mpr (Nat.two_pow_pos n)
  have p64 := pow64 hn
  have h1 := Int.mul_ediv_add_emod (j_lshl a (Int32.ofNat n)).toInt ((2 ^ n : Nat) : Int)
  have h2 := Int.emod_nonneg (j_lshl a (Int32.ofNat n)).toInt (Int.ne_of_gt pp)
  have h3 := Int.emod_lt_of_pos (j_lshl a (Int32.ofNat n)).toInt pp
  rw [e1, Int.mul_comm] at h1
  omega
theorem ne_shlBy {x : AV} (bx : bu x) {a : Int64} (ha : vin x a) {n : Nat} (hn : n < 64) : vin (shlBy vFree x (Int32.ofNat n)) (j_lshl a (Int32.ofNat n)) := by
  obtain ⟨a1, a2, a3, a4, a5⟩ := ha
  refine in_sgnIf (in_unsIf (in_say ?_) fun c => ?_) fun c => ?_
  · intro j hj
    rw [tb_shl hn] at hj
    rw [tb_and, tb_cpl, tb_shl hn, tb_shl hn, tb_shl hn]
    by_cases h1 : n ≤ j <;> by_cases h2 : j < 64
    · simp only [h1, h2, decide_true, Bool.true_and] at hj ⊢
      rw [a1 _ hj, hj]; simp
    · simp [h2]
    · simp [h1]
    · simp [h1]
  · have hc := shl_fit hn (cmp_eq.mp c)
    have pp := Nat.two_pow_pos n
    have m1 := Nat.mul_le_mul_right (2 ^ n) a2
    have m2 := Nat.mul_le_mul_right (2 ^ n) a3
    rw [un_shl hn, un_shl hn, un_shl hn, Nat.mod_eq_of_lt (by omega), Nat.mod_eq_of_lt (by omega), Nat.mod_eq_of_lt hc]
    exact ⟨m1, m2⟩
  · have c1 := shl_fitS hn (cmp_eq.mp c.1)
    have c2 := shl_fitS hn (cmp_eq.mp c.2)
    have j1 := J_toInt (j_lshl x.le (Int32.ofNat n))
    have j2 := J_toInt (j_lshl x.gr (Int32.ofNat n))
    have pp : (0 : Int) ≤ ((2 ^ n : Nat) : Int) := Int.natCast_nonneg _
    have m1 := Int.mul_le_mul_of_nonneg_right a4 pp
    have m2 := Int.mul_le_mul_of_nonneg_right a5 pp
    rw [c1] at j1
    rw [c2] at j2
    rw [c1, c2, shl_J hn (by unfold isJ64 at *; omega)]
    exact ⟨m1, m2⟩
theorem ne_shlTo {x : AV} {f : Int32} : vin (shlTo vFree x f) 0 := in_say fun j _ => by rw [tb_and, tb_zero]; rfl
theorem ne_shrBy {x : AV} {a : Int64} (ha : vin x a) {n : Nat} (hn : n < 64) : vin (shrBy vFree x (Int32.ofNat n)) (j_lushr a (Int32.ofNat n)) := by
  obtain ⟨a1, a2, a3, a4, a5⟩ := ha
  refine in_uns (in_say fun j hj => ?_) ?_ ?_
  · rw [tb_shr hn] at hj
    rw [tb_and, tb_cpl, tb_shr hn, tb_shr hn, tb_shr hn, hj, a1 _ hj]
    by_cases h : j < 64
    · simp [h]
    · rw [tb_ge (by omega)]; simp
  · rw [un_shr hn, un_shr hn]; exact Nat.div_le_div_right a2
  · rw [un_shr hn, un_shr hn]; exact Nat.div_le_div_right a3
theorem ne_shrTo {x : AV} {a : Int64} (ha : vin x a) {f t : Nat} (hf : f ≤ t) (ht : t < 64) : vin (shrTo vFree x (Int32.ofNat f) (Int32.ofNat t)) (j_lushr x.lo (Int32.ofNat t)) := by
  refine in_uns (free_in _) (Nat.le_refl _) ?_
  rw [un_shr ht, un_shr (by omega)]
  have h1 := Nat.le_trans ha.2.1 ha.2.2.1
  exact Nat.le_trans (Nat.div_le_div_right h1) (Nat.div_le_div_left (Nat.pow_le_pow_right (by decide) hf) (Nat.two_pow_pos f))
theorem ne_sarBy {x : AV} {a : Int64} (ha : vin x a) {n : Nat} (hn : n < 64) : vin (sarBy vFree x (Int32.ofNat n)) (j_lshr a (Int32.ofNat n)) := by
  obtain ⟨a1, a2, a3, a4, a5⟩ := ha
  have pp : (0 : Int) < ((2 ^ n : Nat) : Int) := Int.natCast_pos.mpr (Nat.two_pow_pos n)
  refine in_sgn (in_say fun j hj => ?_) ?_ ?_
  · rw [tb_sar hn] at hj
    rw [tb_and, tb_cpl, tb_sar hn, tb_sar hn, tb_sar hn]
    by_cases h : j < 64
    · simp only [h, decide_true, Bool.true_and] at hj ⊢
      by_cases h2 : n + j < 64
      · simp only [h2, if_true] at hj ⊢
        rw [hj, a1 _ hj]; simp
      · simp only [h2, if_false] at hj ⊢
        rw [hj, a1 _ hj]; simp
    · simp [h]
  · rw [toInt_sar hn, toInt_sar hn]; exact Int.ediv_le_ediv pp a4
  · rw [toInt_sar hn, toInt_sar hn]; exact Int.ediv_le_ediv pp a5
theorem ne_sarTo {x : AV} {a : Int64} (ha : vin x a) {f t : Nat} (hf : f < 64) : ∃ z, vin (sarTo vFree x (Int32.ofNat f) (Int32.ofNat t)) z := by
  refine ⟨g_Math_min_JJ (j_lshr x.le (Int32.ofNat f)) (j_lshr x.le (Int32.ofNat t)), in_sgn (free_in _) (Int.le_refl _) ?_⟩
  have pp : (0 : Int) < ((2 ^ f : Nat) : Int) := Int.natCast_pos.mpr (Nat.two_pow_pos f)
  have := Int.ediv_le_ediv pp (Int.le_trans ha.2.2.2.1 ha.2.2.2.2)
  rw [min_jj, max_jj, toInt_sar hf, toInt_sar hf]
  omega
theorem l2i_small {x : Int64} (h : un x < 2147483648) : Int64.toInt32 x = Int32.ofNat (un x) := u3_inj (by rw [u3_l2i, u3_ofNat (by omega), Nat.mod_eq_of_lt (by omega)])
theorem ne_shift {k : Nat} {most : Int32} (hk : k = 8 ∨ k = 9 ∨ k = 10) (hm : most = 63 ∨ most = 31) {x y : AV} (bx : bu x) {a b : Int64} (ha : vin x a) (hb : vin y b) : ∃ z, vin (oShift k most vFree x y) z := by
  have amt : ∃ n, n < 64 ∧ Int64.toInt32 y.b &&& most = Int32.ofNat n := by
    rcases hm with rfl | rfl
    · exact amt63 _
    · obtain ⟨n, h1, h2⟩ := amt31 (Int64.toInt32 y.b)
      exact ⟨n, by omega, h2⟩
  obtain ⟨n, hn, en⟩ := amt
  have em : ∃ m, m < 64 ∧ most = Int32.ofNat m ∧ un (Int32.toInt64 most) = m := by
    rcases hm with rfl | rfl
    · exact ⟨63, by decide, rfl, by decide⟩
    · exact ⟨31, by decide, rfl, by decide⟩
  obtain ⟨m, m64, em, um⟩ := em
  have hyy := Nat.le_trans hb.2.1 hb.2.2.1
  unfold oShift
  rw [en]
  split
  · rcases hk with rfl | rfl | rfl
    · rw [if_pos rfl]; exact ⟨_, ne_shlBy bx ha hn⟩
    · rw [if_neg (by decide), if_pos rfl]; exact ⟨_, ne_shrBy ha hn⟩
    · rw [if_neg (by decide), if_neg (by decide)]; exact ⟨_, ne_sarBy ha hn⟩
  · split
    · rename_i _ c
      rw [isLess_0, um] at c
      rw [l2i_small (x := y.lo) (by omega), l2i_small (x := y.hi) (by omega)]
      rcases hk with rfl | rfl | rfl
      · rw [if_pos rfl]; exact ⟨_, ne_shlTo⟩
      · rw [if_neg (by decide), if_pos rfl]; exact ⟨_, ne_shrTo ha hyy (by omega)⟩
      · rw [if_neg (by decide), if_neg (by decide)]; exact ne_sarTo ha (by omega)
    · rw [em, show (0 : Int32) = Int32.ofNat 0 from rfl]
      rcases hk with rfl | rfl | rfl
      · rw [if_pos rfl]; exact ⟨_, ne_shlTo⟩
      · rw [if_neg (by decide), if_pos rfl]; exact ⟨_, ne_shrTo ha (Nat.zero_le _) m64⟩
      · rw [if_neg (by decide), if_neg (by decide)]; exact ne_sarTo ha (by decide)
theorem raw_ne {k : Nat} {most : Int32} (hk : k < 12) (hm : most = 63 ∨ most = 31) {x y : AV} (hx : Tt x) (hy : Tt y) : ∃ z, vin (oRaw k most vFree x y) z := by
  obtain ⟨a, ha⟩ := hx.ex
  obtain ⟨b, hb⟩ := hy.ex
  have : k = 0 ∨ k = 1 ∨ k = 2 ∨ k = 3 ∨ k = 4 ∨ k = 5 ∨ k = 6 ∨ k = 7 ∨ k = 8 ∨ k = 9 ∨ k = 10 ∨ k = 11 := by omega
  unfold oRaw
  rcases this with rfl | rfl | rfl | rfl | rfl | rfl | rfl | rfl | rfl | rfl | rfl | rfl <;> simp only [Nat.reduceEqDiff, if_true, if_false]
  · exact ⟨_, ne_add hx.bu hy.bu ha hb⟩
  · exact ⟨_, ne_sub hx.bu hy.bu ha hb⟩
  · exact ⟨_, ne_mul hx.bu hy.bu ha hb⟩
  · exact ne_div ha hb
  · exact ne_rest ha
  · exact ⟨_, ne_and hx.bu hy.bu ha hb⟩
  · exact ⟨_, ne_or hx.bu hy.bu ha hb⟩
  · exact ⟨_, ne_xor⟩
  · exact ne_shift (Or.inl rfl) hm hx.bu ha hb
  · exact ne_shift (Or.inr (Or.inl rfl)) hm hx.bu ha hb
  · exact ne_shift (Or.inr (Or.inr rfl)) hm hx.bu ha hb
  · exact ⟨b, hb⟩
theorem raw_T {k : Nat} {most : Int32} (hk : k < 12) (hm : most = 63 ∨ most = 31) {x y : AV} (hx : Tt x) (hy : Tt y) : Tt (tite (oRaw k most vFree x y)) := by
  obtain ⟨z, hz⟩ := raw_ne hk hm hx hy
  exact tt_T (bu_raw bu_free hx.bu hy.bu) hz
/-! cut -/
theorem ne_cut {x : AV} {a : Int64} (ha : vin x a) {n : Nat} (hn : n ≤ 64) : vin (rCut (Int32.ofNat n) x) (a &&& g_Sieve_mask (Int32.ofNat n)) := by
  have hm := mask_tb' hn
  unfold rCut
  by_cases h : n = 64
  · have e : a &&& g_Sieve_mask (Int32.ofNat n) = a := tb_ext fun j hj => by rw [tb_and, hm]; simp [h, hj]
    rw [e, if_pos (by rw [h]; decide)]; exact ha
  · have hn' : n < 64 := by omega
    have hc : ¬ Int32.ofNat n = 64 := fun z => h (by
      have := congrArg u3 z
      rw [u3_ofNat (by omega)] at this
      exact this)
    rw [if_neg hc]
    obtain ⟨a1, a2, a3, -⟩ := ha
    refine in_unsIf (in_say fun j hj => ?_) fun c => ?_
    · rw [tb_and, hm] at hj
      rw [tb_and, tb_and, tb_and, tb_cpl, tb_and, hm]
      by_cases h1 : j < n
      · have h2 : j < 64 := by omega
        simp only [h1, decide_true, Bool.and_true] at hj ⊢
        rw [a1 j hj, hj]; simp [h2]
      · simp [h1]
    · have em : g_Sieve_mask (Int32.ofNat n) = j_lshl 1 (Int32.ofNat n) - 1 := by
        unfold g_Sieve_mask g_Sieve_mask_0; rw [if_neg hc]
      have e := congrArg un (cmp_eq.mp c)
      rw [un_shr hn', un_shr hn'] at e
      rw [em, and_mask hn', and_mask hn', and_mask hn']
      have d1 := Nat.div_add_mod (un x.lo) (2 ^ n)
      have d2 := Nat.div_add_mod (un x.hi) (2 ^ n)
      have d3 := Nat.div_add_mod (un a) (2 ^ n)
      have e1 := Nat.div_le_div_right (c := 2 ^ n) a2
      have e2 := Nat.div_le_div_right (c := 2 ^ n) a3
      have e3 : un a / 2 ^ n = un x.lo / 2 ^ n := by omega
      rw [← e] at d2
      rw [e3] at d3
      generalize 2 ^ n * (un x.lo / 2 ^ n) = Z at *
      omega
theorem cut_T {x : AV} (hx : Tt x) {n : Nat} (hn : n ≤ 64) : Tt (vCut (Int32.ofNat n) x) := by
  obtain ⟨a, ha⟩ := hx.ex
  exact tt_T (bu_cut0 hx.bu) (ne_cut ha hn)
theorem cut_same {x : AV} (hx : Tt x) {n : Nat} (hn : n ≤ 64) (z : Int64) : vin (vCut (Int32.ofNat n) x) z ↔ vin (rCut (Int32.ofNat n) x) z := by
  obtain ⟨a, ha⟩ := hx.ex
  exact ((tt_ex (bu_cut0 hx.bu) (ne_cut ha hn)).same z).symm
theorem cut_small {x : AV} (hx : Tt x) {n : Nat} (hn : n < 64) {z : Int64} (hz : vin (vCut (Int32.ofNat n) x) z) : un z < 2 ^ n := by
  rw [cut_same hx (by omega)] at hz
  have hc : ¬ Int32.ofNat n = 64 := fun q => by
    have := congrArg u3 q
    rw [u3_ofNat (by omega)] at this
    have : n = 64 := this
    omega
  have hm := mask_tb' (n := n) (by omega)
  have h1 : ∀ j, n ≤ j → tb z j = false := by
    intro j hj
    have nj : ¬ j < n := by omega
    have e : (rCut (Int32.ofNat n) x).u = x.u &&& g_Sieve_mask (Int32.ofNat n) ∧ (rCut (Int32.ofNat n) x).b = (x.b &&& g_Sieve_mask (Int32.ofNat n)) &&& ((x.u &&& g_Sieve_mask (Int32.ofNat n)) ^^^ (-1)) := by
      unfold rCut AV.unsIf
      rw [if_neg hc]
      split <;> exact ⟨rfl, rfl⟩
    have := hz.1 j (by rw [e.1, tb_and, hm]; simp [nj])
    rw [this, e.2, tb_and, tb_and, hm]; simp [nj]
  exact Nat.lt_pow_two_of_testBit _ fun j hj => h1 j hj
theorem cut_64 {x : AV} (hx : Tt x) : vCut 64 x = x := by
  unfold vCut rCut
  rw [if_pos rfl]; exact hx.tte
/-! join -/
theorem join_l {x y : AV} {wd : Int32} {a : Int64} (ha : vin x a) : vin (rJoin wd x y) a := by
  obtain ⟨a1, a2, a3, a4, a5⟩ := ha
  have hag : Ag ((x.u ||| y.u) ||| (x.b ^^^ y.b)) (x.b &&& (((x.u ||| y.u) ||| (x.b ^^^ y.b)) ^^^ (-1))) a := by
    intro j hj
    rw [tb_or, tb_or, Bool.or_eq_false_iff, Bool.or_eq_false_iff] at hj
    by_cases h64 : j < 64
    · rw [tb_and, tb_cpl, tb_or, tb_or, hj.1.1, hj.1.2, hj.2, a1 j hj.1.1]; simp [h64]
    · rw [tb_ge (by omega), tb_ge (by omega)]
  unfold rJoin
  split
  · refine in_sgn (in_uns (in_say hag) ?_ ?_) ?_ ?_
    · rw [lesser_un]; split <;> omega
    · rw [greater_un]; split <;> omega
    · rw [min_jj]; omega
    · rw [max_jj]; omega
  · refine in_sgn (in_uns (in_say hag) ?_ ?_) ?_ ?_
    · split
      · exact a2
      · exact Nat.zero_le _
    · split
      · exact a3
      · exact (free_in a).2.2.1
    · split
      · exact a4
      · exact (free_in a).2.2.2.1
    · split
      · exact a5
      · exact (free_in a).2.2.2.2
theorem join_r {x y : AV} {wd : Int32} {a : Int64} (ha : vin y a) : vin (rJoin wd x y) a := by
  obtain ⟨a1, a2, a3, a4, a5⟩ := ha
  have hag : Ag ((x.u ||| y.u) ||| (x.b ^^^ y.b)) (x.b &&& (((x.u ||| y.u) ||| (x.b ^^^ y.b)) ^^^ (-1))) a := by
    intro j hj
    rw [tb_or, tb_or, Bool.or_eq_false_iff, Bool.or_eq_false_iff, tb_xor] at hj
    by_cases h64 : j < 64
    · have e : tb x.b j = tb y.b j := by
        have := hj.2
        cases c1 : tb x.b j <;> cases c2 : tb y.b j <;> simp_all
      rw [tb_and, tb_cpl, tb_or, tb_or, tb_xor, hj.1.1, hj.1.2, hj.2, a1 j hj.1.2, e]; simp [h64]
    · rw [tb_ge (by omega), tb_ge (by omega)]
  unfold rJoin
  split
  · refine in_sgn (in_uns (in_say hag) ?_ ?_) ?_ ?_
    · rw [lesser_un]; split <;> omega
    · rw [greater_un]; split <;> omega
    · rw [min_jj]; omega
    · rw [max_jj]; omega
  · refine in_sgn (in_uns (in_say hag) ?_ ?_) ?_ ?_
    · split
      · rename_i c; rw [isLess_0] at c; omega
      · exact Nat.zero_le _
    · split
      · rename_i c; rw [isLess_0] at c; omega
      · exact (free_in a).2.2.1
    · split
      · rename_i c; rw [cmp_ge, le_un] at c; omega
      · exact (free_in a).2.2.2.1
    · split
      · rename_i c; rw [cmp_le, le_un] at c; omega
      · exact (free_in a).2.2.2.2
theorem join_T {x y : AV} {wd : Int32} (hx : Tt x) : Tt (vJoin wd x y) := by
  obtain ⟨a, ha⟩ := hx.ex
  exact tt_T bu_join0 (join_l ha)
theorem join_same {x y : AV} {wd : Int32} (hx : Tt x) (z : Int64) : vin (vJoin wd x y) z ↔ vin (rJoin wd x y) z := by
  obtain ⟨a, ha⟩ := hx.ex
  exact ((tt_ex bu_join0 (join_l ha)).same z).symm
