/-! part 47v: trailing zeros: Long.numberOfTrailingZeros, Sets.lowest; masks -/
theorem ntz8 : ∀ l : Fin 32, g_Integer_numberOfTrailingZeros_8 (Int32.ofNat (2 ^ l.val - 1)) = Int32.ofNat l.val := by decide +kernel
/-- the bits of an int -/
theorem ntzI {x : Int32} {l : Nat} (hl : l < 32) (h1 : (u3 x).testBit l = true) (h2 : ∀ j, j < l → (u3 x).testBit j = false) : g_Integer_numberOfTrailingZeros x = Int32.ofNat l := by
  unfold g_Integer_numberOfTrailingZeros g_Integer_numberOfTrailingZeros_0
  have n8 : g_Integer_numberOfTrailingZeros_8 (Int32.ofNat (2 ^ l - 1)) = Int32.ofNat l := ntz8 ⟨l, hl⟩
  rw [← n8]
  congr 1
  apply u3_inj
  have hp : 2 ^ l < 4294967296 := Nat.lt_of_lt_of_le (Nat.pow_lt_pow_right (by decide) hl) (by decide)
  have pp := Nat.two_pow_pos l
  rw [u3_ofNat (by omega)]
  -- x = 2^l * (2 q + 1)
  have hx := u3_lt x
  have hd : u3 x % 2 ^ l = 0 := by
    apply Nat.eq_of_testBit_eq
    intro j
    rw [Nat.testBit_mod_two_pow, Nat.zero_testBit]
    by_cases h : j < l
    · rw [h2 j h]; simp
    · simp [h]
  have hq : u3 x / 2 ^ l % 2 = 1 := by
    have := h1
    rw [Nat.testBit_eq_decide_div_mod_eq, decide_eq_true_eq] at this
    exact this
  have hsum := Nat.div_add_mod (u3 x) (2 ^ l)
  rw [hd, Nat.add_zero] at hsum
  have hq2 : u3 x / 2 ^ (l + 1) = u3 x / 2 ^ l / 2 := by rw [Nat.pow_succ, Nat.div_div_eq_div_mul]
  have hQ : 0 < u3 x / 2 ^ l := Nat.pos_of_ne_zero (fun z => by rw [z] at hq; exact absurd hq (by decide))
  have hpos : 0 < u3 x := by
    rw [← hsum]
    exact Nat.mul_pos pp hQ
  generalize hQe : u3 x / 2 ^ l = Q at hq hsum hq2 hQ
  have es : u3 (x - 1) = u3 x - 1 := by
    show (x - 1).toBitVec.toNat = _
    rw [Int32.toBitVec_sub, BitVec.toNat_sub]
    show (2 ^ 32 - 1 + u3 x) % 2 ^ 32 = u3 x - 1
    omega
  have en : u3 (x ^^^ (-1)) = 4294967295 - u3 x := by
    have : x ^^^ (-1) = ~~~x := by
      apply Int32.toBitVec_inj.mp
      rw [Int32.toBitVec_xor, Int32.toBitVec_not]
      apply BitVec.eq_of_getLsbD_eq
      intro i hi
      rw [BitVec.getLsbD_xor, BitVec.getLsbD_not]
      have : (-1 : Int32).toBitVec = BitVec.allOnes 32 := by decide
      rw [this, BitVec.getLsbD_allOnes]
      simp [hi]
    rw [this]
    show (~~~x).toBitVec.toNat = _
    rw [Int32.toBitVec_not, BitVec.toNat_not]
    show 2 ^ 32 - 1 - u3 x = _
    omega
  show ((x ^^^ (-1)) &&& (x - 1)).toBitVec.toNat = _
  rw [Int32.toBitVec_and, BitVec.toNat_and]
  show u3 (x ^^^ (-1)) &&& u3 (x - 1) = 2 ^ l - 1
  rw [es, en]
  apply Nat.eq_of_testBit_eq
  intro j
  rw [Nat.testBit_and, Nat.testBit_two_pow_sub_one]
  have t1 : (4294967295 - u3 x).testBit j = (decide (j < 32) && !(u3 x).testBit j) := by
    have := Nat.testBit_two_pow_sub_succ (x := u3 x) (n := 32) hx j
    rw [← this]
    congr 1
    omega
  rw [t1]
  by_cases hj : j < l
  · rw [h2 j hj]
    have t2 : (u3 x - 1).testBit j = true := by
      have e : u3 x - 1 = 2 ^ l * (Q - 1) + (2 ^ l - 1) := by
        have e0 : 2 ^ l * Q = 2 ^ l * (Q - 1) + 2 ^ l := by
          rw [← Nat.mul_succ]; congr 1; omega
        generalize 2 ^ l * (Q - 1) = Z at e0 ⊢
        generalize 2 ^ l * Q = Y at e0 hsum
        omega
      rw [e, Nat.testBit_two_pow_mul_add _ (by omega), if_pos hj, Nat.testBit_two_pow_sub_one]
      simp [hj]
    rw [t2]
    have : j < 32 := by omega
    simp [this, hj]
  · simp only [hj, decide_false]
    by_cases hj2 : j = l
    · rw [hj2, h1]; simp
    · -- above l the bits of x - 1 are those of x
      have t2 : (u3 x - 1).testBit j = (u3 x).testBit j := by
        have h5 : 2 ^ l * Q = 2 ^ (l + 1) * (Q / 2) + 2 ^ l := by
          rw [Nat.pow_succ, Nat.mul_assoc, ← Nat.mul_succ]; congr 1; omega
        have e : u3 x - 1 = 2 ^ (l + 1) * (Q / 2) + (2 ^ l - 1) := by
          generalize 2 ^ (l + 1) * (Q / 2) = Z at h5 ⊢
          generalize 2 ^ l * Q = Y at h5 hsum
          omega
        have e2 : u3 x = 2 ^ (l + 1) * (Q / 2) + 2 ^ l := by
          generalize 2 ^ (l + 1) * (Q / 2) = Z at h5 ⊢
          generalize 2 ^ l * Q = Y at h5 hsum
          omega
        have hlt : 2 ^ l < 2 ^ (l + 1) := Nat.pow_lt_pow_right (by decide) (by omega)
        conv => lhs; rw [e, Nat.testBit_two_pow_mul_add _ (by omega), if_neg (by omega)]
        conv => rhs; rw [e2, Nat.testBit_two_pow_mul_add _ hlt, if_neg (by omega)]
      rw [t2]
      cases (u3 x).testBit j <;> simp
theorem ntz_0 : g_Long_numberOfTrailingZeros 0 = 64 := by decide +kernel
theorem ntz32 : ∀ l : Fin 32, (32 : Int32) + Int32.ofNat l.val = Int32.ofNat (32 + l.val) := by decide +kernel
/-- the number of the lowest bit that is set; 64 if none is -/
def lwb (p : Nat → Bool) (n : Nat) : Prop := n ≤ 64 ∧ (∀ j, j < n → p j = false) ∧ (n < 64 → p n = true)
theorem lwb.one {p : Nat → Bool} {n m : Nat} (h : lwb p n) (h' : lwb p m) : n = m := by
  rcases Nat.lt_trichotomy n m with e | e | e
  · have h1 := h'.2.1 n e
    have h2 := h.2.2 (by have := h'.1; omega)
    rw [h1] at h2; cases h2
  · exact e
  · have h1 := h.2.1 m e
    have h2 := h'.2.2 (by have := h.1; omega)
    rw [h1] at h2; cases h2
theorem ntzL (x : Int64) : ∃ n, g_Long_numberOfTrailingZeros x = Int32.ofNat n ∧ lwb (tb x) n := by
  by_cases hx : x = 0
  · refine ⟨64, by rw [hx]; exact ntz_0, by decide, fun j _ => by rw [hx, tb_zero], fun z => absurd z (by decide)⟩
  · obtain ⟨l, l1, l2, l3, -⟩ := lob hx
    refine ⟨l, ?_, by omega, l3, fun _ => l2⟩
    unfold g_Long_numberOfTrailingZeros g_Long_numberOfTrailingZeros_0 g_Long_numberOfTrailingZeros_3
    have e1 := u3_l2i x
    have e2 := u3_l2i (j_lushr x 32)
    rw [hi32] at e2
    have lx := un_lt x
    rw [Nat.mod_eq_of_lt (by omega)] at e2
    have t1 : ∀ j, (u3 (Int64.toInt32 x)).testBit j = (decide (j < 32) && tb x j) := fun j => by
      rw [e1, show (4294967296 : Nat) = 2 ^ 32 from rfl, Nat.testBit_mod_two_pow]; rfl
    have t2 : ∀ j, (u3 (Int64.toInt32 (j_lushr x 32))).testBit j = tb x (j + 32) := fun j => by
      rw [e2, show (4294967296 : Nat) = 2 ^ 32 from rfl, Nat.testBit_div_two_pow]; rfl
    by_cases h : l < 32
    · have hn : ¬ Int64.toInt32 x = 0 := fun z => by
        have := t1 l
        rw [z, l2] at this
        simp [h] at this
        rw [show u3 0 = 0 from rfl, Nat.zero_testBit] at this
        cases this
      rw [if_neg hn]
      exact ntzI h (by rw [t1, l2]; simp [h]) (fun j hj => by rw [t1, l3 j hj]; simp)
    · have hz : Int64.toInt32 x = 0 := u3_inj (Nat.eq_of_testBit_eq fun j => by
        rw [t1, show u3 0 = 0 from rfl, Nat.zero_testBit]
        by_cases hj : j < 32
        · rw [l3 j (by omega)]; simp
        · simp [hj])
      rw [if_pos hz, ntzI (l := l - 32) (by omega) (by rw [t2]; rw [show l - 32 + 32 = l by omega]; exact l2) (fun j hj => by rw [t2]; exact l3 _ (by omega)), ntz32 ⟨l - 32, by omega⟩]
      show Int32.ofNat (32 + (l - 32)) = _
      congr 1; omega
theorem low_loop {x0 : Nat} {p z : Int32} {M : XM} (hs : SS M x0 p) : ∀ (m k f : Nat), k + m = 64 → m < f → (∀ j, j < k → (tb (mL M (mR M x0 1) (ix p)) j || (!decide (z = 0) && tb (mL M (mR M x0 0) (ix p)) j)) = false) →
    K_Sets_lowest_2 f x0 p z (Int32.ofNat k) M ∧ ∃ n, g_Sets_lowest_2 f x0 p z (Int32.ofNat k) M = Int32.ofNat n ∧ lwb (fun j => tb (mL M (mR M x0 1) (ix p)) j || (!decide (z = 0) && tb (mL M (mR M x0 0) (ix p)) j)) n := by
  intro m
  induction m with
  | zero =>
    intro k f hk hf h
    obtain rfl : k = 64 := by omega
    obtain ⟨f, rfl⟩ : ∃ f', f = f' + 1 := ⟨f - 1, by omega⟩
    conv => unfold K_Sets_lowest_2 g_Sets_lowest_2
    have i1 : (64 : Int32) ≤ Int32.ofNat 64 := by decide
    rw [if_pos i1]
    exact ⟨fun q => absurd i1 q, 64, rfl, by decide, h, fun q => absurd q (by decide)⟩
  | succ m ih =>
    intro k f hk hf h
    obtain ⟨f, rfl⟩ : ∃ f', f = f' + 1 := ⟨f - 1, by omega⟩
    have hk64 : k < 64 := by omega
    conv => unfold K_Sets_lowest_2 g_Sets_lowest_2
    have i1 := i32_le64 ⟨k, hk64⟩
    rw [if_neg i1, shr_bit hk64, shr_bit hk64]
    have e1 : Int32.ofNat k + 1 = Int32.ofNat (k + 1) := by rw [Int32.ofNat_add]; rfl
    have q0 : lg_cmp (0 : Int64) 0 = 0 := by decide
    have q1 : ¬ lg_cmp (1 : Int64) 0 = 0 := by decide
    have t0 := hs.2.1 0 (by decide)
    have t1 := hs.2.1 1 (by decide)
    unfold K_Sets_lowest_42 g_Sets_lowest_42 g_Sets_lowest_48
    rw [e1]
    cases a : tb (mL M (mR M x0 1) (ix p)) k
    · rw [if_neg (by decide : ¬ false = true), if_pos q0]
      by_cases hz : z = 0
      · rw [if_pos hz]
        obtain ⟨n1, n2⟩ := ih (k + 1) f (by omega) (by omega) (fun j hj => by
          rcases Nat.lt_or_eq_of_le (Nat.le_of_lt_succ hj) with g | g
          · exact h j g
          · rw [g, a]; simp [hz])
        exact ⟨fun _ => ⟨hs.1, t1.1, t1.2, fun _ => ⟨fun _ => n1, fun q => absurd hz q⟩⟩, n2⟩
      · rw [if_neg hz]
        cases b : tb (mL M (mR M x0 0) (ix p)) k
        · rw [if_neg (by decide : ¬ false = true), if_pos q0]
          obtain ⟨n1, n2⟩ := ih (k + 1) f (by omega) (by omega) (fun j hj => by
            rcases Nat.lt_or_eq_of_le (Nat.le_of_lt_succ hj) with g | g
            · exact h j g
            · rw [g, a, b]; simp)
          exact ⟨fun _ => ⟨hs.1, t1.1, t1.2, fun _ => ⟨fun q => absurd q hz, fun _ => ⟨hs.1, t0.1, t0.2, fun _ => n1⟩⟩⟩, n2⟩
        · rw [if_pos rfl, if_neg q1]
          exact ⟨fun _ => ⟨hs.1, t1.1, t1.2, fun _ => ⟨fun q => absurd q hz, fun _ => ⟨hs.1, t0.1, t0.2, fun q => absurd q q1⟩⟩⟩, k, rfl, by omega, h, fun _ => by simp [a, b, hz]⟩
    · rw [if_pos rfl, if_neg q1]
      exact ⟨fun _ => ⟨hs.1, t1.1, t1.2, fun q => absurd q q1⟩, k, rfl, by omega, h, fun _ => by simp [a]⟩
theorem lowest_0 {x0 : Nat} {p : Int32} {M : XM} (hs : SS M x0 p) : K_Sets_lowest x0 p 0 M ∧ g_Sets_lowest x0 p 0 M = g_Long_numberOfTrailingZeros (tv6 M x0 p).u := by
  obtain ⟨h1, n, h2, h3⟩ := low_loop (z := 0) hs 64 0 xF (by decide) xF_64 (fun j hj => absurd hj (Nat.not_lt_zero j))
  obtain ⟨n', g1, g2⟩ := ntzL (tv6 M x0 p).u
  refine ⟨h1, h2.trans ?_⟩
  rw [g1]
  have e : (fun j => tb (mL M (mR M x0 1) (ix p)) j || (!decide ((0 : Int32) = 0) && tb (mL M (mR M x0 0) (ix p)) j)) = tb (tv6 M x0 p).u := by
    funext j; simp; rfl
  rw [e] at h3
  rw [h3.one g2]
theorem lowest_1 {x0 : Nat} {p : Int32} {M : XM} (hs : SS M x0 p) : K_Sets_lowest x0 p 1 M ∧ g_Sets_lowest x0 p 1 M = g_Long_numberOfTrailingZeros ((tv6 M x0 p).u ||| (tv6 M x0 p).b) := by
  obtain ⟨h1, n, h2, h3⟩ := low_loop (z := 1) hs 64 0 xF (by decide) xF_64 (fun j hj => absurd hj (Nat.not_lt_zero j))
  obtain ⟨n', g1, g2⟩ := ntzL ((tv6 M x0 p).u ||| (tv6 M x0 p).b)
  refine ⟨h1, h2.trans ?_⟩
  rw [g1]
  have e : (fun j => tb (mL M (mR M x0 1) (ix p)) j || (!decide ((1 : Int32) = 0) && tb (mL M (mR M x0 0) (ix p)) j)) = tb ((tv6 M x0 p).u ||| (tv6 M x0 p).b) := by
    funext j; rw [tb_or]; simp; rfl
  rw [e] at h3
  rw [h3.one g2]
