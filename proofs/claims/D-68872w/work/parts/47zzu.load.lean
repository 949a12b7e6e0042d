/-! part 47zzu: the twin: bytes that are read (gen/tpl.py) -/
theorem cmp_ltI {x y : Int64} : (lg_cmp x y < 0) = ¬ y.toInt ≤ x.toInt := by
  rw [cmp_ltN, Int64.le_iff_toInt_le]
theorem cmp_gtI {x y : Int64} : (0 < lg_cmp x y) = ¬ x.toInt ≤ y.toInt := by
  rw [cmp_gtN, Int64.le_iff_toInt_le]
theorem cmp_eqI {x y : Int64} : (lg_cmp x y = 0) = (x.toInt = y.toInt) := propext (cmp_eq.trans Int64.toInt_inj.symm)
theorem cmp_geI {x y : Int64} : (0 ≤ lg_cmp x y) = (y.toInt ≤ x.toInt) := propext (cmp_ge.trans Int64.le_iff_toInt_le)
theorem cmp_leI {x y : Int64} : (lg_cmp x y ≤ 0) = (x.toInt ≤ y.toInt) := propext (cmp_le.trans Int64.le_iff_toInt_le)
theorem lrem_0 {a : Int64} (h1 : -1073741824 ≤ a.toInt) (h2 : a.toInt ≤ 1073741824) {b : Int64} (bq : b.toInt = 1 ∨ b.toInt = 2 ∨ b.toInt = 4 ∨ b.toInt = 8) : j_lrem a b = 0 ↔ a.toInt % b.toInt = 0 := by
  unfold j_lrem
  have e1 : (a / b).toInt = a.toInt.tdiv b.toInt := by
    rw [Int64.toInt_div]
    have : a.toInt.tdiv b.toInt ≤ 1073741824 ∧ -1073741824 ≤ a.toInt.tdiv b.toInt := by
      rw [Int.tdiv_eq_ediv]
      rcases bq with e | e | e | e <;> rw [e] <;> split <;> (try simp only [Int.sign]) <;> omega
    exact Int.bmod_eq_of_le (by omega) (by omega)
  have e2 : (a / b * b).toInt = a.toInt.tdiv b.toInt * b.toInt ∧ (a.toInt.tdiv b.toInt * b.toInt = a.toInt ↔ a.toInt % b.toInt = 0) := by
    rw [Int64.toInt_mul, e1]
    have q : (a.toInt.tdiv b.toInt * b.toInt ≤ 1073741824 ∧ -1073741824 ≤ a.toInt.tdiv b.toInt * b.toInt) ∧ (a.toInt.tdiv b.toInt * b.toInt = a.toInt ↔ a.toInt % b.toInt = 0) := by
      rw [Int.tdiv_eq_ediv]
      rcases bq with e | e | e | e <;> rw [e] <;> split <;> (try simp only [Int.sign]) <;> omega
    exact ⟨Int.bmod_eq_of_le (by omega) (by omega), q.2⟩
  have e3 : a - a / b * b = 0 ↔ a / b * b = a := by
    constructor
    · intro z
      have := congrArg Int64.toInt z
      rw [Int64.toInt_sub] at this
      have b1 := e2.1
      apply Int64.toInt_inj.mp
      have q : (a.toInt.tdiv b.toInt * b.toInt < a.toInt + 8 ∧ a.toInt < a.toInt.tdiv b.toInt * b.toInt + 8) := by
        rw [Int.tdiv_eq_ediv]
        rcases bq with e | e | e | e <;> rw [e] <;> split <;> (try simp only [Int.sign]) <;> omega
      rw [Int.bmod_eq_of_le (by omega) (by omega)] at this
      have z0 : (0 : Int64).toInt = 0 := rfl
      omega
    · intro z; rw [z]; exact Int64.sub_self a
  rw [e3, ← e2.2, ← Int64.toInt_inj, e2.1]
/-- the maps that the twin has -/
def mpT (M : XM) : Mp := (fun k => mI M 451 k, fun k => mI M 452 k, fun k => mI M 453 k)
theorem mpT.fx {J : Nat → Prop} {M M' : XM} (f : FX J M M') : mpT M' = mpT M := by
  have : ∀ a, a = 451 ∨ a = 452 ∨ a = 453 → ∀ i, mI M' a i = mI M a i := fun a ha i => f.2.1 a i (by unfold XJ; omega)
  unfold mpT
  simp only [this 451 (by omega), this 452 (by omega), this 453 (by omega)]
theorem m_within {M : XM} (h : Sh M) {n : Nat} (hn : n < 75) (hv : hvB (vwT M 1024 n).so = true) (o b z : Int64) : g_Model_isWithin 448 (Int32.ofNat n) o b z M = (if -o ≤ (vwT M 1024 n).va.le ∧ (vwT M 1024 n).va.gr ≤ z - b - o then 1 else 0) ∧ K_Model_isWithin 448 (Int32.ofNat n) o b z M := by
  have e := tw_va hn hv
  have l1 : mL M 465 (8 + (76800 + n)) = (vwT M 1024 n).va.le := by rw [← e]; rfl
  have l2 : mL M 466 (8 + (76800 + n)) = (vwT M 1024 n).va.gr := by rw [← e]; rfl
  unfold g_Model_isWithin K_Model_isWithin g_Model_isWithin_0 K_Model_isWithin_0 g_Model_isWithin_9 K_Model_isWithin_9
  rw [h.R448_16, h.R460_4, h.R460_5, roN, ixN (show 8 + (76800 + n) < 2147483648 by omega), l1, l2]
  have vp : vp_in (Int32.ofNat (8 + (76800 + n))) 77200 := vpN (by omega) (by omega)
  refine ⟨?_, h.T448, h.T460, h.T465, by rw [h.N465]; exact rkN (by omega), fun _ => ⟨h.T448, h.T460, h.T466, by rw [h.N466]; exact rkN (by omega)⟩⟩
  simp only [cmp_ltN, cmp_gtN]
  by_cases c1 : -o ≤ (vwT M 1024 n).va.le <;> by_cases c2 : (vwT M 1024 n).va.gr ≤ z - b - o <;> simp only [c1, c2, if_true, if_false, not_true, not_false_iff, and_self, and_true, true_and, and_false, false_and, or_true, true_or, or_false, false_or, or_self, i32_10, eq_self, true_implies, false_implies, implies_true, ite_self, ne_eq]
theorem ite04 {p : Prop} [Decidable p] : (if p then (0 : Int32) else 4) = 0 ∨ (if p then (0 : Int32) else 4) = 3 ∨ (if p then (0 : Int32) else 4) = 4 := by
  by_cases c : p
  · rw [if_pos c]; exact Or.inl rfl
  · rw [if_neg c]; exact Or.inr (Or.inr rfl)
theorem rch_vals {mp : Mp} {kn : Int32} {t : TH} {o b w : Int32} : rch mp kn t o b w = 0 ∨ rch mp kn t o b w = 3 ∨ rch mp kn t o b w = 4 := by
  unfold rch
  by_cases c3 : t.so = 3
  · rw [if_pos c3]; exact ite04
  · rw [if_neg c3]
    by_cases c2 : t.so = 2
    · rw [if_pos c2]; exact ite04
    · rw [if_neg c2]
      by_cases c4 : t.so = 4
      · rw [if_pos c4]; exact ite04
      · rw [if_neg c4]
        by_cases c7 : t.so = 7
        · rw [if_pos c7]; exact ite04
        · rw [if_neg c7]; exact Or.inr (Or.inl rfl)
theorem adr64 (d o : Int32) : (d.toInt64 + o.toInt64).toInt = d.toInt + o.toInt := by
  rw [Int64.toInt_add, Int32.toInt_toInt64, Int32.toInt_toInt64]
  have a1 := Int32.le_toInt d
  have a2 := Int32.toInt_lt d
  have b1 := Int32.le_toInt o
  have b2 := Int32.toInt_lt o
  exact Int.bmod_eq_of_le (by omega) (by omega)
theorem reach2 (A B : Int) (b w : Int32) (hB : b = 8 → B = 8) : (if ¬ 0 ≤ A then (if b = 8 then (if A = 0 then (4 : Int32) else if A = 8 then 4 else 4) else 4) else if ¬ A ≤ 64 - B then (if b = 8 then (if A = 0 then (4 : Int32) else if A = 8 then 4 else 4) else 4) else if A % B = 0 then
    (if b = 8 then (if A = 0 then (if w = 0 then (if 16 ≤ A then 0 else 0) else if ¬ 32 ≤ A then 4 else 0) else if A = 8 then (if w = 0 then (if 16 ≤ A then 0 else 0) else if ¬ 32 ≤ A then 4 else 0) else (if w = 0 then (if 16 ≤ A then 0 else 4) else if ¬ 32 ≤ A then 4 else 0)) else (if w = 0 then (if 16 ≤ A then 0 else 4) else if ¬ 32 ≤ A then 4 else 0))
    else (if b = 8 then (if A = 0 then (4 : Int32) else if A = 8 then 4 else 4) else 4)) = if (A % B = 0 ∧ 0 ≤ A ∧ A ≤ 64 - B) ∧ (if w = 0 then (b = 8 ∧ A < 16) ∨ 16 ≤ A else 32 ≤ A) then 0 else 4 := by
  by_cases g1 : 0 ≤ A
  · by_cases g2 : A ≤ 64 - B
    · by_cases g3 : A % B = 0
      · by_cases w0 : w = 0
        · by_cases b8 : b = 8
          · have hB := hB b8
            rw [hB] at g3 g2
            by_cases a0 : A = 0
            · have p1 : A < 16 := by omega
              simp only [g1, g2, hB, g3, w0, b8, p1, eq_true a0, if_true, if_false, not_true, not_false_iff, and_self, and_true, true_and, and_false, false_and, or_true, true_or, or_false, false_or, or_self, i32_10, eq_self, true_implies, false_implies, implies_true, ite_self, ne_eq, true_or]
            · by_cases a8 : A = 8
              · have p1 : A < 16 := by omega
                simp only [g1, g2, hB, g3, w0, b8, p1, eq_true a8, a0, if_true, if_false, not_true, not_false_iff, and_self, and_true, true_and, and_false, false_and, or_true, true_or, or_false, false_or, or_self, i32_10, eq_self, true_implies, false_implies, implies_true, ite_self, ne_eq, true_or]
              · have p1 : ¬ A < 16 := by omega
                have p2 : 16 ≤ A := by omega
                simp only [g1, g2, hB, g3, w0, b8, p1, p2, a8, a0, if_true, if_false, not_true, not_false_iff, and_self, and_true, true_and, and_false, false_and, or_true, true_or, or_false, false_or, or_self, i32_10, eq_self, true_implies, false_implies, implies_true, ite_self, ne_eq, or_true]
          · by_cases p2 : 16 ≤ A <;> simp only [g1, g2, g3, w0, b8, p2, if_true, if_false, not_true, not_false_iff, and_self, and_true, true_and, and_false, false_and, or_true, true_or, or_false, false_or, or_self, i32_10, eq_self, true_implies, false_implies, implies_true, ite_self, ne_eq, or_true, or_false, false_and]
        · by_cases p2 : 32 ≤ A <;> simp only [g1, g2, g3, w0, p2, if_true, if_false, not_true, not_false_iff, and_self, and_true, true_and, and_false, false_and, or_true, true_or, or_false, false_or, or_self, i32_10, eq_self, true_implies, false_implies, implies_true, ite_self, ne_eq]
      · simp only [g1, g2, g3, if_true, if_false, not_true, not_false_iff, and_self, and_true, true_and, and_false, false_and, or_true, true_or, or_false, false_or, or_self, i32_10, eq_self, true_implies, false_implies, implies_true, ite_self, ne_eq, false_and]
    · simp only [g1, g2, if_true, if_false, not_true, not_false_iff, and_self, and_true, true_and, and_false, false_and, or_true, true_or, or_false, false_or, or_self, i32_10, eq_self, true_implies, false_implies, implies_true, ite_self, ne_eq, false_and, and_false]
  · simp only [g1, if_true, if_false, not_true, not_false_iff, and_self, and_true, true_and, and_false, false_and, or_true, true_or, or_false, false_or, or_self, i32_10, eq_self, true_implies, false_implies, implies_true, ite_self, ne_eq, false_and, and_false]
section RC
variable {M : XM}
theorem m_reach (h : Sh M) {n : Nat} (hn : n < 75) (wt : WT (vwT M 1024 n)) {o b : Int32} (eo : mI M 448 22 = o) (ho : -32768 ≤ o.toInt ∧ o.toInt ≤ 32767) (hb : b = 1 ∨ b = 2 ∨ b = 4 ∨ b = 8) (w : Int32) :
    g_Model_reach 448 (Int32.ofNat n) b w M = (if (vwT M 1024 n).so = 0 then 1 else rch (mpT M) (mI M 455 1024) (vwT M 1024 n) o b w) ∧ K_Model_reach 448 (Int32.ofNat n) b w M := by
  obtain ⟨a1, a2⟩ := m_sortOf h hn
  have de : mI M 458 (76800 + n) = (vwT M 1024 n).de := tw_de hn
  have bq : b.toInt64.toInt = 1 ∨ b.toInt64.toInt = 2 ∨ b.toInt64.toInt = 4 ∨ b.toInt64.toInt = 8 := by
    rcases hb with e | e | e | e <;> rw [e] <;> decide
  have bB : b.toInt64.toInt = b.toInt := Int32.toInt_toInt64 b
  have b0 : ¬ b.toInt64 = 0 := fun z => by rw [z] at bq; exact absurd bq (by decide)
  have vp : vp_in (Int32.ofNat (76800 + n)) (mN M 458) := by rw [h.N458]; exact vpN (by omega) (by omega)
  have kp : vp_in (1024 : Int32) (mN M 455) := by rw [h.N455]; exact vpN (a := 1024) (by decide) (by decide)
  have ix24 : ix (1024 : Int32) = 1024 := by decide
  unfold g_Model_reach K_Model_reach g_Model_reach_0 K_Model_reach_0 g_Model_reach_7 K_Model_reach_7
  rw [a1, h.R448_14, thN, ixN (show 76800 + n < 2147483648 by omega), de, eo]
  have ea := adr64 (vwT M 1024 n).de o
  have K28 : K_Model_reach_28 448 (Int32.ofNat n) b w (vwT M 1024 n).so ((vwT M 1024 n).de.toInt64 + o.toInt64) M := by
    unfold K_Model_reach_28
    rw [h.R448_14, thN, ixN (show 76800 + n < 2147483648 by omega), de, eo, h.R448_11, h.R448_9, ix24]
    refine fun _ _ => ⟨fun _ _ _ => b0, fun _ => ⟨fun _ _ _ => b0, fun _ => ⟨fun c4 => ?_, fun _ _ _ c7 => ?_⟩⟩⟩
    · exact ⟨h.T448, h.T448, h.T455, kp, h.T448, (m_within h hn (hv47 (Or.inl c4)) _ _ _).2⟩
    · obtain ⟨w1, w2⟩ := wt.2.2.2.2.1 (Or.inr (Or.inl c7))
      exact ⟨h.T448, h.T448, h.T448, h.T458, vp, h.T453, by rw [h.N453]; exact (ix8 w1 w2).2.2, h.T448, (m_within h hn (hv47 (Or.inr c7)) _ _ _).2⟩
  refine ⟨?_, h.T448, a2, h.T448, h.T458, vp, h.T448, K28⟩
  unfold g_Model_reach_28 g_Model_reach_145 g_Model_reach_146 g_Model_reach_170 g_Model_reach_174 g_Model_reach_175 g_Model_reach_212
  rw [h.R448_14, thN, ixN (show 76800 + n < 2147483648 by omega), de, eo, h.R448_11, h.R448_9, ix24]
  have c0 : (0 : Int64).toInt = 0 := rfl
  have c8 : (8 : Int64).toInt = 8 := rfl
  have c16 : (16 : Int64).toInt = 16 := rfl
  have c32 : (32 : Int64).toInt = 32 := rfl
  have cm : (-512 : Int64).toInt = -512 := rfl
  have c64 : (64 - b.toInt64).toInt = 64 - b.toInt := by rcases hb with e | e | e | e <;> rw [e] <;> decide
  have cb : ((-b).toInt64).toInt = -b.toInt := by rcases hb with e | e | e | e <;> rw [e] <;> decide
  unfold rch
  by_cases s0 : (vwT M 1024 n).so = 0
  · simp only [s0, if_true, if_false, not_true, not_false_iff, and_self, and_true, true_and, and_false, false_and, or_true, true_or, or_false, false_or, or_self, i32_10, eq_self, true_implies, false_implies, implies_true, ite_self, ne_eq]
  by_cases s1 : (vwT M 1024 n).so = 1
  · simp only [s1, i1_0, show ¬ (1 : Int32) = 3 from by decide, show ¬ (1 : Int32) = 2 from by decide, show ¬ (1 : Int32) = 4 from by decide, show ¬ (1 : Int32) = 7 from by decide, if_true, if_false, not_true, not_false_iff, and_self, and_true, true_and, and_false, false_and, or_true, true_or, or_false, false_or, or_self, i32_10, eq_self, true_implies, false_implies, implies_true, ite_self, ne_eq]
  by_cases s2 : (vwT M 1024 n).so = 2
  · obtain ⟨w1, w2⟩ := wt.2.2.2.2.2.1 (Or.inl s2)
    have er : (lg_cmp (j_lrem ((vwT M 1024 n).de.toInt64 + o.toInt64) b.toInt64) 0 = 0) = (((vwT M 1024 n).de.toInt + o.toInt) % b.toInt = 0) := by
      have := lrem_0 (a := (vwT M 1024 n).de.toInt64 + o.toInt64) (by rw [ea]; omega) (by rw [ea]; omega) bq
      rw [ea, bB] at this
      exact propext (cmp_eq.trans this)
    have ad : adr (vwT M 1024 n) o = (vwT M 1024 n).de.toInt + o.toInt := rfl
    rw [ad]
    simp only [er, cmp_ltI, cmp_gtI, cmp_eqI, cmp_geI, ea, c0, c8, c16, c32, c64]
    have r2 := reach2 ((vwT M 1024 n).de.toInt + o.toInt) b.toInt b w (fun e => by rw [e]; rfl)
    generalize (vwT M 1024 n).de.toInt + o.toInt = A at r2 ⊢
    generalize b.toInt = B at r2 ⊢
    simp only [s2, show ¬ (2 : Int32) = 0 from by decide, show ¬ (2 : Int32) = 1 from by decide, show ¬ (2 : Int32) = 3 from by decide, i1_0, if_true, if_false]
    exact r2
  by_cases s3 : (vwT M 1024 n).so = 3
  · obtain ⟨w1, w2⟩ := wt.2.2.2.2.2.1 (Or.inr s3)
    have er : (lg_cmp (j_lrem ((vwT M 1024 n).de.toInt64 + o.toInt64) b.toInt64) 0 = 0) = (((vwT M 1024 n).de.toInt + o.toInt) % b.toInt = 0) := by
      have := lrem_0 (a := (vwT M 1024 n).de.toInt64 + o.toInt64) (by rw [ea]; omega) (by rw [ea]; omega) bq
      rw [ea, bB] at this
      exact propext (cmp_eq.trans this)
    have ad : adr (vwT M 1024 n) o = (vwT M 1024 n).de.toInt + o.toInt := rfl
    rw [ad]
    simp only [er, cmp_ltI, cmp_gtI, cmp_eqI, cmp_geI, ea, cm, cb]
    generalize (vwT M 1024 n).de.toInt + o.toInt = A
    generalize b.toInt = B
    simp only [s3, show ¬ (3 : Int32) = 0 from by decide, show ¬ (3 : Int32) = 1 from by decide, show ¬ (3 : Int32) = 2 from by decide, if_true, if_false]
    by_cases p1 : A % B = 0 <;> by_cases p2 : -512 ≤ A <;> by_cases p3 : A ≤ -B <;> simp only [p1, p2, p3, if_true, if_false, not_true, not_false_iff, and_self, and_true, true_and, and_false, false_and, or_true, true_or, or_false, false_or, or_self, i32_10, eq_self, true_implies, false_implies, implies_true, ite_self, ne_eq]
  by_cases s4 : (vwT M 1024 n).so = 4
  · rw [(m_within h hn (hv47 (Or.inl s4)) o.toInt64 b.toInt64 (mI M 455 1024).toInt64).1]
    simp only [f10]
    rw [if_neg s0, if_neg s1, if_neg s2, if_neg s3, if_pos s4, if_neg s0, if_neg s3, if_neg s2, if_pos s4]
    by_cases p : lie (vwT M 1024 n).va o b (mI M 455 1024)
    · rw [if_pos p, if_neg (fun z => z p)]
    · rw [if_neg p, if_pos p]
  by_cases s7 : (vwT M 1024 n).so = 7
  · rw [(m_within h hn (hv47 (Or.inr s7)) o.toInt64 b.toInt64 (mI M 453 (ix (vwT M 1024 n).de)).toInt64).1]
    simp only [f10]
    have s5 : ¬ (vwT M 1024 n).so = 5 := by rw [s7]; decide
    have s6 : ¬ (vwT M 1024 n).so = 6 := by rw [s7]; decide
    rw [if_neg s0, if_neg s1, if_neg s2, if_neg s3, if_neg s4, if_neg s5, if_neg s6, if_pos s7, if_neg s0, if_neg s3, if_neg s2, if_neg s4, if_pos s7]
    by_cases p : lie (vwT M 1024 n).va o b (mI M 453 (ix (vwT M 1024 n).de))
    · have p' : lie (vwT M 1024 n).va o b ((mpT M).2.2 (ix (vwT M 1024 n).de)) := p
      rw [if_pos p', if_neg (fun z => z p)]
    · have p' : ¬ lie (vwT M 1024 n).va o b ((mpT M).2.2 (ix (vwT M 1024 n).de)) := p
      rw [if_neg p', if_pos p]
  simp only [s0, s1, s2, s3, s4, s7, if_true, if_false, not_true, not_false_iff, and_self, and_true, true_and, and_false, false_and, or_true, true_or, or_false, false_or, or_self, i32_10, eq_self, true_implies, false_implies, implies_true, ite_self, ne_eq]
theorem m_written (h : Sh M) {n : Nat} (hn : n < 75) : g_Model_written 448 1024 (Int32.ofNat n) M = wrT (vwT M 1024 n) ∧ K_Model_written 448 1024 (Int32.ofNat n) M := by
  have de : mI M 458 (76800 + n) = (vwT M 1024 n).de := tw_de hn
  have so : mI M 457 (76800 + n) = (vwT M 1024 n).so := tw_so hn
  unfold g_Model_written K_Model_written g_Model_written_0 K_Model_written_0 g_Model_written_11 K_Model_written_11
  rw [h.R448_13, h.R448_14, thN, ixN (show 76800 + n < 2147483648 by omega), de, so]
  exact ⟨rfl, h.T448, h.T457, by rw [h.N457]; exact vpN (by omega) (by omega), fun _ => ⟨h.T448, h.T458, by rw [h.N458]; exact vpN (by omega) (by omega)⟩⟩
theorem slot64 : ∀ q : Fin 512, 11 + Int64.toInt32 (Int64.ofNat q.val / 8) = Int32.ofNat (11 + q.val / 8) ∧ j_irem (Int64.toInt32 (Int64.ofNat q.val)) 8 = Int32.ofNat (q.val % 8) := by decide +kernel
theorem toInt_ofNat64 {a : Nat} (h : a < 9223372036854775808) : (Int64.ofNat a).toInt = a := Int64.toInt_ofNat_of_lt (by show a < 2 ^ 63; omega)
theorem b512 {a : Int64} (h1 : -512 ≤ a.toInt) (h2 : a.toInt < 0) : a + 512 = Int64.ofNat (q5 a.toInt) ∧ q5 a.toInt < 512 := by
  unfold q5
  refine ⟨?_, by omega⟩
  apply Int64.toInt_inj.mp
  rw [toInt_ofNat64 (by omega), Int64.toInt_add]
  have : (512 : Int64).toInt = 512 := rfl
  rw [this, Int.bmod_eq_of_le (by omega) (by omega)]
  omega
theorem m_slotOf {a : Int64} (h1 : -512 ≤ a.toInt) (h2 : a.toInt < 0) : g_Model_slotOf a = Int32.ofNat (slo (q5 a.toInt)) ∧ j_irem (Int64.toInt32 (a + 512)) 8 = Int32.ofNat (q5 a.toInt % 8) ∧ slo (q5 a.toInt) < 75 := by
  obtain ⟨e1, e2⟩ := b512 h1 h2
  obtain ⟨s1, s2⟩ := slot64 ⟨q5 a.toInt, e2⟩
  unfold g_Model_slotOf g_Model_slotOf_0 slo
  rw [e1]
  exact ⟨s1, s2, by omega⟩
theorem xF_600 : 600 < xF := by rw [xF_eq]; decide
theorem have_loop (h : Sh M) {x1 x3 : Int64} {b : Nat} (hb : x3.toInt = b) (h1 : -512 ≤ x1.toInt) (h2 : x1.toInt + b ≤ 0) : ∀ (m k f : Nat) (x5 : Int32) (x6 : Int64), k + m = b → m < f → x6.toInt = x1.toInt + k → (x5 = 0 ∨ x5 = 1) → (x5 = 1 ↔ ∀ j, j < k → wb (vwT M 1024 (slo (q5 x1.toInt + j))) ((q5 x1.toInt + j) % 8)) →
    K_Model_haveNumbers_6 f 448 x1 x3 x5 x6 M ∧ (g_Model_haveNumbers_6 f 448 x1 x3 x5 x6 M = 0 ↔ ¬ hasN (vwT M 1024) (q5 x1.toInt) b) := by
  have e13 : (x1 + x3).toInt = x1.toInt + b := by
    rw [Int64.toInt_add, hb]
    exact Int.bmod_eq_of_le (by omega) (by omega)
  intro m
  induction m with
  | zero =>
    intro k f x5 x6 km mf e6 h5 hw
    obtain ⟨f, rfl⟩ : ∃ f', f = f' + 1 := ⟨f - 1, by omega⟩
    conv => unfold K_Model_haveNumbers_6 g_Model_haveNumbers_6
    have c : 0 ≤ lg_cmp x6 (x1 + x3) := by rw [cmp_geI, e13, e6]; omega
    have kb : k = b := by omega
    rw [if_pos c]
    refine ⟨fun z => absurd c z, ?_⟩
    rw [kb] at hw
    have hw' : x5 = 1 ↔ hasN (vwT M 1024) (q5 x1.toInt) b := hw
    rw [← hw']
    rcases h5 with e | e <;> rw [e] <;> decide
  | succ m ih =>
    intro k f x5 x6 km mf e6 h5 hw
    obtain ⟨f, rfl⟩ : ∃ f', f = f' + 1 := ⟨f - 1, by omega⟩
    conv => unfold K_Model_haveNumbers_6 g_Model_haveNumbers_6
    have c : ¬ 0 ≤ lg_cmp x6 (x1 + x3) := by rw [cmp_geI, e13, e6]; omega
    rw [if_neg c]
    have l1 : -512 ≤ x6.toInt := by omega
    have l2 : x6.toInt < 0 := by omega
    obtain ⟨s1, s2, s3⟩ := m_slotOf l1 l2
    obtain ⟨u1, u2⟩ := m_written h s3
    have eq : q5 x6.toInt = q5 x1.toInt + k := by unfold q5; omega
    rw [s1, s2, u1]
    rw [eq] at u2
    have e6' : (x6 + 1).toInt = x1.toInt + ((k + 1 : Nat) : Int) := by
      rw [Int64.toInt_add, e6]
      have : (1 : Int64).toInt = 1 := rfl
      rw [this, Int.bmod_eq_of_le (by omega) (by omega)]
      omega
    have go := fun x5 => ih (k + 1) f x5 (x6 + 1) (by omega) (by omega) e6'
    unfold K_Model_haveNumbers_53 g_Model_haveNumbers_53 K_Model_haveNumbers_54 g_Model_haveNumbers_54
    rw [eq]
    by_cases c5 : x5 = 0
    · have n0 : ¬ ∀ j, j < k → wb (vwT M 1024 (slo (q5 x1.toInt + j))) ((q5 x1.toInt + j) % 8) := fun z => by rw [← hw, c5] at z; exact absurd z (by decide)
      obtain ⟨g1, g2⟩ := go 0 (Or.inl rfl) ⟨fun z => absurd z (by decide), fun z => absurd (fun j hj => z j (by omega)) n0⟩
      rw [if_pos c5]
      exact ⟨fun _ => ⟨fun _ => g1, fun z => absurd c5 z⟩, g2⟩
    · have n1 := hw.mp (h5.resolve_left c5)
      rw [if_neg c5]
      by_cases cw : j_ishr (wrT (vwT M 1024 (slo (q5 x1.toInt + k)))) (Int32.ofNat ((q5 x1.toInt + k) % 8)) &&& 1 = 1
      · obtain ⟨g1, g2⟩ := go 1 (Or.inr rfl) ⟨fun _ j hj => by
          by_cases q : j = k
          · rw [q]; exact cw
          · exact n1 j (by omega), fun _ => rfl⟩
        rw [if_pos cw]
        exact ⟨fun _ => ⟨fun z => absurd z c5, fun _ => ⟨h.T448, u2, fun _ => g1, fun z => absurd cw z⟩⟩, g2⟩
      · obtain ⟨g1, g2⟩ := go 0 (Or.inl rfl) ⟨fun z => absurd z (by decide), fun z => absurd (z k (by omega)) cw⟩
        rw [if_neg cw]
        exact ⟨fun _ => ⟨fun z => absurd z c5, fun _ => ⟨h.T448, u2, fun z => absurd z cw, fun _ => g1⟩⟩, g2⟩
theorem m_have (h : Sh M) {x1 x3 : Int64} {b : Nat} (hb : x3.toInt = b) (h1 : -512 ≤ x1.toInt) (h2 : x1.toInt + b ≤ 0) : K_Model_haveNumbers 448 x1 x3 M ∧ (g_Model_haveNumbers 448 x1 x3 M = 0 ↔ ¬ hasN (vwT M 1024) (q5 x1.toInt) b) :=
  have_loop h hb h1 h2 b 0 xF 1 x1 (by omega) (by have := xF_600; omega) (by omega) (Or.inr rfl) ⟨fun _ j hj => by omega, fun _ => rfl⟩
theorem nrm_one0 (a b c : Int32) : nrm (a, b, c, vOne 0) = (a, b, c, vOne 0) := by unfold nrm; split <;> rfl
theorem ldA_T {b m : Int32} (hb : b = 1 ∨ b = 2 ∨ b = 4 ∨ b = 8) (h8 : m = 4 → ¬ b = 8) : Tt (ldA b m) := by
  unfold ldA
  obtain ⟨bn, b1, b2, b3⟩ := cut_any hb
  rw [b2]
  split
  · rename_i c
    have h8 := h8 c
    refine ext_T (cut_T free_T b1) ?_ ?_
    · rcases hb with e | e | e | e
      · rw [e] at b2; have := congrArg Int32.toInt b2; rw [toInt_ofNat32 (by omega)] at this; have e8 : ((8 : Int32) * 1).toInt = 8 := rfl; omega
      · rw [e] at b2; have := congrArg Int32.toInt b2; rw [toInt_ofNat32 (by omega)] at this; have e8 : ((8 : Int32) * 2).toInt = 16 := rfl; omega
      · rw [e] at b2; have := congrArg Int32.toInt b2; rw [toInt_ofNat32 (by omega)] at this; have e8 : ((8 : Int32) * 4).toInt = 32 := rfl; omega
      · exact absurd e h8
    · rcases hb with e | e | e | e
      · rw [e] at b2; have := congrArg Int32.toInt b2; rw [toInt_ofNat32 (by omega)] at this; have e8 : ((8 : Int32) * 1).toInt = 8 := rfl; omega
      · rw [e] at b2; have := congrArg Int32.toInt b2; rw [toInt_ofNat32 (by omega)] at this; have e8 : ((8 : Int32) * 2).toInt = 16 := rfl; omega
      · rw [e] at b2; have := congrArg Int32.toInt b2; rw [toInt_ofNat32 (by omega)] at this; have e8 : ((8 : Int32) * 4).toInt = 32 := rfl; omega
      · exact absurd e h8
  · exact cut_T free_T b1
theorem m_load (h : TW M) {I : In} (hI : InT M I) (w : WI I) (hk : kd I.c = 1) (wt : WS (vwT M 1024)) :
    K_Model_load 448 M ∧ ZQ M ((lod (mpT M) I (vwT M 1024) (mI M 455 1024)).1, (lod (mpT M) I (vwT M 1024) (mI M 455 1024)).2, mI M 455 1024) (g_Model_load 448 M) := by
  have s := h.1
  have hd : I.d < 75 := by have := w.2.1; omega
  have hs : I.s < 75 := by have := w.2.2.1; omega
  have hb := sz_cases I.c
  have mo : md I.c = 4 → ¬ sz I.c = 8 := fun z => by
    rcases w.2.2.2.2.2.2.2.2 hk with e | e
    · rw [z] at e; exact absurd e (by decide)
    · exact e.2
  obtain ⟨z1, z2⟩ := hI.size s
  obtain ⟨r1, r2⟩ := m_reach s hs (wt I.s) hI.2.2.2.1 w.2.2.2.1 hb 0
  obtain ⟨a1, a2⟩ := m_sortOf s hs
  have de : mI M 458 (76800 + I.s) = (vwT M 1024 I.s).de := tw_de hs
  have bB : (sz I.c).toInt64.toInt = (sz I.c).toInt := Int32.toInt_toInt64 _
  unfold g_Model_load K_Model_load g_Model_load_0 K_Model_load_0 g_Model_load_5 K_Model_load_5
  rw [z1, hI.2.2.1, r1]
  refine kq_and s.T448 (kq_and z2 (kq_and s.T448 (kq_and s.T448 (kq_and r2 ?_))))
  have L181 : K_Model_load_181 448 (sz I.c) M ∧ ZQ M (0, up (vwT M 1024) I.d (tNu (ldA (sz I.c) (md I.c))), mI M 455 1024) (g_Model_load_181 448 (sz I.c) M) := by
    unfold g_Model_load_181 K_Model_load_181 g_Model_load_190 K_Model_load_190 g_Model_load_221 K_Model_load_221 g_Model_load_234
    rw [hI.2.1]
    obtain ⟨k1, k2⟩ := m_setAny h hd hb
    refine kq_and s.T448 (kq_and s.T448 (kq_and k1 ?_))
    generalize g_Model_setAny 448 (Int32.ofNat I.d) (sz I.c) M = X at k2 ⊢
    have s1 := k2.1.1
    have hI1 := hI.fx k2.2.1
    obtain ⟨m1, m2⟩ := hI1.mode s1
    rw [m1, hI1.2.1, s1.R448_16, roN]
    have vd : vwT X 1024 I.d = tNu (vCut (8 * sz I.c) vFree) := by rw [k2.2.2.1, up_same]
    refine kq_and s1.T448 (kq_and m2 (kq_ifp (fun c4 => ?_) (fun c4 => ?_)))
    · have ixd : ix (Int32.ofNat (8 + (76800 + I.d))) = 8 + (76800 + I.d) := ixN (by omega)
      have vv : tvk X (8 + (76800 + I.d)) = vCut (8 * sz I.c) vFree := by
        rw [tw_va hd (by rw [vd]; rfl), vd]
      have tl := ldA_T hb mo
      unfold ldA at tl ⊢
      rw [if_pos c4] at tl ⊢
      have bN : ∃ n : Nat, 0 < n ∧ n < 63 ∧ 8 * sz I.c = Int32.ofNat n := by
        rcases hb with e | e | e | e <;> rw [e]
        · exact ⟨8, by decide, by decide, by decide⟩
        · exact ⟨16, by decide, by decide, by decide⟩
        · exact ⟨32, by decide, by decide, by decide⟩
        · exact absurd e (mo c4)
      obtain ⟨bn, b1, b2, b3⟩ := bN
      obtain ⟨e1, e2, e3, e4⟩ := m_ext k2.1 (i := Int32.ofNat (8 + (76800 + I.d))) (rkN (by omega)) b1 b2 (by rw [ixd]; exact (tw_tt k2.1 hd).1)
      rw [← b3] at e1 e2 e3 e4
      rw [ixd, vv] at e3
      have hI2 := hI1.fx e2.2.1
      rw [hI2.2.1]
      obtain ⟨f1, f2⟩ := m_setNum e2.1 hd e3 e4 tl
      rw [e2.2.2.1, k2.2.2.1, up_up] at f2
      exact ⟨⟨s1.T448, s1.T448, s1.T460, e1, e2.1.1.T448, e2.1.1.T448, f1⟩, ZQ.ok (k2.trans (e2.trans f2))⟩
    · unfold ldA
      rw [if_neg c4]
      exact ZQ.ok k2
  have rv : (if (vwT M 1024 I.s).so = 0 then (1 : Int32) else rch (mpT M) (mI M 455 1024) (vwT M 1024 I.s) I.o (sz I.c) 0) ≤ 0 ↔ ¬ (vwT M 1024 I.s).so = 0 ∧ rch (mpT M) (mI M 455 1024) (vwT M 1024 I.s) I.o (sz I.c) 0 = 0 := by
    by_cases c : (vwT M 1024 I.s).so = 0
    · rw [if_pos c]
      exact ⟨fun z => absurd z (by decide), fun z => absurd c z.1⟩
    · rw [if_neg c]
      rcases rch_vals (mp := mpT M) (kn := mI M 455 1024) (t := vwT M 1024 I.s) (o := I.o) (b := sz I.c) (w := 0) with e | e | e <;> rw [e]
      · exact ⟨fun _ => ⟨c, rfl⟩, fun _ => by decide⟩
      · exact ⟨fun z => absurd z (by decide), fun z => absurd z.2 (by decide)⟩
      · exact ⟨fun z => absurd z (by decide), fun z => absurd z.2 (by decide)⟩
  unfold g_Model_load_16 K_Model_load_16
  rw [hI.2.2.1, a1]
  refine kq_ifp (fun c => kq_and s.T448 (kq_and s.T448 (kq_and a2 ?_))) (fun c => ?_)
  · obtain ⟨c0, cr⟩ := rv.mp c
    have vp : vp_in (Int32.ofNat (76800 + I.s)) (mN M 458) := by rw [s.N458]; exact vpN (by omega) (by omega)
    unfold g_Model_load_31 K_Model_load_31
    rw [hI.2.2.1, hI.2.2.2.1, s.R448_14, thN, ixN (show 76800 + I.s < 2147483648 by omega), de]
    refine kq_and s.T448 (kq_and s.T448 (kq_and s.T458 (kq_and vp (kq_and s.T448 ?_))))
    have ea := adr64 (vwT M 1024 I.s).de I.o
    have el : lod (mpT M) I (vwT M 1024) (mI M 455 1024) = (if (vwT M 1024 I.s).so = 3 then
    (if sz I.c = 8 ∧ (vwT M 1024 (slo (q5 (adr (vwT M 1024 I.s) I.o)))).so ≠ 9 then (0, up (vwT M 1024) I.d (vwT M 1024 (slo (q5 (adr (vwT M 1024 I.s) I.o)))))
     else cif (hasN (vwT M 1024) (q5 (adr (vwT M 1024 I.s) I.o)) (ix (sz I.c))) (0, up (vwT M 1024) I.d (tNu (ldA (sz I.c) (md I.c)))) (5, vwT M 1024))
  else if (vwT M 1024 I.s).so = 2 ∧ adr (vwT M 1024 I.s) I.o < 16 then (0, up (vwT M 1024) I.d (if adr (vwT M 1024 I.s) I.o = 0 then 4 else 5, 0, -1, vOne 0))
  else (0, up (vwT M 1024) I.d (tNu (ldA (sz I.c) (md I.c))))) := by
      unfold lod
      rw [if_neg c0, if_neg (fun z => z cr)]
    generalize lod (mpT M) I (vwT M 1024) (mI M 455 1024) = R at el ⊢
    have ad : adr (vwT M 1024 I.s) I.o = (vwT M 1024 I.s).de.toInt + I.o.toInt := rfl
    generalize hA : (vwT M 1024 I.s).de.toInt64 + I.o.toInt64 = A at ea ⊢
    rw [← ad] at ea
    have L114 : (¬ (vwT M 1024 I.s).so = 3 → ¬ ((vwT M 1024 I.s).so = 2 ∧ adr (vwT M 1024 I.s) I.o < 16)) → K_Model_load_114 448 (sz I.c) (vwT M 1024 I.s).so A M ∧ ZQ M (R.1, R.2, mI M 455 1024) (g_Model_load_114 448 (sz I.c) (vwT M 1024 I.s).so A M) := by
      intro no2
      unfold g_Model_load_114 K_Model_load_114
      refine kq_if (fun c3 => ?_) (fun c3 => ?_)
      · rw [if_pos c3] at el
        have rr : -512 ≤ adr (vwT M 1024 I.s) I.o ∧ adr (vwT M 1024 I.s) I.o ≤ -(sz I.c).toInt := by
          unfold rch at cr
          rw [if_pos c3] at cr
          by_cases q : adr (vwT M 1024 I.s) I.o % (sz I.c).toInt = 0 ∧ -512 ≤ adr (vwT M 1024 I.s) I.o ∧ adr (vwT M 1024 I.s) I.o ≤ -(sz I.c).toInt
          · exact q.2
          · rw [if_neg q] at cr; exact absurd cr (by decide)
        have bp : 1 ≤ (sz I.c).toInt ∧ ((ix (sz I.c) : Nat) : Int) = (sz I.c).toInt := by rcases hb with e | e | e | e <;> rw [e] <;> decide
        obtain ⟨s1, s2, s3⟩ := m_slotOf (a := A) (by omega) (by omega)
        rw [ea] at s1 s2 s3
        rw [s1]
        obtain ⟨v1, v2⟩ := m_have s (x1 := A) (x3 := (sz I.c).toInt64) (b := ix (sz I.c)) (by rw [bB]; exact bp.2.symm) (by omega) (by omega)
        rw [ea] at v2
        have L168 : ¬ (sz I.c = 8 ∧ (vwT M 1024 (slo (q5 (adr (vwT M 1024 I.s) I.o)))).so ≠ 9) → K_Model_load_168 448 (sz I.c) A M ∧ ZQ M (R.1, R.2, mI M 455 1024) (g_Model_load_168 448 (sz I.c) A M) := by
          intro n9
          unfold g_Model_load_168 K_Model_load_168
          rw [if_neg n9] at el
          refine kq_and s.T448 (kq_and v1 (kq_ifn (fun c => ?_) (fun c => ?_)))
          · rw [cif_neg (v2.mp c)] at el
            rw [el]
            exact ZQ.bad (w := 5) h (by decide)
          · rw [cif_pos (Classical.not_not.mp (fun z => c (v2.mpr z)))] at el
            rw [el]
            exact L181
        unfold g_Model_load_126 K_Model_load_126 g_Model_load_166
        have so9 : mI M 457 (76800 + slo (q5 (adr (vwT M 1024 I.s) I.o))) = (vwT M 1024 (slo (q5 (adr (vwT M 1024 I.s) I.o)))).so := tw_so s3
        rw [s.R448_13, thN, ixN (show 76800 + slo (q5 (adr (vwT M 1024 I.s) I.o)) < 2147483648 by omega), so9, hI.2.1]
        refine kq_if (fun c8 => kq_and s.T448 (kq_and s.T457 (kq_and (by rw [s.N457]; exact vpN (by omega) (by omega)) (kq_if (fun c9 => L168 (fun z => z.2 c9)) (fun c9 => ?_))))) (fun c8 => L168 (fun z => c8 z.1))
        have q : sz I.c = 8 ∧ (vwT M 1024 (slo (q5 (adr (vwT M 1024 I.s) I.o)))).so ≠ 9 := ⟨c8, c9⟩
        rw [if_pos q] at el
        rw [el]
        obtain ⟨k1, k2⟩ := m_copyThing s (k := 1024) (m := slo (q5 (adr (vwT M 1024 I.s) I.o))) (k' := 1024) (m' := I.d) (by decide) s3 (by decide) hd
        rw [i1024, k1]
        have x := MX.sx h hd (t := tR M (75 * 1024 + slo (q5 (adr (vwT M 1024 I.s) I.o)))) (e := j_z (tE M (75 * 1024 + slo (q5 (adr (vwT M 1024 I.s) I.o))))) (by rw [(h.2.1 (75 * 1024 + slo (q5 (adr (vwT M 1024 I.s) I.o))) (by omega)).1, jz0]) (h.2.1 (75 * 1024 + slo (q5 (adr (vwT M 1024 I.s) I.o))) (by omega)).2
        rw [← vwT_at (k := 1024) s3] at x
        exact ⟨⟨s.T448, s.T448, k2⟩, ZQ.ok x⟩
      · rw [if_neg c3, if_neg (no2 c3)] at el
        rw [el]
        exact L181
    unfold g_Model_load_55 K_Model_load_55
    simp only [cmp_geI, cmp_eqI, ea, show (16 : Int64).toInt = 16 from rfl, show (0 : Int64).toInt = 0 from rfl]
    refine kq_if (fun c2 => kq_if (fun c16 => L114 (fun _ z => by omega)) (fun c16 => kq_and s.T448 ?_)) (fun c2 => L114 (fun _ z => c2 z.1))
    have c3 : ¬ (vwT M 1024 I.s).so = 3 := by rw [c2]; decide
    have q : (vwT M 1024 I.s).so = 2 ∧ adr (vwT M 1024 I.s) I.o < 16 := ⟨c2, by omega⟩
    rw [if_neg c3, if_pos q] at el
    have L89 : ∀ t : Int32, K_Model_load_89 448 448 1024 (Int32.ofNat I.d) t M ∧ ZQ M (0, up (vwT M 1024) I.d (t, 0, -1, vOne 0), mI M 455 1024) (g_Model_load_89 448 448 1024 (Int32.ofNat I.d) t M) := by
      intro t
      unfold g_Model_load_89 K_Model_load_89 g_Model_load_93 K_Model_load_93 g_Model_load_112
      obtain ⟨p1, p2, p3, p4, p5⟩ := m_putV h hd t 0 rk6 (by rw [ix6]; decide) (by rw [ix6]; exact h.2.2.1) (by rw [ix6]; exact h.2.2.2) (one_T 0)
      rw [p2.R448_16, p3, hI.2.1]
      rw [nrm_one0] at p5
      exact ⟨⟨s.T448, p1, p2.T448, p2.T448, p2.T460, p4⟩, ZQ.ok p5⟩
    rw [hI.2.1]
    refine kq_if (fun c0' => ?_) (fun c0' => ?_)
    · rw [if_pos c0'] at el
      rw [el]
      exact L89 4
    · rw [if_neg c0'] at el
      rw [el]
      exact L89 5
  · have el : lod (mpT M) I (vwT M 1024) (mI M 455 1024) = (if (vwT M 1024 I.s).so = 0 then (1 : Int32) else rch (mpT M) (mI M 455 1024) (vwT M 1024 I.s) I.o (sz I.c) 0, vwT M 1024) := by
      unfold lod
      by_cases c0 : (vwT M 1024 I.s).so = 0
      · rw [if_pos c0, if_pos c0]
      · rw [if_neg c0, if_neg c0]
        have cr : rch (mpT M) (mI M 455 1024) (vwT M 1024 I.s) I.o (sz I.c) 0 ≠ 0 := fun z => c (rv.mpr ⟨c0, z⟩)
        rw [if_pos cr]
    rw [el]
    refine ZQ.bad h (fun z => c ?_)
    simp only at z
    rw [z]; decide
end RC
