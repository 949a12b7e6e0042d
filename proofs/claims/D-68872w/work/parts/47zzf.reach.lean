/-! part 47zzf: the component's Transfer: reach (gen/tpl.py) -/
theorem sz_cases (c : Int32) : sz c = 1 ∨ sz c = 2 ∨ sz c = 4 ∨ sz c = 8 := by
  unfold sz
  split
  · exact Or.inr (Or.inr (Or.inl rfl))
  · split
    · exact Or.inr (Or.inl rfl)
    · split
      · exact Or.inl rfl
      · exact Or.inr (Or.inr (Or.inr rfl))
theorem add_small {a o : Int32} (h1 : -536870912 ≤ a.toInt) (h2 : a.toInt ≤ 536870912) (h3 : -32768 ≤ o.toInt) (h4 : o.toInt ≤ 32767) : (a + o).toInt = a.toInt + o.toInt := by
  rw [Int32.toInt_add]
  exact Int.bmod_eq_of_le (by omega) (by omega)
theorem irem_0 {a : Int32} (h1 : -1073741824 ≤ a.toInt) (h2 : a.toInt ≤ 1073741824) {b : Int32} (hb : b = 1 ∨ b = 2 ∨ b = 4 ∨ b = 8) : j_irem a b = 0 ↔ a.toInt % b.toInt = 0 := by
  have bq : b.toInt = 1 ∨ b.toInt = 2 ∨ b.toInt = 4 ∨ b.toInt = 8 := by
    rcases hb with e | e | e | e <;> rw [e] <;> decide
  unfold j_irem
  have e1 : (a / b).toInt = a.toInt.tdiv b.toInt := by
    rw [Int32.toInt_div]
    have : a.toInt.tdiv b.toInt ≤ 1073741824 ∧ -1073741824 ≤ a.toInt.tdiv b.toInt := by
      rw [Int.tdiv_eq_ediv]
      rcases bq with e | e | e | e <;> rw [e] <;> split <;> (try simp only [Int.sign]) <;> omega
    exact Int.bmod_eq_of_le (by omega) (by omega)
  have e2 : (a / b * b).toInt = a.toInt.tdiv b.toInt * b.toInt ∧ (a.toInt.tdiv b.toInt * b.toInt = a.toInt ↔ a.toInt % b.toInt = 0) := by
    rw [Int32.toInt_mul, e1]
    have q : (a.toInt.tdiv b.toInt * b.toInt ≤ 1073741824 ∧ -1073741824 ≤ a.toInt.tdiv b.toInt * b.toInt) ∧ (a.toInt.tdiv b.toInt * b.toInt = a.toInt ↔ a.toInt % b.toInt = 0) := by
      rw [Int.tdiv_eq_ediv]
      rcases bq with e | e | e | e <;> rw [e] <;> split <;> (try simp only [Int.sign]) <;> omega
    exact ⟨Int.bmod_eq_of_le (by omega) (by omega), q.2⟩
  have e3 : a - a / b * b = 0 ↔ a / b * b = a := by
    constructor
    · intro z
      have := congrArg Int32.toInt z
      rw [Int32.toInt_sub] at this
      have b1 := e2.1
      apply Int32.toInt_inj.mp
      have q : (a.toInt.tdiv b.toInt * b.toInt < a.toInt + 8 ∧ a.toInt < a.toInt.tdiv b.toInt * b.toInt + 8) := by
        rw [Int.tdiv_eq_ediv]
        rcases bq with e | e | e | e <;> rw [e] <;> split <;> (try simp only [Int.sign]) <;> omega
      rw [Int.bmod_eq_of_le (by omega) (by omega)] at this
      have z0 : (0 : Int32).toInt = 0 := rfl
      omega
    · intro z; rw [z]; exact Int32.sub_self a
  rw [e3, ← e2.2, ← Int32.toInt_inj, e2.1]
theorem c_lies {M : XM} {t : Nat} (h : mT M t = 10) (o b z : Int32) : g_Transfer_lies t o b z M = (if lie (gv6 M t) o b z then 1 else 0) ∧ K_Transfer_lies t o b z M := by
  refine ⟨?_, h, fun _ => h⟩
  show (if lg_cmp (mL M t 4) (-(o.toInt64)) < 0 then (0 : Int32) else if 0 < lg_cmp (mL M t 5) (z.toInt64 - b.toInt64 - o.toInt64) then 0 else 1) = if -(o.toInt64) ≤ mL M t 4 ∧ mL M t 5 ≤ z.toInt64 - b.toInt64 - o.toInt64 then 1 else 0
  simp only [cmp_ltN, cmp_gtN]
  by_cases c1 : -(o.toInt64) ≤ mL M t 4 <;> by_cases c2 : mL M t 5 ≤ z.toInt64 - b.toInt64 - o.toInt64 <;> simp only [c1, c2, if_true, if_false, not_true, not_false_iff, and_self, and_true, true_and, and_false, false_and, or_true, true_or, or_false, false_or, or_self, i32_10, eq_self, true_implies, false_implies, implies_true, ite_self, ne_eq]
/-- the maps that the component has -/
def mpC (M : XM) : Mp := (fun k => mI M 107 k, fun k => mI M 108 k, fun k => mI M 109 k)
theorem ix8 {a : Int32} (h1 : 0 ≤ a) (h2 : a < 8) : ix a < 8 ∧ a = Int32.ofNat (ix a) ∧ vp_in a 8 := by
  rw [Int32.le_iff_toInt_le] at h1
  rw [lt_u3] at h2
  have e0 : (0 : Int32).toInt = 0 := rfl
  have e8 : (8 : Int32).toInt = 8 := rfl
  rw [e0] at h1; rw [e8] at h2
  have e : ∃ k : Fin 8, a = Int32.ofNat k.val := ⟨⟨a.toInt.toNat, by omega⟩, by
    apply Int32.toInt_inj.mp
    rw [Int32.toInt_ofNat_of_lt (by show a.toInt.toNat < 2 ^ 31; omega)]
    show a.toInt = ((a.toInt.toNat : Nat) : Int)
    omega⟩
  obtain ⟨k, e⟩ := e
  rw [e]
  have : ∀ k : Fin 8, ix (Int32.ofNat k.val) < 8 ∧ Int32.ofNat k.val = Int32.ofNat (ix (Int32.ofNat k.val)) ∧ vp_in (Int32.ofNat k.val) 8 := by unfold vp_in; decide +kernel
  exact this k
theorem c_reach {M : XM} (h : Sh M) {r : Nat} (hr : ShTh M r) (wt : WT (thC M r)) {o b : Int32} (ho : -32768 ≤ o.toInt ∧ o.toInt ≤ 32767) (hb : b = 1 ∨ b = 2 ∨ b = 4 ∨ b = 8) (w : Int32) :
    g_Transfer_reach 133 r o b w M = rch (mpC M) (mI M 134 1) (thC M r) o b w ∧ K_Transfer_reach 133 r o b w M := by
  have b0 : ¬ b = 0 := by rcases hb with e | e | e | e <;> rw [e] <;> decide
  have bq : b.toInt = 1 ∨ b.toInt = 2 ∨ b.toInt = 4 ∨ b.toInt = 8 := by
    rcases hb with e | e | e | e <;> rw [e] <;> decide
  have l1 := c_lies (M := M) hr.2.2 o b (mI M 134 1)
  have l2 := c_lies (M := M) hr.2.2 o b (mI M 109 (ix (mI M r 1)))
  have v1 : (thC M r).va = gv6 M (r + 1) := rfl
  have s1 : (thC M r).so = mI M r 0 := rfl
  have d1 : (thC M r).de = mI M r 1 := rfl
  have K20 : ∀ f a, K_Transfer_reach_20 133 r o b w a f M := by
    intro f a
    unfold K_Transfer_reach_20
    rw [h.R133_3, h.R133_1, h.R106_2, hr.2.1]
    refine ⟨hr.1, fun c2 c3 => ⟨fun c4 => ⟨hr.1, h.T133, h.St134.1, l1.2⟩, fun c4 c5 c6 c7 => ?_⟩⟩
    obtain ⟨w1, w2⟩ := wt.2.2.2.2.1 (Or.inr (Or.inl c7))
    rw [d1] at w1 w2
    refine ⟨hr.1, h.T133, h.T106, hr.1, h.T109, ?_, l2.2⟩
    rw [h.N109]; exact (ix8 w1 w2).2.2
  refine ⟨?_, hr.1, b0, fun _ => K20 _ _, fun _ => K20 _ _⟩
  unfold g_Transfer_reach g_Transfer_reach_0 g_Transfer_reach_8 g_Transfer_reach_20 g_Transfer_reach_113 g_Transfer_reach_114 g_Transfer_reach_133 g_Transfer_reach_134 g_Transfer_reach_168
  rw [h.R133_3, h.R133_1, h.R106_2, hr.2.1, l1.1, l2.1]
  unfold rch
  rw [s1, v1, d1]
  by_cases c2 : mI M r 0 = 2
  · have c3 : ¬ (2 : Int32) = 3 := by decide
    obtain ⟨w1, w2⟩ := wt.2.2.2.2.2.1 (Or.inl c2)
    rw [d1] at w1 w2
    have ea : (mI M r 1 + o).toInt = adr (thC M r) o := add_small w1 w2 ho.1 ho.2
    have er := irem_0 (a := mI M r 1 + o) (by rw [ea]; unfold adr; rw [d1]; omega) (by rw [ea]; unfold adr; rw [d1]; omega) hb
    rw [ea] at er
    simp only [c2, c3, if_true, if_false, not_true, not_false_iff, and_self, and_true, true_and, and_false, false_and, or_true, true_or, or_false, false_or, or_self, i32_10, eq_self, true_implies, false_implies, implies_true, ite_self, ne_eq]
    generalize mI M r 1 + o = a at ea er ⊢
    have q1 : a < 0 ↔ ¬ 0 ≤ adr (thC M r) o := by rw [lt_u3, ea]; have : (0 : Int32).toInt = 0 := rfl; omega
    have q2 : 64 - b < a ↔ ¬ adr (thC M r) o ≤ 64 - b.toInt := by
      rw [lt_u3, ea]
      have : (64 - b).toInt = 64 - b.toInt := by rcases hb with e | e | e | e <;> rw [e] <;> decide
      omega
    have q3 : 16 ≤ a ↔ ¬ adr (thC M r) o < 16 := by rw [Int32.le_iff_toInt_le, ea]; have : (16 : Int32).toInt = 16 := rfl; omega
    have q4 : a < 16 ↔ ¬ 16 ≤ adr (thC M r) o := by rw [lt_u3, ea]; have : (16 : Int32).toInt = 16 := rfl; omega
    have q5 : a < 32 ↔ ¬ 32 ≤ adr (thC M r) o := by rw [lt_u3, ea]; have : (32 : Int32).toInt = 32 := rfl; omega
    simp only [q1, q2, q3, q4, q5, er]
    generalize adr (thC M r) o = A
    generalize b.toInt = B
    by_cases p1 : A % B = 0 <;> by_cases p2 : 0 ≤ A <;> by_cases p3 : A ≤ 64 - B <;> by_cases p4 : b = 8 <;> by_cases p5 : A < 16 <;> by_cases p6 : 16 ≤ A <;> by_cases p7 : 32 ≤ A <;> by_cases p8 : w = 0 <;> simp only [p1, p2, p3, p4, p5, p6, p7, p8, if_true, if_false, not_true, not_false_iff, and_self, and_true, true_and, and_false, false_and, or_true, true_or, or_false, false_or, or_self, i32_10, eq_self, true_implies, false_implies, implies_true, ite_self, ne_eq]
  · by_cases c3 : mI M r 0 = 3
    · have c3' : ¬ (3 : Int32) = 2 := by decide
      obtain ⟨w1, w2⟩ := wt.2.2.2.2.2.1 (Or.inr c3)
      rw [d1] at w1 w2
      have ea : (mI M r 1 + o).toInt = adr (thC M r) o := add_small w1 w2 ho.1 ho.2
      have er := irem_0 (a := mI M r 1 + o) (by rw [ea]; unfold adr; rw [d1]; omega) (by rw [ea]; unfold adr; rw [d1]; omega) hb
      rw [ea] at er
      simp only [c3, c3', if_true, if_false, not_true, not_false_iff, and_self, and_true, true_and, and_false, false_and, or_true, true_or, or_false, false_or, or_self, i32_10, eq_self, true_implies, false_implies, implies_true, ite_self, ne_eq]
      generalize mI M r 1 + o = a at ea er ⊢
      have q1 : a < -512 ↔ ¬ -512 ≤ adr (thC M r) o := by rw [lt_u3, ea]; have : (-512 : Int32).toInt = -512 := rfl; omega
      have q2 : -b < a ↔ ¬ adr (thC M r) o ≤ -b.toInt := by
        rw [lt_u3, ea]
        have : (-b).toInt = -b.toInt := by rcases hb with e | e | e | e <;> rw [e] <;> decide
        omega
      simp only [q1, q2, er]
      generalize adr (thC M r) o = A
      by_cases p1 : A % b.toInt = 0 <;> by_cases p2 : -512 ≤ A <;> by_cases p3 : A ≤ -b.toInt <;> simp only [p1, p2, p3, if_true, if_false, not_true, not_false_iff, and_self, and_true, true_and, and_false, false_and, or_true, true_or, or_false, false_or, or_self, i32_10, eq_self, true_implies, false_implies, implies_true, ite_self, ne_eq]
    · by_cases c4 : mI M r 0 = 4
      · have i1 : ¬ (4 : Int32) = 2 := by decide
        have i2 : ¬ (4 : Int32) = 3 := by decide
        simp only [c4, i1, i2, if_true, if_false, not_true, not_false_iff, and_self, and_true, true_and, and_false, false_and, or_true, true_or, or_false, false_or, or_self, i32_10, eq_self, true_implies, false_implies, implies_true, ite_self, ne_eq]
        by_cases p : lie (gv6 M (r + 1)) o b (mI M 134 1)
        · rw [if_pos p, if_pos p, if_neg i1_0]
        · rw [if_neg p, if_neg p, if_pos rfl]
      · by_cases c7 : mI M r 0 = 7
        · have i1 : ¬ (7 : Int32) = 2 := by decide
          have i2 : ¬ (7 : Int32) = 3 := by decide
          have i3 : ¬ (7 : Int32) = 4 := by decide
          have i4 : ¬ (7 : Int32) = 5 := by decide
          have i5 : ¬ (7 : Int32) = 6 := by decide
          have em : (mpC M).2.2 (ix (mI M r 1)) = mI M 109 (ix (mI M r 1)) := rfl
          rw [em]
          simp only [c7, i1, i2, i3, i4, i5, if_true, if_false, not_true, not_false_iff, and_self, and_true, true_and, and_false, false_and, or_true, true_or, or_false, false_or, or_self, i32_10, eq_self, true_implies, false_implies, implies_true, ite_self, ne_eq]
          by_cases p : lie (gv6 M (r + 1)) o b (mI M 109 (ix (mI M r 1)))
          · rw [if_pos p, if_pos p, if_neg i1_0]
          · rw [if_neg p, if_neg p, if_pos rfl]
        · simp only [c2, c3, c4, c7, if_true, if_false, not_true, not_false_iff, and_self, and_true, true_and, and_false, false_and, or_true, true_or, or_false, false_or, or_self, i32_10, eq_self, true_implies, false_implies, implies_true, ite_self, ne_eq]
