/-! part 46d: the two halves of a set of numbers, and its tight form out of them -/
/-- the numbers S of one half: the first, the last, the bits that differ -/
def Pc (S : Int64 → Prop) (f l o : Int64) : Prop := S f ∧ S l ∧ (∀ x, S x → un f ≤ un x ∧ un x ≤ un l) ∧ (∀ j, tb o j = true → ∃ x y, S x ∧ S y ∧ tb x j ≠ tb y j) ∧ ∀ x, S x → ∀ j, tb o j = false → tb x j = tb f j
theorem tb_clear (f u : Int64) (j : Nat) : tb (f &&& (u ^^^ (-1))) j = (tb f j && !tb u j) := by
  rw [tb_and, tb_cpl]
  by_cases h : j < 64
  · simp [h]
  · simp [tb_ge (a := f) (Nat.not_lt.mp h)]
theorem clear_0 (f u : Int64) : (f &&& (u ^^^ (-1))) &&& u = 0 := and_0.mpr fun j ⟨h1, h2⟩ => by
  rw [tb_clear, h2] at h1
  simp at h1
/-- one half alone -/
theorem isT_one {S : Int64 → Prop} {f l o : Int64} (h : Pc S f l o) (hs : (∀ x, S x → un x < 9223372036854775808) ∨ ∀ x, S x → ¬ un x < 9223372036854775808) : IsT S (f &&& (o ^^^ (-1)), o, f, l, f, l) := by
  obtain ⟨h1, h2, h3, h4, h5⟩ := h
  refine ⟨⟨h1, fun x hx => (h3 x hx).1⟩, ⟨h2, fun x hx => (h3 x hx).2⟩, ⟨h1, fun x hx => ?_⟩, ⟨h2, fun x hx => ?_⟩, h4, clear_0 _ _, fun x hx j hj => ?_⟩
  · have := (h3 x hx).1
    show f.toInt ≤ x.toInt
    rcases hs with hs | hs
    · rw [toInt_nn (hs f h1), toInt_nn (hs x hx)]; omega
    · rw [toInt_ng (hs f h1), toInt_ng (hs x hx)]; omega
  · have := (h3 x hx).2
    show x.toInt ≤ l.toInt
    rcases hs with hs | hs
    · rw [toInt_nn (hs l h2), toInt_nn (hs x hx)]; omega
    · rw [toInt_ng (hs l h2), toInt_ng (hs x hx)]; omega
  · have hj' : tb o j = false := hj
    show tb x j = tb (f &&& (o ^^^ (-1))) j
    rw [tb_clear, hj', h5 x hx j hj']; simp
/-- both halves: f1, l1 without the sign, f2, l2 with it -/
theorem isT_two {S S1 S2 : Int64 → Prop} {f1 l1 o1 f2 l2 o2 : Int64} (h1 : Pc S1 f1 l1 o1) (h2 : Pc S2 f2 l2 o2) (e : ∀ x, S x ↔ S1 x ∨ S2 x) (p1 : ∀ x, S1 x → un x < 9223372036854775808) (p2 : ∀ x, S2 x → ¬ un x < 9223372036854775808) :
    IsT S (f1 &&& (((o1 ||| o2) ||| (f1 ^^^ f2)) ^^^ (-1)), (o1 ||| o2) ||| (f1 ^^^ f2), f1, l2, f2, l1) := by
  obtain ⟨a1, a2, a3, a4, a5⟩ := h1
  obtain ⟨b1, b2, b3, b4, b5⟩ := h2
  have s1 : ∀ x, S1 x → S x := fun x hx => (e x).mpr (Or.inl hx)
  have s2 : ∀ x, S2 x → S x := fun x hx => (e x).mpr (Or.inr hx)
  have c1 := p1 _ a1
  have c2 := p1 _ a2
  have d1 := p2 _ b1
  have d2 := p2 _ b2
  refine ⟨⟨s1 _ a1, fun x hx => ?_⟩, ⟨s2 _ b2, fun x hx => ?_⟩, ⟨s2 _ b1, fun x hx => ?_⟩, ⟨s1 _ a2, fun x hx => ?_⟩, fun j hj => ?_, clear_0 _ _, fun x hx j hj => ?_⟩
  · show un f1 ≤ un x
    rcases (e x).mp hx with z | z
    · exact (a3 x z).1
    · have := p2 x z; omega
  · show un x ≤ un l2
    rcases (e x).mp hx with z | z
    · have := p1 x z; omega
    · exact (b3 x z).2
  · show f2.toInt ≤ x.toInt
    rw [toInt_ng d1]
    rcases (e x).mp hx with z | z
    · rw [toInt_nn (p1 x z)]; have := un_lt f2; omega
    · rw [toInt_ng (p2 x z)]; have := (b3 x z).1; omega
  · show x.toInt ≤ l1.toInt
    rw [toInt_nn c2]
    rcases (e x).mp hx with z | z
    · rw [toInt_nn (p1 x z)]; have := (a3 x z).2; omega
    · rw [toInt_ng (p2 x z)]; have := un_lt x; omega
  · have hj' : tb ((o1 ||| o2) ||| (f1 ^^^ f2)) j = true := hj
    rw [tb_or, tb_or, tb_xor, Bool.or_eq_true, Bool.or_eq_true] at hj'
    rcases hj' with (z | z) | z
    · obtain ⟨x, y, hx, hy, hxy⟩ := a4 j z
      exact ⟨x, y, s1 x hx, s1 y hy, hxy⟩
    · obtain ⟨x, y, hx, hy, hxy⟩ := b4 j z
      exact ⟨x, y, s2 x hx, s2 y hy, hxy⟩
    · refine ⟨f1, f2, s1 _ a1, s2 _ b1, fun q => ?_⟩
      rw [q] at z
      cases hq : tb f2 j <;> rw [hq] at z <;> cases z
  · have hj' : tb ((o1 ||| o2) ||| (f1 ^^^ f2)) j = false := hj
    show tb x j = tb (f1 &&& (((o1 ||| o2) ||| (f1 ^^^ f2)) ^^^ (-1))) j
    rw [tb_clear, hj']
    rw [tb_or, tb_or, tb_xor, Bool.or_eq_false_iff, Bool.or_eq_false_iff] at hj'
    have hf : tb f1 j = tb f2 j := by
      have := hj'.2
      cases q1 : tb f1 j <;> cases q2 : tb f2 j <;> first | rfl | (rw [q1, q2] at this; cases this)
    rcases (e x).mp hx with z | z
    · rw [a5 x z j hj'.1.1]; simp
    · rw [b5 x z j hj'.1.2, hf]; simp
/-- the half without the sign -/
theorem half_up (w : AV) (x : Int64) : (vin w x ∧ un x < 9223372036854775808) ↔ ((0 : Int64) ≤ w.gr ∧ Ag w.u w.b x ∧ un (g_Sieve_greater w.lo (g_Math_max 0 w.le)) ≤ un x ∧ un x ≤ un (g_Sieve_lesser w.hi w.gr)) := by
  unfold g_Math_max g_Math_max_0
  rw [greater_un, lesser_un, le_un]
  have z0 : (0 : Int64).toInt = 0 := rfl
  have u0 : un (0 : Int64) = 0 := rfl
  have k1 := toInt_un w.le
  have k2 := toInt_un w.gr
  have k3 := toInt_un x
  have m1 := un_lt w.le
  have m2 := un_lt w.gr
  have m3 := un_lt x
  unfold vin
  by_cases hc : lg_cmp 0 w.le < 0
  · rw [if_pos hc]
    have hc' := lt_un.mp (cmp_lt.mp hc)
    rw [z0] at hc'
    constructor
    · rintro ⟨⟨q1, q2, q3, q4, q5⟩, q6⟩
      rw [if_pos q6] at k3
      refine ⟨by omega, q1, ?_, ?_⟩
      · split at k1 <;> split <;> omega
      · split at k2 <;> split <;> omega
    · rintro ⟨q1, q2, q3, q4⟩
      split at k1 <;> split at k2 <;> split at k3 <;> split at q3 <;> split at q4 <;> first | omega | exact ⟨⟨q2, by omega, by omega, by omega, by omega⟩, by omega⟩
  · rw [if_neg hc]
    have hc' : w.le.toInt ≤ 0 := by
      have : ¬ (0 : Int64) < w.le := fun z => hc (cmp_lt.mpr z)
      rw [lt_un, z0] at this; omega
    constructor
    · rintro ⟨⟨q1, q2, q3, q4, q5⟩, q6⟩
      rw [if_pos q6] at k3
      refine ⟨by omega, q1, ?_, ?_⟩
      · split <;> omega
      · split at k2 <;> split <;> omega
    · rintro ⟨q1, q2, q3, q4⟩
      split at k1 <;> split at k2 <;> split at k3 <;> split at q3 <;> split at q4 <;> first | omega | exact ⟨⟨q2, by omega, by omega, by omega, by omega⟩, by omega⟩
/-- the half with the sign -/
theorem half_down (w : AV) (x : Int64) : (vin w x ∧ ¬ un x < 9223372036854775808) ↔ (w.le < (0 : Int64) ∧ Ag w.u w.b x ∧ un (g_Sieve_greater w.lo w.le) ≤ un x ∧ un x ≤ un (g_Sieve_lesser w.hi (g_Math_min_JJ (-1) w.gr))) := by
  unfold g_Math_min_JJ g_Math_min_JJ_0
  rw [greater_un, lesser_un, lt_un]
  have z0 : (0 : Int64).toInt = 0 := rfl
  have zm : (-1 : Int64).toInt = -1 := rfl
  have um : un (-1 : Int64) = 18446744073709551615 := rfl
  have k1 := toInt_un w.le
  have k2 := toInt_un w.gr
  have k3 := toInt_un x
  have m1 := un_lt w.le
  have m2 := un_lt w.gr
  have m3 := un_lt x
  unfold vin
  by_cases hc : 0 < lg_cmp (-1) w.gr
  · rw [if_pos hc]
    have hc' := lt_un.mp (cmp_gt.mp hc)
    rw [zm] at hc'
    constructor
    · rintro ⟨⟨q1, q2, q3, q4, q5⟩, q6⟩
      rw [if_neg q6] at k3
      refine ⟨by omega, q1, ?_, ?_⟩
      · split at k1 <;> split <;> omega
      · split at k2 <;> split <;> omega
    · rintro ⟨q1, q2, q3, q4⟩
      split at k1 <;> split at k2 <;> split at k3 <;> split at q3 <;> split at q4 <;> first | omega | exact ⟨⟨q2, by omega, by omega, by omega, by omega⟩, by omega⟩
  · rw [if_neg hc]
    have hc' : -1 ≤ w.gr.toInt := by
      have : ¬ w.gr < (-1 : Int64) := fun z => hc (cmp_gt.mpr z)
      rw [lt_un, zm] at this; omega
    constructor
    · rintro ⟨⟨q1, q2, q3, q4, q5⟩, q6⟩
      rw [if_neg q6] at k3
      refine ⟨by omega, q1, ?_, ?_⟩
      · split at k1 <;> split <;> omega
      · split <;> omega
    · rintro ⟨q1, q2, q3, q4⟩
      split at k1 <;> split at k2 <;> split at k3 <;> split at q3 <;> split at q4 <;> first | omega | exact ⟨⟨q2, by omega, by omega, by omega, by omega⟩, by omega⟩
