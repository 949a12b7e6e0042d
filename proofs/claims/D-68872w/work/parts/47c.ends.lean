/-! part 47c: the ends of the half with the sign -/
theorem ends_down {x0 : Nat} {k : Int32} {v u : Int64} {M : XM} (hvu : v &&& u = 0) {y : Int64} (hy : vin ((tv6 M x0 k).wi v u) y) (hy2 : ¬ un y < 9223372036854775808) :
    (vin ((tv6 M x0 k).wi v u) (g_Sets_end x0 k v u 1 1 M) ∧ ¬ un (g_Sets_end x0 k v u 1 1 M) < 9223372036854775808) ∧ (vin ((tv6 M x0 k).wi v u) (g_Sets_end x0 k v u 1 0 M) ∧ ¬ un (g_Sets_end x0 k v u 1 0 M) < 9223372036854775808) ∧
    ∀ x, vin ((tv6 M x0 k).wi v u) x → ¬ un x < 9223372036854775808 → un (g_Sets_end x0 k v u 1 1 M) ≤ un x ∧ un x ≤ un (g_Sets_end x0 k v u 1 0 M) := by
  rw [end_10, end_11]
  have can : tb u 63 = true ∨ tb v 63 = true := by
    cases hu : tb u 63 with
    | true => exact Or.inl rfl
    | false =>
      have := hy.1 63 hu
      rw [tb63, show tb ((tv6 M x0 k).wi v u).b 63 = tb v 63 from rfl] at this
      exact Or.inr (by rw [← this]; simp; omega)
  have hl : (tv6 M x0 k).le < (0 : Int64) := by
    have h := hy.2.2.2.1
    rw [toInt_ng hy2] at h
    rw [lt_un]
    show _ < (0 : Int)
    have h' : (tv6 M x0 k).le.toInt ≤ (un y : Int) - 18446744073709551616 := h
    have := un_lt y
    omega
  obtain ⟨-, a2, a3⟩ := upFrom_ok (b := fr1 (tv6 M x0 k)) (half_bu half_1 hvu)
  obtain ⟨-, b2, b3⟩ := downFrom_ok (b := to1 (tv6 M x0 k)) (half_bu half_1 hvu)
  generalize g_Sets_upFrom ((v &&& 9223372036854775807) ||| (-9223372036854775808)) (u &&& 9223372036854775807) (fr1 (tv6 M x0 k)) = n at a2 a3 ⊢
  generalize g_Sets_downFrom ((v &&& 9223372036854775807) ||| (-9223372036854775808)) (u &&& 9223372036854775807) (to1 (tv6 M x0 k)) = l at b2 b3 ⊢
  obtain ⟨p1, p2⟩ := (half_pat half_1 can).mpr a2
  obtain ⟨q1, q2⟩ := (half_pat half_1 can).mpr b2
  have p2' : ¬ un n < 9223372036854775808 := by rw [tb63, decide_eq_true_eq] at p2; exact p2
  have q2' : ¬ un l < 9223372036854775808 := by rw [tb63, decide_eq_true_eq] at q2; exact q2
  have all : ∀ x, vin ((tv6 M x0 k).wi v u) x → ¬ un x < 9223372036854775808 → (un (fr1 (tv6 M x0 k)) ≤ un n ∧ un n ≤ un x) ∧ un l ≤ un (to1 (tv6 M x0 k)) ∧ un x ≤ un l := by
    intro x hx hn
    have hx' := (half_pat half_1 can).mp ⟨hx.1, by rw [tb63]; simp; omega⟩
    exact ⟨a3 x hx' ((fr1_ok hn hl).mpr ⟨hx.2.1, hx.2.2.2.1⟩), b3 x hx' ((to1_ok hn).mpr ⟨hx.2.2.1, hx.2.2.2.2⟩)⟩
  obtain ⟨⟨c1, c2⟩, d1, d2⟩ := all y hy hy2
  obtain ⟨e1, e2⟩ := (fr1_ok p2' hl).mp c1
  obtain ⟨g1, g2⟩ := (to1_ok q2').mp d1
  have y3 : un y ≤ un (tv6 M x0 k).hi := hy.2.2.1
  have y5 : y.toInt ≤ (tv6 M x0 k).gr.toInt := hy.2.2.2.2
  have y2 : un (tv6 M x0 k).lo ≤ un y := hy.2.1
  have y4 : (tv6 M x0 k).le.toInt ≤ y.toInt := hy.2.2.2.1
  rw [toInt_ng hy2] at y5 y4
  refine ⟨⟨⟨p1, e1, ?_, e2, ?_⟩, p2'⟩, ⟨⟨q1, ?_, g1, ?_, g2⟩, q2'⟩, fun x hx hn => ⟨(all x hx hn).1.2, (all x hx hn).2.2⟩⟩
  · show un n ≤ un (tv6 M x0 k).hi; omega
  · show n.toInt ≤ (tv6 M x0 k).gr.toInt; rw [toInt_ng p2']; omega
  · show un (tv6 M x0 k).lo ≤ un l; omega
  · show (tv6 M x0 k).le.toInt ≤ l.toInt; rw [toInt_ng q2']; omega
/-- a set with one bit set or cleared: those of its numbers that have it so -/
theorem vin_bit0 {w : AV} {v u bit : Int64} {j : Nat} (hj : j < 64) (hb : ∀ i, tb bit i = decide (i = j)) (hvu : v &&& u = 0) (hu : tb u j = true) (x : Int64) : vin (w.wi v (u &&& (bit ^^^ (-1)))) x ↔ (vin (w.wi v u) x ∧ tb x j = false) := by
  have hv : tb v j = false := by
    cases e : tb v j with
    | false => rfl
    | true => exact absurd ⟨e, hu⟩ (and_0.mp hvu j)
  have ag : Ag (u &&& (bit ^^^ (-1))) v x ↔ (Ag u v x ∧ tb x j = false) := by
    constructor
    · intro h
      refine ⟨fun i hi => h i (by rw [tb_and, hi]; rfl), ?_⟩
      rw [h j (by rw [tb_and, tb_cpl, hb j]; simp), hv]
    · rintro ⟨h1, h2⟩ i hi
      rw [tb_and, tb_cpl, hb i] at hi
      by_cases e : i = j
      · rw [e, h2, hv]
      · by_cases h64 : i < 64
        · exact h1 i (by simpa [e, h64] using hi)
        · rw [tb_ge (by omega), tb_ge (by omega)]
  unfold vin
  show (Ag (u &&& (bit ^^^ (-1))) v x ∧ _) ↔ ((Ag u v x ∧ _) ∧ _)
  rw [ag]
  constructor
  · rintro ⟨⟨a, b⟩, c⟩; exact ⟨⟨a, c⟩, b⟩
  · rintro ⟨⟨a, c⟩, b⟩; exact ⟨⟨a, b⟩, c⟩
theorem vin_bit1 {w : AV} {v u bit : Int64} {j : Nat} (hj : j < 64) (hb : ∀ i, tb bit i = decide (i = j)) (hu : tb u j = true) (x : Int64) : vin (w.wi (v ||| bit) (u &&& (bit ^^^ (-1)))) x ↔ (vin (w.wi v u) x ∧ tb x j = true) := by
  have ag : Ag (u &&& (bit ^^^ (-1))) (v ||| bit) x ↔ (Ag u v x ∧ tb x j = true) := by
    constructor
    · intro h
      refine ⟨fun i hi => ?_, ?_⟩
      · have e : ¬ i = j := fun e => by rw [e, hu] at hi; cases hi
        rw [h i (by rw [tb_and, hi]; rfl), tb_or, hb i]; simp [e]
      · rw [h j (by rw [tb_and, tb_cpl, hb j]; simp), tb_or, hb j]; simp
    · rintro ⟨h1, h2⟩ i hi
      rw [tb_and, tb_cpl, hb i] at hi
      rw [tb_or, hb i]
      by_cases e : i = j
      · rw [e, h2]; simp
      · by_cases h64 : i < 64
        · rw [h1 i (by simpa [e, h64] using hi)]; simp [e]
        · rw [tb_ge (by omega), tb_ge (by omega)]; simp [e]
  unfold vin
  show (Ag (u &&& (bit ^^^ (-1))) (v ||| bit) x ∧ _) ↔ ((Ag u v x ∧ _) ∧ _)
  rw [ag]
  constructor
  · rintro ⟨⟨a, b⟩, c⟩; exact ⟨⟨a, c⟩, b⟩
  · rintro ⟨⟨a, c⟩, b⟩; exact ⟨⟨a, b⟩, c⟩
