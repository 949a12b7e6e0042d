/-! part 47b: nothing goes wrong in Sets.end, has, hasAny -/
section KH
variable {x0 : Nat} {k m f : Int32} {v u : Int64} {M : XM}
theorem K_end134 (hvu : v &&& u = 0) {h : Int64} (hh : h = 0 ∨ h = -9223372036854775808) (x7 : Int32) (x10 x12 : Int64) : K_Sets_end_134 v u x7 h x10 x12 M := by
  have d : ((v &&& 9223372036854775807) ||| h) &&& (u &&& 9223372036854775807) = 0 := by
    rcases hh with rfl | rfl
    · exact half_bu half_0 hvu
    · exact half_bu half_1 hvu
  exact ⟨fun _ => (downFrom_ok d).1, fun _ => (upFrom_ok d).1⟩
theorem K_end (hS : SS M x0 k) (hvu : v &&& u = 0) : K_Sets_end x0 k v u m f M := by
  obtain ⟨s, a, -⟩ := hS
  have k103 : ∀ h, (h = 0 ∨ h = -9223372036854775808) → ∀ (x10 s0 : Int64) (s1 s2 : Int32), K_Sets_end_103 x0 k v u m f h x10 s0 s1 s2 M := fun h hh x10 s0 s1 s2 =>
    ⟨fun _ => ⟨s, (a 5 (by decide)).1, (a 5 (by decide)).2, K_end134 hvu hh _ _ _⟩, fun _ => ⟨fun _ => K_end134 hvu hh _ _ _, fun _ => K_end134 hvu hh _ _ _⟩⟩
  have k62 : ∀ h, (h = 0 ∨ h = -9223372036854775808) → ∀ (x10 : Int64), K_Sets_end_62 x0 k v u m f h x10 M := fun h hh x10 =>
    ⟨s, (a 3 (by decide)).1, (a 3 (by decide)).2, fun _ => ⟨s, (a 5 (by decide)).1, (a 5 (by decide)).2, fun _ => k103 h hh _ _ _ _, fun _ => k103 h hh _ _ _ _⟩, fun _ => ⟨s, (a 5 (by decide)).1, (a 5 (by decide)).2, fun _ => k103 h hh _ _ _ _, fun _ => k103 h hh _ _ _ _⟩⟩
  have k43 : ∀ h, (h = 0 ∨ h = -9223372036854775808) → ∀ (s0 : Int64) (s1 s2 : Int32), K_Sets_end_43 x0 k v u m f h s0 s1 s2 M := fun h hh s0 s1 s2 =>
    ⟨fun _ => ⟨s, (a 4 (by decide)).1, (a 4 (by decide)).2, k62 h hh _⟩, fun _ => k62 h hh _⟩
  have k12 : ∀ h, (h = 0 ∨ h = -9223372036854775808) → K_Sets_end_12 x0 k v u m f h M := fun h hh =>
    ⟨s, (a 2 (by decide)).1, (a 2 (by decide)).2, s, (a 4 (by decide)).1, (a 4 (by decide)).2, fun _ => k43 h hh _ _ _, fun _ => k43 h hh _ _ _⟩
  exact ⟨fun _ => k12 _ (Or.inl rfl), fun _ => k12 _ (Or.inr rfl)⟩
theorem K_has (hS : SS M x0 k) (hvu : v &&& u = 0) : K_Sets_has x0 k v u m M := by
  have he := fun f => K_end (m := m) (f := f) hS hvu
  obtain ⟨s, a, -⟩ := hS
  have k101 : ∀ n, K_Sets_has_101 x0 k v u n M := fun n _ => ⟨s, (a 2 (by decide)).1, (a 2 (by decide)).2, fun _ => ⟨s, (a 3 (by decide)).1, (a 3 (by decide)).2, fun _ => ⟨s, (a 4 (by decide)).1, (a 4 (by decide)).2, fun _ => ⟨s, (a 5 (by decide)).1, (a 5 (by decide)).2⟩⟩⟩⟩
  have k74 : ∀ c s0, K_Sets_has_74 x0 k v u m c s0 M := fun c s0 _ _ => ⟨s, he 1, k101 _⟩
  have k32 : ∀ c, K_Sets_has_32 x0 k v u m c M := fun c => ⟨fun _ => ⟨s, (a 5 (by decide)).1, (a 5 (by decide)).2, fun _ => k74 _ _, fun _ => k74 _ _⟩, fun _ => ⟨s, (a 4 (by decide)).1, (a 4 (by decide)).2, fun _ => k74 _ _, fun _ => k74 _ _⟩⟩
  have k22 : ∀ c, K_Sets_has_22 x0 k v u m c M := fun c => ⟨fun _ => k32 _, fun _ => k32 _⟩
  exact ⟨fun _ => ⟨fun _ => k22 _, fun _ => k22 _⟩, fun _ => k32 _⟩
theorem K_hasAny (hS : SS M x0 k) (hvu : v &&& u = 0) : K_Sets_hasAny x0 k v u M := ⟨hS.1, K_has hS hvu, fun _ => ⟨hS.1, K_has hS hvu⟩⟩
end KH
/-- the ends of a half that isn't empty -/
theorem ends_up {x0 : Nat} {k : Int32} {v u : Int64} {M : XM} (hvu : v &&& u = 0) {y : Int64} (hy : vin ((tv6 M x0 k).wi v u) y) (hy2 : un y < 9223372036854775808) :
    (vin ((tv6 M x0 k).wi v u) (g_Sets_end x0 k v u 0 1 M) ∧ un (g_Sets_end x0 k v u 0 1 M) < 9223372036854775808) ∧ (vin ((tv6 M x0 k).wi v u) (g_Sets_end x0 k v u 0 0 M) ∧ un (g_Sets_end x0 k v u 0 0 M) < 9223372036854775808) ∧
    ∀ x, vin ((tv6 M x0 k).wi v u) x → un x < 9223372036854775808 → un (g_Sets_end x0 k v u 0 1 M) ≤ un x ∧ un x ≤ un (g_Sets_end x0 k v u 0 0 M) := by
  rw [end_00, end_01]
  have can : tb u 63 = true ∨ tb v 63 = false := by
    cases hu : tb u 63 with
    | true => exact Or.inl rfl
    | false =>
      have := hy.1 63 hu
      rw [tb63, show tb ((tv6 M x0 k).wi v u).b 63 = tb v 63 from rfl] at this
      exact Or.inr (by rw [← this]; simp [hy2])
  have hg : (0 : Int64) ≤ (tv6 M x0 k).gr := by
    have h := hy.2.2.2.2
    rw [toInt_nn hy2] at h
    rw [le_un]
    show (0 : Int) ≤ _
    have h' : (un y : Int) ≤ (tv6 M x0 k).gr.toInt := h
    omega
  obtain ⟨-, a2, a3⟩ := upFrom_ok (b := fr0 (tv6 M x0 k)) (half_bu half_0 hvu)
  obtain ⟨-, b2, b3⟩ := downFrom_ok (b := to0 (tv6 M x0 k)) (half_bu half_0 hvu)
  generalize g_Sets_upFrom ((v &&& 9223372036854775807) ||| 0) (u &&& 9223372036854775807) (fr0 (tv6 M x0 k)) = n at a2 a3 ⊢
  generalize g_Sets_downFrom ((v &&& 9223372036854775807) ||| 0) (u &&& 9223372036854775807) (to0 (tv6 M x0 k)) = l at b2 b3 ⊢
  obtain ⟨p1, p2⟩ := (half_pat half_0 can).mpr a2
  obtain ⟨q1, q2⟩ := (half_pat half_0 can).mpr b2
  have p2' : un n < 9223372036854775808 := by rw [tb63, decide_eq_false_iff_not] at p2; omega
  have q2' : un l < 9223372036854775808 := by rw [tb63, decide_eq_false_iff_not] at q2; omega
  have all : ∀ x, vin ((tv6 M x0 k).wi v u) x → un x < 9223372036854775808 → (un (fr0 (tv6 M x0 k)) ≤ un n ∧ un n ≤ un x) ∧ un l ≤ un (to0 (tv6 M x0 k)) ∧ un x ≤ un l := by
    intro x hx hn
    have hx' := (half_pat half_0 can).mp ⟨hx.1, by rw [tb63]; simp [hn]⟩
    exact ⟨a3 x hx' ((fr0_ok hn).mpr ⟨hx.2.1, hx.2.2.2.1⟩), b3 x hx' ((to0_ok hn hg).mpr ⟨hx.2.2.1, hx.2.2.2.2⟩)⟩
  obtain ⟨⟨c1, c2⟩, d1, d2⟩ := all y hy hy2
  obtain ⟨e1, e2⟩ := (fr0_ok p2').mp c1
  obtain ⟨g1, g2⟩ := (to0_ok q2' hg).mp d1
  have y3 : un y ≤ un (tv6 M x0 k).hi := hy.2.2.1
  have y5 : y.toInt ≤ (tv6 M x0 k).gr.toInt := hy.2.2.2.2
  have y2 : un (tv6 M x0 k).lo ≤ un y := hy.2.1
  have y4 : (tv6 M x0 k).le.toInt ≤ y.toInt := hy.2.2.2.1
  rw [toInt_nn hy2] at y5 y4
  refine ⟨⟨⟨p1, e1, ?_, e2, ?_⟩, p2'⟩, ⟨⟨q1, ?_, g1, ?_, g2⟩, q2'⟩, fun x hx hn => ⟨(all x hx hn).1.2, (all x hx hn).2.2⟩⟩
  · show un n ≤ un (tv6 M x0 k).hi; omega
  · show n.toInt ≤ (tv6 M x0 k).gr.toInt; rw [toInt_nn p2']; omega
  · show un (tv6 M x0 k).lo ≤ un l; omega
  · show (tv6 M x0 k).le.toInt ≤ l.toInt; rw [toInt_nn q2']; omega
