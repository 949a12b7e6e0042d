/-! part 46f: Press.tighten, whole -/
/-- what Press.tighten changes: the two pieces, the longs of the value -/
def OnlyP (p q x1 : Nat) (M M' : XM) : Prop := M'.2.2 = M.2.2 ∧ (∀ r j, r ≠ p → r ≠ q → mI M' r j = mI M r j) ∧ ∀ r j, r ≠ p → r ≠ q → r ≠ x1 → mL M' r j = mL M r j
theorem gv6_kept {p x1 : Nat} {M M' : XM} (h : OnlyX p M M') (hp : x1 ≠ p) : gv6 M' x1 = gv6 M x1 := by
  unfold gv6
  rw [h.2.2 x1 0 hp, h.2.2 x1 1 hp, h.2.2 x1 2 hp, h.2.2 x1 3 hp, h.2.2 x1 4 hp, h.2.2 x1 5 hp]
theorem OnlyX.r {x0 : Nat} {M M' : XM} (h : OnlyX x0 M M') (r k : Nat) : mR M' r k = mR M r k := by unfold mR; rw [h.1]
theorem miss_x {p : Nat} {M : XM} : OnlyX p M (g_Piece_miss p M) := OnlyX.wi
theorem press_60 {x0 x1 p q : Nat} {M : XM} {w : AV} (hp : mR M x0 0 = p) (hq : mR M x0 1 = q) (t0 : mT M x0 = 7) (tp : mT M p = 8) (tq : mT M q = 8) (t1 : mT M x1 = 10) (hpq : p ≠ q) (hw : gv6 M x1 = w) (hbu : w.b &&& w.u = 0)
    (h1 : PS M p w.u (fun x => vin w x ∧ un x < 9223372036854775808)) :
    K_Press_tighten_60 x0 x1 M ∧ OnlyP p q x1 M (g_Press_tighten_60 x0 x1 M).2 ∧
    (((g_Press_tighten_60 x0 x1 M).1 = 1 ∧ IsT (vin w) (gv6 (g_Press_tighten_60 x0 x1 M).2 x1)) ∨ ((g_Press_tighten_60 x0 x1 M).1 = 0 ∧ (∀ x, ¬ vin w x) ∧ gv6 (g_Press_tighten_60 x0 x1 M).2 x1 = w)) := by
  have hq1 : x1 ≠ q := fun e => by rw [← e, t1] at tq; exact absurd tq (by decide)
  have e0 : mL M x1 0 = w.b := by rw [← hw]; rfl
  have e1 : mL M x1 1 = w.u := by rw [← hw]; rfl
  have e2 : mL M x1 2 = w.lo := by rw [← hw]; rfl
  have e3 : mL M x1 3 = w.hi := by rw [← hw]; rfl
  have e4 : mL M x1 4 = w.le := by rw [← hw]; rfl
  have e5 : mL M x1 5 = w.gr := by rw [← hw]; rfl
  have go : ∀ M2, OnlyX q M M2 → PS M2 q w.u (fun x => vin w x ∧ ¬ un x < 9223372036854775808) → K_Press_tighten_122 x0 x1 M2 ∧ OnlyP p q x1 M (g_Press_tighten_122 x0 x1 M2).2 ∧
      (((g_Press_tighten_122 x0 x1 M2).1 = 1 ∧ IsT (vin w) (gv6 (g_Press_tighten_122 x0 x1 M2).2 x1)) ∨ ((g_Press_tighten_122 x0 x1 M2).1 = 0 ∧ (∀ x, ¬ vin w x) ∧ gv6 (g_Press_tighten_122 x0 x1 M2).2 x1 = w)) := by
    intro M2 hx h2
    obtain ⟨a1, a2, a3, a4⟩ := press_122 (x0 := x0) (by rw [hx.r]; exact hp) (by rw [hx.r]; exact hq) (by rw [hx.t]; exact t0) (by rw [hx.t]; exact tp) (by rw [hx.t]; exact tq) (by rw [hx.t]; exact t1) ((gv6_kept hx hq1).trans hw) (h1.kept hx hpq) h2
    refine ⟨a1, ⟨a2.1.trans hx.1, fun r j _ z2 => ?_, fun r j _ z2 z3 => (a2.2.2 r j z3).trans (hx.2.2 r j z2)⟩, a4⟩
    by_cases c : r = x1
    · rw [c] at z2 ⊢
      exact (a3 j).trans (hx.2.1 x1 j z2)
    · exact (a2.2.1 r j c).trans (hx.2.1 r j z2)
  unfold g_Press_tighten_60 K_Press_tighten_60
  rw [hq, e0, e1, e2, e3, e4, e5]
  by_cases hc : lg_cmp w.le 0 < 0
  · rw [if_pos hc]
    have hS : ∀ x, (vin w x ∧ ¬ un x < 9223372036854775808) ↔ (Ag w.u w.b x ∧ un (g_Sieve_greater w.lo w.le) ≤ un x ∧ un x ≤ un (g_Sieve_lesser w.hi (g_Math_min_JJ (-1) w.gr))) := fun x => (half_down w x).trans ⟨fun z => z.2, fun z => ⟨cmp_lt.mp hc, z⟩⟩
    obtain ⟨k1, k2, -⟩ := take_ok (a := g_Sieve_greater w.lo w.le) (b := g_Sieve_lesser w.hi (g_Math_min_JJ (-1) w.gr)) hbu tq
    obtain ⟨g1, g2, g3⟩ := go _ k2 (PS.take hbu tq hS)
    exact ⟨⟨t1, fun _ => ⟨t0, t1, t1, t1, t1, t1, t1, tq, k1, g1⟩, fun z => absurd hc z⟩, g2, g3⟩
  · rw [if_neg hc]
    obtain ⟨g1, g2, g3⟩ := go _ miss_x (PS.miss fun x hx => hc (cmp_lt.mpr ((half_down w x).mp hx).1))
    exact ⟨⟨t1, fun z => absurd z hc, fun _ => ⟨t0, tq, tq, g1⟩⟩, g2, g3⟩
/-- Press.tighten: the tight form, or no number -/
theorem press_ok {x0 x1 p q : Nat} {M : XM} {w : AV} (hp : mR M x0 0 = p) (hq : mR M x0 1 = q) (t0 : mT M x0 = 7) (tp : mT M p = 8) (tq : mT M q = 8) (t1 : mT M x1 = 10) (hpq : p ≠ q) (hw : gv6 M x1 = w) (hbu : w.b &&& w.u = 0) :
    K_Press_tighten x0 x1 M ∧ OnlyP p q x1 M (g_Press_tighten x0 x1 M).2 ∧
    (((g_Press_tighten x0 x1 M).1 = 1 ∧ IsT (vin w) (gv6 (g_Press_tighten x0 x1 M).2 x1)) ∨ ((g_Press_tighten x0 x1 M).1 = 0 ∧ (∀ x, ¬ vin w x) ∧ gv6 (g_Press_tighten x0 x1 M).2 x1 = w)) := by
  have hp1 : x1 ≠ p := fun e => by rw [← e, t1] at tp; exact absurd tp (by decide)
  have e0 : mL M x1 0 = w.b := by rw [← hw]; rfl
  have e1 : mL M x1 1 = w.u := by rw [← hw]; rfl
  have e2 : mL M x1 2 = w.lo := by rw [← hw]; rfl
  have e3 : mL M x1 3 = w.hi := by rw [← hw]; rfl
  have e4 : mL M x1 4 = w.le := by rw [← hw]; rfl
  have e5 : mL M x1 5 = w.gr := by rw [← hw]; rfl
  have go : ∀ M2, OnlyX p M M2 → PS M2 p w.u (fun x => vin w x ∧ un x < 9223372036854775808) → K_Press_tighten_60 x0 x1 M2 ∧ OnlyP p q x1 M (g_Press_tighten_60 x0 x1 M2).2 ∧
      (((g_Press_tighten_60 x0 x1 M2).1 = 1 ∧ IsT (vin w) (gv6 (g_Press_tighten_60 x0 x1 M2).2 x1)) ∨ ((g_Press_tighten_60 x0 x1 M2).1 = 0 ∧ (∀ x, ¬ vin w x) ∧ gv6 (g_Press_tighten_60 x0 x1 M2).2 x1 = w)) := by
    intro M2 hx h2
    obtain ⟨a1, a2, a4⟩ := press_60 (x0 := x0) (p := p) (q := q) (by rw [hx.r]; exact hp) (by rw [hx.r]; exact hq) (by rw [hx.t]; exact t0) (by rw [hx.t]; exact tp) (by rw [hx.t]; exact tq) (by rw [hx.t]; exact t1) hpq ((gv6_kept hx hp1).trans hw) hbu h2
    exact ⟨a1, ⟨a2.1.trans hx.1, fun r j z1 z2 => (a2.2.1 r j z1 z2).trans (hx.2.1 r j z1), fun r j z1 z2 z3 => (a2.2.2 r j z1 z2 z3).trans (hx.2.2 r j z1)⟩, a4⟩
  unfold g_Press_tighten K_Press_tighten g_Press_tighten_0 K_Press_tighten_0
  rw [hp, e0, e1, e2, e3, e4, e5]
  by_cases hc : 0 ≤ lg_cmp w.gr 0
  · rw [if_pos hc]
    have hS : ∀ x, (vin w x ∧ un x < 9223372036854775808) ↔ (Ag w.u w.b x ∧ un (g_Sieve_greater w.lo (g_Math_max 0 w.le)) ≤ un x ∧ un x ≤ un (g_Sieve_lesser w.hi w.gr)) := fun x => (half_up w x).trans ⟨fun z => z.2, fun z => ⟨cmp_ge.mp hc, z⟩⟩
    obtain ⟨k1, k2, -⟩ := take_ok (a := g_Sieve_greater w.lo (g_Math_max 0 w.le)) (b := g_Sieve_lesser w.hi w.gr) hbu tp
    obtain ⟨g1, g2, g3⟩ := go _ k2 (PS.take hbu tp hS)
    exact ⟨⟨t1, fun _ => ⟨t0, t1, t1, t1, t1, t1, t1, tp, k1, g1⟩, fun z => absurd hc z⟩, g2, g3⟩
  · rw [if_neg hc]
    obtain ⟨g1, g2, g3⟩ := go _ miss_x (PS.miss fun x hx => hc (cmp_ge.mpr ((half_up w x).mp hx).1))
    exact ⟨⟨t1, fun z => absurd z hc, fun _ => ⟨t0, tp, tp, g1⟩⟩, g2, g3⟩
