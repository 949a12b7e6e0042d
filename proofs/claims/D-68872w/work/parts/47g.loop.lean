/-! part 47g: the twin's loop over the bits, whole -/
theorem bu_clear {v u bit : Int64} (h : v &&& u = 0) : v &&& (u &&& (bit ^^^ (-1))) = 0 := and_0.mpr fun j ⟨h1, h2⟩ => by
  rw [tb_and, Bool.and_eq_true] at h2
  exact and_0.mp h j ⟨h1, h2.1⟩
theorem bu_set {v u bit : Int64} (h : v &&& u = 0) : (v ||| bit) &&& (u &&& (bit ^^^ (-1))) = 0 := and_0.mpr fun j ⟨h1, h2⟩ => by
  rw [tb_and, tb_cpl, Bool.and_eq_true, Bool.and_eq_true] at h2
  rw [tb_or, Bool.or_eq_true] at h1
  rcases h1 with h1 | h1
  · exact and_0.mp h j ⟨h1, h2.1⟩
  · rw [h1] at h2; exact Bool.noConfusion h2.2.2
theorem tight_loop {x0 : Nat} {k : Int32} {v u a b c d : Int64} {M0 : XM} (hs : SS M0 x0 k) (hd : SD M0 x0) (hvu : v &&& u = 0) : ∀ (n f j : Nat) (M : XM), j + n = 64 → n < f → BM x0 k M0 M → TI (vin ((tv6 M0 x0 k).wi v u)) v u j (mL M (mR M0 x0 0) (ix k)) (mL M (mR M0 x0 1) (ix k)) →
    K_Sets_tighten_176 f x0 k v u a b c d (Int32.ofNat j) M ∧ ∃ M', BM x0 k M0 M' ∧ TI (vin ((tv6 M0 x0 k).wi v u)) v u 64 (mL M' (mR M0 x0 0) (ix k)) (mL M' (mR M0 x0 1) (ix k)) ∧
      g_Sets_tighten_176 f x0 k v u a b c d (Int32.ofNat j) M = wL (wL (wL (wL M' (mR M' x0 2) (ix k) a) (mR M' x0 3) (ix k) b) (mR M' x0 4) (ix k) c) (mR M' x0 5) (ix k) d
  | 0, f, j, M, hj, hf, hb, ht => by
    obtain ⟨f, rfl⟩ : ∃ g, f = g + 1 := ⟨f - 1, by omega⟩
    obtain rfl : j = 64 := by omega
    have s := hb.ss hs
    rw [K_Sets_tighten_176, g_Sets_tighten_176, if_pos (by decide)]
    refine ⟨⟨fun _ => ⟨s.1, (s.2.1 2 (by decide)).1, (s.2.1 2 (by decide)).2, s.1, (s.2.1 3 (by decide)).1, (s.2.1 3 (by decide)).2, s.1, (s.2.1 4 (by decide)).1, (s.2.1 4 (by decide)).2, s.1, (s.2.1 5 (by decide)).1, (s.2.1 5 (by decide)).2⟩, fun q => absurd (by decide) q⟩, M, hb, ht, rfl⟩
  | n + 1, f, j, M, hj, hf, hb, ht => by
    obtain ⟨f, rfl⟩ : ∃ g, f = g + 1 := ⟨f - 1, by omega⟩
    have hj' : j < 64 := by omega
    have s := hb.ss hs
    have e1 := i32_up ⟨j, hj'⟩
    have e2 := i32_64 ⟨j, hj'⟩
    simp only at e1 e2
    rw [K_Sets_tighten_176, g_Sets_tighten_176, if_neg e2]
    have hbit := fun i => tb_bit hj' i
    generalize j_lshl 1 (Int32.ofNat j) = bit at hbit ⊢
    rw [g_Sets_tighten_189, K_Sets_tighten_189]
    by_cases hz : lg_cmp (u &&& bit) 0 = 0
    · rw [if_pos hz]
      have huj : tb u j = false := by
        cases q : tb u j with
        | false => rfl
        | true => exact absurd ⟨q, by rw [hbit j]; simp⟩ (and_0.mp (cmp_eq.mp hz) j)
      rw [g_Sets_tighten_308, K_Sets_tighten_308, e1]
      obtain ⟨q1, q2⟩ := tight_loop hs hd hvu n f (j + 1) M (by omega) (by omega) hb (ht.skip huj)
      exact ⟨⟨fun q => absurd q e2, fun _ => ⟨fun _ => q1, fun q => absurd hz q⟩⟩, q2⟩
    · rw [if_neg hz]
      have huj : tb u j = true := by
        cases q : tb u j with
        | true => rfl
        | false =>
          refine absurd (cmp_eq.mpr (and_0.mpr fun i => ?_)) hz
          rw [hbit i]
          rintro ⟨h1, h2⟩
          rw [of_decide_eq_true h2, q] at h1
          cases h1
      have hBO : mR M x0 0 ≠ mR M x0 1 := fun q => by
        rw [hb.r, hb.r] at q
        exact absurd (hd 0 1 (by decide) (by decide) q) (by decide)
      have z0 := hasAny_ok (x0 := x0) (k := k) (M := M) (bu_clear (bit := bit) hvu)
      have o0 := hasAny_ok (x0 := x0) (k := k) (M := M) (bu_set (bit := bit) hvu)
      have kz := K_hasAny s (bu_clear (bit := bit) hvu)
      have ko := K_hasAny s (bu_set (bit := bit) hvu)
      rw [hb.wi hd] at z0 o0
      rw [g_Sets_tighten_216, K_Sets_tighten_216]
      generalize g_Sets_hasAny x0 k v (u &&& (bit ^^^ (-1))) M = z at z0 ⊢
      generalize g_Sets_hasAny x0 k (v ||| bit) (u &&& (bit ^^^ (-1))) M = o at o0 ⊢
      have hz' : z = 1 ∧ (∃ x, vin ((tv6 M0 x0 k).wi v u) x ∧ tb x j = false) ∨ z = 0 ∧ ¬ ∃ x, vin ((tv6 M0 x0 k).wi v u) x ∧ tb x j = false := by
        rcases z0 with ⟨q1, x, q2⟩ | ⟨q1, q2⟩
        · exact Or.inl ⟨q1, x, (vin_bit0 hj' hbit hvu huj x).mp q2⟩
        · exact Or.inr ⟨q1, fun ⟨x, q3⟩ => q2 x ((vin_bit0 hj' hbit hvu huj x).mpr q3)⟩
      have ho' : o = 1 ∧ (∃ x, vin ((tv6 M0 x0 k).wi v u) x ∧ tb x j = true) ∨ o = 0 ∧ ¬ ∃ x, vin ((tv6 M0 x0 k).wi v u) x ∧ tb x j = true := by
        rcases o0 with ⟨q1, x, q2⟩ | ⟨q1, q2⟩
        · exact Or.inl ⟨q1, x, (vin_bit1 hj' hbit huj x).mp q2⟩
        · exact Or.inr ⟨q1, fun ⟨x, q3⟩ => q2 x ((vin_bit1 hj' hbit huj x).mpr q3)⟩
      have ht' := ht.step hj' hvu huj hbit hz' ho'
      rw [tight_step hBO, e1]
      have kstep := fun hP => tight_stepK (κ := g_Sets_tighten_176 f) (P := K_Sets_tighten_176 f) (v := v) (u := u) (a := a) (b := b) (c := c) (d := d) (j := Int32.ofNat j) (z := z) (o := o) (bit := bit) s hBO hP
      rw [e1] at kstep
      have rB : mR M x0 0 = mR M0 x0 0 := hb.r _ _
      have rO : mR M x0 1 = mR M0 x0 1 := hb.r _ _
      rw [rB, rO] at kstep hBO ⊢
      generalize hO2 : (if z = 0 ∨ o = 0 then mL M (mR M0 x0 1) (ix k) &&& (bit ^^^ (-1)) else mL M (mR M0 x0 1) (ix k)) = O2 at ht' kstep ⊢
      generalize hB2 : (if o = 0 ∨ ¬ z = 0 then mL M (mR M0 x0 0) (ix k) else mL M (mR M0 x0 0) (ix k) ||| bit) = B2 at ht' kstep ⊢
      have hbm : BM x0 k M0 (wL (wL M (mR M0 x0 1) (ix k) O2) (mR M0 x0 0) (ix k) B2) := ⟨hb.1, hb.2.1, fun r i q => by
        rw [mL_wL, if_neg (fun w => q ⟨Or.inl w.1, w.2⟩), mL_wL, if_neg (fun w => q ⟨Or.inr w.1, w.2⟩)]
        exact hb.2.2 r i q⟩
      obtain ⟨q1, q2⟩ := tight_loop hs hd hvu n f (j + 1) _ (by omega) (by omega) hbm (by
        rw [mL_wL, if_pos ⟨rfl, rfl⟩, mL_wL, if_neg (fun w => hBO w.1.symm), mL_wL, if_pos ⟨rfl, rfl⟩]
        exact ht')
      exact ⟨⟨fun q => absurd q e2, fun _ => ⟨fun q => absurd q hz, fun _ => ⟨s.1, kz, s.1, ko, kstep q1⟩⟩⟩, q2⟩
