/-! part 47o: Sets.tighten, whole -/
theorem tv6_low {x0 : Nat} {k : Int32} {M : XM} (hd : SD M x0) {h l g : Int64} : tv6 (wL (wL (wL M (mR M x0 3) (ix k) h) (mR M x0 4) (ix k) l) (mR M x0 5) (ix k) g) x0 k = ((tv6 M x0 k).b, (tv6 M x0 k).u, (tv6 M x0 k).lo, h, l, g) := by
  have dd : ∀ i j, i < 7 → j < 7 → i ≠ j → mR M x0 i ≠ mR M x0 j := fun i j h1 h2 h3 z => h3 (hd i j h1 h2 z)
  unfold tv6
  simp only [mL_wL, mR_wL, and_true, dd 0 3 (by decide) (by decide) (by decide), dd 0 4 (by decide) (by decide) (by decide), dd 0 5 (by decide) (by decide) (by decide), dd 1 3 (by decide) (by decide) (by decide), dd 1 4 (by decide) (by decide) (by decide), dd 1 5 (by decide) (by decide) (by decide), dd 2 3 (by decide) (by decide) (by decide), dd 2 4 (by decide) (by decide) (by decide), dd 2 5 (by decide) (by decide) (by decide), dd 3 4 (by decide) (by decide) (by decide), dd 3 5 (by decide) (by decide) (by decide), dd 4 5 (by decide) (by decide) (by decide), if_false, if_true]
theorem plain_206 {x0 : Nat} {k : Int32} {M : XM} (hd : SD M x0) (he : mI M (mR M x0 6) (ix k) = 0) (hb : (tv6 M x0 k).b = 0) (hu0 : (0 : Int64) < (tv6 M x0 k).u) (hpow : (tv6 M x0 k).u &&& ((tv6 M x0 k).u + 1) = 0) :
    g_Sets_isPlain_206 x0 k 1 M = (0, M) ∨ ((g_Sets_isPlain_206 x0 k 1 M).1 = 1 ∧ TO x0 k M (g_Sets_isPlain_206 x0 k 1 M).2) := by
  have i1 : ¬ (1 : Int32) = 0 := by decide
  unfold g_Sets_isPlain_206 g_Sets_isPlain_271
  rw [if_neg i1]
  show (if lg_cmp (tv6 M x0 k).lo 0 = 0 then if g_Sets_below (tv6 M x0 k).hi (tv6 M x0 k).u = 0 then if 0 < lg_cmp (tv6 M x0 k).le 0 then _ else if lg_cmp (tv6 M x0 k).gr (tv6 M x0 k).u < 0 then _ else _ else _ else _ : Int32 × XM) = _ ∨ (if lg_cmp (tv6 M x0 k).lo 0 = 0 then if g_Sets_below (tv6 M x0 k).hi (tv6 M x0 k).u = 0 then if 0 < lg_cmp (tv6 M x0 k).le 0 then _ else if lg_cmp (tv6 M x0 k).gr (tv6 M x0 k).u < 0 then _ else _ else _ else _ : Int32 × XM).1 = _ ∧ TO x0 k M (if lg_cmp (tv6 M x0 k).lo 0 = 0 then if g_Sets_below (tv6 M x0 k).hi (tv6 M x0 k).u = 0 then if 0 < lg_cmp (tv6 M x0 k).le 0 then _ else if lg_cmp (tv6 M x0 k).gr (tv6 M x0 k).u < 0 then _ else _ else _ else _ : Int32 × XM).2
  have no : g_Sets_isPlain_272 x0 k 0 M = (0, M) := by
    unfold g_Sets_isPlain_272 g_Sets_isPlain_308
    rw [if_pos rfl, jz0]
  simp only [cmp_eq, cmp_gt, cmp_lt, lt_un]
  by_cases c1 : (tv6 M x0 k).lo = 0
  · rw [if_pos c1]
    by_cases c2 : g_Sets_below (tv6 M x0 k).hi (tv6 M x0 k).u = 0
    · rw [if_pos c2]
      by_cases c3 : (0 : Int64).toInt < (tv6 M x0 k).le.toInt
      · rw [if_pos c3]; exact Or.inl no
      · rw [if_neg c3]
        by_cases c4 : (tv6 M x0 k).gr.toInt < (tv6 M x0 k).u.toInt
        · rw [if_pos c4]; exact Or.inl no
        · rw [if_neg c4]
          right
          unfold g_Sets_isPlain_272 g_Sets_isPlain_296 g_Sets_isPlain_308
          rw [if_neg i1, jz1]
          refine ⟨rfl, (((RF.wl (by decide)).trans (RF.wl (by decide))).trans (RF.wl (by decide))), Or.inl ⟨he, ?_⟩⟩
          have e1 : ∀ q (z : Int64), q < 6 → q ≠ 1 → mL (wL M (mR M x0 q) (ix k) z) (mR M x0 1) (ix k) = mL M (mR M x0 1) (ix k) := fun q z h1 h2 => by
            rw [mL_wL, if_neg (fun w => h2 (hd q 1 (by omega) (by decide) w.1.symm))]
          have e2 : mL (wL (wL M (mR M x0 3) (ix k) (mL M (mR M x0 1) (ix k))) (mR M x0 4) (ix k) 0) (mR M x0 1) (ix k) = mL M (mR M x0 1) (ix k) := by
            rw [mL_wL, if_neg (fun w => absurd (hd 4 1 (by decide) (by decide) w.1.symm) (by decide)), e1 3 _ (by decide) (by decide)]
          have := tv6_low (k := k) hd (h := mL M (mR M x0 1) (ix k)) (l := 0) (g := mL M (mR M x0 1) (ix k))
          simp only [mR_wL, e2]
          rw [this, hb, c1]
          refine plain_low hb hu0 hpow c1 ?_ (by have : (0 : Int64).toInt = 0 := rfl; omega) (by omega)
          rw [below_01] at c2
          by_cases h : un (tv6 M x0 k).hi < un (tv6 M x0 k).u
          · rw [if_pos h] at c2; exact absurd c2 i1
          · omega
    · rw [if_neg c2]; exact Or.inl no
  · rw [if_neg c1]; exact Or.inl no
theorem plain_65 {x0 : Nat} {k : Int32} {M : XM} (hs : SS M x0 k) (hd : SD M x0) (he : mI M (mR M x0 6) (ix k) = 0) :
    g_Sets_isPlain_65 x0 k M = (0, M) ∨ ((g_Sets_isPlain_65 x0 k M).1 = 1 ∧ TO x0 k M (g_Sets_isPlain_65 x0 k M).2) := by
  have no : g_Sets_isPlain_205 x0 k M = (0, M) := by
    unfold g_Sets_isPlain_205 g_Sets_isPlain_206 g_Sets_isPlain_271 g_Sets_isPlain_272 g_Sets_isPlain_308
    rw [if_pos rfl, if_pos rfl, jz0]
  have h1 := plain_83 hs hd
  have h2 := plain_206 hd he
  unfold g_Sets_isPlain_65
  simp only [cmp_eq, cmp_le]
  by_cases c1 : mL M (mR M x0 1) (ix k) = 0
  · rw [if_pos c1]; exact Or.inr (h1 c1)
  · rw [if_neg c1]
    by_cases c2 : mL M (mR M x0 0) (ix k) = 0
    · rw [if_pos c2]
      by_cases c3 : mL M (mR M x0 1) (ix k) ≤ 0
      · rw [if_pos c3]; exact Or.inl no
      · rw [if_neg c3]
        by_cases c4 : mL M (mR M x0 1) (ix k) &&& (mL M (mR M x0 1) (ix k) + 1) = 0
        · rw [if_pos c4]
          refine h2 c2 ?_ c4
          rw [lt_un]; rw [le_un] at c3
          show (0 : Int64).toInt < (mL M (mR M x0 1) (ix k)).toInt
          omega
        · rw [if_neg c4]; exact Or.inl no
    · rw [if_neg c2]; exact Or.inl no
theorem plain_ok {x0 : Nat} {k : Int32} {M : XM} (hs : SS M x0 k) (hd : SD M x0) (hvu : (tv6 M x0 k).b &&& (tv6 M x0 k).u = 0) (he : mI M (mR M x0 6) (ix k) = 0) :
    g_Sets_isPlain x0 k M = (0, M) ∨ ((g_Sets_isPlain x0 k M).1 = 1 ∧ TO x0 k M (g_Sets_isPlain x0 k M).2) := by
  have h := plain_65 hs hd he
  unfold g_Sets_isPlain g_Sets_isPlain_0
  simp only [cmp_eq]
  by_cases c1 : mL M (mR M x0 1) (ix k) = -1
  · rw [if_pos c1]
    by_cases c2 : mL M (mR M x0 2) (ix k) = 0
    · rw [if_pos c2]
      by_cases c3 : mL M (mR M x0 3) (ix k) = -1
      · rw [if_pos c3]
        by_cases c4 : mL M (mR M x0 4) (ix k) = -9223372036854775808
        · rw [if_pos c4]
          by_cases c5 : mL M (mR M x0 5) (ix k) = 9223372036854775807
          · rw [if_pos c5]
            refine Or.inr ⟨rfl, RF.rf, Or.inl ⟨he, ?_⟩⟩
            have hb : mL M (mR M x0 0) (ix k) = 0 := by
              have hvu' : mL M (mR M x0 0) (ix k) &&& mL M (mR M x0 1) (ix k) = 0 := hvu
              rw [c1] at hvu'
              refine tb_ext fun j hj => ?_
              rw [tb_zero]
              cases e : tb (mL M (mR M x0 0) (ix k)) j with
              | false => rfl
              | true => exact absurd ⟨e, by rw [tb_ones]; exact decide_eq_true hj⟩ (and_0.mp hvu' j)
            have : tv6 M x0 k = (0, -1, 0, -1, -9223372036854775808, 9223372036854775807) := by
              unfold tv6; rw [hb, c1, c2, c3, c4, c5]
            show IsT (vin (tv6 M x0 k)) (tv6 M x0 k)
            rw [this]
            exact plain_all
          · rw [if_neg c5]; exact h
        · rw [if_neg c4]; exact h
      · rw [if_neg c3]; exact h
    · rw [if_neg c2]; exact h
  · rw [if_neg c1]; exact h
theorem tight_ok {x0 : Nat} {k : Int32} {M : XM} (hs : SS M x0 k) (hd : SD M x0) (hvu : (tv6 M x0 k).b &&& (tv6 M x0 k).u = 0) (he : mI M (mR M x0 6) (ix k) = 0) :
    K_Sets_tighten x0 k M ∧ TO x0 k M (g_Sets_tighten x0 k M) := by
  unfold K_Sets_tighten g_Sets_tighten K_Sets_tighten_0 g_Sets_tighten_0 K_Sets_tighten_14 g_Sets_tighten_14
  rw [if_pos he]
  obtain ⟨q1, q2, q3⟩ := tight_18 hs hd hvu he
  have kp := plain_K hs
  rcases plain_ok hs hd hvu he with h | ⟨h1, h2⟩
  · rw [h, if_pos rfl]
    exact ⟨⟨hs.1, hs.2.2.1, hs.2.2.2, fun _ => ⟨hs.1, kp, fun _ => q1⟩, fun z => absurd he z⟩, q2, q3⟩
  · rw [h1, if_neg (by decide)]
    exact ⟨⟨hs.1, hs.2.2.1, hs.2.2.2, fun _ => ⟨hs.1, kp, fun z => absurd z (by decide)⟩, fun z => absurd he z⟩, h2⟩
/-- a row that is empty stays so -/
theorem tight_empty {x0 : Nat} {k : Int32} {M : XM} (hs : SS M x0 k) (he : mI M (mR M x0 6) (ix k) = 1) :
    K_Sets_tighten x0 k M ∧ RF x0 k M (g_Sets_tighten x0 k M) ∧ mI (g_Sets_tighten x0 k M) (mR M x0 6) (ix k) = 1 := by
  have hn : ¬ mI M (mR M x0 6) (ix k) = 0 := by rw [he]; decide
  unfold K_Sets_tighten g_Sets_tighten K_Sets_tighten_0 g_Sets_tighten_0 g_Sets_tighten_18 K_Sets_tighten_18 g_Sets_tighten_52 K_Sets_tighten_52 g_Sets_tighten_57 K_Sets_tighten_57 g_Sets_tighten_58 K_Sets_tighten_58
  rw [if_neg hn, if_neg hn, jz1]
  have hE : mI (wI M (mR M x0 6) (ix k) 1) (mR (wI M (mR M x0 6) (ix k) 1) x0 6) (ix k) = 1 := by rw [mR_wI, mI_same]
  rw [if_neg (by rw [hE]; decide)]
  refine ⟨⟨hs.1, hs.2.2.1, hs.2.2.2, fun z => absurd z hn, fun _ => ⟨hs.1, hs.1, hs.2.2.1, hs.2.2.2, fun z => absurd z hn, fun _ => ⟨hs.2.2.1, hs.2.2.2, hs.1, hs.2.2.1, hs.2.2.2, fun z => absurd (hE.symm.trans z) (by decide)⟩⟩⟩, RF.wi, mI_same⟩
/-- the tight form of a value; itself, if there is no number -/
noncomputable def tite (w : AV) : AV := @dite _ (∃ t, IsT (vin w) t) (Classical.propDecidable _) (fun h => Classical.choose h) (fun _ => w)
theorem IsT.tte {w t : AV} (h : IsT (vin w) t) : tite w = t := by
  have : ∃ t, IsT (vin w) t := ⟨t, h⟩
  unfold tite
  rw [dif_pos this]
  exact (Classical.choose_spec this).one h
theorem tt_none {w : AV} (h : ∀ x, ¬ vin w x) : tite w = w := by
  unfold tite
  rw [dif_neg]
  rintro ⟨t, ht⟩
  exact h _ ht.1.1
theorem Tt.tte {w : AV} (h : Tt w) : tite w = w := IsT.tte h
theorem TO.tte {x0 : Nat} {k : Int32} {M M' : XM} (h : TO x0 k M M') : tv6 M' x0 k = tite (tv6 M x0 k) := by
  rcases h.2 with ⟨_, h2⟩ | ⟨_, h2, h3⟩
  · exact h2.tte.symm
  · rw [tt_none h2, h3]
theorem TO.ok {x0 : Nat} {k : Int32} {M M' : XM} (h : TO x0 k M M') {x : Int64} (hx : vin (tv6 M x0 k) x) : mI M' (mR M x0 6) (ix k) = 0 ∧ tv6 M' x0 k = tite (tv6 M x0 k) ∧ IsT (vin (tv6 M x0 k)) (tite (tv6 M x0 k)) := by
  rcases h.2 with ⟨h1, h2⟩ | ⟨_, h2, h3⟩
  · rw [h2.tte]; exact ⟨h1, rfl, h2⟩
  · exact absurd hx (h2 x)
