/-! part 47n: Sets.isPlain on memory -/
theorem RF.rf {x0 : Nat} {k : Int32} {M : XM} : RF x0 k M M := ⟨rfl, fun _ _ _ => rfl, fun _ _ _ => rfl⟩
theorem RF.trans {x0 : Nat} {k : Int32} {M M1 M2 : XM} (h : RF x0 k M M1) (h' : RF x0 k M1 M2) : RF x0 k M M2 := by
  have e : ∀ r i, mR M1 r i = mR M r i := fun r i => by unfold mR; rw [h.1]
  refine ⟨h'.1.trans h.1, fun r i z => (h'.2.1 r i (by rw [e]; exact z)).trans (h.2.1 r i z), fun r i z => (h'.2.2 r i (fun w => z ⟨?_, w.2⟩)).trans (h.2.2 r i z)⟩
  obtain ⟨⟨q, q1, q2⟩, -⟩ := w
  exact ⟨q, q1, by rw [q2, e]⟩
theorem RF.wi {x0 : Nat} {k : Int32} {M : XM} {s : Int32} : RF x0 k M (wI M (mR M x0 6) (ix k) s) := ⟨rfl, fun r i z => by rw [mI_wI, if_neg z], fun _ _ _ => rfl⟩
theorem RF.wl {x0 : Nat} {k : Int32} {M : XM} {s : Int64} {q : Nat} (hq : q < 6) : RF x0 k M (wL M (mR M x0 q) (ix k) s) := ⟨rfl, fun _ _ _ => rfl, fun r i z => by rw [mL_wL, if_neg (fun w => z ⟨⟨q, hq, w.1⟩, w.2⟩)]⟩
/-- what tighten and isPlain come to -/
def TO (x0 : Nat) (k : Int32) (M M' : XM) : Prop := RF x0 k M M' ∧ ((mI M' (mR M x0 6) (ix k) = 0 ∧ IsT (vin (tv6 M x0 k)) (tv6 M' x0 k)) ∨ (mI M' (mR M x0 6) (ix k) = 1 ∧ (∀ x, ¬ vin (tv6 M x0 k) x) ∧ tv6 M' x0 k = tv6 M x0 k))
theorem plain_K {x0 : Nat} {k : Int32} {M : XM} (hs : SS M x0 k) : K_Sets_isPlain x0 k M := by
  obtain ⟨s, t, t6, v6⟩ := hs
  have p0 := t 0 (by decide)
  have p1 := t 1 (by decide)
  have p2 := t 2 (by decide)
  have p3 := t 3 (by decide)
  have p4 := t 4 (by decide)
  have p5 := t 5 (by decide)
  have ks : ∀ v (M' : XM), M'.2.2 = M.2.2 → K_Sets_isPlain_142 x0 k v M' := fun v M' e => by
    have eR : ∀ r i, mR M' r i = mR M r i := fun r i => by unfold mR; rw [e]
    have eT : ∀ r, mT M' r = mT M r := fun r => by unfold mT; rw [e]
    have eN : ∀ r, mN M' r = mN M r := fun r => by unfold mN; rw [e]
    unfold K_Sets_isPlain_142 K_Sets_single K_Sets_single_0
    simp [eR, eT, eN, s, p0, p1, p2, p3, p4, p5, t6, v6]
  have k141 : ∀ v q, K_Sets_isPlain_141 x0 k v (mR M x0 6) k q M := fun v q => ⟨t6, v6, ks v _ rfl⟩
  have k83 : ∀ v, K_Sets_isPlain_83 x0 k v M := fun v => by
    unfold K_Sets_isPlain_83 K_Sets_isPlain_136
    simp [s, p2, p3, p4, p5, k141]
  have k272 : ∀ q, K_Sets_isPlain_272 x0 k q M := fun q => by
    unfold K_Sets_isPlain_272 K_Sets_isPlain_296
    simp [s, p1, p3, p4, p5, mT_wL, mR_wL, mN_wL]
  have k206 : ∀ q, K_Sets_isPlain_206 x0 k q M := fun q => by
    unfold K_Sets_isPlain_206 K_Sets_isPlain_271
    simp [s, p1, p2, p3, p4, p5, k272]
  have k65 : K_Sets_isPlain_65 x0 k M := by
    unfold K_Sets_isPlain_65 K_Sets_isPlain_205
    simp [s, p0, p1, k83, k206]
  unfold K_Sets_isPlain K_Sets_isPlain_0
  simp [s, p1, p2, p3, p4, p5, k65]
theorem plain_83 {x0 : Nat} {k : Int32} {M : XM} (hs : SS M x0 k) (hd : SD M x0) (hu : (tv6 M x0 k).u = 0) : (g_Sets_isPlain_83 x0 k (tv6 M x0 k).b M).1 = 1 ∧ TO x0 k M (g_Sets_isPlain_83 x0 k (tv6 M x0 k).b M).2 := by
  have iff : ∀ x, vin (tv6 M x0 k) x ↔ x = (tv6 M x0 k).b ∧ vin (tv6 M x0 k) (tv6 M x0 k).b := fun x => ⟨fun h => by have e := vin_known hu x h; rw [← e]; exact ⟨rfl, h⟩, fun h => by rw [h.1]; exact h.2⟩
  have no : ¬ vin (tv6 M x0 k) (tv6 M x0 k).b → (g_Sets_isPlain_141 x0 k (tv6 M x0 k).b (mR M x0 6) k 1 M).1 = 1 ∧ TO x0 k M (g_Sets_isPlain_141 x0 k (tv6 M x0 k).b (mR M x0 6) k 1 M).2 := fun h => by
    unfold g_Sets_isPlain_141 g_Sets_isPlain_142
    rw [jz1, mR_wI, mI_same, if_neg (by decide)]
    exact ⟨rfl, RF.wi, Or.inr ⟨mI_same, fun x hx => h ((iff x).mp hx).2, rfl⟩⟩
  have yes : vin (tv6 M x0 k) (tv6 M x0 k).b → (g_Sets_isPlain_141 x0 k (tv6 M x0 k).b (mR M x0 6) k 0 M).1 = 1 ∧ TO x0 k M (g_Sets_isPlain_141 x0 k (tv6 M x0 k).b (mR M x0 6) k 0 M).2 := fun h => by
    unfold g_Sets_isPlain_141 g_Sets_isPlain_142 g_Sets_isPlain_157
    rw [jz0, mR_wI, mI_same, if_pos rfl]
    obtain ⟨-, q2, q3, q4⟩ := single_ok (x0 := x0) (k := k) (v := (tv6 M x0 k).b) (M := wI M (mR M x0 6) (ix k) 0) hs hd
    refine ⟨rfl, RF.wi.trans q2, Or.inl ⟨q4, ?_⟩⟩
    show IsT _ (tv6 (g_Sets_single x0 k (tv6 M x0 k).b (wI M (mR M x0 6) (ix k) 0)) x0 k)
    rw [q3]
    exact plain_one fun x => ⟨fun z => ((iff x).mp z).1, fun z => (iff x).mpr ⟨z, h⟩⟩
  have ag : Ag (tv6 M x0 k).u (tv6 M x0 k).b (tv6 M x0 k).b := fun _ _ => rfl
  unfold g_Sets_isPlain_83 g_Sets_isPlain_136
  show (if g_Sets_below (tv6 M x0 k).b (tv6 M x0 k).lo = 0 then if g_Sets_below (tv6 M x0 k).hi (tv6 M x0 k).b = 0 then if lg_cmp (tv6 M x0 k).b (tv6 M x0 k).le < 0 then _ else if lg_cmp (tv6 M x0 k).b (tv6 M x0 k).gr ≤ 0 then _ else _ else _ else _ : Int32 × XM).1 = 1 ∧ TO x0 k M (if g_Sets_below (tv6 M x0 k).b (tv6 M x0 k).lo = 0 then if g_Sets_below (tv6 M x0 k).hi (tv6 M x0 k).b = 0 then if lg_cmp (tv6 M x0 k).b (tv6 M x0 k).le < 0 then _ else if lg_cmp (tv6 M x0 k).b (tv6 M x0 k).gr ≤ 0 then _ else _ else _ else _ : Int32 × XM).2
  have b0 : ∀ a b, g_Sets_below a b = 0 ↔ un b ≤ un a := fun a b => by
    rw [below_01]
    by_cases h : un a < un b
    · rw [if_pos h]; exact ⟨fun z => absurd z (by decide), fun z => by omega⟩
    · rw [if_neg h]; exact ⟨fun _ => by omega, fun _ => rfl⟩
  simp only [b0, cmp_lt, cmp_le, lt_un, le_un]
  by_cases c1 : un (tv6 M x0 k).lo ≤ un (tv6 M x0 k).b
  · rw [if_pos c1]
    by_cases c2 : un (tv6 M x0 k).b ≤ un (tv6 M x0 k).hi
    · rw [if_pos c2]
      by_cases c3 : (tv6 M x0 k).b.toInt < (tv6 M x0 k).le.toInt
      · rw [if_pos c3]; exact no fun z => by have := z.2.2.2.1; omega
      · rw [if_neg c3]
        by_cases c4 : (tv6 M x0 k).b.toInt ≤ (tv6 M x0 k).gr.toInt
        · rw [if_pos c4]; exact yes ⟨ag, c1, c2, by omega, c4⟩
        · rw [if_neg c4]; exact no fun z => c4 z.2.2.2.2
    · rw [if_neg c2]; exact no fun z => c2 z.2.2.1
  · rw [if_neg c1]; exact no fun z => c1 z.2.1
