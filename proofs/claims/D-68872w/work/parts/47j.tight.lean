/-! part 47j: the twin's tighten of a row, behind isPlain -/
/-- what changes is row k -/
def RF (x0 : Nat) (k : Int32) (M M' : XM) : Prop := M'.2.2 = M.2.2 ∧ (∀ r i, ¬ (r = mR M x0 6 ∧ i = ix k) → mI M' r i = mI M r i) ∧ ∀ r i, ¬ ((∃ q, q < 6 ∧ r = mR M x0 q) ∧ i = ix k) → mL M' r i = mL M r i
theorem tv6_wI {x0 r i : Nat} {k : Int32} {M : XM} {s : Int32} : tv6 (wI M r i s) x0 k = tv6 M x0 k := rfl
theorem jz0 : j_z 0 = 0 := by decide
theorem jz1 : j_z 1 = 1 := by decide
theorem tight_18 {x0 : Nat} {k : Int32} {M : XM} (hs : SS M x0 k) (hd : SD M x0) (hvu : (tv6 M x0 k).b &&& (tv6 M x0 k).u = 0) (he : mI M (mR M x0 6) (ix k) = 0) :
    K_Sets_tighten_18 x0 k M ∧ RF x0 k M (g_Sets_tighten_18 x0 k M) ∧ ((mI (g_Sets_tighten_18 x0 k M) (mR M x0 6) (ix k) = 0 ∧ IsT (vin (tv6 M x0 k)) (tv6 (g_Sets_tighten_18 x0 k M) x0 k)) ∨ (mI (g_Sets_tighten_18 x0 k M) (mR M x0 6) (ix k) = 1 ∧ (∀ x, ¬ vin (tv6 M x0 k) x) ∧ tv6 (g_Sets_tighten_18 x0 k M) x0 k = tv6 M x0 k)) := by
  have hw : (tv6 M x0 k).wi (tv6 M x0 k).b (tv6 M x0 k).u = tv6 M x0 k := rfl
  have ha := hasAny_ok (x0 := x0) (k := k) (M := M) hvu
  have ka := K_hasAny hs hvu
  rw [hw] at ha
  obtain ⟨s, t, t6, v6⟩ := id hs
  have t0 := t 0 (by decide)
  have t1 := t 1 (by decide)
  unfold g_Sets_tighten_18 K_Sets_tighten_18
  rw [if_pos he]
  show (_ ∧ _ ∧ _ ∧ _ ∧ (_ → _ ∧ _ ∧ _ ∧ _ ∧ _ ∧ _ ∧ _ ∧ K_Sets_hasAny x0 k (tv6 M x0 k).b (tv6 M x0 k).u M ∧ (g_Sets_hasAny x0 k (tv6 M x0 k).b (tv6 M x0 k).u M = 0 → _) ∧ (¬ g_Sets_hasAny x0 k (tv6 M x0 k).b (tv6 M x0 k).u M = 0 → _)) ∧ _) ∧ RF x0 k M (if g_Sets_hasAny x0 k (tv6 M x0 k).b (tv6 M x0 k).u M = 0 then _ else _) ∧ ((mI (if g_Sets_hasAny x0 k (tv6 M x0 k).b (tv6 M x0 k).u M = 0 then _ else _) _ _ = 0 ∧ IsT _ (tv6 (if g_Sets_hasAny x0 k (tv6 M x0 k).b (tv6 M x0 k).u M = 0 then _ else _) x0 k)) ∨ (mI (if g_Sets_hasAny x0 k (tv6 M x0 k).b (tv6 M x0 k).u M = 0 then _ else _) _ _ = 1 ∧ _ ∧ tv6 (if g_Sets_hasAny x0 k (tv6 M x0 k).b (tv6 M x0 k).u M = 0 then _ else _) x0 k = _))
  rcases ha with ⟨a1, a2⟩ | ⟨a1, a2⟩
  · rw [a1, if_neg (by decide)]
    unfold g_Sets_tighten_57 K_Sets_tighten_57 g_Sets_tighten_58 K_Sets_tighten_58 g_Sets_tighten_75 K_Sets_tighten_75
    rw [jz0]
    have hE : mI (wI M (mR M x0 6) (ix k) 0) (mR (wI M (mR M x0 6) (ix k) 0) x0 6) (ix k) = 0 := by rw [mR_wI, mI_same]
    rw [if_pos hE]
    obtain ⟨q1, M', a, b, c, d, q2, q3, q4⟩ := tight_83 (x0 := x0) (k := k) (M := wI M (mR M x0 6) (ix k) 0) hs hd rfl rfl hvu a2
    refine ⟨⟨s, s, t6, v6, fun _ => ⟨s, t0.1, t0.2, s, t1.1, t1.2, s, ka, fun z => absurd z (by decide), fun _ => ⟨t6, v6, s, t6, v6, fun _ => ⟨s, t0.1, t0.2, s, t1.1, t1.2, q1⟩⟩⟩, fun z => absurd he z⟩, ?_⟩
    rw [q3]
    have rr : ∀ i, mR M' x0 i = mR M x0 i := fun i => q2.r x0 i
    have dd : ∀ i j, i < 7 → j < 7 → i ≠ j → mR M x0 i ≠ mR M x0 j := fun i j h1 h2 h3 z => h3 (hd i j h1 h2 z)
    refine ⟨⟨q2.2.1, fun r i z => ?_, fun r i z => ?_⟩, Or.inl ⟨?_, ?_⟩⟩
    · show mI M' r i = mI M r i
      have : mI M' r i = mI (wI M (mR M x0 6) (ix k) 0) r i := by unfold mI; rw [q2.1]
      rw [this, mI_wI, if_neg z]
    · have nz : ∀ q, q < 6 → ¬ (r = mR M x0 q ∧ i = ix k) := fun q hq w => z ⟨⟨q, hq, w.1⟩, w.2⟩
      simp only [mL_wL, mR_wI]
      rw [if_neg (nz 5 (by decide)), if_neg (nz 4 (by decide)), if_neg (nz 3 (by decide)), if_neg (nz 2 (by decide))]
      exact q2.2.2 r i (fun w => w.1.elim (fun h => nz 0 (by decide) ⟨h, w.2⟩) (fun h => nz 1 (by decide) ⟨h, w.2⟩))
    · show mI M' (mR M x0 6) (ix k) = 0
      have : mI M' (mR M x0 6) (ix k) = mI (wI M (mR M x0 6) (ix k) 0) (mR M x0 6) (ix k) := by unfold mI; rw [q2.1]
      rw [this, mI_same]
    · have e : tv6 (wL (wL (wL (wL M' (mR (wI M (mR M x0 6) (ix k) 0) x0 2) (ix k) a) (mR (wI M (mR M x0 6) (ix k) 0) x0 3) (ix k) b) (mR (wI M (mR M x0 6) (ix k) 0) x0 4) (ix k) c) (mR (wI M (mR M x0 6) (ix k) 0) x0 5) (ix k) d) x0 k = (mL M' (mR M x0 0) (ix k), mL M' (mR M x0 1) (ix k), a, b, c, d) := by
        unfold tv6
        simp only [mL_wL, mR_wL, mR_wI, rr, and_true, dd 0 2 (by decide) (by decide) (by decide), dd 0 3 (by decide) (by decide) (by decide), dd 0 4 (by decide) (by decide) (by decide), dd 0 5 (by decide) (by decide) (by decide), dd 1 2 (by decide) (by decide) (by decide), dd 1 3 (by decide) (by decide) (by decide), dd 1 4 (by decide) (by decide) (by decide), dd 1 5 (by decide) (by decide) (by decide), dd 2 3 (by decide) (by decide) (by decide), dd 2 4 (by decide) (by decide) (by decide), dd 2 5 (by decide) (by decide) (by decide), dd 3 4 (by decide) (by decide) (by decide), dd 3 5 (by decide) (by decide) (by decide), dd 4 5 (by decide) (by decide) (by decide), if_false, if_true]
      rw [e]
      exact q4
  · rw [a1, if_pos rfl]
    unfold g_Sets_tighten_52 K_Sets_tighten_52 g_Sets_tighten_57 K_Sets_tighten_57 g_Sets_tighten_58 K_Sets_tighten_58
    rw [jz1]
    have hE : mI (wI M (mR M x0 6) (ix k) 1) (mR (wI M (mR M x0 6) (ix k) 1) x0 6) (ix k) = 1 := by rw [mR_wI, mI_same]
    rw [if_neg (by rw [hE]; decide)]
    refine ⟨⟨s, s, t6, v6, fun _ => ⟨s, t0.1, t0.2, s, t1.1, t1.2, s, ka, fun _ => ⟨t6, v6, s, t6, v6, fun z => absurd (hE.symm.trans z) (by decide)⟩, fun z => absurd rfl z⟩, fun z => absurd he z⟩, ⟨rfl, fun r i z => by rw [mI_wI, if_neg z], fun _ _ _ => rfl⟩, Or.inr ⟨mI_same, a2, rfl⟩⟩
