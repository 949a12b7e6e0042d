/-! part 47m: Sets.single -/
theorem single_ok {x0 : Nat} {k : Int32} {v : Int64} {M : XM} (hs : SS M x0 k) (hd : SD M x0) : K_Sets_single x0 k v M ∧ RF x0 k M (g_Sets_single x0 k v M) ∧ tv6 (g_Sets_single x0 k v M) x0 k = (v, 0, v, v, v, v) ∧ mI (g_Sets_single x0 k v M) (mR M x0 6) (ix k) = 0 := by
  obtain ⟨s, t, t6, v6⟩ := hs
  have dd : ∀ i j, i < 7 → j < 7 → i ≠ j → mR M x0 i ≠ mR M x0 j := fun i j h1 h2 h3 z => h3 (hd i j h1 h2 z)
  have p0 := t 0 (by decide)
  have p1 := t 1 (by decide)
  have p2 := t 2 (by decide)
  have p3 := t 3 (by decide)
  have p4 := t 4 (by decide)
  have p5 := t 5 (by decide)
  refine ⟨?_, ?_, ?_, ?_⟩
  · unfold K_Sets_single K_Sets_single_0
    simp [s, p0, p1, p2, p3, p4, p5, t6, v6]
  · unfold g_Sets_single g_Sets_single_0
    refine ⟨rfl, fun r i z => ?_, fun r i z => ?_⟩
    · rw [mI_wI, if_neg z]; rfl
    · have nz : ∀ q, q < 6 → ¬ (r = mR M x0 q ∧ i = ix k) := fun q hq w => z ⟨⟨q, hq, w.1⟩, w.2⟩
      simp only [mL_wI, mL_wL]
      rw [if_neg (nz 5 (by decide)), if_neg (nz 4 (by decide)), if_neg (nz 3 (by decide)), if_neg (nz 2 (by decide)), if_neg (nz 1 (by decide)), if_neg (nz 0 (by decide))]
  · unfold g_Sets_single g_Sets_single_0 tv6
    simp only [mL_wI, mL_wL, mR_wI, mR_wL, and_true, dd 0 1 (by decide) (by decide) (by decide), dd 0 2 (by decide) (by decide) (by decide), dd 0 3 (by decide) (by decide) (by decide), dd 0 4 (by decide) (by decide) (by decide), dd 0 5 (by decide) (by decide) (by decide), dd 1 2 (by decide) (by decide) (by decide), dd 1 3 (by decide) (by decide) (by decide), dd 1 4 (by decide) (by decide) (by decide), dd 1 5 (by decide) (by decide) (by decide), dd 2 3 (by decide) (by decide) (by decide), dd 2 4 (by decide) (by decide) (by decide), dd 2 5 (by decide) (by decide) (by decide), dd 3 4 (by decide) (by decide) (by decide), dd 3 5 (by decide) (by decide) (by decide), dd 4 5 (by decide) (by decide) (by decide), if_false, if_true]
  · unfold g_Sets_single g_Sets_single_0
    rw [mI_wI, if_pos ⟨rfl, rfl⟩]
