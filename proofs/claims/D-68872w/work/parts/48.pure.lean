/-! part 48: what the whole law computes: it answers 1 -/
theorem law_pure (Γ : XG) (hn : Γ.n ≤ 384) : K_Law_law_0 Γ M0 ∧ (g_Law_law_0 Γ M0).1 = 1 ∧ mC (g_Law_law_0 Γ M0).2 ≤ 600228 ∧ mS (g_Law_law_0 Γ M0).2 ≤ 7301098 := by
  obtain ⟨li, hc, hs⟩ := liN
  have L := law_loop hn (B := 600228) (C := 7301098) 65 0 xF 0 zNN (by omega) (by rw [xF_eq]; omega) li (by omega) (by rw [hc]; omega) (by omega)
  have z : Int32.ofNat (6 * 0) = 0 := rfl
  rw [z] at L
  obtain ⟨k, l1, l2, l3⟩ := L
  rw [law_startg]
  exact ⟨law_start Γ k, l1, Nat.le_trans (Nat.le_add_right _ _) l2, Nat.le_trans (Nat.le_add_right _ _) l3⟩
