/-! part 46c: the component's Piece.take -/
theorem un_cpl (x : Int64) : un (x ^^^ (-1)) = 18446744073709551615 - un x := by
  rw [← un_not]
  congr 1
  exact tb_ext fun j _ => by rw [tb_cpl, tb_not]
theorem cpl_cpl (x : Int64) : (x ^^^ (-1)) ^^^ (-1) = x := tb_ext fun j hj => by rw [tb_cpl, tb_cpl]; simp [hj]
theorem Ag.cpl {u v x : Int64} (h : Ag u v x) : Ag u ((v ^^^ (-1)) &&& (u ^^^ (-1))) (x ^^^ (-1)) := by
  intro j hj
  rw [tb_cpl, tb_and, tb_cpl, tb_cpl, hj, h j hj]
  cases decide (j < 64) <;> cases tb v j <;> rfl
theorem Ag.cpl' {u v x : Int64} (h : Ag u ((v ^^^ (-1)) &&& (u ^^^ (-1))) x) : Ag u v (x ^^^ (-1)) := by
  intro j hj
  have := h j hj
  rw [tb_and, tb_cpl, tb_cpl, hj] at this
  rw [tb_cpl, this]
  by_cases h64 : j < 64
  · simp [h64]
  · simp [h64, tb_ge (a := v) (Nat.not_lt.mp h64)]
theorem K_from {x0 : Nat} {a v u : Int64} {M : XM} (hT : mT M x0 = 8) : K_Piece_from x0 a v u M := by
  refine ⟨hT, fun _ _ => ⟨fun _ => ⟨hT, Or.inl rfl⟩, fun _ => ⟨hT, Or.inr rfl⟩⟩⟩
/-- what changes is x0's alone: ints and longs -/
def OnlyX (x0 : Nat) (M M' : XM) : Prop := M'.2.2 = M.2.2 ∧ (∀ b j, b ≠ x0 → mI M' b j = mI M b j) ∧ ∀ b j, b ≠ x0 → mL M' b j = mL M b j
theorem OnlyX.rf {x0 : Nat} {M : XM} : OnlyX x0 M M := ⟨rfl, fun _ _ _ => rfl, fun _ _ _ => rfl⟩
theorem OnlyX.trans {x0 : Nat} {M M1 M2 : XM} (h : OnlyX x0 M M1) (h' : OnlyX x0 M1 M2) : OnlyX x0 M M2 := ⟨h'.1.trans h.1, fun b j z => (h'.2.1 b j z).trans (h.2.1 b j z), fun b j z => (h'.2.2 b j z).trans (h.2.2 b j z)⟩
theorem OnlyX.wi {x0 k : Nat} {M : XM} {s : Int32} : OnlyX x0 M (wI M x0 k s) := ⟨rfl, fun b j h => by rw [mI_wI, if_neg (fun z => h z.1)], fun _ _ _ => rfl⟩
theorem OnlyX.wl {x0 k : Nat} {M : XM} {s : Int64} : OnlyX x0 M (wL M x0 k s) := ⟨rfl, fun _ _ _ => rfl, fun b j h => by rw [mL_wL, if_neg (fun z => h z.1)]⟩
theorem OnlyI.x {x0 k : Nat} {M M' : XM} (h : OnlyI x0 k M M') : OnlyX x0 M M' := ⟨by rw [h.1], fun b j z => h.2 b j (fun w => z w.1), fun b j _ => by unfold mL; rw [h.1]⟩
theorem OnlyX.t {x0 : Nat} {M M' : XM} (h : OnlyX x0 M M') (r : Nat) : mT M' r = mT M r := by unfold mT; rw [h.1]
theorem IsFrom.f01 {a v u r : Int64} {f : Int32} (h : IsFrom a v u r f) : f = 0 ∨ f = 1 := by
  rcases h with h | h
  · exact Or.inr h.1
  · exact Or.inl h.1
theorem take_ok {x0 : Nat} {a b v u : Int64} {M : XM} (hvu : v &&& u = 0) (hT : mT M x0 = 8) : K_Piece_take x0 a b v u M ∧ OnlyX x0 M (g_Piece_take x0 a b v u M) ∧
    ((mI (g_Piece_take x0 a b v u M) x0 0 = 1 ∧ IsP a b v u (mL (g_Piece_take x0 a b v u M) x0 1) (mL (g_Piece_take x0 a b v u M) x0 2)) ∨ (mI (g_Piece_take x0 a b v u M) x0 0 = 0 ∧ NoP a b v u)) := by
  unfold K_Piece_take K_Piece_take_0 g_Piece_take g_Piece_take_0
  by_cases hba : g_Sieve_isLess b a = 0
  · rw [if_pos hba]
    have hba' := isLess_0.mp hba
    have hvu2 : ((v ^^^ (-1)) &&& (u ^^^ (-1))) &&& u = 0 := and_0.mpr fun j ⟨h1, h2⟩ => by
      rw [tb_and, tb_cpl, tb_cpl, h2] at h1
      simp at h1
    unfold g_Piece_take_14 g_Piece_take_17
    rw [if_neg (by rw [mI_same]; decide)]
    obtain ⟨f1, o1⟩ := from_ok (a := a) hvu x0 (wI M x0 0 1)
    have kf1 : K_Piece_from x0 a v u (wI M x0 0 1) := K_from hT
    have hp1 : K_Piece_take_14 x0 a b v u x0 1 M ↔ K_Piece_take_34 x0 b v u x0 (g_Piece_from x0 a v u (wI M x0 0 1)).1 (g_Piece_from x0 a v u (wI M x0 0 1)).2 := by
      unfold K_Piece_take_14 K_Piece_take_17
      constructor
      · intro h; exact (h.2.2.2 (by rw [mI_same]; decide)).2.2
      · intro h; exact ⟨hT, Or.inr rfl, hT, fun _ => ⟨hT, kf1, h⟩⟩
    rw [hp1]
    generalize g_Piece_from x0 a v u (wI M x0 0 1) = F1 at f1 o1 hp1 ⊢
    obtain ⟨r1, M2⟩ := F1
    simp only at f1 o1 ⊢
    have t2 : mT M2 x0 = 8 := by rw [o1.x.t]; exact hT
    unfold g_Piece_take_34 g_Piece_take_45 K_Piece_take_34 K_Piece_take_45
    obtain ⟨f2, o2⟩ := from_ok (a := b ^^^ (-1)) hvu2 x0 (wI (wL M2 x0 1 r1) x0 0 (mI M2 x0 3))
    have kf2 : K_Piece_from x0 (b ^^^ (-1)) ((v ^^^ (-1)) &&& (u ^^^ (-1))) u (wI (wL M2 x0 1 r1) x0 0 (mI M2 x0 3)) := K_from t2
    generalize g_Piece_from x0 (b ^^^ (-1)) ((v ^^^ (-1)) &&& (u ^^^ (-1))) u (wI (wL M2 x0 1 r1) x0 0 (mI M2 x0 3)) = F2 at f2 o2 ⊢
    obtain ⟨r2, M4⟩ := F2
    simp only at f2 o2 ⊢
    have t4 : mT M4 x0 = 8 := by rw [o2.x.t]; exact t2
    have i0 : mI M4 x0 0 = mI M2 x0 3 := by rw [o2.2 x0 0 (by simp), mI_same]
    have l1 : mL M4 x0 1 = r1 := by
      have : mL M4 x0 1 = mL (wI (wL M2 x0 1 r1) x0 0 (mI M2 x0 3)) x0 1 := by unfold mL; rw [o2.1]
      rw [this, mL_wI, mL_wL, if_pos ⟨rfl, rfl⟩]
    have hfr : OnlyX x0 M M4 := OnlyX.wi.trans (o1.x.trans (OnlyX.wl.trans (OnlyX.wi.trans o2.x)))
    have hb1 := f1.f01
    have hb2 := f2.f01
    have hM2T : mT M2 x0 = 8 := t2
    generalize mI M2 x0 3 = g1 at f1 hb1 i0 ⊢
    generalize hg2 : mI M4 x0 3 = g2 at f2 hb2
    -- the last number
    have key : ∀ (s : Int32), (s = 1 → g1 = 1 → g2 = 1 ∧ un r1 ≤ un (r2 ^^^ (-1))) → (s = 0 ∨ s = 1) → (s = 0 → g2 = 1 → g1 = 1 → ¬ un r1 ≤ un (r2 ^^^ (-1))) →
        ((mI (wI (wL M4 x0 2 (r2 ^^^ (-1))) x0 0 (g1 &&& s)) x0 0 = 1 ∧ IsP a b v u (mL (wI (wL M4 x0 2 (r2 ^^^ (-1))) x0 0 (g1 &&& s)) x0 1) (mL (wI (wL M4 x0 2 (r2 ^^^ (-1))) x0 0 (g1 &&& s)) x0 2)) ∨ (mI (wI (wL M4 x0 2 (r2 ^^^ (-1))) x0 0 (g1 &&& s)) x0 0 = 0 ∧ NoP a b v u)) := by
      intro s hs hs01 hs0
      rw [mI_same, mL_wI, mL_wI, mL_wL, mL_wL, if_neg (by simp), if_pos ⟨rfl, rfl⟩, l1]
      have no1 : g1 = 0 → NoP a b v u := by
        intro hg x hx hax
        rcases f1 with q | q
        · rw [hg] at q; exact absurd q.1 (by decide)
        · exact absurd hax (q.2 x hx)
      have no2 : g2 = 0 → NoP a b v u := by
        intro hg x hx hax hxb
        rcases f2 with q | q
        · rw [hg] at q; exact absurd q.1 (by decide)
        · refine q.2 _ hx.cpl ?_
          rw [un_cpl, un_cpl]
          have := un_lt x
          have := un_lt b
          omega
      rcases hb1 with e1 | e1
      · rw [e1]
        exact Or.inr ⟨by rcases hs01 with e | e <;> rw [e] <;> decide, no1 e1⟩
      · rcases f1 with q1 | q1
        · rcases hs01 with e | e
          · refine Or.inr ⟨by rw [e1, e]; decide, ?_⟩
            rcases hb2 with e2 | e2
            · exact no2 e2
            · intro x hx hax hxb
              rcases f2 with q2 | q2
              · have h1 := q1.2.2.2 x hx hax
                have h2 := q2.2.2.2 _ hx.cpl (by rw [un_cpl, un_cpl]; have := un_lt x; have := un_lt b; omega)
                rw [un_cpl] at h2
                have h3 := hs0 e e2 e1
                rw [un_cpl] at h3
                have := un_lt x
                have := un_lt r2
                omega
              · rw [e2] at q2; exact absurd q2.1 (by decide)
          · refine Or.inl ⟨by rw [e1, e]; decide, ?_⟩
            obtain ⟨e2, hle⟩ := hs e e1
            rcases f2 with q2 | q2
            · have h2 := q2.2.2.1
              rw [un_cpl] at h2
              have := un_lt r2
              have := un_lt b
              refine ⟨q1.2.1, q2.2.1.cpl', q1.2.2.1, by rw [un_cpl]; omega, hle, fun x hx hax hxb => ⟨q1.2.2.2 x hx hax, ?_⟩⟩
              have h3 := q2.2.2.2 _ hx.cpl (by rw [un_cpl, un_cpl]; have := un_lt x; omega)
              rw [un_cpl] at h3 ⊢
              have := un_lt x
              omega
            · rw [e2] at q2; exact absurd q2.1 (by decide)
        · rw [e1] at q1; exact absurd q1.1 (by decide)
    have b01 : ∀ s : Int32, (s = 0 ∨ s = 1) → ((g1 &&& s) = 0 ∨ (g1 &&& s) = 1) := by
      intro s hs
      rcases hb1 with e | e <;> rcases hs with e2 | e2 <;> rw [e, e2] <;> decide
    unfold g_Piece_take_70 K_Piece_take_70
    rw [i0, hg2]
    by_cases hc : g2 = 0
    · rw [if_pos hc]
      refine ⟨⟨fun _ => ⟨hM2T, hM2T, hM2T, hb1, hM2T, kf2, t4, t4, t4, fun _ => ⟨t4, b01 0 (Or.inl rfl)⟩, fun z => absurd hc z⟩, fun z => absurd hba z⟩, hfr.trans (OnlyX.wl.trans OnlyX.wi), ?_⟩
      exact key 0 (fun z => absurd z (by decide)) (Or.inl rfl) (fun _ z => absurd (hc.symm.trans z) (by decide))
    · rw [if_neg hc]
      have hg21 : g2 = 1 := by
        rcases hb2 with e | e
        · exact absurd e hc
        · exact e
      unfold g_Piece_take_90 K_Piece_take_90
      rw [mL_wL, if_pos ⟨rfl, rfl⟩, mL_wL, if_neg (by simp), l1]
      by_cases hd : g_Sieve_isLess (r2 ^^^ (-1)) r1 = 0
      · rw [if_pos hd]
        have hd' := isLess_0.mp hd
        refine ⟨⟨fun _ => ⟨hM2T, hM2T, hM2T, hb1, hM2T, kf2, t4, t4, t4, fun z => absurd z hc, fun _ => ⟨t4, t4, fun _ => ⟨t4, b01 1 (Or.inr rfl)⟩, fun z => absurd hd z⟩⟩, fun z => absurd hba z⟩, hfr.trans (OnlyX.wl.trans OnlyX.wi), ?_⟩
        exact key 1 (fun _ _ => ⟨hg21, by omega⟩) (Or.inr rfl) (fun z => absurd z (by decide))
      · rw [if_neg hd]
        have hd' : un (r2 ^^^ (-1)) < un r1 := Nat.not_le.mp fun z => hd (isLess_0.mpr (by omega))
        refine ⟨⟨fun _ => ⟨hM2T, hM2T, hM2T, hb1, hM2T, kf2, t4, t4, t4, fun z => absurd z hc, fun _ => ⟨t4, t4, fun z => absurd z hd, fun _ => ⟨t4, b01 0 (Or.inl rfl)⟩⟩⟩, fun z => absurd hba z⟩, hfr.trans (OnlyX.wl.trans OnlyX.wi), ?_⟩
        exact key 0 (fun z => absurd z (by decide)) (Or.inl rfl) (fun _ _ _ => by omega)
  · rw [if_neg hba]
    have hba' : un b < un a := Nat.not_le.mp fun z => hba (isLess_0.mpr (by omega))
    unfold g_Piece_take_14 g_Piece_take_17 K_Piece_take_14 K_Piece_take_17
    rw [if_pos mI_same]
    refine ⟨⟨fun z => absurd z hba, fun _ => ⟨hT, Or.inl rfl, hT, fun z => absurd mI_same z⟩⟩, OnlyX.wi, Or.inr ⟨mI_same, fun x _ h1 h2 => by omega⟩⟩
