/-! part 47f: one step of the twin's loop over the bits: nothing goes wrong -/
theorem tight_stepK {κ : Nat → Int32 → Int64 → Int64 → Int64 → Int64 → Int64 → Int64 → Int32 → XM → XM} {P : Nat → Int32 → Int64 → Int64 → Int64 → Int64 → Int64 → Int64 → Int32 → XM → Prop} {x0 : Nat} {x1 j z o : Int32} {v u a b c d bit : Int64} {M : XM} (hs : SS M x0 x1) (hBO : mR M x0 0 ≠ mR M x0 1)
    (hP : P x0 x1 v u a b c d (j + 1) (wL (wL M (mR M x0 1) (ix x1) (if z = 0 ∨ o = 0 then mL M (mR M x0 1) (ix x1) &&& (bit ^^^ (-1)) else mL M (mR M x0 1) (ix x1))) (mR M x0 0) (ix x1) (if o = 0 ∨ ¬ z = 0 then mL M (mR M x0 0) (ix x1) else mL M (mR M x0 0) (ix x1) ||| bit))) :
    K_Sets_tighten_236 κ P x0 x1 v u a b c d j bit z o M := by
  obtain ⟨s, t, -⟩ := hs
  have t0 := t 0 (by decide)
  have t1 := t 1 (by decide)
  have e : ∀ q : Int64, mL (wL M (mR M x0 1) (ix x1) q) (mR M x0 0) (ix x1) = mL M (mR M x0 0) (ix x1) := fun q => by rw [mL_wL, if_neg (fun q => hBO q.1)]
  have k307 : ∀ (q w : Int64), P x0 x1 v u a b c d (j + 1) (wL (wL M (mR M x0 1) (ix x1) q) (mR M x0 0) (ix x1) w) → K_Sets_tighten_307 κ P x0 x1 v u a b c d j (mR M x0 0) x1 w (wL M (mR M x0 1) (ix x1) q) := fun q w h => ⟨t0.1, t0.2, h⟩
  have k301 : ∀ (q : Int64), P x0 x1 v u a b c d (j + 1) (wL (wL M (mR M x0 1) (ix x1) q) (mR M x0 0) (ix x1) (mL M (mR M x0 0) (ix x1))) → K_Sets_tighten_301 κ P x0 x1 v u a b c d j (mR M x0 0) x1 (wL M (mR M x0 1) (ix x1) q) := fun q h => ⟨s, t0.1, t0.2, by
    show K_Sets_tighten_307 κ P x0 x1 v u a b c d j (mR M x0 0) x1 (mL (wL M (mR M x0 1) (ix x1) q) (mR M x0 0) (ix x1)) (wL M (mR M x0 1) (ix x1) q)
    rw [e]; exact k307 q _ h⟩
  have k294 : ∀ (q : Int64), P x0 x1 v u a b c d (j + 1) (wL (wL M (mR M x0 1) (ix x1) q) (mR M x0 0) (ix x1) (mL M (mR M x0 0) (ix x1) ||| bit)) → K_Sets_tighten_294 κ P x0 x1 v u a b c d j bit (mR M x0 0) x1 (mR M x0 0) x1 (wL M (mR M x0 1) (ix x1) q) := fun q h => ⟨t0.1, t0.2, by
    rw [e]; exact k307 q _ h⟩
  by_cases hz : z = 0
  · by_cases ho : o = 0
    · rw [if_pos (Or.inl hz), if_pos (Or.inl ho)] at hP
      exact ⟨s, fun _ => ⟨s, t1.1, t1.2, t1.1, t1.2, s, fun _ => k301 _ hP, fun q => absurd ho q⟩, fun q => absurd hz q⟩
    · rw [if_pos (Or.inl hz), if_neg (fun q => q.elim ho (fun w => w hz))] at hP
      exact ⟨s, fun _ => ⟨s, t1.1, t1.2, t1.1, t1.2, s, fun q => absurd q ho, fun _ => ⟨fun _ => ⟨s, k294 _ hP⟩, fun q => absurd hz q⟩⟩, fun q => absurd hz q⟩
  · by_cases ho : o = 0
    · rw [if_pos (Or.inr ho), if_pos (Or.inl ho)] at hP
      exact ⟨s, fun q => absurd q hz, fun _ => ⟨fun _ => ⟨s, t1.1, t1.2, t1.1, t1.2, s, fun _ => k301 _ hP, fun q => absurd ho q⟩, fun q => absurd ho q⟩⟩
    · rw [if_neg (fun q => q.elim hz ho), if_pos (Or.inr hz)] at hP
      exact ⟨s, fun q => absurd q hz, fun _ => ⟨fun q => absurd q ho, fun _ => ⟨s, t1.1, t1.2, t1.1, t1.2, s, fun q => absurd q ho, fun _ => ⟨fun q => absurd q hz, fun _ => k301 _ hP⟩⟩⟩⟩
theorem i32_up : ∀ k : Fin 64, Int32.ofNat k.val + 1 = Int32.ofNat (k.val + 1) := by decide +kernel
theorem i32_64 : ∀ k : Fin 64, ¬ (64 : Int32) ≤ Int32.ofNat k.val := by decide +kernel
