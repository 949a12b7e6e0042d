/-! part 47d: one step of the twin's loop over the bits -/
theorem tight_step {κ : Nat → Int32 → Int64 → Int64 → Int64 → Int64 → Int64 → Int64 → Int32 → XM → XM} {x0 : Nat} {x1 j z o : Int32} {v u a b c d bit : Int64} {M : XM} (hBO : mR M x0 0 ≠ mR M x0 1) :
    g_Sets_tighten_236 κ x0 x1 v u a b c d j bit z o M = κ x0 x1 v u a b c d (j + 1) (wL (wL M (mR M x0 1) (ix x1) (if z = 0 ∨ o = 0 then mL M (mR M x0 1) (ix x1) &&& (bit ^^^ (-1)) else mL M (mR M x0 1) (ix x1))) (mR M x0 0) (ix x1) (if o = 0 ∨ ¬ z = 0 then mL M (mR M x0 0) (ix x1) else mL M (mR M x0 0) (ix x1) ||| bit)) := by
  unfold g_Sets_tighten_236 g_Sets_tighten_260 g_Sets_tighten_273 g_Sets_tighten_301 g_Sets_tighten_294 g_Sets_tighten_307 g_Sets_tighten_308
  have e : ∀ s : Int64, mL (wL M (mR M x0 1) (ix x1) s) (mR M x0 0) (ix x1) = mL M (mR M x0 0) (ix x1) := fun s => by rw [mL_wL, if_neg (fun q => hBO q.1)]
  have er : ∀ s : Int64, mR (wL M (mR M x0 1) (ix x1) s) x0 0 = mR M x0 0 := fun _ => rfl
  by_cases hz : z = 0
  · by_cases ho : o = 0
    · rw [if_pos hz, if_pos ho, if_pos (Or.inl hz), if_pos (Or.inl ho), er, e]
    · rw [if_pos hz, if_neg ho, if_pos hz, if_pos (Or.inl hz), if_neg (fun q => q.elim ho (fun w => w hz)), e]
  · by_cases ho : o = 0
    · rw [if_neg hz, if_pos ho, if_pos ho, if_pos (Or.inr ho), if_pos (Or.inl ho), er, e]
    · rw [if_neg hz, if_neg ho, if_neg ho, if_neg hz, if_neg (fun q => q.elim hz ho), if_pos (Or.inr hz), er, e]
