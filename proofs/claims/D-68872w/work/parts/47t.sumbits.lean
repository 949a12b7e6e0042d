/-! part 47t: Sets.sumBits: the inner loop as a function of flags -/
def orI (x : Int32) (c : Bool) : Int32 := if x = 0 then (if c then 1 else 0) else 1
section SB
variable (κ14 : Nat → Int32 → Int64 → Int64 → Int32 → Int32 → Int32 → XM → XM) (P14 : Nat → Int32 → Int64 → Int64 → Int32 → Int32 → Int32 → XM → Prop)
variable (κ36 : Nat → Int32 → Int64 → Int64 → Int32 → Int32 → Int32 → Int32 → Int32 → Int32 → Int32 → Int32 → XM → XM) (P36 : Nat → Int32 → Int64 → Int64 → Int32 → Int32 → Int32 → Int32 → Int32 → Int32 → Int32 → Int32 → XM → Prop)
variable (x0 : Nat) (x1 : Int32) (x2 x4 : Int64) (x6 x7 x8 x9 x10 x11 x12 x13 x14 x15 x16 x17 x18 s0 : Int32) (M : XM)
theorem sb_214 : g_Sets_sumBits_214 κ14 κ36 x0 x1 x2 x4 x6 x7 x8 x9 x10 x11 x13 x18 s0 M = κ36 x0 x1 x2 x4 x6 x7 x8 x9 x10 (orI x11 (decide (x18 = 0))) s0 (x13 + 1) M := by
  unfold g_Sets_sumBits_214 g_Sets_sumBits_226 g_Sets_sumBits_231 g_Sets_sumBits_233 orI
  by_cases h1 : x11 = 0 <;> by_cases h2 : x18 = 0 <;> simp [h1, h2]
theorem kb_214 (h : P36 x0 x1 x2 x4 x6 x7 x8 x9 x10 (orI x11 (decide (x18 = 0))) s0 (x13 + 1) M) : K_Sets_sumBits_214 κ14 P14 κ36 P36 x0 x1 x2 x4 x6 x7 x8 x9 x10 x11 x13 x18 s0 M := by
  unfold K_Sets_sumBits_214 K_Sets_sumBits_226 K_Sets_sumBits_231 K_Sets_sumBits_233
  unfold orI at h
  by_cases h1 : x11 = 0 <;> by_cases h2 : x18 = 0 <;> simp [h1, h2] at h ⊢ <;> exact h
theorem sb_197 : g_Sets_sumBits_197 κ14 κ36 x0 x1 x2 x4 x6 x7 x8 x9 x10 x11 x12 x13 s0 M = κ36 x0 x1 x2 x4 x6 x7 x8 x9 x10 (orI x11 (decide (s0 = 0))) (orI x12 (!decide (s0 = 0))) (x13 + 1) M := by
  unfold g_Sets_sumBits_197 g_Sets_sumBits_209
  simp only [sb_214]
  by_cases h1 : x12 = 0 <;> by_cases h2 : s0 = 0 <;> simp [orI, h1, h2]
theorem kb_197 (h : P36 x0 x1 x2 x4 x6 x7 x8 x9 x10 (orI x11 (decide (s0 = 0))) (orI x12 (!decide (s0 = 0))) (x13 + 1) M) : K_Sets_sumBits_197 κ14 P14 κ36 P36 x0 x1 x2 x4 x6 x7 x8 x9 x10 x11 x12 x13 s0 M := by
  unfold K_Sets_sumBits_197 K_Sets_sumBits_209
  refine ⟨fun h1 => ⟨fun h2 => kb_214 _ _ _ _ _ _ _ _ _ _ _ _ _ _ _ _ _ _ ?_, fun h2 => kb_214 _ _ _ _ _ _ _ _ _ _ _ _ _ _ _ _ _ _ ?_⟩, fun h1 => kb_214 _ _ _ _ _ _ _ _ _ _ _ _ _ _ _ _ _ _ ?_⟩
  · have e : orI x12 (!decide (s0 = 0)) = 0 := by simp [orI, h1, h2]
    rw [e] at h; exact h
  · have e : orI x12 (!decide (s0 = 0)) = 1 := by simp [orI, h1, h2]
    rw [e] at h; exact h
  · have e : orI x12 (!decide (s0 = 0)) = 1 := by simp [orI, h1]
    rw [e] at h; exact h
/-- what is carried -/
def cyI (x1 s : Int32) : Int32 := if x1 = 0 then (if s ≤ 1 then 0 else 1) else (if 0 ≤ s then 0 else 1)
theorem sb_167 : g_Sets_sumBits_167 κ14 κ36 x0 x1 x2 x4 x6 x7 x8 x9 x11 x12 x13 x17 s0 M = g_Sets_sumBits_197 κ14 κ36 x0 x1 x2 x4 x6 x7 x8 x9 s0 x11 x12 x13 (cyI x1 x17) M := by
  unfold g_Sets_sumBits_167 cyI
  by_cases h1 : x1 = 0 <;> by_cases h2 : x17 ≤ 1 <;> by_cases h3 : 0 ≤ x17 <;> simp [h1, h2, h3]
theorem kb_167 (h : K_Sets_sumBits_197 κ14 P14 κ36 P36 x0 x1 x2 x4 x6 x7 x8 x9 s0 x11 x12 x13 (cyI x1 x17) M) : K_Sets_sumBits_167 κ14 P14 κ36 P36 x0 x1 x2 x4 x6 x7 x8 x9 x11 x12 x13 x17 s0 M := by
  unfold K_Sets_sumBits_167
  unfold cyI at h
  refine ⟨fun h1 => ⟨fun h2 => ?_, fun h2 => ?_⟩, fun h1 => ⟨fun h2 => ?_, fun h2 => ?_⟩⟩
  · rw [if_pos h1, if_pos h2] at h; exact h
  · rw [if_pos h1, if_neg h2] at h; exact h
  · rw [if_neg h1, if_pos h2] at h; exact h
  · rw [if_neg h1, if_neg h2] at h; exact h
theorem sb_128 : g_Sets_sumBits_128 κ14 κ36 x0 x1 x2 x4 x6 x7 x8 x9 x10 x11 x12 x13 s0 M = κ36 x0 x1 x2 x4 x6 x7 x8 (orI x9 (decide (s0 &&& 1 = 0))) (orI x10 (decide (s0 &&& 1 = 1))) (orI x11 (decide (cyI x1 s0 = 0))) (orI x12 (!decide (cyI x1 s0 = 0))) (x13 + 1) M := by
  unfold g_Sets_sumBits_128 g_Sets_sumBits_142 g_Sets_sumBits_147 g_Sets_sumBits_162
  simp only [sb_167, sb_197]
  by_cases h1 : x9 = 0 <;> by_cases h2 : s0 &&& 1 = 0 <;> by_cases h3 : x10 = 0 <;> by_cases h4 : s0 &&& 1 = 1 <;> simp [orI, h1, h2, h3, h4]
theorem kb_128 (h : P36 x0 x1 x2 x4 x6 x7 x8 (orI x9 (decide (s0 &&& 1 = 0))) (orI x10 (decide (s0 &&& 1 = 1))) (orI x11 (decide (cyI x1 s0 = 0))) (orI x12 (!decide (cyI x1 s0 = 0))) (x13 + 1) M) : K_Sets_sumBits_128 κ14 P14 κ36 P36 x0 x1 x2 x4 x6 x7 x8 x9 x10 x11 x12 x13 s0 M := by
  have k147 : ∀ q, orI x9 (decide (s0 &&& 1 = 0)) = q → K_Sets_sumBits_147 κ14 P14 κ36 P36 x0 x1 x2 x4 x6 x7 x8 x10 x11 x12 x13 s0 q M := by
    intro q hq
    rw [hq] at h
    unfold K_Sets_sumBits_147 K_Sets_sumBits_162
    refine ⟨fun h1 => ⟨fun h2 => kb_167 _ _ _ _ _ _ _ _ _ _ _ _ _ _ _ _ _ _ (kb_197 _ _ _ _ _ _ _ _ _ _ _ _ _ _ _ _ _ _ ?_), fun h2 => kb_167 _ _ _ _ _ _ _ _ _ _ _ _ _ _ _ _ _ _ (kb_197 _ _ _ _ _ _ _ _ _ _ _ _ _ _ _ _ _ _ ?_)⟩, fun h1 => kb_167 _ _ _ _ _ _ _ _ _ _ _ _ _ _ _ _ _ _ (kb_197 _ _ _ _ _ _ _ _ _ _ _ _ _ _ _ _ _ _ ?_)⟩
    · have e : orI x10 (decide (s0 &&& 1 = 1)) = 1 := by simp [orI, h1, h2]
      rw [e] at h; exact h
    · have e : orI x10 (decide (s0 &&& 1 = 1)) = 0 := by simp [orI, h1, h2]
      rw [e] at h; exact h
    · have e : orI x10 (decide (s0 &&& 1 = 1)) = 1 := by simp [orI, h1]
      rw [e] at h; exact h
  unfold K_Sets_sumBits_128 K_Sets_sumBits_142
  exact ⟨fun h1 => ⟨fun h2 => k147 1 (by simp [orI, h1, h2]), fun h2 => k147 0 (by simp [orI, h1, h2])⟩, fun h1 => k147 1 (by simp [orI, h1])⟩
/-- the sum of three bits, or the difference -/
def smI (x1 a b c : Int32) : Int32 := if x1 = 0 then (a + b) + c else (a - b) - c
/-- one step of the inner loop on its four flags -/
def stI (x1 t : Int32) (p : Bool) (f : Int32 × Int32 × Int32 × Int32) : Int32 × Int32 × Int32 × Int32 :=
  if p then (orI f.1 (decide (smI x1 (t &&& 1) (j_ishr t 1 &&& 1) (j_ishr t 2) &&& 1 = 0)), orI f.2.1 (decide (smI x1 (t &&& 1) (j_ishr t 1 &&& 1) (j_ishr t 2) &&& 1 = 1)), orI f.2.2.1 (decide (cyI x1 (smI x1 (t &&& 1) (j_ishr t 1 &&& 1) (j_ishr t 2)) = 0)), orI f.2.2.2 (!decide (cyI x1 (smI x1 (t &&& 1) (j_ishr t 1 &&& 1) (j_ishr t 2)) = 0))) else f
end SB
/-- whether a step of the inner loop counts -/
def psI (x0 : Nat) (x6 x7 x8 t : Int32) (M : XM) : Bool := !decide (g_Sets_mayBe x0 0 x8 (t &&& 1) M = 0) && !decide (g_Sets_mayBe x0 1 x8 (j_ishr t 1 &&& 1) M = 0) && !decide ((if j_ishr t 2 = 0 then x6 else x7) = 0)
theorem sb_step (κ14 : Nat → Int32 → Int64 → Int64 → Int32 → Int32 → Int32 → XM → XM) (n x0 : Nat) (x1 : Int32) (x2 x4 : Int64) (x6 x7 x8 x13 : Int32) (f : Int32 × Int32 × Int32 × Int32) (M : XM) (ht : ¬ (8 : Int32) ≤ x13) :
    g_Sets_sumBits_36 κ14 (n + 1) x0 x1 x2 x4 x6 x7 x8 f.1 f.2.1 f.2.2.1 f.2.2.2 x13 M = g_Sets_sumBits_36 κ14 n x0 x1 x2 x4 x6 x7 x8 (stI x1 x13 (psI x0 x6 x7 x8 x13 M) f).1 (stI x1 x13 (psI x0 x6 x7 x8 x13 M) f).2.1 (stI x1 x13 (psI x0 x6 x7 x8 x13 M) f).2.2.1 (stI x1 x13 (psI x0 x6 x7 x8 x13 M) f).2.2.2 (x13 + 1) M := by
  conv => lhs; unfold g_Sets_sumBits_36
  rw [if_neg ht]
  unfold g_Sets_sumBits_49 g_Sets_sumBits_57 g_Sets_sumBits_63 g_Sets_sumBits_105 g_Sets_sumBits_233
  simp only [sb_128]
  unfold stI psI smI
  by_cases h1 : g_Sets_mayBe x0 0 x8 (x13 &&& 1) M = 0 <;> by_cases h2 : g_Sets_mayBe x0 1 x8 (j_ishr x13 1 &&& 1) M = 0 <;> by_cases h3 : j_ishr x13 2 = 0 <;> by_cases h4 : x6 = 0 <;> by_cases h5 : x7 = 0 <;> by_cases h6 : x1 = 0 <;> simp [h1, h2, h3, h4, h5, h6]
theorem kb_step (κ14 : Nat → Int32 → Int64 → Int64 → Int32 → Int32 → Int32 → XM → XM) (P14 : Nat → Int32 → Int64 → Int64 → Int32 → Int32 → Int32 → XM → Prop) (n x0 : Nat) (x1 : Int32) (x2 x4 : Int64) (x6 x7 x8 x13 : Int32) (f : Int32 × Int32 × Int32 × Int32) (M : XM) (ht : ¬ (8 : Int32) ≤ x13) (hs : mT M x0 = 27) (hm : ∀ p v, (p = 0 ∨ p = 1) → K_Sets_mayBe x0 p x8 v M)
    (h : K_Sets_sumBits_36 κ14 P14 n x0 x1 x2 x4 x6 x7 x8 (stI x1 x13 (psI x0 x6 x7 x8 x13 M) f).1 (stI x1 x13 (psI x0 x6 x7 x8 x13 M) f).2.1 (stI x1 x13 (psI x0 x6 x7 x8 x13 M) f).2.2.1 (stI x1 x13 (psI x0 x6 x7 x8 x13 M) f).2.2.2 (x13 + 1) M) :
    K_Sets_sumBits_36 κ14 P14 (n + 1) x0 x1 x2 x4 x6 x7 x8 f.1 f.2.1 f.2.2.1 f.2.2.2 x13 M := by
  conv => unfold K_Sets_sumBits_36
  refine ⟨fun z => absurd z ht, fun _ => ?_⟩
  unfold K_Sets_sumBits_49 K_Sets_sumBits_57 K_Sets_sumBits_63 K_Sets_sumBits_105 K_Sets_sumBits_233
  have no : psI x0 x6 x7 x8 x13 M = false → K_Sets_sumBits_36 κ14 P14 n x0 x1 x2 x4 x6 x7 x8 f.1 f.2.1 f.2.2.1 f.2.2.2 (x13 + 1) M := fun e => by
    rw [e] at h; exact h
  have yes : psI x0 x6 x7 x8 x13 M = true → ∀ q, q = smI x1 (x13 &&& 1) (j_ishr x13 1 &&& 1) (j_ishr x13 2) → K_Sets_sumBits_128 κ14 P14 (g_Sets_sumBits_36 κ14 n) (K_Sets_sumBits_36 κ14 P14 n) x0 x1 x2 x4 x6 x7 x8 f.1 f.2.1 f.2.2.1 f.2.2.2 x13 q M := fun e q hq => by
    rw [e] at h
    rw [hq]
    exact kb_128 _ _ _ _ _ _ _ _ _ _ _ _ _ _ _ _ _ _ h
  have m0 := hm 0 (x13 &&& 1) (Or.inl rfl)
  have m1 := hm 1 (j_ishr x13 1 &&& 1) (Or.inr rfl)
  refine ⟨hs, m0, fun h1 => no (by simp [psI, h1]), fun h1 => ⟨hs, m1, fun h2 => no (by simp [psI, h2]), fun h2 => ⟨fun h3 => ⟨fun h4 => no (by simp [psI, h3, h4]), fun h4 => ?_⟩, fun h3 => ⟨fun h4 => no (by simp [psI, h3, h4]), fun h4 => ?_⟩⟩⟩⟩
  · have e : psI x0 x6 x7 x8 x13 M = true := by simp [psI, h1, h2, h3, h4]
    exact ⟨fun h5 => yes e _ (by unfold smI; rw [if_pos h5]), fun h5 => yes e _ (by unfold smI; rw [if_neg h5])⟩
  · have e : psI x0 x6 x7 x8 x13 M = true := by simp [psI, h1, h2, h3, h4]
    exact ⟨fun h5 => yes e _ (by unfold smI; rw [if_pos h5]), fun h5 => yes e _ (by unfold smI; rw [if_neg h5])⟩
