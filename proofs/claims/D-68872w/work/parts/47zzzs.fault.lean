/-! part 47zzzs: the component's first fault, whole; what a clean form gives (gen/tpl.py) -/
theorem sB_next {B : Nat → Int32} {p : Nat} (h : sB B p = true) : (B (8 * p) ≠ 24 → sB B (p + 1) = true) ∧ (B (8 * p) = 24 → sB B (p + 1) = false ∧ sB B (p + 2) = true) := by
  have e1 : sB B (p + 1) = !(sB B p && decide (B (8 * p) = 24)) := rfl
  have e2 : sB B (p + 2) = !(sB B (p + 1) && decide (B (8 * (p + 1)) = 24)) := rfl
  constructor
  · intro z
    rw [e1, h, decide_eq_false z]; rfl
  · intro z
    have q : sB B (p + 1) = false := by rw [e1, h, decide_eq_true z]; rfl
    exact ⟨q, by rw [e2, q]; rfl⟩
theorem okI_wide {B : Nat → Int32} {all p : Nat} (hp : p < 1024) (h : okI B all p) (c : B (8 * p) = 24) : p + 1 < all := by
  have e : (IB B p).c = B (8 * p) := by rw [IB_at hp]
  have k0 : kd (24 : Int32) = 0 := by decide
  unfold okI at h
  rw [e, c, k0] at h
  rcases h with z | z | z | z
  · exact z.2.2.2.2.2.1
  · exact absurd z.1 (by decide)
  · exact absurd z.1 (by decide)
  · exact absurd z.1 (by decide)
section FA
variable {n : Nat} {B : Nat → Int32}
theorem FS.w4 {M : XM} (h : FS B n M) {i : Nat} {v : Int32} : FS B n (wI M 104 i v) := by
  obtain ⟨s, eb, h2, h1⟩ := h
  exact ⟨s.kept rfl, by rw [← eb]; exact FF.bc FF.w4, by rw [mI_wI, if_neg (by omega)]; exact h2, by rw [mI_wI, if_neg (by omega)]; exact h1⟩
theorem fault_48 (hn : n ≤ 8192) : ∀ (m p f : Nat) (M : XM), p + m = n / 8 → m < f → FS B n M → sB B p = true → (∀ j, j < n / 8 → mI M 104 j = if j ≤ p ∧ sB B j = false then 1 else 0) → (∀ j, j < p → sB B j = true → okI B (n / 8) j) →
    K_FormCheck_fault_48 f 105 (Int32.ofNat p) M ∧ FF M (g_FormCheck_fault_48 f 105 (Int32.ofNat p) M).2 ∧ mI (g_FormCheck_fault_48 f 105 (Int32.ofNat p) M).2 102 2 = Int32.ofNat (n / 8) ∧ FR B n (g_FormCheck_fault_48 f 105 (Int32.ofNat p) M).1 := by
  intro m
  induction m using Nat.strongRecOn with
  | ind m ih =>
    intro p f M pm mf h sp sec gd
    obtain ⟨s, eb, h2, h1⟩ := id h
    obtain ⟨f, rfl⟩ : ∃ f', f = f' + 1 := ⟨f - 1, by omega⟩
    conv => unfold K_FormCheck_fault_48 g_FormCheck_fault_48
    rw [s.R105_0, h2, h1]
    by_cases c : n / 8 ≤ p
    · have le : Int32.ofNat (n / 8) ≤ Int32.ofNat p := (le_ofNat (by omega) (by omega)).mpr c
      have ep : p = n / 8 := by omega
      have all : ∀ j, j < n / 8 → sB B j = true → okI B (n / 8) j := fun j hj => gd j (by omega)
      obtain ⟨d1, d2⟩ := div8 hn
      rw [if_pos le]
      have z0 : Int32.ofNat (n / 8) = 0 ↔ n / 8 = 0 := by
        constructor
        · intro z
          have := congrArg ix z
          rw [ixN (by omega)] at this
          exact this
        · intro z; rw [z]; rfl
      unfold K_FormCheck_fault_127 g_FormCheck_fault_127
      rw [s.R105_0, h2]
      by_cases c8 : j_irem (Int32.ofNat n) 8 = 0
      · rw [if_pos c8]
        by_cases c0 : Int32.ofNat (n / 8) = 0
        · rw [if_pos c0]
          exact ⟨⟨s.T105, s.T102, fun _ => ⟨s.T105, s.T102, fun _ => ⟨s.T105, s.T102, fun _ => ⟨s.T105, s.T102⟩, fun z => absurd c0 z⟩, fun z => absurd c8 z⟩, fun z => absurd le z⟩, FF.rf, h2, Or.inr ⟨all, Or.inl ⟨Or.inr (z0.mp c0), rfl⟩⟩⟩
        · rw [if_neg c0]
          have xf := xF_eq
          obtain ⟨k1, k2, k3⟩ := fault_137 hn h (fun j hj => by
            rw [sec j hj]
            cases q : sB B j
            · rw [if_pos ⟨by omega, rfl⟩]
              exact ⟨fun z => absurd z i1_0, fun z => absurd z (by decide)⟩
            · rw [if_neg (fun z => absurd z.2 (by decide))]
              exact ⟨fun _ => rfl, fun _ => rfl⟩) (n / 8) 0 xF (by omega) (by omega) (fun j hj => absurd hj (Nat.not_lt_zero j))
          rw [show Int32.ofNat 0 = 0 from rfl] at k1 k2 k3
          rw [k2]
          exact ⟨⟨s.T105, s.T102, fun _ => ⟨s.T105, s.T102, fun _ => ⟨s.T105, s.T102, fun z => absurd z c0, fun _ => k1⟩, fun z => absurd c8 z⟩, fun z => absurd le z⟩, FF.rf, h2, Or.inr ⟨all, Or.inr ⟨d2.mp c8, fun z => c0 (z0.mpr z), k3⟩⟩⟩
      · rw [if_neg c8]
        exact ⟨⟨s.T105, s.T102, fun _ => ⟨s.T105, s.T102, fun z => absurd z c8, fun _ => ⟨s.T105, s.T102⟩⟩, fun z => absurd le z⟩, FF.rf, h2, Or.inr ⟨all, Or.inl ⟨Or.inl (fun z => c8 (d2.mpr z)), rfl⟩⟩⟩
    · have le : ¬ Int32.ofNat (n / 8) ≤ Int32.ofNat p := fun z => c ((le_ofNat (by omega) (by omega)).mp z)
      have hp : p < n / 8 := by omega
      rw [if_neg le]
      obtain ⟨f1, f2⟩ := f_instr s (by omega) h2 hp
      rw [eb] at f1
      by_cases ci : g_FormCheck_isInstruction 105 (Int32.ofNat p) M = 0
      · rw [if_pos ci]
        exact ⟨⟨s.T105, s.T102, fun z => absurd z le, fun _ => ⟨s.T105, f2, fun z => absurd ci z⟩⟩, FF.rf, h2, Or.inl ⟨p, hp, sp, f1.z.mp ci, gd, rfl⟩⟩
      · rw [if_neg ci]
        have ok := f1.zn.mp ci
        have in5 := c_in5 s (p := p) (by omega)
        rw [eb] at in5
        have ec : (IB B p).c = B (8 * p) := by rw [IB_at (by omega)]
        have in5c : g_Program_code 102 (Int32.ofNat p) M = B (8 * p) := by rw [in5.1.1, ec]
        have wide : FL (g_Program_isWide 102 (Int32.ofNat p) M) (B (8 * p) = 24) ∧ K_Program_isWide 102 (Int32.ofNat p) M := by
          unfold g_Program_isWide K_Program_isWide g_Program_isWide_0 K_Program_isWide_0
          rw [in5c]
          exact ⟨FL.ite (fun c => FL.tt c) (fun c => FL.ff c), s.T102, in5.1.2⟩
        obtain ⟨n1, n2⟩ := sB_next sp
        have gd' : ∀ j, j < p + 1 → sB B j = true → okI B (n / 8) j := fun j hj sj => by
          by_cases q : j = p
          · rw [q]; exact ok
          · exact gd j (by omega) sj
        unfold K_FormCheck_fault_92 g_FormCheck_fault_92
        by_cases cw : g_Program_isWide 102 (Int32.ofNat p) M = 0
        · have nw := wide.1.z.mp cw
          have nx : g_Program_next 102 (Int32.ofNat p) M = Int32.ofNat (p + 1) ∧ K_Program_next 102 (Int32.ofNat p) M := by
            unfold g_Program_next K_Program_next g_Program_next_0 K_Program_next_0
            rw [if_pos cw, add1_32]
            exact ⟨rfl, s.T102, wide.2⟩
          rw [if_pos cw, s.R105_0, nx.1]
          obtain ⟨i1, i2, i3, i4⟩ := ih (m - 1) (by omega) (p + 1) f M (by omega) (by omega) h (n1 nw) (fun j hj => by
            rw [sec j hj]
            by_cases q : j = p + 1
            · rw [q, if_neg (fun z => by omega), if_neg (fun z => by rw [n1 nw] at z; exact absurd z.2 (by decide))]
            · by_cases q2 : j ≤ p ∧ sB B j = false
              · rw [if_pos q2, if_pos ⟨by omega, q2.2⟩]
              · rw [if_neg q2, if_neg (fun z => q2 ⟨by omega, z.2⟩)]) gd'
          exact ⟨⟨s.T105, s.T102, fun z => absurd z le, fun _ => ⟨s.T105, f2, fun _ => ⟨s.T105, s.T102, wide.2, fun _ => ⟨s.T105, s.T102, nx.2, i1⟩, fun z => absurd cw z⟩⟩⟩, i2, i3, i4⟩
        · have yw := wide.1.zn.mp cw
          obtain ⟨n3, n4⟩ := n2 yw
          have hp1 := okI_wide (by omega) ok yw
          rw [if_neg cw, s.R102_3, add1_32, ixN (show p + 1 < 2147483648 by omega)]
          have h' : FS B n (wI M 104 (p + 1) 1) := h.w4
          have s' := h'.1
          rw [s'.R105_0]
          have in5' := c_in5 s' (p := p) (by omega)
          rw [h'.2.1] at in5'
          have in5c' : g_Program_code 102 (Int32.ofNat p) (wI M 104 (p + 1) 1) = B (8 * p) := by rw [in5'.1.1, ec]
          have nx : g_Program_next 102 (Int32.ofNat p) (wI M 104 (p + 1) 1) = Int32.ofNat (p + 2) ∧ K_Program_next 102 (Int32.ofNat p) (wI M 104 (p + 1) 1) := by
            unfold g_Program_next K_Program_next g_Program_next_0 K_Program_next_0 g_Program_isWide K_Program_isWide g_Program_isWide_0 K_Program_isWide_0
            rw [in5c', if_pos yw, if_neg i1_0]
            exact ⟨by rw [Int32.ofNat_add]; rfl, s'.T102, s'.T102, in5'.1.2⟩
          rw [nx.1]
          obtain ⟨i1, i2, i3, i4⟩ := ih (m - 2) (by omega) (p + 2) f (wI M 104 (p + 1) 1) (by omega) (by omega) h' n4 (fun j hj => by
            rw [mI_wI]
            by_cases q : j = p + 1
            · rw [if_pos ⟨rfl, q⟩, q, if_pos ⟨by omega, n3⟩]
            · rw [if_neg (fun z => q z.2), sec j hj]
              by_cases q3 : j = p + 2
              · rw [q3, if_neg (fun z => by omega), if_neg (fun z => by rw [n4] at z; exact absurd z.2 (by decide))]
              · by_cases q2 : j ≤ p ∧ sB B j = false
                · rw [if_pos q2, if_pos ⟨by omega, q2.2⟩]
                · rw [if_neg q2, if_neg (fun z => q2 ⟨by omega, z.2⟩)]) (fun j hj sj => by
            by_cases q : j = p + 1
            · rw [q, n3] at sj; exact absurd sj (by decide)
            · exact gd' j (by omega) sj)
          refine ⟨⟨s.T105, s.T102, fun z => absurd z le, fun _ => ⟨s.T105, f2, fun _ => ⟨s.T105, s.T102, wide.2, fun z => absurd z cw, fun _ => ⟨s.T105, s.T102, s.T104, ?_, s'.T105, s'.T102, nx.2, i1⟩⟩⟩⟩, FF.w4.trans i2, i3, i4⟩
          rw [s.N104]; exact vpN (by omega) (by omega)
theorem fault_19 (hn : n ≤ 8192) : ∀ (m k f : Nat) (M : XM), k + m = n / 8 → m < f → FS B n M → (∀ j, j < k → mI M 104 j = 0) →
    K_FormCheck_fault_19 f 105 (Int32.ofNat k) M ∧ FF M (g_FormCheck_fault_19 f 105 (Int32.ofNat k) M).2 ∧ mI (g_FormCheck_fault_19 f 105 (Int32.ofNat k) M).2 102 2 = Int32.ofNat (n / 8) ∧ FR B n (g_FormCheck_fault_19 f 105 (Int32.ofNat k) M).1 := by
  intro m
  induction m with
  | zero =>
    intro k f M km mf h z
    obtain ⟨s, eb, h2, h1⟩ := id h
    obtain ⟨f, rfl⟩ : ∃ f', f = f' + 1 := ⟨f - 1, by omega⟩
    conv => unfold K_FormCheck_fault_19 g_FormCheck_fault_19
    have le : Int32.ofNat (n / 8) ≤ Int32.ofNat k := (le_ofNat (by omega) (by omega)).mpr (by omega)
    have xf := xF_eq
    obtain ⟨k1, k2, k3, k4⟩ := fault_48 (B := B) hn (n / 8) 0 xF M (by omega) (by omega) h rfl (fun j hj => by
      rw [z j (by omega), if_neg]
      rintro ⟨q1, q2⟩
      have : j = 0 := by omega
      rw [this] at q2
      exact absurd q2 (show ¬ true = false by decide)) (fun j hj => absurd hj (Nat.not_lt_zero j))
    rw [show Int32.ofNat 0 = 0 from rfl] at k1 k2 k3 k4
    rw [s.R105_0, h2, if_pos le]
    exact ⟨⟨s.T105, s.T102, fun _ => k1, fun z => absurd le z⟩, k2, k3, k4⟩
  | succ m ih =>
    intro k f M km mf h z
    obtain ⟨s, eb, h2, h1⟩ := id h
    obtain ⟨f, rfl⟩ : ∃ f', f = f' + 1 := ⟨f - 1, by omega⟩
    conv => unfold K_FormCheck_fault_19 g_FormCheck_fault_19
    have le : ¬ Int32.ofNat (n / 8) ≤ Int32.ofNat k := fun q => by have := (le_ofNat (by omega) (by omega)).mp q; omega
    rw [s.R105_0, h2, if_neg le, s.R102_3, ixN (by omega), add1_32, s.N104]
    obtain ⟨k1, k2, k3, k4⟩ := ih (k + 1) f (wI M 104 k 0) (by omega) (by omega) h.w4 (fun j hj => by
      rw [mI_wI]
      by_cases q : j = k
      · rw [if_pos ⟨rfl, q⟩]
      · rw [if_neg (fun y => q y.2)]; exact z j (by omega))
    exact ⟨⟨s.T105, s.T102, fun q => absurd q le, fun _ => ⟨s.T105, s.T102, s.T104, vpN (by omega) (by omega), k1⟩⟩, FF.w4.trans k2, k3, k4⟩
theorem c_fault {M : XM} (hn : n ≤ 8192) (s : Sh M) (h1 : mI M 102 1 = Int32.ofNat n) : K_FormCheck_fault 105 M ∧ FF M (g_FormCheck_fault 105 M).2 ∧ mI (g_FormCheck_fault 105 M).2 102 2 = Int32.ofNat (n / 8) ∧ FR (bC M 103) n (g_FormCheck_fault 105 M).1 := by
  have f0 : FF M (wI M 102 2 (Int32.ofNat (n / 8))) := ⟨rfl, fun a i z => by rw [mI_wI, if_neg (fun q => z (Or.inr q))]⟩
  unfold K_FormCheck_fault g_FormCheck_fault K_FormCheck_fault_0 g_FormCheck_fault_0
  rw [s.R105_0, h1, (div8 hn).1]
  have xf := xF_eq
  obtain ⟨k1, k2, k3, k4⟩ := fault_19 (B := bC M 103) hn (n / 8) 0 xF _ (by omega) (by omega) ⟨f0.sh s, f0.bc, by rw [mI_wI, if_pos ⟨rfl, rfl⟩], by rw [mI_wI, if_neg (by omega)]; exact h1⟩ (fun j hj => absurd hj (Nat.not_lt_zero j))
  rw [show Int32.ofNat 0 = 0 from rfl] at k1 k2 k3 k4
  exact ⟨⟨s.T105, s.T105, s.T102, s.T102, k1⟩, f0.trans k2, k3, k4⟩
end FA
