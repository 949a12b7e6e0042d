/-! part 47zzzw: the twin's first fault (gen/tpl.py) -/
theorem goal64 {p : Nat} (hp : p < 1024) (x : Int32) : ((Int32.ofNat p).toInt64 + 1 + x.toInt64).toInt = p + 1 + x.toInt := by
  rw [Int64.toInt_add, Int64.toInt_add, Int32.toInt_toInt64, Int32.toInt_toInt64, toInt_ofNat32 (by omega)]
  have b1 := Int32.le_toInt x
  have b2 := Int32.toInt_lt x
  have e1 : (1 : Int64).toInt = 1 := rfl
  rw [e1, Int.bmod_eq_of_le (n := (p : Int) + 1) (by omega) (by omega)]
  exact Int.bmod_eq_of_le (by omega) (by omega)
theorem goal32 {p g : Nat} (hp : p < 1024) (hg : g < 1024) (x : Int32) : Int32.ofNat p + 1 + x = Int32.ofNat g ↔ (p : Int) + 1 + x.toInt = g := by
  have b1 := Int32.le_toInt x
  have b2 := Int32.toInt_lt x
  rw [← Int32.toInt_inj, add1_32, Int32.toInt_add, toInt_ofNat32 (by omega), toInt_ofNat32 (by omega)]
  have q := Int.bmod_emod (x := ((p + 1 : Nat) : Int) + x.toInt) (m := 2 ^ 32)
  constructor
  · intro h
    rw [h] at q
    omega
  · intro h
    rw [Int.bmod_eq_of_le (by omega) (by omega)]
    omega
section TL
variable {n all : Nat} {B : Nat → Int32} {M X : XM}
def TSt (B : Nat → Int32) (n : Nat) (X : XM) : Prop := Sh X ∧ (fun i => mI X 449 i) = B ∧ mI X 448 2 = Int32.ofNat n
theorem TSt.ft (h : TSt B n M) (f : FT M X) : TSt B n X := ⟨h.1.kept (by rw [f.1]), by rw [← h.2.1]; funext i; exact f.2 449 i (by omega), by rw [f.2 448 2 (by omega)]; exact h.2.2⟩
theorem FT.rf : FT M M := ⟨rfl, fun _ _ _ => rfl⟩
theorem t_goal (s : Sh M) (eB : (fun i => mI M 449 i) = B) (al : all ≤ 1024) (go : Int64) : ∀ (m p f : Nat), all ≤ p + m → p ≤ all + 1 → m < f → sB B p = true → (∀ g, g < p → (g : Int) = go.toInt → sB B g = false) →
    K_Model_isGoal_3 f 448 go (Int32.ofNat all) (Int32.ofNat p) M ∧ FL (g_Model_isGoal_3 f 448 go (Int32.ofNat all) (Int32.ofNat p) M) (∃ g, g < all ∧ go.toInt = (g : Int) ∧ sB B g = true) := by
  intro m
  induction m using Nat.strongRecOn with
  | ind m ih =>
    intro p f pm pl mf sp no
    obtain ⟨f, rfl⟩ : ∃ f', f = f' + 1 := ⟨f - 1, by omega⟩
    have e64 : (Int32.ofNat p).toInt64.toInt = p := by rw [Int32.toInt_toInt64, toInt_ofNat32 (by omega)]
    have a64 : (Int32.ofNat all).toInt64.toInt = all := by rw [Int32.toInt_toInt64, toInt_ofNat32 (by omega)]
    have z64 : (0 : Int64).toInt = 0 := rfl
    have out : (all ≤ p ∨ go.toInt ≤ p) → FL (g_Model_isGoal_48 go (Int32.ofNat all) (Int32.ofNat p) M) (∃ g, g < all ∧ go.toInt = (g : Int) ∧ sB B g = true) := by
      intro q
      unfold g_Model_isGoal_48
      refine FL.ite (fun c => FL.ff ?_) (fun c => FL.ite (fun c2 => FL.ff ?_) (fun c2 => FL.ite (fun c3 => FL.tt ?_) (fun c3 => FL.ff ?_)))
      · rintro ⟨g, g1, g2, _⟩
        rw [cmp_lt, Int64.lt_iff_toInt_lt, z64] at c
        omega
      · rintro ⟨g, g1, g2, _⟩
        rw [cmp_ge, Int64.le_iff_toInt_le, a64] at c2
        omega
      · rw [cmp_eq] at c3
        have c3 := congrArg Int64.toInt c3
        rw [e64] at c3
        rw [cmp_ge, Int64.le_iff_toInt_le, a64] at c2
        exact ⟨p, by omega, c3.symm, sp⟩
      · rintro ⟨g, g1, g2, g3⟩
        rw [cmp_eq, ← Int64.toInt_inj, e64] at c3
        rw [no g (by omega) g2.symm] at g3
        exact absurd g3 (by decide)
    conv => unfold K_Model_isGoal_3 g_Model_isGoal_3
    by_cases c : Int32.ofNat all ≤ Int32.ofNat p
    · rw [if_pos c]
      exact ⟨fun z => absurd c z, out (Or.inl ((le_ofNat (by omega) (by omega)).mp c))⟩
    · rw [if_neg c]
      have hp : p < all := by
        rw [le_ofNat (by omega) (by omega)] at c
        omega
      by_cases c2 : 0 ≤ lg_cmp (Int32.ofNat p).toInt64 go
      · rw [if_pos c2]
        refine ⟨fun _ z => absurd c2 z, out (Or.inr ?_)⟩
        rw [cmp_ge, Int64.le_iff_toInt_le, e64] at c2
        exact c2
      · rw [if_neg c2]
        have lt : (p : Int) < go.toInt := by
          rw [cmp_ge, Int64.le_iff_toInt_le, e64] at c2
          omega
        have e8 : (8 : Int32) * Int32.ofNat p = Int32.ofNat (8 * p) := by rw [Int32.ofNat_mul]; rfl
        rw [s.R448_1, e8, ixN (by omega), show mI M 449 (8 * p) = B (8 * p) from congrFun eB (8 * p), add1_32, show Int32.ofNat p + 2 = Int32.ofNat (p + 2) by rw [Int32.ofNat_add]; rfl, s.N449]
        obtain ⟨n1, n2⟩ := sB_next sp
        by_cases c3 : B (8 * p) = 24
        · rw [if_pos c3]
          obtain ⟨n3, n4⟩ := n2 c3
          obtain ⟨i1, i2⟩ := ih (m - 2) (by omega) (p + 2) f (by omega) (by omega) (by omega) n4 (fun g hg e => by
            by_cases q : g = p + 1
            · rw [q]; exact n3
            · exact no g (by omega) e)
          exact ⟨fun _ _ => ⟨s.T448, s.T449, vpN (by omega) (by omega), fun _ => i1, fun z => absurd c3 z⟩, i2⟩
        · rw [if_neg c3]
          obtain ⟨i1, i2⟩ := ih (m - 1) (by omega) (p + 1) f (by omega) (by omega) (by omega) (n1 c3) (fun g hg e => no g (by omega) e)
          exact ⟨fun _ _ => ⟨s.T448, s.T449, vpN (by omega) (by omega), fun z => absurd z c3, fun _ => i1⟩, i2⟩
theorem t_isGoal (s : Sh M) (eB : (fun i => mI M 449 i) = B) (al : all ≤ 1024) (go : Int64) : K_Model_isGoal 448 go (Int32.ofNat all) M ∧ FL (g_Model_isGoal 448 go (Int32.ofNat all) M) (∃ g, g < all ∧ go.toInt = (g : Int) ∧ sB B g = true) := by
  have xf := xF_eq
  have := t_goal s eB al go all 0 xF (by omega) (by omega) (by omega) rfl (fun g hg => absurd hg (Nat.not_lt_zero g))
  exact this
def FPl (B : Nat → Int32) (n : Nat) (r : Int32) : Prop := (∃ p, p < n / 8 ∧ sB B p = true ∧ ¬ okI B (n / 8) p ∧ (∀ j, j < p → sB B j = true → okI B (n / 8) j) ∧ r = Int32.ofNat p) ∨ ((∀ j, j < n / 8 → sB B j = true → okI B (n / 8) j) ∧ (((n % 8 ≠ 0 ∨ n / 8 = 0) ∧ r = Int32.ofNat (n / 8)) ∨ (n % 8 = 0 ∧ n / 8 ≠ 0 ∧ r = -1)))
theorem t_wide {I : In} (s : Sh X) (h : InT X I) : FL (g_Model_isWide 448 X) (I.c = 24) ∧ K_Model_isWide 448 X := by
  unfold g_Model_isWide K_Model_isWide g_Model_isWide_0 K_Model_isWide_0
  rw [h.1]
  exact ⟨FL.ite (fun c => FL.tt c) (fun c => FL.ff c), s.T448⟩
theorem t_place (hn : n ≤ 8192) (hb : BYT B) : ∀ (m p f : Nat) (M : XM), p + m = n / 8 → m < f → TSt B n M → sB B p = true → (∀ j, j < p → sB B j = true → okI B (n / 8) j) →
    K_Model_wrongPlace_2 f 448 (Int32.ofNat (n / 8)) (Int32.ofNat p) M ∧ FT M (g_Model_wrongPlace_2 f 448 (Int32.ofNat (n / 8)) (Int32.ofNat p) M).2 ∧ FPl B n (g_Model_wrongPlace_2 f 448 (Int32.ofNat (n / 8)) (Int32.ofNat p) M).1 := by
  intro m
  induction m using Nat.strongRecOn with
  | ind m ih =>
    intro p f M pm mf h sp gd
    obtain ⟨s, eb, h2⟩ := id h
    obtain ⟨f, rfl⟩ : ∃ f', f = f' + 1 := ⟨f - 1, by omega⟩
    conv => unfold K_Model_wrongPlace_2 g_Model_wrongPlace_2
    rw [h2, s.R448_1]
    by_cases c : Int32.ofNat (n / 8) ≤ Int32.ofNat p
    · have ep : p = n / 8 := by have := (le_ofNat (by omega) (by omega)).mp c; omega
      have all : ∀ j, j < n / 8 → sB B j = true → okI B (n / 8) j := fun j hj => gd j (by omega)
      obtain ⟨d1, d2⟩ := div8 hn
      have z0 : Int32.ofNat (n / 8) = 0 ↔ n / 8 = 0 := by
        constructor
        · intro z
          have := congrArg ix z
          rw [ixN (by omega)] at this
          exact this
        · intro z; rw [z]; rfl
      rw [if_pos c]
      refine ⟨⟨fun _ => s.T448, fun z => absurd c z⟩, ?_⟩
      by_cases c8 : j_irem (Int32.ofNat n) 8 = 0
      · rw [if_pos c8]
        by_cases c0 : Int32.ofNat (n / 8) = 0
        · rw [if_pos c0]
          exact ⟨FT.rf, Or.inr ⟨all, Or.inl ⟨Or.inr (z0.mp c0), rfl⟩⟩⟩
        · rw [if_neg c0]
          exact ⟨FT.rf, Or.inr ⟨all, Or.inr ⟨d2.mp c8, fun z => c0 (z0.mpr z), rfl⟩⟩⟩
      · rw [if_neg c8]
        exact ⟨FT.rf, Or.inr ⟨all, Or.inl ⟨Or.inl (fun z => c8 (d2.mpr z)), rfl⟩⟩⟩
    · have hp : p < n / 8 := by
        rw [le_ofNat (by omega) (by omega)] at c
        omega
      rw [if_neg c]
      obtain ⟨k1, ⟨k2, k3⟩, f1, hI⟩ := t_instr s eb hb (by omega) hp
      have h' : TSt B n (g_Model_take 448 449 (Int32.ofNat p) M) := h.ft f1
      rw [k3]
      generalize (g_Model_isInstruction 448 449 (Int32.ofNat p) (Int32.ofNat (n / 8)) M).1 = r at k2 ⊢
      generalize g_Model_take 448 449 (Int32.ofNat p) M = X at f1 hI h' ⊢
      unfold K_Model_wrongPlace_17 g_Model_wrongPlace_17 K_Model_wrongPlace_38 g_Model_wrongPlace_38
      by_cases c1 : r = 0
      · rw [if_pos c1]
        exact ⟨⟨fun z => absurd z c, fun _ => ⟨s.T448, s.T448, k1, fun z => absurd c1 z⟩⟩, f1, Or.inl ⟨p, hp, sp, k2.z.mp c1, gd, rfl⟩⟩
      · rw [if_neg c1]
        have ok := k2.zn.mp c1
        obtain ⟨w1, w2⟩ := t_wide h'.1 hI
        have ec : (IB B p).c = B (8 * p) := by rw [IB_at (by omega)]
        rw [ec] at w1
        obtain ⟨n1, n2⟩ := sB_next sp
        have gd' : ∀ j, j < p + 1 → sB B j = true → okI B (n / 8) j := fun j hj sj => by
          by_cases q : j = p
          · rw [q]; exact ok
          · exact gd j (by omega) sj
        rw [add1_32, show Int32.ofNat p + 2 = Int32.ofNat (p + 2) by rw [Int32.ofNat_add]; rfl]
        by_cases cw : g_Model_isWide 448 X = 0
        · rw [if_pos cw]
          obtain ⟨i1, i2, i3⟩ := ih (m - 1) (by omega) (p + 1) f X (by omega) (by omega) h' (n1 (w1.z.mp cw)) gd'
          exact ⟨⟨fun z => absurd z c, fun _ => ⟨s.T448, s.T448, k1, fun _ => ⟨h'.1.T448, w2, fun _ => i1, fun z => absurd cw z⟩⟩⟩, f1.trans i2, i3⟩
        · rw [if_neg cw]
          have yw := w1.zn.mp cw
          obtain ⟨n3, n4⟩ := n2 yw
          have hp1 := okI_wide (by omega) ok yw
          obtain ⟨i1, i2, i3⟩ := ih (m - 2) (by omega) (p + 2) f X (by omega) (by omega) h' n4 (fun j hj sj => by
            by_cases q : j = p + 1
            · rw [q, n3] at sj; exact absurd sj (by decide)
            · exact gd' j (by omega) sj)
          exact ⟨⟨fun z => absurd z c, fun _ => ⟨s.T448, s.T448, k1, fun _ => ⟨h'.1.T448, w2, fun z => absurd z cw, fun _ => i1⟩⟩⟩, f1.trans i2, i3⟩
end TL
