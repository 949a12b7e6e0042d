/-! part 47zzzzi: map, on both sides (gen/tpl.py) -/
def mF (k a v : Int32) : Prop := ((k = 0 ∨ k = 3) ∧ a = 0 ∧ v = 0) ∨ (k = 1 ∧ a = 4 ∧ ¬ v < 1 ∧ ¬ 256 < v) ∨ (k = 2 ∧ (¬ a < 1 ∧ ¬ 32 < a) ∧ ¬ v < 1 ∧ ¬ 256 < v)
theorem le0_1 {x : Int32} : x ≤ 0 ↔ x < 1 := by
  rw [Int32.le_iff_toInt_le, lt_u3]
  have e0 : (0 : Int32).toInt = 0 := rfl
  have e1 : (1 : Int32).toInt = 1 := rfl
  omega
theorem i32_12 {x : Int32} (h1 : ¬ x ≤ 0) (h2 : ¬ 3 ≤ x) (h3 : ¬ x = 1) : x = 2 := by
  rw [Int32.le_iff_toInt_le] at h1 h2
  rw [← Int32.toInt_inj] at h3 ⊢
  have e0 : (0 : Int32).toInt = 0 := rfl
  have e1 : (1 : Int32).toInt = 1 := rfl
  have e2 : (2 : Int32).toInt = 2 := rfl
  have e3 : (3 : Int32).toInt = 3 := rfl
  omega
theorem fits_mF (k a v : Int32) : FL (g_Maps_fits k a v) (mF k a v) := by
  have t17 : ∀ s : Int32, (s = 0 ∧ (v < 1 ∨ 256 < v)) ∨ (s = 1 ∧ ¬ v < 1 ∧ ¬ 256 < v) → FL (g_Maps_fits_17 k a v s) (mF k a v) := by
    intro s hs
    unfold g_Maps_fits_17 g_Maps_fits_89
    by_cases k1 : k = 1
    · subst k1
      rw [if_pos rfl]
      refine FL.ite (fun a4 => ?_) (fun a4 => FL.ff ?_)
      · rcases hs with ⟨s0, z⟩ | ⟨s1, z⟩
        · rw [if_pos s0]
          refine FL.ff ?_
          rintro (q | q | q)
          · exact absurd q.1 (by decide)
          · exact z.elim q.2.2.1 q.2.2.2
          · exact absurd q.1 (by decide)
        · rw [if_neg (by rw [s1]; exact i1_0)]
          exact FL.tt (Or.inr (Or.inl ⟨rfl, a4, z⟩))
      · rintro (q | q | q)
        · exact absurd q.1 (by decide)
        · exact a4 q.2.1
        · exact absurd q.1 (by decide)
    · rw [if_neg k1]
      by_cases k2 : k = 2
      · subst k2
        rw [if_pos rfl]
        refine FL.ite (fun a1 => FL.ff ?_) (fun a1 => FL.ite (fun a2 => FL.ff ?_) (fun a2 => ?_))
        · rintro (q | q | q)
          · exact absurd q.1 (by decide)
          · exact absurd q.1 (by decide)
          · exact q.2.1.1 a1
        · rintro (q | q | q)
          · exact absurd q.1 (by decide)
          · exact absurd q.1 (by decide)
          · exact q.2.1.2 a2
        · rcases hs with ⟨s0, z⟩ | ⟨s1, z⟩
          · rw [if_pos s0]
            refine FL.ff ?_
            rintro (q | q | q)
            · exact absurd q.1 (by decide)
            · exact absurd q.1 (by decide)
            · exact z.elim q.2.2.1 q.2.2.2
          · rw [if_neg (by rw [s1]; exact i1_0)]
            exact FL.tt (Or.inr (Or.inr ⟨rfl, ⟨a1, a2⟩, z⟩))
      · rw [if_neg k2]
        have f89 : (k = 0 ∨ k = 3) → FL (if a = 0 then (if v = 0 then (1 : Int32) else 0) else 0) (mF k a v) := fun hk => FL.ite (fun a0 => FL.ite (fun v0 => FL.tt (Or.inl ⟨hk, a0, v0⟩)) (fun v0 => FL.ff (fun q => q.elim (fun q => v0 q.2.2) (fun q => q.elim (fun q => k1 q.1) (fun q => k2 q.1))))) (fun a0 => FL.ff (fun q => q.elim (fun q => a0 q.2.1) (fun q => q.elim (fun q => k1 q.1) (fun q => k2 q.1))))
        refine FL.ite (fun k3 => f89 (Or.inr k3)) (fun k3 => FL.ite (fun k0 => f89 (Or.inl k0)) (fun k0 => FL.ff (fun q => q.elim (fun q => q.1.elim k0 k3) (fun q => q.elim (fun q => k1 q.1) (fun q => k2 q.1)))))
  unfold g_Maps_fits g_Maps_fits_0 g_Maps_fits_16
  exact FL.ite (fun c => t17 0 (Or.inl ⟨rfl, Or.inl c⟩)) (fun c => FL.ite (fun c2 => t17 0 (Or.inl ⟨rfl, Or.inr c2⟩)) (fun c2 => t17 1 (Or.inr ⟨rfl, c, c2⟩)))
def FLX (A B : XM) (P : Prop) (r : XM) : Prop := (P → r = A) ∧ (¬ P → r = B)
theorem FLX.ite {c : Prop} [Decidable c] {A B : XM} {P : Prop} {a b : XM} (h1 : c → FLX A B P a) (h2 : ¬ c → FLX A B P b) : FLX A B P (if c then a else b) := by
  by_cases q : c
  · rw [if_pos q]; exact h1 q
  · rw [if_neg q]; exact h2 q
theorem FLX.tt {A B : XM} {P : Prop} (h : P) : FLX A B P A := ⟨fun _ => rfl, fun z => absurd h z⟩
theorem FLX.ff {A B : XM} {P : Prop} (h : ¬ P) : FLX A B P B := ⟨fun z => absurd z h, fun _ => rfl⟩
section MPs
variable {n : Nat} {M X : XM}
def w3 (X : XM) (k : Nat) (a b c : Int32) : XM := wI (wI (wI X 451 k a) 452 k b) 453 k c
theorem t_88 (s : Sh X) (x1 x2 x3 x4 s0 : Int32) : K_Model_map_88 448 x1 x2 x3 x4 s0 X ∧ g_Model_map_88 448 x1 x2 x3 x4 s0 X = if b_map x1 then wI X 448 0 1 else if s0 = 0 then wI X 448 0 2 else w3 (wI X 448 0 0) (ix x1) x2 x3 x4 := by
  unfold K_Model_map_88 g_Model_map_88 K_Model_map_101 g_Model_map_101 K_Model_map_115 g_Model_map_115 K_Model_map_118 g_Model_map_118
  have t0 : ∀ v, mI (wI X 448 0 v) 448 0 = v := fun v => by rw [mI_wI, if_pos ⟨rfl, rfl⟩]
  have sv : ∀ v, Sh (wI X 448 0 v) := fun v => s.kept rfl
  rw [t0, t0, t0, (sv 0).R448_7, (sv 0).R448_8, (sv 0).R448_9, (sv 0).N451, (sv 0).N452, (sv 0).N453, if_neg i1_0, if_neg (show ¬ (2 : Int32) = 0 by decide), if_pos rfl]
  have vp : ¬ x1 < 0 → x1 ≤ 7 → vp_in x1 8 := fun a b => by
    obtain ⟨e1, e2⟩ := i32N a
    have : x1.toInt ≤ (7 : Int32).toInt := Int32.le_iff_toInt_le.mp b
    have e7 : (7 : Int32).toInt = 7 := rfl
    rw [e1]; exact vpN (by omega) (by omega)
  refine ⟨⟨fun _ => ⟨s.T448, s.T448, fun z => absurd z i1_0⟩, fun c1 => ⟨fun c2 => ⟨fun _ => ⟨s.T448, s.T448, fun z => absurd z (by decide)⟩, fun _ => ⟨s.T448, s.T448, fun _ => ⟨s.T448, s.T451, vp c1 c2, s.T448, s.T452, vp c1 c2, s.T448, s.T453, vp c1 c2⟩⟩⟩, fun _ => ⟨s.T448, s.T448, fun z => absurd z i1_0⟩⟩⟩, ?_⟩
  have e8 : (8 : Int32) ≤ x1 ↔ ¬ x1 ≤ 7 := by
    rw [Int32.le_iff_toInt_le, Int32.le_iff_toInt_le]
    have e7 : (7 : Int32).toInt = 7 := rfl
    have e8 : (8 : Int32).toInt = 8 := rfl
    omega
  by_cases c1 : x1 < 0
  · rw [if_pos c1, if_pos (Or.inl c1)]
  · rw [if_neg c1]
    by_cases c2 : x1 ≤ 7
    · have nb : ¬ b_map x1 := fun z => z.elim c1 (fun z => e8.mp z c2)
      rw [if_pos c2, if_neg nb]
      rfl
    · rw [if_neg c2, if_pos (Or.inr (e8.mpr c2))]
theorem t_map (s : Sh X) (x1 x2 x3 x4 : Int32) : K_Model_map 448 x1 x2 x3 x4 X ∧ FLX (g_Model_map_88 448 x1 x2 x3 x4 1 X) (g_Model_map_88 448 x1 x2 x3 x4 0 X) (mF x2 x3 x4) (g_Model_map 448 x1 x2 x3 x4 X) := by
  have k88 := fun s0 => (t_88 s x1 x2 x3 x4 s0).1
  unfold K_Model_map g_Model_map K_Model_map_0 g_Model_map_0 K_Model_map_9 g_Model_map_9 K_Model_map_14 g_Model_map_14 K_Model_map_34 g_Model_map_34 K_Model_map_83 g_Model_map_83 K_Model_map_87 g_Model_map_87
  constructor
  · repeat' (first | exact k88 _ | refine ⟨?_, ?_⟩ | intro _)
  · rw [if_neg i1_0, if_pos rfl]
    have no : (x2 = 0 ∨ x2 = 3) → FLX (g_Model_map_88 448 x1 x2 x3 x4 1 X) (g_Model_map_88 448 x1 x2 x3 x4 0 X) (mF x2 x3 x4) (if x3 = 0 then (if x4 = 0 then g_Model_map_88 448 x1 x2 x3 x4 1 X else g_Model_map_88 448 x1 x2 x3 x4 0 X) else g_Model_map_88 448 x1 x2 x3 x4 0 X) := fun hk => by
      have n1 : ¬ x2 = 1 := fun z => by rcases hk with q | q <;> rw [z] at q <;> exact absurd q (by decide)
      have n2 : ¬ x2 = 2 := fun z => by rcases hk with q | q <;> rw [z] at q <;> exact absurd q (by decide)
      exact FLX.ite (fun a0 => FLX.ite (fun v0 => FLX.tt (Or.inl ⟨hk, a0, v0⟩)) (fun v0 => FLX.ff (fun q => q.elim (fun q => v0 q.2.2) (fun q => q.elim (fun q => n1 q.1) (fun q => n2 q.1))))) (fun a0 => FLX.ff (fun q => q.elim (fun q => a0 q.2.1) (fun q => q.elim (fun q => n1 q.1) (fun q => n2 q.1))))
    refine FLX.ite (fun k0 => no (Or.inl k0)) (fun k0 => FLX.ite (fun k3 => no (Or.inr k3)) (fun k3 => ?_))
    refine FLX.ite (fun c1 => FLX.ff ?_) (fun c1 => FLX.ite (fun c2 => FLX.ff ?_) (fun c2 => FLX.ite (fun c3 => FLX.ff ?_) (fun c3 => FLX.ite (fun c4 => FLX.ff ?_) (fun c4 => FLX.ite (fun k1 => FLX.ite (fun a4 => FLX.tt ?_) (fun a4 => FLX.ff ?_)) (fun k1 => FLX.ite (fun a1 => FLX.ff ?_) (fun a1 => FLX.ite (fun a2 => FLX.ff ?_) (fun a2 => FLX.tt ?_)))))))
    · rintro (q | q | q)
      · exact q.1.elim k0 k3
      · rw [q.1] at c1; exact absurd c1 (by decide)
      · rw [q.1] at c1; exact absurd c1 (by decide)
    · rintro (q | q | q)
      · exact q.1.elim k0 k3
      · rw [q.1] at c2; exact absurd c2 (by decide)
      · rw [q.1] at c2; exact absurd c2 (by decide)
    · rintro (q | q | q)
      · exact q.1.elim k0 k3
      · exact q.2.2.1 (le0_1.mp c3)
      · exact q.2.2.1 (le0_1.mp c3)
    · rintro (q | q | q)
      · exact q.1.elim k0 k3
      · exact q.2.2.2 c4
      · exact q.2.2.2 c4
    · exact Or.inr (Or.inl ⟨k1, a4, fun z => c3 (le0_1.mpr z), c4⟩)
    · rintro (q | q | q)
      · exact q.1.elim k0 k3
      · exact a4 q.2.1
      · have := k1.symm.trans q.1; exact absurd this (by decide)
    · rintro (q | q | q)
      · exact q.1.elim k0 k3
      · exact k1 q.1
      · exact q.2.1.1 (le0_1.mp a1)
    · rintro (q | q | q)
      · exact q.1.elim k0 k3
      · exact k1 q.1
      · exact q.2.1.2 a2
    · exact Or.inr (Or.inr ⟨i32_12 c1 c2 k1, ⟨fun z => a1 (le0_1.mpr z), a2⟩, fun z => c3 (le0_1.mpr z), c4⟩)
theorem mF_b {k a v : Int32} (h : mF k a v) : (0 ≤ k ∧ k < 4) ∧ (0 ≤ a ∧ a ≤ 32) ∧ (0 ≤ v ∧ v ≤ 256) := by
  have up : ∀ {x y : Int32}, ¬ x < 1 → ¬ y < x → 0 ≤ x ∧ x ≤ y := fun {x y} a b => by
    refine ⟨?_, Int32.not_lt.mp b⟩
    rw [Int32.le_iff_toInt_le]
    rw [lt_u3] at a
    have e0 : (0 : Int32).toInt = 0 := rfl
    have e1 : (1 : Int32).toInt = 1 := rfl
    omega
  rcases h with ⟨z1, z2, z3⟩ | ⟨z1, z2, z3, z4⟩ | ⟨z1, z2, z3, z4⟩
  · rw [z2, z3]
    rcases z1 with z | z <;> rw [z] <;> decide
  · rw [z1, z2]
    exact ⟨by decide, by decide, up z3 z4⟩
  · rw [z1]
    exact ⟨by decide, up z2.1 z2.2, up z3 z4⟩
theorem q_map (h : LI n M) (x1 x2 x3 x4 : Int32) : K_Law_map 100 x1 x2 x3 x4 M ∧ K_Model_map 448 x1 x2 x3 x4 (g_Law_map 100 x1 x2 x3 x4 M).2 ∧ EN n M (g_Law_map 100 x1 x2 x3 x4 M).1 (g_Model_map 448 x1 x2 x3 x4 (g_Law_map 100 x1 x2 x3 x4 M).2) := by
  unfold K_Law_map g_Law_map
  have fm := fits_mF x2 x3 x4
  by_cases b : b_map x1
  · rw [if_pos b]
    refine ⟨⟨h.sh.T100, fun z => absurd b z⟩, ?_⟩
    obtain ⟨l1, l2, l3⟩ := h.wn 151
    obtain ⟨m1, m2, m3⟩ := l1.w0 1
    show K_Model_map 448 x1 x2 x3 x4 (wN M 151 6) ∧ EN n M 1 (g_Model_map 448 x1 x2 x3 x4 (wN M 151 6))
    obtain ⟨k1, f1⟩ := t_map l1.sh x1 x2 x3 x4
    have e1 := fun s0 => (t_88 l1.sh x1 x2 x3 x4 s0).2
    have g : g_Model_map 448 x1 x2 x3 x4 (wN M 151 6) = wI (wN M 151 6) 448 0 1 := by
      by_cases p : mF x2 x3 x4
      · rw [f1.1 p, e1, if_pos b]
      · rw [f1.2 p, e1, if_pos b]
    rw [g]
    exact ⟨k1, by rw [mI_wI, if_pos ⟨rfl, rfl⟩], n, Nat.le_refl _, m1, by omega, by omega⟩
  · rw [if_neg b]
    by_cases c : g_Maps_fits x2 x3 x4 = 0
    · rw [if_pos c]
      have np := fm.z.mp c
      refine ⟨⟨h.sh.T100, fun _ z => absurd c z⟩, ?_⟩
      obtain ⟨l1, l2, l3⟩ := h.wn 150
      obtain ⟨m1, m2, m3⟩ := l1.w0 2
      show K_Model_map 448 x1 x2 x3 x4 (wN M 150 6) ∧ EN n M 2 (g_Model_map 448 x1 x2 x3 x4 (wN M 150 6))
      obtain ⟨k1, f1⟩ := t_map l1.sh x1 x2 x3 x4
      have e1 := fun s0 => (t_88 l1.sh x1 x2 x3 x4 s0).2
      have g : g_Model_map 448 x1 x2 x3 x4 (wN M 150 6) = wI (wN M 150 6) 448 0 2 := by rw [f1.2 np, e1, if_neg b, if_pos rfl]
      rw [g]
      exact ⟨k1, by rw [mI_wI, if_pos ⟨rfl, rfl⟩], n, Nat.le_refl _, m1, by omega, by omega⟩
    · rw [if_neg c]
      have p := fm.zn.mp c
      have c1 : ¬ x1 < 0 := fun z => b (Or.inl z)
      have c2 : ¬ (8 : Int32) ≤ x1 := fun z => b (Or.inr z)
      obtain ⟨k, hk, rfl⟩ := i32lt (m := 8) (x := x1) (by decide) c1 c2
      unfold K_LawN_map g_LawN_map K_LawN_map_0 g_LawN_map_0 g_LawN_map_9 K_PC_map g_PC_map K_PC_map_0 g_PC_map_0 K_PC_map_15 g_PC_map_15 K_PC_map_18 g_PC_map_18 K_PC_map_28 g_PC_map_28 K_PC_there g_PC_there K_PC_there_0 g_PC_there_0 K_PC_proper g_PC_proper K_PC_proper_0 g_PC_proper_0
      rw [if_neg i1_0, if_neg c, if_neg c1, if_neg c2, h.sh.R100_0, h.sh.R101_2, h.sh.R106_0, h.sh.R106_1, h.sh.R106_2, ixN (show k < 2147483648 by omega), h.sh.N107, h.sh.N108, h.sh.N109]
      have vk : vp_in (Int32.ofNat k) 8 := vpN hk (by omega)
      have s := h.sh
      refine ⟨⟨s.T100, fun _ _ => ⟨s.T100, fun z => absurd z c1, fun _ => ⟨fun z => absurd z c2, fun _ => ⟨fun z => absurd z i1_0, fun z => absurd z c, s.T100, s.T101, s.T106, s.T107, vk, s.T100, s.T101, s.T106, s.T108, vk, s.T100, s.T101, s.T106, s.T109, vk⟩⟩⟩⟩, ?_⟩
      show K_Model_map 448 (Int32.ofNat k) x2 x3 x4 (wI (wI (wI M 107 k x2) 108 k x3) 109 k x4) ∧ EN n M 0 (g_Model_map 448 (Int32.ofNat k) x2 x3 x4 (wI (wI (wI M 107 k x2) 108 k x3) 109 k x4))
      have sN : Sh (wI (wI (wI M 107 k x2) 108 k x3) 109 k x4) := s.kept rfl
      obtain ⟨k1, f1⟩ := t_map sN (Int32.ofNat k) x2 x3 x4
      refine ⟨k1, ?_⟩
      rw [f1.1 p, (t_88 sN (Int32.ofNat k) x2 x3 x4 1).2, if_neg b, if_neg i1_0, ixN (show k < 2147483648 by omega)]
      unfold w3
      have q0 : mI (wI (wI (wI (wI (wI (wI (wI M 107 k x2) 108 k x3) 109 k x4) 448 0 0) 451 k x2) 452 k x3) 453 k x4) 448 0 = 0 := by rw [mI_wI, if_neg (by omega), mI_wI, if_neg (by omega), mI_wI, if_neg (by omega), mI_wI, if_pos ⟨rfl, rfl⟩]
      have q : ∀ a j, ¬ (a = 448 ∧ j = 0) → ¬ (107 ≤ a ∧ a ≤ 109) → ¬ (451 ≤ a ∧ a ≤ 453) → mI (wI (wI (wI (wI (wI (wI (wI M 107 k x2) 108 k x3) 109 k x4) 448 0 0) 451 k x2) 452 k x3) 453 k x4) a j = mI M a j := fun a j z1 z2 z3 => by
        rw [mI_wI, if_neg (by omega), mI_wI, if_neg (by omega), mI_wI, if_neg (by omega), mI_wI, if_neg (by omega), mI_wI, if_neg (by omega), mI_wI, if_neg (by omega), mI_wI, if_neg (by omega)]
      have st : (wI (wI (wI (wI (wI (wI (wI M 107 k x2) 108 k x3) 109 k x4) 448 0 0) 451 k x2) 452 k x3) 453 k x4).2.2 = M.2.2 := rfl
      have ll : ∀ a j, a ≠ 468 → mL (wI (wI (wI (wI (wI (wI (wI M 107 k x2) 108 k x3) 109 k x4) 448 0 0) 451 k x2) 452 k x3) 453 k x4) a j = mL M a j := fun _ _ _ => rfl
      have w : ∀ j, (mI (wI (wI (wI (wI (wI (wI (wI M 107 k x2) 108 k x3) 109 k x4) 448 0 0) 451 k x2) 452 k x3) 453 k x4) 107 j = if j = k then x2 else mI M 107 j) ∧ (mI (wI (wI (wI (wI (wI (wI (wI M 107 k x2) 108 k x3) 109 k x4) 448 0 0) 451 k x2) 452 k x3) 453 k x4) 108 j = if j = k then x3 else mI M 108 j) ∧ (mI (wI (wI (wI (wI (wI (wI (wI M 107 k x2) 108 k x3) 109 k x4) 448 0 0) 451 k x2) 452 k x3) 453 k x4) 109 j = if j = k then x4 else mI M 109 j) ∧ (mI (wI (wI (wI (wI (wI (wI (wI M 107 k x2) 108 k x3) 109 k x4) 448 0 0) 451 k x2) 452 k x3) 453 k x4) 451 j = if j = k then x2 else mI M 451 j) ∧ (mI (wI (wI (wI (wI (wI (wI (wI M 107 k x2) 108 k x3) 109 k x4) 448 0 0) 451 k x2) 452 k x3) 453 k x4) 452 j = if j = k then x3 else mI M 452 j) ∧ (mI (wI (wI (wI (wI (wI (wI (wI M 107 k x2) 108 k x3) 109 k x4) 448 0 0) 451 k x2) 452 k x3) 453 k x4) 453 j = if j = k then x4 else mI M 453 j) := fun j => by
        simp only [mI_wI]
        by_cases qj : j = k
        · simp (decide := true) [qj]
        · simp (decide := true) [qj]
      generalize wI (wI (wI (wI (wI (wI (wI M 107 k x2) 108 k x3) 109 k x4) 448 0 0) 451 k x2) 452 k x3) 453 k x4 = Y at q0 q st ll w ⊢
      have h5 := h.2.2.2.2.1
      have m7 : ∀ j, mI M 107 j = mI M 451 j := fun j => congrFun (congrArg Prod.fst h5) j
      have m8 : ∀ j, mI M 108 j = mI M 452 j := fun j => congrFun (congrArg Prod.fst (congrArg Prod.snd h5)) j
      have m9 : ∀ j, mI M 109 j = mI M 453 j := fun j => congrFun (congrArg Prod.snd (congrArg Prod.snd h5)) j
      obtain ⟨g1, g2, g3⟩ := LI.gen (X := Y) (n' := n) h st ll (fun a j z1 z2 z3 z4 z5 z6 => q a j (by omega) z5 z6) (by
        unfold mpC mpT
        simp only [fun j => (w j).1, fun j => (w j).2.1, fun j => (w j).2.2.1, fun j => (w j).2.2.2.1, fun j => (w j).2.2.2.2.1, fun j => (w j).2.2.2.2.2, m7, m8, m9]) (by
        intro j hj
        unfold mpT
        show (0 ≤ mI Y 451 j ∧ mI Y 451 j < 4) ∧ (0 ≤ mI Y 452 j ∧ mI Y 452 j ≤ 32) ∧ (0 ≤ mI Y 453 j ∧ mI Y 453 j ≤ 256)
        rw [(w j).2.2.2.1, (w j).2.2.2.2.1, (w j).2.2.2.2.2]
        by_cases qj : j = k
        · rw [if_pos qj, if_pos qj, if_pos qj]; exact mF_b p
        · rw [if_neg qj, if_neg qj, if_neg qj]; exact h.2.2.2.2.2.1 j hj) h.2.2.2.2.2.2.1 (by rw [q 445 1 (by omega) (by omega) (by omega)]; exact h.2.2.2.2.2.2.2.1) (by rw [q 448 2 (by omega) (by omega) (by omega)]; exact h.2.2.2.2.2.2.2.2.1) (fun i hi => by
        unfold bC
        rw [q 446 i (by omega) (by omega) (by omega), q 449 i (by omega) (by omega) (by omega)]; exact h.2.2.2.2.2.2.2.2.2.1 i hi) (fun i => by rw [q 446 i (by omega) (by omega) (by omega)]; exact h.2.2.2.2.2.2.2.2.2.2.1 i)
      exact ⟨q0, n, Nat.le_refl _, g1, by omega, by omega⟩
end MPs
