/-! part 47zzzr: the first fault: as a plain statement; the component's (gen/tpl.py) -/
def sB (B : Nat → Int32) : Nat → Bool
  | 0 => true
  | k + 1 => !(sB B k && decide (B (8 * k) = 24))
def nxC (I : In) (p : Nat) : Nat := if I.c = 24 then p + 2 else p + 1
def jmI (I : In) : Prop := (kd I.c = 5 ∨ kd I.c = 6) ∧ I.c ≠ 133 ∧ I.c ≠ 149
def lvI (I : In) : Prop := I.c = 5 ∨ I.c = 6 ∨ I.c = 149
def gW (B : Nat → Int32) (all p : Nat) : Prop := (lvI (IB B p) ∨ (nxC (IB B p) p < all ∧ sB B (nxC (IB B p) p) = true)) ∧ (jmI (IB B p) → ∃ g, g < all ∧ glI (IB B p) p = Int32.ofNat g ∧ sB B g = true)
def FR2 (B : Nat → Int32) (all : Nat) (r : Int32) : Prop := (∃ p, p < all ∧ sB B p = true ∧ ¬ gW B all p ∧ (∀ j, j < p → sB B j = true → gW B all j) ∧ r = Int32.ofNat p) ∨ ((∀ j, j < all → sB B j = true → gW B all j) ∧ r = -1)
def FR (B : Nat → Int32) (n : Nat) (r : Int32) : Prop := (∃ p, p < n / 8 ∧ sB B p = true ∧ ¬ okI B (n / 8) p ∧ (∀ j, j < p → sB B j = true → okI B (n / 8) j) ∧ r = Int32.ofNat p) ∨ ((∀ j, j < n / 8 → sB B j = true → okI B (n / 8) j) ∧ (((n % 8 ≠ 0 ∨ n / 8 = 0) ∧ r = Int32.ofNat (n / 8)) ∨ (n % 8 = 0 ∧ n / 8 ≠ 0 ∧ FR2 B (n / 8) r)))
theorem first_eq {P Q : Nat → Prop} {p p' : Nat} (h1 : P p) (h2 : ¬ Q p) (h3 : ∀ j, j < p → P j → Q j) (h1' : P p') (h2' : ¬ Q p') (h3' : ∀ j, j < p' → P j → Q j) : p = p' := by
  rcases Nat.lt_trichotomy p p' with c | c | c
  · exact absurd (h3' p c h1) h2
  · exact c
  · exact absurd (h3 p' c h1') h2'
theorem FR2.one {B : Nat → Int32} {all : Nat} {r r' : Int32} (h : FR2 B all r) (h' : FR2 B all r') : r = r' := by
  rcases h with ⟨p, a1, a2, a3, a4, a5⟩ | ⟨a1, a2⟩
  · rcases h' with ⟨q, b1, b2, b3, b4, b5⟩ | ⟨b1, b2⟩
    · rw [a5, b5, first_eq (P := fun j => sB B j = true) (Q := gW B all) a2 a3 a4 b2 b3 b4]
    · exact absurd (b1 p a1 a2) a3
  · rcases h' with ⟨q, b1, b2, b3, b4, b5⟩ | ⟨b1, b2⟩
    · exact absurd (a1 q b1 b2) b3
    · rw [a2, b2]
theorem FR.one {B : Nat → Int32} {n : Nat} {r r' : Int32} (h : FR B n r) (h' : FR B n r') : r = r' := by
  rcases h with ⟨p, a1, a2, a3, a4, a5⟩ | ⟨a1, a2⟩
  · rcases h' with ⟨q, b1, b2, b3, b4, b5⟩ | ⟨b1, b2⟩
    · rw [a5, b5, first_eq (P := fun j => sB B j = true) (Q := okI B (n / 8)) a2 a3 a4 b2 b3 b4]
    · exact absurd (b1 p a1 a2) a3
  · rcases h' with ⟨q, b1, b2, b3, b4, b5⟩ | ⟨b1, b2⟩
    · exact absurd (a1 q b1 b2) b3
    · rcases a2 with ⟨c1, c2⟩ | ⟨c1, c2, c3⟩
      · rcases b2 with ⟨d1, d2⟩ | ⟨d1, d2, d3⟩
        · rw [c2, d2]
        · rcases c1 with c1 | c1
          · exact absurd d1 c1
          · exact absurd c1 d2
      · rcases b2 with ⟨d1, d2⟩ | ⟨d1, d2, d3⟩
        · rcases d1 with d1 | d1
          · exact absurd c1 d1
          · exact absurd d1 c2
        · exact c3.one d3
theorem div8 {n : Nat} (h : n ≤ 8192) : (Int32.ofNat n / 8 = Int32.ofNat (n / 8)) ∧ (j_irem (Int32.ofNat n) 8 = 0 ↔ n % 8 = 0) := by
  have e8 : (8 : Int32).toInt = 8 := rfl
  have en : (Int32.ofNat n).toInt = (n : Int) := toInt_ofNat32 (by omega)
  constructor
  · apply Int32.toInt_inj.mp
    rw [Int32.toInt_div, en, e8, toInt_ofNat32 (by omega), Int.tdiv_eq_ediv_of_nonneg (by omega)]
    rw [Int.bmod_eq_of_le (by omega) (by omega)]
    omega
  · rw [irem_0 (by rw [en]; omega) (by rw [en]; omega) (by decide), en, e8]
    omega
def FF (M X : XM) : Prop := X.2 = M.2 ∧ ∀ a i, ¬ (a = 104 ∨ (a = 102 ∧ i = 2)) → mI X a i = mI M a i
theorem FF.rf {M : XM} : FF M M := ⟨rfl, fun _ _ _ => rfl⟩
theorem FF.trans {M M1 M2 : XM} (h : FF M M1) (h' : FF M1 M2) : FF M M2 := ⟨h'.1.trans h.1, fun a i z => (h'.2 a i z).trans (h.2 a i z)⟩
theorem FF.w4 {M : XM} {i : Nat} {v : Int32} : FF M (wI M 104 i v) := ⟨rfl, fun a j z => by rw [mI_wI, if_neg (fun q => z (Or.inl q.1))]⟩
theorem FF.sh {M X : XM} (h : FF M X) (s : Sh M) : Sh X := s.kept (by rw [h.1])
theorem FF.bc {M X : XM} (h : FF M X) : bC X 103 = bC M 103 := by
  funext i
  unfold bC
  rw [h.2 103 i (by omega)]
section FT2
variable {M : XM} {all n : Nat}
/-- what stands while places are looked at -/
def FS (B : Nat → Int32) (n : Nat) (X : XM) : Prop := Sh X ∧ bC X 103 = B ∧ mI X 102 2 = Int32.ofNat (n / 8) ∧ mI X 102 1 = Int32.ofNat n
theorem fault_b {B : Nat → Int32} (hn : n ≤ 8192) {p : Nat} (hp : p < n / 8) (h : FS B n M) (sec : ∀ j, j < n / 8 → (mI M 104 j = 0 ↔ sB B j = true)) : FL (g_FormCheck_goesWell 105 (Int32.ofNat p) M) (gW B (n / 8) p) ∧ K_FormCheck_goesWell 105 (Int32.ofNat p) M := by
  obtain ⟨s, eb, h2, h1⟩ := h
  have in5 := c_in5 s (p := p) (by omega)
  rw [eb] at in5
  have isT : ∀ x : Int32, FL (g_FormCheck_isThere 105 x M) (∃ g, g < n / 8 ∧ x = Int32.ofNat g ∧ sB B g = true) ∧ K_FormCheck_isThere 105 x M := by
    intro x
    unfold g_FormCheck_isThere K_FormCheck_isThere g_FormCheck_isThere_0 K_FormCheck_isThere_0
    rw [s.R105_0, h2, s.R102_3]
    have nat : ¬ x < 0 → x = Int32.ofNat (ix x) ∧ ((ix x : Nat) : Int) = x.toInt := by
      intro z
      have : ¬ x.toInt < (0 : Int32).toInt := fun q => z (lt_u3.mpr q)
      have e0 : (0 : Int32).toInt = 0 := rfl
      have e1 : ((ix x : Nat) : Int) = x.toInt := by
        show ((x.toInt.toNat : Nat) : Int) = x.toInt
        omega
      have lt := Int32.toInt_lt x
      refine ⟨Int32.toInt_inj.mp ?_, e1⟩
      rw [toInt_ofNat32 (by omega), e1]
    constructor
    · refine FL.ite (fun c => FL.ff ?_) (fun c => FL.ite (fun c2 => FL.ff ?_) (fun c2 => ?_))
      · rintro ⟨g, g1, g2, _⟩
        rw [g2, lt_u3, toInt_ofNat32 (by omega)] at c
        have e0 : (0 : Int32).toInt = 0 := rfl
        omega
      · rintro ⟨g, g1, g2, _⟩
        rw [g2, le_ofNat (by omega) (by omega)] at c2
        omega
      · obtain ⟨x1, x2⟩ := nat c
        have lt := Int32.toInt_lt x
        have gl : ix x < n / 8 := by
          rw [x1, le_ofNat (by omega) (by omega)] at c2
          omega
        refine FL.ite (fun c3 => FL.tt ⟨ix x, gl, x1, (sec _ gl).mp c3⟩) (fun c3 => FL.ff ?_)
        rintro ⟨g, g1, g2, g3⟩
        have : ix x = g := by rw [g2]; exact ixN (by omega)
        rw [this] at c3
        exact c3 ((sec g g1).mpr g3)
    · refine fun c => ⟨s.T105, s.T102, fun c2 => ⟨s.T105, s.T102, s.T104, ?_⟩⟩
      obtain ⟨x1, x2⟩ := nat c
      have lt := Int32.toInt_lt x
      rw [s.N104, x1]
      rw [x1, le_ofNat (by omega) (by omega)] at c2
      exact vpN (by omega) (by omega)
  have kk : g_Program_kind 102 (Int32.ofNat p) M = kd (IB B p).c ∧ K_Program_kind 102 (Int32.ofNat p) M := ⟨by show g_Program_code 102 (Int32.ofNat p) M &&& 7 = _; rw [in5.1.1]; rfl, s.T102, in5.1.2⟩
  have lv : FL (g_Program_leaves 102 (Int32.ofNat p) M) (lvI (IB B p)) ∧ K_Program_leaves 102 (Int32.ofNat p) M := by
    unfold g_Program_leaves K_Program_leaves g_Program_leaves_0 K_Program_leaves_0 g_Program_leaves_30 lvI
    rw [in5.1.1]
    refine ⟨FL.ite (fun c => FL.tt (Or.inl c)) (fun c => FL.ite (fun c2 => FL.tt (Or.inr (Or.inl c2))) (fun c2 => FL.ite (fun c3 => FL.tt (Or.inr (Or.inr c3))) (fun c3 => FL.ff (fun z => z.elim c (fun z => z.elim c2 c3))))), ?_⟩
    exact ⟨s.T102, in5.1.2, fun _ => ⟨s.T102, in5.1.2, fun _ => ⟨s.T102, in5.1.2⟩⟩⟩
  have jm : FL (g_Program_isJump 102 (Int32.ofNat p) M) (jmI (IB B p)) ∧ K_Program_isJump 102 (Int32.ofNat p) M := by
    unfold g_Program_isJump K_Program_isJump g_Program_isJump_0 K_Program_isJump_0 g_Program_isJump_19 K_Program_isJump_19 jmI
    rw [kk.1, in5.1.1]
    have q : ∀ P : Prop, (P ↔ ((IB B p).c ≠ 133 ∧ (IB B p).c ≠ 149)) → FL (if (IB B p).c = 133 then (0 : Int32) else if (IB B p).c = 149 then 0 else 1) P := fun P hP => FL.ite (fun c => FL.ff (fun z => (hP.mp z).1 c)) (fun c => FL.ite (fun c2 => FL.ff (fun z => (hP.mp z).2 c2)) (fun c2 => FL.tt (hP.mpr ⟨c, c2⟩)))
    refine ⟨FL.ite (fun c => q _ ⟨fun z => z.2, fun z => ⟨Or.inl c, z⟩⟩) (fun c => FL.ite (fun c2 => q _ ⟨fun z => z.2, fun z => ⟨Or.inr c2, z⟩⟩) (fun c2 => FL.ff (fun z => z.1.elim c c2))), ?_⟩
    exact ⟨s.T102, kk.2, fun _ => ⟨s.T102, in5.1.2, fun _ => ⟨s.T102, in5.1.2⟩⟩, fun _ => ⟨s.T102, kk.2, fun _ => ⟨s.T102, in5.1.2, fun _ => ⟨s.T102, in5.1.2⟩⟩⟩⟩
  have nx : g_Program_next 102 (Int32.ofNat p) M = Int32.ofNat (nxC (IB B p) p) ∧ K_Program_next 102 (Int32.ofNat p) M := by
    unfold g_Program_next K_Program_next g_Program_next_0 K_Program_next_0 g_Program_isWide K_Program_isWide g_Program_isWide_0 K_Program_isWide_0 nxC
    rw [in5.1.1]
    refine ⟨?_, s.T102, s.T102, in5.1.2⟩
    simp only [f10]
    by_cases c : (IB B p).c = 24
    · rw [if_neg (fun z => z c), if_pos c, Int32.ofNat_add]; rfl
    · rw [if_pos c, if_neg c, add1_32]
  have tg : g_Program_target 102 (Int32.ofNat p) M = glI (IB B p) p ∧ K_Program_target 102 (Int32.ofNat p) M := by
    unfold g_Program_target K_Program_target g_Program_target_0 K_Program_target_0 g_Program_target_26 glI
    rw [in5.1.1, in5.2.2.2.1.1, in5.2.2.2.2.1]
    exact ⟨rfl, s.T102, in5.1.2, fun _ => ⟨s.T102, in5.2.2.2.2.2⟩, fun _ => ⟨s.T102, in5.2.2.2.1.2⟩⟩
  have th1 := isT (Int32.ofNat (nxC (IB B p) p))
  have th2 := isT (glI (IB B p) p)
  have nxl : nxC (IB B p) p < 2147483648 := by unfold nxC; split <;> omega
  have nxe : (∃ g, g < n / 8 ∧ Int32.ofNat (nxC (IB B p) p) = Int32.ofNat g ∧ sB B g = true) ↔ (nxC (IB B p) p < n / 8 ∧ sB B (nxC (IB B p) p) = true) := by
    constructor
    · rintro ⟨g, g1, g2, g3⟩
      have : nxC (IB B p) p = g := by
        have := congrArg ix g2
        rw [ixN nxl, ixN (by omega)] at this
        exact this
      rw [this]; exact ⟨g1, g3⟩
    · intro z; exact ⟨_, z.1, rfl, z.2⟩
  unfold g_FormCheck_goesWell K_FormCheck_goesWell g_FormCheck_goesWell_0 K_FormCheck_goesWell_0 g_FormCheck_goesWell_26 K_FormCheck_goesWell_26 g_FormCheck_goesWell_52
  rw [s.R105_0, nx.1, tg.1]
  constructor
  · unfold gW
    have G26 : (lvI (IB B p) ∨ (nxC (IB B p) p < n / 8 ∧ sB B (nxC (IB B p) p) = true)) → FL (if g_Program_isJump 102 (Int32.ofNat p) M = 0 then (1 : Int32) else if g_FormCheck_isThere 105 (glI (IB B p) p) M = 0 then 0 else 1) ((lvI (IB B p) ∨ (nxC (IB B p) p < n / 8 ∧ sB B (nxC (IB B p) p) = true)) ∧ (jmI (IB B p) → ∃ g, g < n / 8 ∧ glI (IB B p) p = Int32.ofNat g ∧ sB B g = true)) := fun y => FL.ite (fun c => FL.tt ⟨y, fun z => absurd z (jm.1.z.mp c)⟩) (fun c => FL.ite (fun c2 => FL.ff (fun z => th2.1.z.mp c2 (z.2 (jm.1.zn.mp c)))) (fun c2 => FL.tt ⟨y, fun _ => th2.1.zn.mp c2⟩))
    refine FL.ite (fun c => FL.ite (fun c2 => FL.ff (fun z => ?_)) (fun c2 => G26 (Or.inr (nxe.mp (th1.1.zn.mp c2))))) (fun c => G26 (Or.inl (lv.1.zn.mp c)))
    rcases z.1 with q | q
    · exact lv.1.z.mp c q
    · exact th1.1.z.mp c2 (nxe.mpr q)
  · repeat' (first | exact s.T105 | exact s.T102 | exact lv.2 | exact nx.2 | exact tg.2 | exact jm.2 | exact th1.2 | exact th2.2 | refine ⟨?_, ?_⟩ | intro _)
theorem fault_137 {B : Nat → Int32} (hn : n ≤ 8192) (h : FS B n M) (sec : ∀ j, j < n / 8 → (mI M 104 j = 0 ↔ sB B j = true)) : ∀ (m k f : Nat), k + m = n / 8 → m < f → (∀ j, j < k → sB B j = true → gW B (n / 8) j) → K_FormCheck_fault_137 f 105 (Int32.ofNat k) M ∧ (g_FormCheck_fault_137 f 105 (Int32.ofNat k) M).2 = M ∧ FR2 B (n / 8) (g_FormCheck_fault_137 f 105 (Int32.ofNat k) M).1 := by
  obtain ⟨s, eb, h2, h1⟩ := id h
  intro m
  induction m with
  | zero =>
    intro k f km mf gd
    obtain ⟨f, rfl⟩ : ∃ f', f = f' + 1 := ⟨f - 1, by omega⟩
    conv => unfold K_FormCheck_fault_137 g_FormCheck_fault_137
    have le : Int32.ofNat (n / 8) ≤ Int32.ofNat k := (le_ofNat (by omega) (by omega)).mpr (by omega)
    rw [s.R105_0, h2, if_pos le]
    exact ⟨⟨s.T105, s.T102, fun z => absurd le z⟩, rfl, Or.inr ⟨fun j hj => gd j (by omega), rfl⟩⟩
  | succ m ih =>
    intro k f km mf gd
    obtain ⟨f, rfl⟩ : ∃ f', f = f' + 1 := ⟨f - 1, by omega⟩
    conv => unfold K_FormCheck_fault_137 g_FormCheck_fault_137
    have le : ¬ Int32.ofNat (n / 8) ≤ Int32.ofNat k := fun z => by have := (le_ofNat (by omega) (by omega)).mp z; omega
    have hk : k < n / 8 := by omega
    rw [s.R105_0, h2, if_neg le, s.R102_3, ixN (by omega), s.N104]
    unfold K_FormCheck_fault_170 g_FormCheck_fault_170
    rw [add1_32]
    have vk : vp_in (Int32.ofNat k) 1025 := vpN (by omega) (by omega)
    obtain ⟨w1, w2⟩ := fault_b hn hk h sec
    by_cases c : mI M 104 k = 0
    · have sk := (sec k hk).mp c
      rw [if_pos c]
      by_cases cg : g_FormCheck_goesWell 105 (Int32.ofNat k) M = 0
      · rw [if_pos cg]
        exact ⟨⟨s.T105, s.T102, fun _ => ⟨s.T105, s.T102, s.T104, vk, fun _ => ⟨s.T105, w2, fun z => absurd cg z⟩, fun z => absurd c z⟩⟩, rfl, Or.inl ⟨k, hk, sk, w1.z.mp cg, gd, rfl⟩⟩
      · rw [if_neg cg]
        obtain ⟨i1, i2, i3⟩ := ih (k + 1) f (by omega) (by omega) (fun j hj sj => by
          by_cases q : j = k
          · rw [q]; exact w1.zn.mp cg
          · exact gd j (by omega) sj)
        exact ⟨⟨s.T105, s.T102, fun _ => ⟨s.T105, s.T102, s.T104, vk, fun _ => ⟨s.T105, w2, fun _ => i1⟩, fun z => absurd c z⟩⟩, i2, i3⟩
    · rw [if_neg c]
      obtain ⟨i1, i2, i3⟩ := ih (k + 1) f (by omega) (by omega) (fun j hj sj => by
        by_cases q : j = k
        · rw [q] at sj; exact absurd ((sec k hk).mpr sj) c
        · exact gd j (by omega) sj)
      exact ⟨⟨s.T105, s.T102, fun _ => ⟨s.T105, s.T102, s.T104, vk, fun z => absurd z c, fun _ => i1⟩⟩, i2, i3⟩
end FT2
