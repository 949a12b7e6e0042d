/-! part 47zzzo: the form of a place, as a plain statement; the component's (gen/tpl.py) -/
def hsS (I : In) : Prop := (rg I.c = 0 ∧ I.s = 0) ∨ (¬ rg I.c = 0 ∧ I.s < 11 ∧ I.i = 0)
def wdI (i : Int32) : Prop := i = 16 ∨ i = 32 ∨ i = 64
def okT (I : In) : Prop := (I.i = 0 ∨ I.i = 1 ∨ I.i = 64 ∨ I.i = 65 ∨ I.i = 80 ∨ I.i = 81 ∨ I.i = 160 ∨ I.i = 161 ∨ I.i = 225 ∨ I.i = 241) ∧ 4 ≤ sz I.c ∧ (¬ I.i &&& 1 = 1 ∨ I.i = 241 ∨ I.s < 10)
def okTu (I : In) : Prop := I.s = 0 ∧ I.o = 0 ∧ wdI I.i ∧ (kd I.c = 4 ∨ rg I.c = 0)
def okA (I : In) : Prop := I.d < 10 ∧ nm I.c ≤ 13 ∧ ((nm I.c = 13 ∧ okTu I) ∨ (nm I.c = 8 ∧ rg I.c = 0 ∧ I.s = 0 ∧ I.i = 0 ∧ I.o = 0) ∨ (¬ nm I.c = 13 ∧ ¬ nm I.c = 8 ∧ hsS I ∧ (I.o = 0 ∨ ((nm I.c = 3 ∨ nm I.c = 9) ∧ I.o = 1) ∨ (nm I.c = 11 ∧ ¬ rg I.c = 0 ∧ (I.o = 8 ∨ I.o = 16 ∨ (I.o = 32 ∧ kd I.c = 7))))))
def okJ (I : In) : Prop := (I.c = 5 ∧ I.d = 0 ∧ I.s = 0 ∧ I.i = 0) ∨ (I.c = 6 ∧ I.d = 0 ∧ I.s = 0 ∧ I.o = 0) ∨ (I.c = 133 ∧ I.d = 0 ∧ I.s = 0 ∧ I.o = 0) ∨ (I.c = 149 ∧ I.d = 0 ∧ I.s = 0 ∧ I.o = 0 ∧ I.i = 0) ∨ (I.c ≠ 5 ∧ I.c ≠ 6 ∧ I.c ≠ 133 ∧ I.c ≠ 149 ∧ 0 < nm I.c ∧ nm I.c < 14 ∧ nm I.c ≠ 8 ∧ nm I.c ≠ 9 ∧ I.d < 11 ∧ hsS I)
def okC (I : In) : Prop := I.d < 11 ∧ I.s < 11 ∧ ((kd I.c = 1 ∧ I.d < 10 ∧ I.i = 0 ∧ (md I.c = 3 ∨ (md I.c = 4 ∧ sz I.c < 8))) ∨ (kd I.c = 2 ∧ I.s = 0 ∧ md I.c = 3) ∨ (¬ kd I.c = 1 ∧ ¬ kd I.c = 2 ∧ ((md I.c = 3 ∧ I.i = 0) ∨ (md I.c = 6 ∧ okT I))))
def okW (I : In) (all p : Nat) (z : Prop) : Prop := I.c = 24 ∧ I.d < 10 ∧ I.s < 2 ∧ I.o = 0 ∧ p + 1 < all ∧ z ∧ (I.s = 0 ∨ (0 ≤ I.i ∧ I.j = 0))
def okI (B : Nat → Int32) (all p : Nat) : Prop := (kd (IB B p).c = 0 ∧ okW (IB B p) all p (imB B (8 * p + 8) = 0)) ∨ ((kd (IB B p).c = 1 ∨ kd (IB B p).c = 2 ∨ kd (IB B p).c = 3) ∧ okC (IB B p)) ∨ ((kd (IB B p).c = 5 ∨ kd (IB B p).c = 6) ∧ okJ (IB B p)) ∨ ((kd (IB B p).c = 4 ∨ kd (IB B p).c = 7) ∧ okA (IB B p))
/-- a flag says whether -/
def FL (g : Int32) (P : Prop) : Prop := (P → g = 1) ∧ (¬ P → g = 0)
theorem FL.iff {g : Int32} {P Q : Prop} (h : FL g P) (e : P ↔ Q) : FL g Q := ⟨fun z => h.1 (e.mpr z), fun z => h.2 (fun q => z (e.mp q))⟩
theorem FL.tt {P : Prop} (h : P) : FL 1 P := ⟨fun _ => rfl, fun z => absurd h z⟩
theorem FL.ff {P : Prop} (h : ¬ P) : FL 0 P := ⟨fun z => absurd z h, fun _ => rfl⟩
theorem FL.z {g : Int32} {P : Prop} (h : FL g P) : g = 0 ↔ ¬ P := ⟨fun z q => by rw [h.1 q] at z; exact absurd z i1_0, h.2⟩
theorem FL.zn {g : Int32} {P : Prop} (h : FL g P) : ¬ g = 0 ↔ P := ⟨fun z => Classical.not_not.mp (fun q => z (h.2 q)), fun z q => by rw [h.1 z] at q; exact absurd q i1_0⟩
theorem FL.jz {g : Int32} {P : Prop} (h : FL g P) : FL (j_z g) P := ⟨fun z => by rw [h.1 z]; rfl, fun z => by rw [h.2 z]; rfl⟩
theorem FL.ite {c : Prop} [Decidable c] {a b : Int32} {P : Prop} (h1 : c → FL a P) (h2 : ¬ c → FL b P) : FL (if c then a else b) P := by
  by_cases q : c
  · rw [if_pos q]; exact h1 q
  · rw [if_neg q]; exact h2 q
theorem reg_le : ∀ d : Fin 16, ((10 : Int32) ≤ Int32.ofNat d.val ↔ ¬ d.val < 10) ∧ ((10 : Int32) < Int32.ofNat d.val ↔ ¬ d.val < 11) ∧ ((2 : Int32) ≤ Int32.ofNat d.val ↔ ¬ d.val < 2) ∧ (Int32.ofNat d.val = 0 ↔ d.val = 0) ∧ (Int32.ofNat d.val < 11 ↔ d.val < 11) ∧ (Int32.ofNat d.val < 10 ↔ d.val < 10) ∧ (Int32.ofNat d.val < 2 ↔ d.val < 2) ∧ ((9 : Int32) < Int32.ofNat d.val ↔ ¬ d.val < 10) := by decide +kernel
theorem nib : ∀ m : Fin 256, ix (Int32.ofNat m.val &&& 15) < 16 ∧ ix (j_ishr (Int32.ofNat m.val) 4) < 16 := by decide +kernel
theorem IB_ds {B : Nat → Int32} (hb : BYT B) {p : Nat} (hp : p < 1024) : (IB B p).d < 16 ∧ (IB B p).s < 16 ∧ ∃ m, m < 256 ∧ (IB B p).c = Int32.ofNat m := by
  obtain ⟨m, hm, e⟩ := hb (8 * p + 1) (by omega)
  obtain ⟨m', hm', e'⟩ := hb (8 * p) (by omega)
  rw [IB_at hp]
  obtain ⟨n1, n2⟩ := nib ⟨m, hm⟩
  refine ⟨?_, ?_, m', hm', e'⟩
  · show ix (B (8 * p + 1) &&& 15) < 16
    rw [e]; exact n1
  · show ix (j_ishr (B (8 * p + 1)) 4) < 16
    rw [e]; exact n2
section CFo
variable {M : XM} {p : Nat} {I : In}
theorem f_taker {d : Nat} (hd : d < 16) : FL (g_FormCheck_isTaker (Int32.ofNat d)) (d < 10) := by
  obtain ⟨r1, _⟩ := reg_le ⟨d, hd⟩
  unfold g_FormCheck_isTaker g_FormCheck_isTaker_0
  exact FL.ite (fun c => FL.ff (r1.mp c)) (fun c => FL.tt (Decidable.not_not.mp (fun z => c (r1.mpr z))))
theorem f_reg {d : Nat} (hd : d < 16) : FL (g_FormCheck_isRegister (Int32.ofNat d)) (d < 11) := by
  obtain ⟨_, r1, _⟩ := reg_le ⟨d, hd⟩
  unfold g_FormCheck_isRegister g_FormCheck_isRegister_0
  exact FL.ite (fun c => FL.ff (r1.mp c)) (fun c => FL.tt (Decidable.not_not.mp (fun z => c (r1.mpr z))))
theorem f_width (i : Int32) : FL (g_FormCheck_isWidth i) (wdI i) := by
  unfold g_FormCheck_isWidth g_FormCheck_isWidth_0 g_FormCheck_isWidth_18 wdI
  exact FL.ite (fun c => FL.tt (Or.inl c)) (fun c => FL.ite (fun c' => FL.tt (Or.inr (Or.inl c'))) (fun c' => FL.ite (fun c'' => FL.tt (Or.inr (Or.inr c''))) (fun c'' => FL.ff (fun z => z.elim c (fun z => z.elim c' c'')))))
theorem f_source (s : Sh M) (h : InC M (Int32.ofNat p) I) (hs : I.s < 16) : FL (g_FormCheck_isSource 105 (Int32.ofNat p) M) (hsS I) ∧ K_FormCheck_isSource 105 (Int32.ofNat p) M := by
  obtain ⟨_, _, _, z0, _⟩ := reg_le ⟨I.s, hs⟩
  obtain ⟨r1, r2⟩ := h.reg s
  unfold g_FormCheck_isSource K_FormCheck_isSource g_FormCheck_isSource_0 K_FormCheck_isSource_0 g_FormCheck_isSource_40
  rw [s.R105_0, r1, h.2.2.1.1, h.2.2.2.2.1.1]
  constructor
  · unfold hsS
    exact FL.ite (fun c => FL.ite (fun c' => FL.tt (Or.inl ⟨c, z0.mp c'⟩)) (fun c' => FL.ff (fun z => z.elim (fun z => c' (z0.mpr z.2)) (fun z => z.1 c)))) (fun c => FL.ite (fun c' => FL.ff (fun z => z.elim (fun z => c z.1) (fun z => (f_reg hs).z.mp c' z.2.1))) (fun c' => FL.ite (fun ci => FL.tt (Or.inr ⟨c, (f_reg hs).zn.mp c', ci⟩)) (fun ci => FL.ff (fun z => z.elim (fun z => c z.1) (fun z => ci z.2.2)))))
  · repeat' (first | exact s.T105 | exact s.T102 | exact r2 | exact h.2.2.1.2 | exact h.2.2.2.2.1.2 | refine ⟨?_, ?_⟩ | intro _)
theorem f_turn (s : Sh M) (h : InC M (Int32.ofNat p) I) (hs : I.s < 16) : FL (g_FormCheck_isTurn 105 (Int32.ofNat p) M) (okTu I) ∧ K_FormCheck_isTurn 105 (Int32.ofNat p) M := by
  obtain ⟨_, _, _, z0, _⟩ := reg_le ⟨I.s, hs⟩
  obtain ⟨r1, r2⟩ := h.reg s
  obtain ⟨k1, k2⟩ := h.kind s
  unfold g_FormCheck_isTurn K_FormCheck_isTurn g_FormCheck_isTurn_0 K_FormCheck_isTurn_0 g_FormCheck_isTurn_59
  rw [s.R105_0, r1, k1, h.2.2.1.1, h.2.2.2.1.1, h.2.2.2.2.1.1]
  constructor
  · unfold okTu
    exact FL.ite (fun c => FL.ite (fun c' => FL.ite (fun cw => FL.ff (fun z => (f_width _).z.mp cw z.2.2.1)) (fun cw => FL.ite (fun c4 => FL.tt ⟨z0.mp c, c', (f_width _).zn.mp cw, Or.inl c4⟩) (fun c4 => FL.ite (fun cr => FL.tt ⟨z0.mp c, c', (f_width _).zn.mp cw, Or.inr cr⟩) (fun cr => FL.ff (fun z => z.2.2.2.elim c4 cr))))) (fun c' => FL.ff (fun z => c' z.2.1))) (fun c => FL.ff (fun z => c (z0.mpr z.1)))
  · repeat' (first | exact s.T105 | exact s.T102 | exact r2 | exact k2 | exact h.2.2.1.2 | exact h.2.2.2.1.2 | exact h.2.2.2.2.1.2 | refine ⟨?_, ?_⟩ | intro _)
theorem f_atomic (s : Sh M) (h : InC M (Int32.ofNat p) I) (hs : I.s < 16) : FL (g_FormCheck_isAtomic 105 (Int32.ofNat p) M) (okT I) ∧ K_FormCheck_isAtomic 105 (Int32.ofNat p) M := by
  obtain ⟨b1, b2⟩ := h.size s
  have A100 : ∀ x3 s0 : Int32, (x3 = 0 ↔ ¬ I.i &&& 1 = 1) → (s0 = 0 ↔ ¬ (I.i = 0 ∨ I.i = 1 ∨ I.i = 64 ∨ I.i = 65 ∨ I.i = 80 ∨ I.i = 81 ∨ I.i = 160 ∨ I.i = 161 ∨ I.i = 225 ∨ I.i = 241)) → FL (g_FormCheck_isAtomic_100 105 (Int32.ofNat p) I.i x3 s0 M) (okT I) ∧ K_FormCheck_isAtomic_100 105 (Int32.ofNat p) I.i x3 s0 M := by
    intro x3 s0 h3 h0
    unfold g_FormCheck_isAtomic_100 K_FormCheck_isAtomic_100 g_FormCheck_isAtomic_144
    rw [s.R105_0, b1, h.2.2.1.1]
    constructor
    · unfold okT
      exact FL.ite (fun c => FL.ff (fun z => h0.mp c z.1)) (fun c => FL.ite (fun c4 => FL.ff (fun z => absurd z.2.1 (Int32.not_le.mpr c4))) (fun c4 => FL.ite (fun c3 => FL.tt ⟨Classical.not_not.mp (fun z => c (h0.mpr z)), Int32.not_lt.mp c4, Or.inl (h3.mp c3)⟩) (fun c3 => FL.ite (fun c2 => FL.tt ⟨Classical.not_not.mp (fun z => c (h0.mpr z)), Int32.not_lt.mp c4, Or.inr (Or.inl c2)⟩) (fun c2 => FL.ite (fun ct => FL.ff (fun z => z.2.2.elim (fun z => c3 (h3.mpr z)) (fun z => z.elim c2 ((f_taker hs).z.mp ct)))) (fun ct => FL.tt ⟨Classical.not_not.mp (fun z => c (h0.mpr z)), Int32.not_lt.mp c4, Or.inr (Or.inr ((f_taker hs).zn.mp ct))⟩)))))
    · repeat' (first | exact s.T105 | exact s.T102 | exact b2 | exact h.2.2.1.2 | refine ⟨?_, ?_⟩ | intro _)
  have A21 : ∀ x3 : Int32, (x3 = 0 ↔ ¬ I.i &&& 1 = 1) → FL (g_FormCheck_isAtomic_21 105 (Int32.ofNat p) I.i x3 M) (okT I) ∧ K_FormCheck_isAtomic_21 105 (Int32.ofNat p) I.i x3 M := by
    intro x3 h3
    have yes : (I.i = 0 ∨ I.i = 1 ∨ I.i = 64 ∨ I.i = 65 ∨ I.i = 80 ∨ I.i = 81 ∨ I.i = 160 ∨ I.i = 161 ∨ I.i = 225 ∨ I.i = 241) → FL (g_FormCheck_isAtomic_100 105 (Int32.ofNat p) I.i x3 1 M) (okT I) ∧ K_FormCheck_isAtomic_100 105 (Int32.ofNat p) I.i x3 1 M := fun z => A100 x3 1 h3 ⟨fun q => absurd q i1_0, fun q => absurd z q⟩
    unfold g_FormCheck_isAtomic_21 K_FormCheck_isAtomic_21 g_FormCheck_isAtomic_69 K_FormCheck_isAtomic_69 g_FormCheck_isAtomic_74 K_FormCheck_isAtomic_74 g_FormCheck_isAtomic_95 K_FormCheck_isAtomic_95
    by_cases c0 : I.i = 0
    · have y := yes (Or.inl c0)
      simp only [c0, if_true, i1_0, if_false] at y ⊢
      exact ⟨y.1, by simp [y.2]⟩
    by_cases c1 : I.i = 1
    · have y := yes (Or.inr (Or.inl c1))
      simp only [c0, c1, if_true, i1_0, if_false] at y ⊢
      exact ⟨y.1, by simp [y.2]⟩
    by_cases c2 : I.i = 64
    · have y := yes (Or.inr (Or.inr (Or.inl c2)))
      simp only [c0, c1, eq_true c2, if_true, i1_0, if_false]
      exact ⟨y.1, by simp [y.2]⟩
    by_cases c3 : I.i = 65
    · have y := yes (Or.inr (Or.inr (Or.inr (Or.inl c3))))
      simp only [c0, c1, c2, eq_true c3, if_true, i1_0, if_false]
      exact ⟨y.1, by simp [y.2]⟩
    by_cases c4 : I.i = 80
    · have y := yes (Or.inr (Or.inr (Or.inr (Or.inr (Or.inl c4)))))
      simp only [c0, c1, c2, c3, eq_true c4, if_true, i1_0, if_false]
      exact ⟨y.1, by simp [y.2]⟩
    by_cases c5 : I.i = 81
    · have y := yes (Or.inr (Or.inr (Or.inr (Or.inr (Or.inr (Or.inl c5))))))
      simp only [c0, c1, c2, c3, c4, eq_true c5, if_true, i1_0, if_false]
      exact ⟨y.1, by simp [y.2]⟩
    by_cases c6 : I.i = 160
    · have y := yes (Or.inr (Or.inr (Or.inr (Or.inr (Or.inr (Or.inr (Or.inl c6)))))))
      simp only [c0, c1, c2, c3, c4, c5, eq_true c6, if_true, i1_0, if_false]
      exact ⟨y.1, by simp [y.2]⟩
    by_cases c7 : I.i = 161
    · have y := yes (Or.inr (Or.inr (Or.inr (Or.inr (Or.inr (Or.inr (Or.inr (Or.inl c7))))))))
      simp only [c0, c1, c2, c3, c4, c5, c6, eq_true c7, if_true, i1_0, if_false]
      exact ⟨y.1, by simp [y.2]⟩
    by_cases c8 : I.i = 225
    · have y := yes (Or.inr (Or.inr (Or.inr (Or.inr (Or.inr (Or.inr (Or.inr (Or.inr (Or.inl c8)))))))))
      simp only [c0, c1, c2, c3, c4, c5, c6, c7, eq_true c8, if_true, if_false]
      exact ⟨y.1, by simp [y.2]⟩
    by_cases c9 : I.i = 241
    · have y := yes (Or.inr (Or.inr (Or.inr (Or.inr (Or.inr (Or.inr (Or.inr (Or.inr (Or.inr c9)))))))))
      simp only [c0, c1, c2, c3, c4, c5, c6, c7, c8, eq_true c9, if_true, if_false]
      exact ⟨y.1, by simp [y.2]⟩
    · have y := A100 x3 0 h3 ⟨fun _ q => by
        rcases q with q | q | q | q | q | q | q | q | q | q
        · exact c0 q
        · exact c1 q
        · exact c2 q
        · exact c3 q
        · exact c4 q
        · exact c5 q
        · exact c6 q
        · exact c7 q
        · exact c8 q
        · exact c9 q, fun _ => rfl⟩
      simp only [c0, c1, c2, c3, c4, c5, c6, c7, c8, c9, if_true, if_false]
      exact ⟨y.1, by simp [y.2]⟩
  unfold g_FormCheck_isAtomic K_FormCheck_isAtomic g_FormCheck_isAtomic_0 K_FormCheck_isAtomic_0 g_FormCheck_isAtomic_9 K_FormCheck_isAtomic_9
  rw [s.R105_0, h.2.2.2.2.1.1]
  by_cases c : I.i &&& 1 = 1
  · obtain ⟨y1, y2⟩ := A21 1 ⟨fun q => absurd q i1_0, fun q => absurd c q⟩
    rw [if_pos c]
    exact ⟨y1, s.T105, s.T102, h.2.2.2.2.1.2, fun _ => y2, fun z => absurd c z⟩
  · obtain ⟨y1, y2⟩ := A21 0 ⟨fun _ => c, fun _ => rfl⟩
    rw [if_neg c]
    exact ⟨y1, s.T105, s.T102, h.2.2.2.2.1.2, fun z => absurd z c, fun _ => y2⟩
end CFo
