/-! part 47zzza: the twin: jumps (gen/tpl.py) -/
def PB (a i : Nat) : Prop := PK 1025 a i ∨ PK 1027 a i ∨ (a = 467 ∧ i = 5)
def QB (i : Nat) : Prop := QK 1025 i ∨ QK 1027 i ∨ i = 5
def FB (M M' : XM) : Prop := FP PB QB M M'
theorem FB.trans {M M1 M2 : XM} (h : FB M M1) (h' : FB M1 M2) : FB M M2 := FP.trans h h'
theorem FK.fb5 {M M' : XM} (h : FK 1025 M M') : FB M M' := FP.weak h (fun _ _ z => Or.inl z) (fun _ z => Or.inl z)
theorem FK.fb7 {M M' : XM} (h : FK 1027 M M') : FB M M' := FP.weak h (fun _ _ z => Or.inr (Or.inl z)) (fun _ z => Or.inr (Or.inl z))
theorem FB.sr {M : XM} {k : Nat} {w : AV} {e : Int32} (hk : k < 6) : FB M (sR M k w e) :=
  ⟨rfl, fun a j z => if_neg (fun (q : a = 467 ∧ j = k) => z (by unfold PB PK QK; omega)), fun a j z => if_neg (fun (q : 461 ≤ a ∧ a < 467 ∧ j = k) => z ⟨q.1, q.2.1, by unfold QB QK; omega⟩)⟩
def OB (o : Option St) (kk : Nat) (f : Int32) (X : XM) : Prop := (o = none ∧ f = 0) ∨ ∃ s, o = some s ∧ f = 1 ∧ vwT X kk = s.1 ∧ mI X 455 kk = s.2
def JB (M : XM) (R : Rs) (f g : Int32) (X : XM) : Prop := TW X ∧ FB M X ∧ R.1 = 0 ∧ OB R.2.1 1027 f X ∧ OB R.2.2 1025 g X ∧ (vwT X 1025 10).so = 3
theorem opps : ∀ c : Fin 12, g_Sets_opposite (Int32.ofNat c.val) = Int32.ofNat (oppN c.val) ∧ oppN c.val < 12 := by decide +kernel
theorem comp_ok : ∀ m : Fin 256, (nm (Int32.ofNat m.val) = 1 ∨ nm (Int32.ofNat m.val) = 2 ∨ nm (Int32.ofNat m.val) = 3 ∨ nm (Int32.ofNat m.val) = 4 ∨ nm (Int32.ofNat m.val) = 5 ∨ nm (Int32.ofNat m.val) = 6 ∨ nm (Int32.ofNat m.val) = 7 ∨ nm (Int32.ofNat m.val) = 10 ∨ nm (Int32.ofNat m.val) = 11 ∨ nm (Int32.ofNat m.val) = 12 ∨ nm (Int32.ofNat m.val) = 13) → (if nm (Int32.ofNat m.val) = 1 then (0 : Int32) else if nm (Int32.ofNat m.val) = 2 then 4 else if nm (Int32.ofNat m.val) = 3 then 5 else if nm (Int32.ofNat m.val) = 4 then 10 else if nm (Int32.ofNat m.val) = 5 then 1 else if nm (Int32.ofNat m.val) = 6 then 8 else if nm (Int32.ofNat m.val) = 7 then 9 else if nm (Int32.ofNat m.val) = 8 then 7 else if nm (Int32.ofNat m.val) = 9 then 7 else if nm (Int32.ofNat m.val) = 10 then 2 else if nm (Int32.ofNat m.val) = 11 then 3 else if nm (Int32.ofNat m.val) = 12 then 6 else 7) = Int32.ofNat (cmpN (nm (Int32.ofNat m.val))) ∧ cmpN (nm (Int32.ofNat m.val)) < 12 := by decide +kernel
section JP
variable {M : XM} {I : In}
theorem m_comp (h : Sh M) (hI : InT M I) (w : WI I) (hn : (nm I.c = 1 ∨ nm I.c = 2 ∨ nm I.c = 3 ∨ nm I.c = 4 ∨ nm I.c = 5 ∨ nm I.c = 6 ∨ nm I.c = 7 ∨ nm I.c = 10 ∨ nm I.c = 11 ∨ nm I.c = 12 ∨ nm I.c = 13)) : K_Model_comparison 448 M ∧ g_Model_comparison 448 M = Int32.ofNat (cmpN (nm I.c)) ∧ cmpN (nm I.c) < 12 := by
  obtain ⟨n1, n2⟩ := hI.num h
  unfold K_Model_comparison g_Model_comparison K_Model_comparison_0 g_Model_comparison_0 g_Model_comparison_92
  rw [n1]
  refine ⟨⟨h.T448, n2⟩, ?_⟩
  obtain ⟨m, hm, e⟩ := w.1
  rw [e] at hn ⊢
  exact comp_ok ⟨m, hm⟩ hn
theorem m_areInts (h : Sh M) {r : Int32} (rr : rk r) {v : AV} (ev : tvk M (ix r) = v) : K_Model_areInts 448 r M ∧ g_Model_areInts 448 r M = (if hlf v then 1 else 0) := by
  have l1 : mL M 465 (ix r) = v.le := by rw [← ev]; rfl
  have l2 : mL M 466 (ix r) = v.gr := by rw [← ev]; rfl
  unfold K_Model_areInts g_Model_areInts K_Model_areInts_0 g_Model_areInts_0
  rw [h.R448_16, h.R460_4, h.R460_5, l1, l2]
  refine ⟨⟨h.T448, h.T460, h.T465, by rw [h.N465]; exact rr, fun _ => ⟨h.T448, h.T460, h.T466, by rw [h.N466]; exact rr⟩⟩, ?_⟩
  simp only [cmp_ltN, cmp_gtN]
  by_cases c1 : (0 : Int64) ≤ v.le <;> by_cases c2 : v.gr ≤ 2147483647 <;> simp only [hlf, c1, c2, if_true, if_false, not_true, not_false_iff, and_self, and_true, true_and, and_false, false_and, or_true, true_or, or_false, false_or, or_self, i32_10, eq_self, true_implies, false_implies, implies_true, ite_self, ne_eq]
/-- both states are copies of NOW -/
theorem m_both (h : TW M) : K_Model_copyState 448 1024 1025 M ∧ K_Model_copyState 448 1024 1027 (g_Model_copyState 448 1024 1025 M) ∧ TW (g_Model_copyState 448 1024 1027 (g_Model_copyState 448 1024 1025 M)) ∧ FB M (g_Model_copyState 448 1024 1027 (g_Model_copyState 448 1024 1025 M)) ∧ vwT (g_Model_copyState 448 1024 1027 (g_Model_copyState 448 1024 1025 M)) 1024 = vwT M 1024 ∧
    vwT (g_Model_copyState 448 1024 1027 (g_Model_copyState 448 1024 1025 M)) 1025 = vwT M 1024 ∧ vwT (g_Model_copyState 448 1024 1027 (g_Model_copyState 448 1024 1025 M)) 1027 = vwT M 1024 ∧ mI (g_Model_copyState 448 1024 1027 (g_Model_copyState 448 1024 1025 M)) 455 1025 = mI M 455 1024 ∧ mI (g_Model_copyState 448 1024 1027 (g_Model_copyState 448 1024 1025 M)) 455 1027 = mI M 455 1024 := by
  obtain ⟨k1, ⟨t1, f1, v1, n1⟩, _⟩ := m_copyState h (k := 1024) (kk := 1025) (by decide) (by decide) (by decide)
  have e4 : Int32.ofNat 1024 = 1024 := rfl
  have e5 : Int32.ofNat 1025 = 1025 := rfl
  have e7 : Int32.ofNat 1027 = 1027 := rfl
  rw [e4, e5] at k1 t1 f1 v1 n1
  obtain ⟨k2, ⟨t2, f2, v2, n2⟩, _⟩ := m_copyState t1 (k := 1024) (kk := 1027) (by decide) (by decide) (by decide)
  rw [e4, e7] at k2 t2 f2 v2 n2
  refine ⟨k1, k2, t2, f1.fb5.trans f2.fb7, ?_, ?_, ?_, ?_, ?_⟩
  · rw [f2.vw (by decide), f1.vw (by decide)]
  · rw [f2.vw (by decide)]; exact v1
  · rw [v2, f1.vw (by decide)]
  · rw [f2.hk (Or.inr rfl) (by decide)]; exact n1
  · rw [n2, f1.hk (Or.inr rfl) (by decide)]
theorem i32_1025 : (1025 : Int32) = Int32.ofNat 1025 := rfl
theorem i32_1027 : (1027 : Int32) = Int32.ofNat 1027 := rfl
/-- what is learnt on one of the ways -/
theorem m_learnBoth (h : TW M) (hI : InT M I) (w : WI I) (wt : WS (vwT M 1024)) {n : Nat} (hn : n = if (vwT M 1024 I.d).so = 4 then I.d else I.s) (h4 : (vwT M 1024 n).so = 4) (hm : nm I.c = 2 ∨ nm I.c = 3 ∨ nm I.c = 10 ∨ nm I.c = 11) {σ : Sg} {kn : Int32}
    (σ10 : (σ 10).so = 3) (v5 : vwT M 1025 = σ) (v7 : vwT M 1027 = σ) (k5 : mI M 455 1025 = kn) (k7 : mI M 455 1027 = kn) :
    K_Model_learnBoth 448 M ∧ JB M (mea (if (vwT M 1024 I.d).so = 4 then nm I.c else trn (nm I.c)) (vwT M 1024 n).va σ kn) 1 1 (g_Model_learnBoth 448 M) := by
  have s := h.1
  have hd : I.d < 75 := by have := w.2.1; omega
  obtain ⟨a1, a2⟩ := m_sortOf s hd
  obtain ⟨n1, n2⟩ := hI.num s
  have i0 : ¬ (0 : Int32) = 1 := by decide
  have L7 : ∀ x : Int32, K_Model_learnBoth_130 x 448 1027 M ∧ JB M (0, some (σ, lrn (vwT M 1024 n).va (if x = 0 then 0 else 1) kn), some (σ, kn)) 1 1 (g_Model_learnBoth_130 x 448 1027 M) := by
    intro x
    unfold K_Model_learnBoth_130 g_Model_learnBoth_130
    obtain ⟨b1, b2⟩ := m_learn h hI w wt (kk := 1027) (by decide) (by decide) hn h4 (x2 := x)
    rw [← i32_1027] at b1 b2
    rw [v7, k7] at b2
    exact ⟨⟨s.T448, b1⟩, b2.1, b2.2.1.fb7, rfl, Or.inr ⟨_, rfl, rfl, b2.2.2⟩, Or.inr ⟨_, rfl, rfl, by rw [b2.2.1.vw (by decide)]; exact v5, by rw [b2.2.1.hk (Or.inr rfl) (by decide)]; exact k5⟩, by rw [b2.2.1.vw (by decide), v5]; exact σ10⟩
  have L5 : ∀ x : Int32, K_Model_learnBoth_130 x 448 1025 M ∧ JB M (0, some (σ, kn), some (σ, lrn (vwT M 1024 n).va (if x = 0 then 0 else 1) kn)) 1 1 (g_Model_learnBoth_130 x 448 1025 M) := by
    intro x
    unfold K_Model_learnBoth_130 g_Model_learnBoth_130
    obtain ⟨b1, b2⟩ := m_learn h hI w wt (kk := 1025) (by decide) (by decide) hn h4 (x2 := x)
    rw [← i32_1025] at b1 b2
    rw [v5, k5] at b2
    exact ⟨⟨s.T448, b1⟩, b2.1, b2.2.1.fb5, rfl, Or.inr ⟨_, rfl, rfl, by rw [b2.2.1.vw (by decide)]; exact v7, by rw [b2.2.1.hk (Or.inr rfl) (by decide)]; exact k7⟩, Or.inr ⟨_, rfl, rfl, b2.2.2⟩, by rw [b2.2.2.1]; exact σ10⟩
  have L114 : ∀ x3 x : Int32, (x3 = 0 → K_Model_learnBoth_114 448 x3 x M ∧ JB M (0, some (σ, lrn (vwT M 1024 n).va (if x = 0 then 0 else 1) kn), some (σ, kn)) 1 1 (g_Model_learnBoth_114 448 x3 x M)) ∧ (¬ x3 = 0 → K_Model_learnBoth_114 448 x3 x M ∧ JB M (0, some (σ, kn), some (σ, lrn (vwT M 1024 n).va (if x = 0 then 0 else 1) kn)) 1 1 (g_Model_learnBoth_114 448 x3 x M)) := by
    intro x3 x
    unfold K_Model_learnBoth_114 g_Model_learnBoth_114
    constructor
    · intro z
      rw [if_pos z]
      exact ⟨⟨fun _ => (L7 x).1, fun q => absurd z q⟩, (L7 x).2⟩
    · intro z
      rw [if_neg z]
      exact ⟨⟨fun q => absurd q z, fun _ => (L5 x).1⟩, (L5 x).2⟩
  have e0 : (if (0 : Int32) = 0 then (0 : Int32) else 1) = 0 := if_pos rfl
  have e1 : (if (1 : Int32) = 0 then (0 : Int32) else 1) = 1 := if_neg i1_0
  have P00 := (L114 0 0).1 rfl
  have P01 := (L114 0 1).1 rfl
  have P10 := (L114 1 0).2 i1_0
  have P11 := (L114 1 1).2 i1_0
  rw [e0] at P00 P10
  rw [e1] at P01 P11
  have nn : ¬ (3 : Int32) = 2 ∧ ¬ (10 : Int32) = 2 ∧ ¬ (11 : Int32) = 2 ∧ ¬ (2 : Int32) = 3 ∧ ¬ (10 : Int32) = 3 ∧ ¬ (11 : Int32) = 3 ∧ ¬ (2 : Int32) = 10 ∧ ¬ (3 : Int32) = 10 ∧ ¬ (11 : Int32) = 10 ∧ ¬ (2 : Int32) = 11 ∧ ¬ (3 : Int32) = 11 ∧ ¬ (10 : Int32) = 11 := by decide
  obtain ⟨q1, q2, q3, q4, q5, q6, q7, q8, q9, q10, q11, q12⟩ := nn
  unfold K_Model_learnBoth g_Model_learnBoth K_Model_learnBoth_0 g_Model_learnBoth_0 K_Model_learnBoth_17 g_Model_learnBoth_17 K_Model_learnBoth_23 g_Model_learnBoth_23 K_Model_learnBoth_39 g_Model_learnBoth_39 K_Model_learnBoth_57 g_Model_learnBoth_57 K_Model_learnBoth_62 g_Model_learnBoth_62 K_Model_learnBoth_78 g_Model_learnBoth_78
  rw [hI.2.1, a1, n1]
  unfold mea
  refine kq_and s.T448 (kq_and s.T448 (kq_and a2 (kq_if (fun c4 => kq_and s.T448 (kq_and n2 ?_)) (fun c4 => kq_and s.T448 (kq_and n2 ?_)))))
  · rw [if_pos c4]
    rcases hm with e | e | e | e <;> rw [e] <;> simp only [q1, q2, q3, q4, q5, q6, q7, q8, q9, q10, q11, q12, i1_0, if_true, if_false, or_true, true_or, or_self, false_imp_iff, true_imp_iff, not_true, not_false_iff, true_and, and_true]
    · exact P00
    · exact P01
    · exact P11
    · exact P10
  · rw [if_neg c4]
    unfold trn
    rcases hm with e | e | e | e <;> rw [e] <;> simp only [q1, q2, q3, q4, q5, q6, q7, q8, q9, q10, q11, q12, i1_0, if_true, if_false, or_true, true_or, or_self, false_imp_iff, true_imp_iff, not_true, not_false_iff, true_and, and_true]
    · exact P11
    · exact P10
    · exact P00
    · exact P01
end JP
