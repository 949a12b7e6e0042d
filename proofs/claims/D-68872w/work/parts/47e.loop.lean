/-! part 47e: the twin's loop over the bits -/
/-- only the known and the open bits of row k change -/
def BM (x0 : Nat) (k : Int32) (M M' : XM) : Prop := M'.1 = M.1 ∧ M'.2.2 = M.2.2 ∧ ∀ r i, ¬ ((r = mR M x0 0 ∨ r = mR M x0 1) ∧ i = ix k) → mL M' r i = mL M r i
/-- the seven arrays differ -/
def SD (M : XM) (x0 : Nat) : Prop := ∀ i j, i < 7 → j < 7 → mR M x0 i = mR M x0 j → i = j
theorem BM.r {x0 : Nat} {k : Int32} {M M' : XM} (h : BM x0 k M M') (a i : Nat) : mR M' a i = mR M a i := by unfold mR; rw [h.2.1]
theorem BM.t {x0 : Nat} {k : Int32} {M M' : XM} (h : BM x0 k M M') (a : Nat) : mT M' a = mT M a := by unfold mT; rw [h.2.1]
theorem BM.n {x0 : Nat} {k : Int32} {M M' : XM} (h : BM x0 k M M') (a : Nat) : mN M' a = mN M a := by unfold mN; rw [h.2.1]
theorem BM.ss {x0 : Nat} {k : Int32} {M M' : XM} (h : BM x0 k M M') (hs : SS M x0 k) : SS M' x0 k := by
  obtain ⟨s, a, b, c⟩ := hs
  refine ⟨by rw [h.t]; exact s, fun i hi => ⟨by rw [h.r, h.t]; exact (a i hi).1, by rw [h.r, h.n]; exact (a i hi).2⟩, by rw [h.r, h.t]; exact b, by rw [h.r, h.n]; exact c⟩
theorem BM.wi {x0 : Nat} {k : Int32} {M M' : XM} (h : BM x0 k M M') (hd : SD M x0) (v u : Int64) : (tv6 M' x0 k).wi v u = (tv6 M x0 k).wi v u := by
  have e : ∀ i, 2 ≤ i → i < 7 → mL M' (mR M' x0 i) (ix k) = mL M (mR M x0 i) (ix k) := fun i h1 h2 => by
    rw [h.r]
    refine h.2.2 _ _ fun z => ?_
    rcases z.1 with q | q
    · have := hd i 0 h2 (by decide) q; omega
    · have := hd i 1 h2 (by decide) q; omega
  unfold AV.wi tv6
  show (v, u, mL M' (mR M' x0 2) (ix k), mL M' (mR M' x0 3) (ix k), mL M' (mR M' x0 4) (ix k), mL M' (mR M' x0 5) (ix k)) = _
  rw [e 2 (by decide) (by decide), e 3 (by decide) (by decide), e 4 (by decide) (by decide), e 5 (by decide) (by decide)]
/-- what is known before bit j is asked -/
def TI (S : Int64 → Prop) (v u : Int64) (j : Nat) (B O : Int64) : Prop := ∀ i, i < 64 →
  (tb O i = true ↔ (tb u i = true ∧ (j ≤ i ∨ ((∃ x, S x ∧ tb x i = false) ∧ ∃ x, S x ∧ tb x i = true)))) ∧
  (tb B i = true ↔ (tb v i = true ∨ (tb u i = true ∧ i < j ∧ (∃ x, S x ∧ tb x i = true) ∧ ¬ ∃ x, S x ∧ tb x i = false)))
theorem TI.skip {S : Int64 → Prop} {v u B O : Int64} {j : Nat} (h : TI S v u j B O) (hu : tb u j = false) : TI S v u (j + 1) B O := by
  intro i hi
  obtain ⟨a, b⟩ := h i hi
  by_cases e : i = j
  · subst e
    rw [a, b, hu]
    simp
  · rw [a, b]
    have e1 : (j + 1 ≤ i) ↔ (j ≤ i) := by omega
    have e2 : (i < j + 1) ↔ (i < j) := by omega
    rw [e1, e2]
    exact ⟨Iff.rfl, Iff.rfl⟩
theorem TI.step {S : Int64 → Prop} {v u B O bit : Int64} {j : Nat} {z o : Int32} (h : TI S v u j B O) (hj : j < 64) (hvu : v &&& u = 0) (hu : tb u j = true) (hb : ∀ i, tb bit i = decide (i = j))
    (hz : z = 1 ∧ (∃ x, S x ∧ tb x j = false) ∨ z = 0 ∧ ¬ ∃ x, S x ∧ tb x j = false) (ho : o = 1 ∧ (∃ x, S x ∧ tb x j = true) ∨ o = 0 ∧ ¬ ∃ x, S x ∧ tb x j = true) :
    TI S v u (j + 1) (if o = 0 ∨ ¬ z = 0 then B else B ||| bit) (if z = 0 ∨ o = 0 then O &&& (bit ^^^ (-1)) else O) := by
  have hv : tb v j = false := by
    cases e : tb v j with
    | false => rfl
    | true => exact absurd ⟨e, hu⟩ (and_0.mp hvu j)
  intro i hi
  obtain ⟨a, b⟩ := h i hi
  by_cases e : i = j
  · subst e
    have hO : tb O i = true := a.mpr ⟨hu, Or.inl (Nat.le_refl _)⟩
    have hB : tb B i = false := by
      cases q : tb B i with
      | false => rfl
      | true =>
        rcases b.mp q with w | w
        · rw [hv] at w; cases w
        · omega
    have n1 : ¬ i + 1 ≤ i := by omega
    have n2 : i < i + 1 := by omega
    have c1 : tb (O &&& (bit ^^^ (-1))) i = false := by rw [tb_and, tb_cpl, hb i]; simp
    have c2 : tb (B ||| bit) i = true := by rw [tb_or, hb i]; simp
    generalize O &&& (bit ^^^ (-1)) = C at c1 ⊢
    generalize B ||| bit = D at c2 ⊢
    rcases hz with ⟨z1, z2⟩ | ⟨z1, z2⟩ <;> rcases ho with ⟨o1, o2⟩ | ⟨o1, o2⟩ <;> subst z1 <;> subst o1 <;> simp [hO, hB, c1, c2, hu, hv, z2, o2, n1]
  · have e1 : (j + 1 ≤ i) ↔ (j ≤ i) := by omega
    have e2 : (i < j + 1) ↔ (i < j) := by omega
    have c1 : tb (O &&& (bit ^^^ (-1))) i = tb O i := by rw [tb_and, tb_cpl, hb i]; simp [e, hi]
    have c2 : tb (B ||| bit) i = tb B i := by rw [tb_or, hb i]; simp [e]
    rw [e1, e2, ← a, ← b]
    constructor
    · by_cases q : z = 0 ∨ o = 0
      · rw [if_pos q, c1]
      · rw [if_neg q]
    · by_cases q : o = 0 ∨ ¬ z = 0
      · rw [if_pos q]
      · rw [if_neg q, c2]
