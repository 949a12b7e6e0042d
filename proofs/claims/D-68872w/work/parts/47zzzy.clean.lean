/-! part 47zzzy: the same bytes, the same form; a clean form is a good program (gen/tpl.py) -/
section CG
variable {B B' : Nat → Int32} {all n p : Nat} {r : Int32}
theorem IE_at (al : all ≤ 1024) (h : ∀ i, i < 8 * all → B i = B' i) (hp : p < all) : ∃ c d s o i j j', IB B p = (c, d, s, o, i, j) ∧ IB B' p = (c, d, s, o, i, j') ∧ (p + 1 < all → j = j') := by
  refine ⟨_, _, _, _, _, _, imB (tr8 B') (8 * (p + 1) + 4), IB_at (by omega), ?_, ?_⟩
  · rw [IB_at (by omega), h (8 * p) (by omega), h (8 * p + 1) (by omega), h (8 * p + 2) (by omega), h (8 * p + 3) (by omega)]
    unfold imB
    rw [h (8 * p + 4) (by omega), h (8 * p + 4 + 1) (by omega), h (8 * p + 4 + 2) (by omega), h (8 * p + 4 + 3) (by omega)]
  · intro q
    rw [imB_tr (by omega), imB_tr (by omega)]
    unfold imB
    rw [h (8 * (p + 1) + 4) (by omega), h (8 * (p + 1) + 4 + 1) (by omega), h (8 * (p + 1) + 4 + 2) (by omega), h (8 * (p + 1) + 4 + 3) (by omega)]
theorem okI_cg (al : all ≤ 1024) (h : ∀ i, i < 8 * all → B i = B' i) (hp : p < all) : okI B all p ↔ okI B' all p := by
  obtain ⟨c, d, s, o, i, j, j', e1, e2, e3⟩ := IE_at al h hp
  unfold okI
  rw [e1, e2]
  by_cases q : p + 1 < all
  · rw [e3 q]
    have : imB B (8 * p + 8) = imB B' (8 * p + 8) := by
      unfold imB
      rw [h (8 * p + 8) (by omega), h (8 * p + 8 + 1) (by omega), h (8 * p + 8 + 2) (by omega), h (8 * p + 8 + 3) (by omega)]
    rw [this]
  · constructor
    · rintro (z | z | z | z)
      · exact absurd z.2.2.2.2.2.1 q
      · exact Or.inr (Or.inl z)
      · exact Or.inr (Or.inr (Or.inl z))
      · exact Or.inr (Or.inr (Or.inr z))
    · rintro (z | z | z | z)
      · exact absurd z.2.2.2.2.2.1 q
      · exact Or.inr (Or.inl z)
      · exact Or.inr (Or.inr (Or.inl z))
      · exact Or.inr (Or.inr (Or.inr z))
theorem sB_cg (h : ∀ i, i < 8 * all → B i = B' i) : ∀ k, k ≤ all → sB B k = sB B' k := by
  intro k
  induction k with
  | zero => intro _; rfl
  | succ k ih =>
    intro hk
    show (!(sB B k && decide (B (8 * k) = 24))) = !(sB B' k && decide (B' (8 * k) = 24))
    rw [ih (by omega), h (8 * k) (by omega)]
theorem gW_cg (al : all ≤ 1024) (h : ∀ i, i < 8 * all → B i = B' i) (hp : p < all) (g : gW B all p) : gW B' all p := by
  obtain ⟨c, d, s, o, i, j, j', e1, e2, e3⟩ := IE_at al h hp
  unfold gW at g ⊢
  rw [e1] at g
  rw [e2]
  have en : nxC (c, d, s, o, i, j') p = nxC (c, d, s, o, i, j) p := rfl
  rw [en]
  refine ⟨g.1.imp id (fun z => ⟨z.1, by rw [← sB_cg h _ (Nat.le_of_lt z.1)]; exact z.2⟩), fun z => ?_⟩
  obtain ⟨g1, g2, g3, g4⟩ := g.2 z
  exact ⟨g1, g2, g3, by rw [← sB_cg h _ (Nat.le_of_lt g2)]; exact g4⟩
theorem FR2_cg (al : all ≤ 1024) (h : ∀ i, i < 8 * all → B i = B' i) (f : FR2 B all r) : FR2 B' all r := by
  have h' : ∀ i, i < 8 * all → B' i = B i := fun i hi => (h i hi).symm
  rcases f with ⟨p, a1, a2, a3, a4, a5⟩ | ⟨a1, a2⟩
  · exact Or.inl ⟨p, a1, by rw [← sB_cg h p (by omega)]; exact a2, fun z => a3 (gW_cg al h' a1 z), fun j hj sj => gW_cg al h (by omega) (a4 j hj (by rw [sB_cg h j (by omega)]; exact sj)), a5⟩
  · exact Or.inr ⟨fun j hj sj => gW_cg al h hj (a1 j hj (by rw [sB_cg h j (by omega)]; exact sj)), a2⟩
theorem FR_cg (hn : n ≤ 8192) (h : ∀ i, i < n → B i = B' i) (f : FR B n r) : FR B' n r := by
  have h : ∀ i, i < 8 * (n / 8) → B i = B' i := fun i hi => h i (by omega)
  have al : n / 8 ≤ 1024 := by omega
  rcases f with ⟨p, a1, a2, a3, a4, a5⟩ | ⟨a1, a2⟩
  · exact Or.inl ⟨p, a1, by rw [← sB_cg h p (by omega)]; exact a2, fun z => a3 ((okI_cg al h a1).mpr z), fun j hj sj => (okI_cg al h (by omega)).mp (a4 j hj (by rw [sB_cg h j (by omega)]; exact sj)), a5⟩
  · exact Or.inr ⟨fun j hj sj => (okI_cg al h hj).mp (a1 j hj (by rw [sB_cg h j (by omega)]; exact sj)), a2.imp id (fun z => ⟨z.1, z.2.1, FR2_cg al h z.2.2⟩)⟩
theorem i2s_rng (x : Int32) : -32768 ≤ (j_i2s x).toInt ∧ (j_i2s x).toInt ≤ 32767 := by
  have a := Int16.le_toInt x.toInt16
  have b := Int16.toInt_lt x.toInt16
  have e : (j_i2s x).toInt = x.toInt16.toInt := Int16.toInt_toInt32 _
  rw [e]
  omega
theorem sz_4 (c : Int32) : sz c = 4 ∨ sz c = 2 ∨ sz c = 1 ∨ sz c = 8 := by
  unfold sz
  by_cases c1 : j_ishr c 3 &&& 3 = 0
  · rw [if_pos c1]; exact Or.inl rfl
  · rw [if_neg c1]
    by_cases c2 : j_ishr c 3 &&& 3 = 1
    · rw [if_pos c2]; exact Or.inr (Or.inl rfl)
    · rw [if_neg c2]
      by_cases c3 : j_ishr c 3 &&& 3 = 2
      · rw [if_pos c3]; exact Or.inr (Or.inr (Or.inl rfl))
      · rw [if_neg c3]; exact Or.inr (Or.inr (Or.inr rfl))
theorem rg_1 {c : Int32} (h : ¬ rg c = 0) : rg c = 1 := by
  unfold rg at h ⊢
  by_cases q : c &&& 8 = 0
  · rw [if_pos q] at h; exact absurd rfl h
  · rw [if_neg q]
theorem hsS.lt {I : In} (h : hsS I) : I.s < 11 := by
  rcases h with z | z
  · omega
  · exact z.2.1
theorem okI_WI (hb : BYT B) (hp : p < 1024) (h : okI B all p) : WI (IB B p) ∧ WJ (IB B p) := by
  obtain ⟨_, _, hm⟩ := IB_ds hb hp
  have ho : -32768 ≤ (IB B p).o.toInt ∧ (IB B p).o.toInt ≤ 32767 := by
    rw [IB_at hp]; exact i2s_rng _
  unfold okI at h
  generalize IB B p = I at h hm ho ⊢
  unfold WI WJ
  have kne : ∀ {a b : Int32}, a ≠ b → kd I.c = a → kd I.c = b → False := fun n x y => n (x.symm.trans y)
  rcases h with ⟨k, z⟩ | ⟨k, z⟩ | ⟨k, z⟩ | ⟨k, z⟩
  · obtain ⟨z1, z2, z3, z4, z5, z6, z7⟩ := z
    refine ⟨⟨hm, by omega, by omega, ho, fun q => ?_, fun q => ?_, fun q => ?_, fun _ => ?_, fun q => ?_⟩, fun _ => ⟨z2, z1⟩, fun q => ?_⟩
    · rw [k] at q; exact absurd q (by decide)
    · rw [k] at q; exact absurd q (by decide)
    · rw [k] at q; exact absurd q (by decide)
    · rcases z7 with z | z
      · exact Or.inl z
      · have : I.s = 0 ∨ I.s = 1 := by omega
        rcases this with w | w
        · exact Or.inl w
        · exact Or.inr ⟨w, z.1⟩
    · rw [k] at q; exact absurd q (by decide)
    · rw [k] at q; exact absurd q (by decide)
  · obtain ⟨z1, z2, z3⟩ := z
    refine ⟨⟨hm, z1, z2, ho, fun q => ?_, fun q => ?_, fun q q6 => ?_, fun q => ?_, fun q => ?_⟩, fun q => ?_, fun q => ?_⟩
    · rcases k with k | k | k <;> rw [k] at q <;> exact absurd q (by decide)
    · rcases k with k | k | k <;> rw [k] at q <;> exact absurd q (by decide)
    · rcases z3 with z | z | z
      · exact absurd q (fun q => kne (by decide) q z.1)
      · exact absurd q (fun q => kne (by decide) q z.1)
      · rcases z.2.2 with y | y
        · rw [y.1] at q6; exact absurd q6 (by decide)
        · refine ⟨?_, y.2.1⟩
          have := y.2.2.1
          rcases sz_4 I.c with e | e | e | e <;> rw [e] at this ⊢ <;> first | exact Or.inl rfl | exact Or.inr rfl | exact absurd this (by decide)
    · rcases k with k | k | k <;> rw [k] at q <;> exact absurd q (by decide)
    · rcases z3 with z | z | z
      · rcases z.2.2.2 with y | y
        · exact Or.inl y
        · exact Or.inr ⟨y.1, fun e => by have := y.2; rw [e] at this; exact absurd this (by decide)⟩
      · exact absurd q (fun q => kne (by decide) q z.1)
      · exact absurd q z.1
    · rcases k with k | k | k <;> rw [k] at q <;> exact absurd q (by decide)
    · rcases z3 with z | z | z
      · exact z.2.1
      · exact absurd q (fun q => kne (by decide) q z.1)
      · exact absurd q z.1
  · have ds : I.d < 11 ∧ I.s < 11 := by
      rcases z with z | z | z | z | z
      · omega
      · omega
      · omega
      · omega
      · exact ⟨z.2.2.2.2.2.2.2.2.1, z.2.2.2.2.2.2.2.2.2.lt⟩
    refine ⟨⟨hm, ds.1, ds.2, ho, fun q => ?_, fun _ => ?_, fun q => ?_, fun q => ?_, fun q => ?_⟩, fun q => ?_, fun q => ?_⟩
    · rcases k with k | k <;> rw [k] at q <;> exact absurd q (by decide)
    · rcases z with z | z | z | z | z
      · exact Or.inl z.1
      · exact Or.inr (Or.inl z.1)
      · exact Or.inr (Or.inr (Or.inl z.1))
      · exact Or.inr (Or.inr (Or.inr (Or.inl z.1)))
      · refine Or.inr (Or.inr (Or.inr (Or.inr ?_)))
        obtain ⟨m, hm, e⟩ := hm
        have n16 := nm16 ⟨m, hm⟩
        have n1 := z.2.2.2.2.1
        have n2 := z.2.2.2.2.2.1
        have n3 := z.2.2.2.2.2.2.1
        have n4 := z.2.2.2.2.2.2.2.1
        rw [e] at n1 n2 n3 n4 ⊢
        show nm (Int32.ofNat m) = 1 ∨ _
        have n16 : nm (Int32.ofNat m) = 0 ∨ nm (Int32.ofNat m) = 1 ∨ nm (Int32.ofNat m) = 2 ∨ nm (Int32.ofNat m) = 3 ∨ nm (Int32.ofNat m) = 4 ∨ nm (Int32.ofNat m) = 5 ∨ nm (Int32.ofNat m) = 6 ∨ nm (Int32.ofNat m) = 7 ∨ nm (Int32.ofNat m) = 8 ∨ nm (Int32.ofNat m) = 9 ∨ nm (Int32.ofNat m) = 10 ∨ nm (Int32.ofNat m) = 11 ∨ nm (Int32.ofNat m) = 12 ∨ nm (Int32.ofNat m) = 13 ∨ nm (Int32.ofNat m) = 14 ∨ nm (Int32.ofNat m) = 15 := n16
        rcases n16 with q | q | q | q | q | q | q | q | q | q | q | q | q | q | q | q <;> rw [q] at n1 n2 n3 n4 ⊢ <;> revert n1 n2 n3 n4 <;> decide
    · rcases k with k | k <;> rw [k] at q <;> exact absurd q (by decide)
    · rcases k with k | k <;> rw [k] at q <;> exact absurd q (by decide)
    · rcases k with k | k <;> rw [k] at q <;> exact absurd q (by decide)
    · rcases k with k | k <;> rw [k] at q <;> exact absurd q (by decide)
    · rcases k with k | k <;> rw [k] at q <;> exact absurd q (by decide)
  · obtain ⟨z1, z2, z3⟩ := z
    have s11 : I.s < 11 := by
      rcases z3 with z | z | z
      · have := z.2.1; omega
      · omega
      · exact z.2.2.1.lt
    refine ⟨⟨hm, by omega, s11, ho, fun _ => ⟨z1, z2, fun e => ?_, fun e => ?_, ?_⟩, fun q => ?_, fun q => ?_, fun q => ?_, fun q => ?_⟩, fun q => ?_, fun q => ?_⟩
    · rcases z3 with z | z | z
      · rw [z.1] at e; exact absurd e (by decide)
      · exact ⟨z.2.1, z.2.2.2.2⟩
      · exact absurd e z.2.1
    · rcases z3 with z | z | z
      · refine ⟨z.2.2.1, z.2.2.2.1, fun k7 => z.2.2.2.2.elim (fun k4 => ?_) id⟩
        rw [k7] at k4; exact absurd k4 (by decide)
      · rw [z.1] at e; exact absurd e (by decide)
      · exact absurd e z.1
    · rcases z3 with z | z | z
      · exact Or.inl z.2.2.1
      · exact Or.inl z.2.2.2.2
      · rcases z.2.2.2 with y | y | y
        · exact Or.inl y
        · exact Or.inr (Or.inl ⟨y.2, y.1⟩)
        · exact Or.inr (Or.inr ⟨y.1, rg_1 y.2.1, y.2.2⟩)
    · rcases k with k | k <;> rw [k] at q <;> exact absurd q (by decide)
    · rcases k with k | k <;> rw [k] at q <;> exact absurd q (by decide)
    · rcases k with k | k <;> rw [k] at q <;> exact absurd q (by decide)
    · rcases k with k | k <;> rw [k] at q <;> exact absurd q (by decide)
    · rcases k with k | k <;> rw [k] at q <;> exact absurd q (by decide)
    · rcases k with k | k <;> rw [k] at q <;> exact absurd q (by decide)
theorem ne_neg1 {k : Nat} (h : k < 2147483648) : ¬ Int32.ofNat k = -1 := by
  intro z
  have := congrArg Int32.toInt z
  rw [toInt_ofNat32 h] at this
  have e : (-1 : Int32).toInt = -1 := rfl
  omega
def Sp (B : Nat → Int32) (all : Nat) (p : Nat) : Prop := p < all ∧ sB B p = true
theorem FR_clean (hn : n ≤ 8192) (h : FR B n (-1)) : (∀ j, j < n / 8 → sB B j = true → okI B (n / 8) j ∧ gW B (n / 8) j) ∧ n / 8 ≠ 0 := by
  rcases h with ⟨p, a1, _, _, _, a5⟩ | ⟨a1, a2⟩
  · exact absurd a5.symm (ne_neg1 (by omega))
  · rcases a2 with a2 | ⟨_, a3, a4⟩
    · exact absurd a2.2.symm (ne_neg1 (by omega))
    · rcases a4 with ⟨p, b1, _, _, _, b5⟩ | ⟨b1, _⟩
      · exact absurd b5.symm (ne_neg1 (by omega))
      · exact ⟨fun j hj sj => ⟨a1 j hj sj, b1 j hj sj⟩, a3⟩
theorem okI_24 (h : okI B all p) (k : kd (IB B p).c = 0) : (IB B p).c = 24 := by
  unfold okI at h
  rcases h with z | z | z | z
  · exact z.2.1
  · have := z.1; rw [k] at this; exact absurd this (by decide)
  · have := z.1; rw [k] at this; exact absurd this (by decide)
  · have := z.1; rw [k] at this; exact absurd this (by decide)
theorem FR_PF (hn : n ≤ 8192) (hb : BYT B) (h : FR B n (-1)) : PF B (n / 8) (Sp B (n / 8)) := by
  obtain ⟨a, a0⟩ := FR_clean hn h
  refine ⟨by omega, ⟨by omega, rfl⟩, fun p hp => ?_⟩
  obtain ⟨p1, p2⟩ := hp
  obtain ⟨ok, g1, g2⟩ := a p p1 p2
  obtain ⟨w, wj⟩ := okI_WI hb (by omega) ok
  refine ⟨p1, w, wj, fun z => ?_, fun z => ?_⟩
  · have e : nxN (IB B p) p = nxC (IB B p) p := by
      unfold nxN nxC
      by_cases q : kd (IB B p).c = 0
      · rw [if_pos q, if_pos (okI_24 ok q)]
      · rw [if_neg q, if_neg (fun y => q (by rw [y]; decide))]
    rw [e]
    rcases g1 with g1 | g1
    · rcases g1 with y | y | y
      · exact absurd y z.1
      · exact absurd y z.2.1
      · exact absurd y z.2.2
    · exact g1
  · obtain ⟨g, y1, y2, y3⟩ := g2 z
    have : ix (glI (IB B p) p) = g := by rw [y2]; exact ixN (by omega)
    rw [this]
    exact ⟨y2, y1, y3⟩
/-- rows that agree with the program, at the places of the program -/
theorem FR_IQ (hn : n ≤ 8192) (h : FR B n (-1)) (e : ∀ i, i < 8 * (n / 8) → B' i = B i) {p : Nat} (hp : Sp B (n / 8) p) : IQ B' B p := by
  obtain ⟨a, a0⟩ := FR_clean hn h
  obtain ⟨ok, _⟩ := a p hp.1 hp.2
  obtain ⟨c, d, s, o, i, j, j', e1, e2, e3⟩ := IE_at (all := n / 8) (by omega) e hp.1
  refine ⟨c, d, s, o, i, j, j', e1, e2, fun k => e3 ?_⟩
  have k' : kd (IB B p).c = 0 := by rw [e2]; exact k
  have c24 := okI_24 ok k'
  have ec : (IB B p).c = B (8 * p) := by rw [IB_at (by have := hp.1; omega)]
  exact okI_wide (by have := hp.1; omega) ok (by rw [← ec]; exact c24)
end CG
