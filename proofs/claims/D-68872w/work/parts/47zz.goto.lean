/-! part 47zz: the component's goTo, whole (gen/tpl.py) -/
def pTh (M : XM) (k n : Nat) : TH := thC M (mR M 442 k + 2 + 2 * n)
def pKn (M : XM) (k : Nat) : Int32 := mI M (mR M 442 k) 1
def pIs (M : XM) (k : Nat) : Prop := mR M 442 k ≠ 0 ∧ mI M (mR M 442 k) 2 ≠ 0
def pCh (M : XM) (k : Nat) : Int32 := mI M (mR M 442 k) 3
def pDn (M : XM) (k : Nat) : Int32 := mI M (mR M 442 k) 4
/-- what goTo leaves as it is -/
def GoF (k : Nat) (M M' : XM) : Prop := ∀ a, a < mC M → (¬ (mR M 442 k ≠ 0 ∧ mR M 442 k ≤ a ∧ a < mR M 442 k + 152) → ¬ JJ a → ∀ i, (¬ (a = 101 ∧ i = 9) → mI M' a i = mI M a i) ∧ mL M' a i = mL M a i) ∧ (∀ i, ¬ (a = 442 ∧ i = k) → mR M' a i = mR M a i) ∧ mT M' a = mT M a ∧ mN M' a = mN M a
def wdN (back ch : Int32) : Int32 := if back = 0 then 0 else if ch < 2 then 0 else 1
def GoR (k s : Nat) (back : Int32) (M M' : XM) : Prop := Sh M' ∧ StI M' ∧ GoF k M M' ∧ mR M' 442 k ≠ 0 ∧ (mR M 442 k ≠ 0 → mR M' 442 k = mR M 442 k) ∧ (mR M 442 k ≠ 0 ∧ mC M' = mC M ∧ mS M' = mS M ∨ mR M 442 k = 0 ∧ mC M' = mC M + 152 ∧ mS M' = mS M + 830) ∧ mI M' (mR M' 442 k) 2 ≠ 0 ∧
  ((¬ pIs M k ∧ (∀ n, n < 75 → pTh M' k n = thC M (s + 2 + 2 * n)) ∧ pKn M' k = mI M s 1 ∧ pCh M' k = 0 ∧ pDn M' k = 0 ∧ mI M' 101 9 = 1) ∨
   (pIs M k ∧ ∃ c : Int32, (c = 0 ∨ c = 1) ∧ (c = 0 ↔ ¬ mI M s 1 < pKn M k ∧ ∀ n, n < 75 → pJoin (slN n) (wdN back (pCh M k)) (pTh M k n) (thC M (s + 2 + 2 * n)) = pTh M k n) ∧ (∀ n, n < 75 → pTh M' k n = pJoin (slN n) (wdN back (pCh M k)) (pTh M k n) (thC M (s + 2 + 2 * n))) ∧ pKn M' k = g_Math_min_II (pKn M k) (mI M s 1) ∧ pCh M' k = pCh M k + c ∧ pDn M' k = (if c = 0 then pDn M k else 0) ∧ mI M' 101 9 = if c = 0 then mI M 101 9 else 1))
theorem StI.kept {M M' : XM} (h : StI M) (e : M'.2.2 = M.2.2) : StI M' := by
  refine ⟨fun k hk => ?_, fun k k' h1 h2 h3 => ?_⟩
  · rw [eR e, eC e]
    rcases h.1 k hk with z | ⟨z1, z2, z3⟩
    · exact Or.inl z
    · exact Or.inr ⟨z1, z2, z3.kept e⟩
  · rw [eR e, eR e]; exact h.2 k k' h1 h2 h3
theorem thC_wIst {M : XM} {t i a : Nat} {v : Int32} (h : a ≠ t) : thC (wI M t i v) a = thC M a := by
  unfold thC
  rw [mI_wI, mI_wI, mI_wI, if_neg (fun z => h z.1), if_neg (fun z => h z.1), if_neg (fun z => h z.1)]; rfl
/-- the first visit, behind at -/
theorem go_first {M : XM} (h : Sh M) {s r : Nat} (hs : s = 134 ∨ s = 286) (hr : ShSt M r) (r1 : 469 ≤ r) : K_State_copy r s M ∧ K_Checker_goTo_21 101 r (g_State_copy r s M) ∧ (g_Checker_goTo_21 101 r (g_State_copy r s M)).2.2 = M.2.2 ∧ (∀ n, n < 75 → thC (g_Checker_goTo_21 101 r (g_State_copy r s M)) (r + 2 + 2 * n) = thC M (s + 2 + 2 * n)) ∧ mI (g_Checker_goTo_21 101 r (g_State_copy r s M)) r 1 = mI M s 1 ∧ mI (g_Checker_goTo_21 101 r (g_State_copy r s M)) r 2 = 1 ∧ mI (g_Checker_goTo_21 101 r (g_State_copy r s M)) r 3 = 0 ∧ mI (g_Checker_goTo_21 101 r (g_State_copy r s M)) r 4 = 0 ∧ mI (g_Checker_goTo_21 101 r (g_State_copy r s M)) 101 9 = 1 ∧
    (∀ a i, ¬ (r ≤ a ∧ a < r + 152) → ¬ (a = 101 ∧ i = 9) → mI (g_Checker_goTo_21 101 r (g_State_copy r s M)) a i = mI M a i) ∧ ∀ a i, ¬ (r ≤ a ∧ a < r + 152) → mL (g_Checker_goTo_21 101 r (g_State_copy r s M)) a i = mL M a i := by
  have ss : ShSt M s := by rcases hs with e | e <;> rw [e]; exact h.St134; exact h.St286
  have s1 : s + 152 ≤ 438 := by omega
  obtain ⟨k1, e1, e2, e3, e4, e5⟩ := h_scopy hr ss (by omega)
  unfold g_Checker_goTo_21 K_Checker_goTo_21
  generalize g_State_copy r s M = N at e1 e2 e3 e4 e5 ⊢
  have t24 : mT N r = 24 := (eT e1 r).trans hr.1
  have t2 : mT N 101 = 2 := (eT e1 101).trans h.T101
  refine ⟨k1, ⟨t24, t24, t24, t2⟩, e1, fun n hn => ?_, ?_, ?_, ?_, ?_, ?_, fun a i h1 h2 => ?_, fun a i h1 => e5 a i (by omega)⟩
  · rw [thC_wIst (by omega), thC_wIst (by omega), thC_wIst (by omega), thC_wIst (by omega)]; exact e2 n hn
  · rw [mI_wI, if_neg (by omega), mI_wI, if_neg (by omega), mI_wI, if_neg (by omega), mI_wI, if_neg (by omega)]; exact e3
  · rw [mI_wI, if_neg (by omega), mI_wI, if_neg (by omega), mI_wI, if_neg (by omega), mI_wI, if_pos ⟨rfl, rfl⟩]
  · rw [mI_wI, if_neg (by omega), mI_wI, if_neg (by omega), mI_wI, if_pos ⟨rfl, rfl⟩]
  · rw [mI_wI, if_neg (by omega), mI_wI, if_pos ⟨rfl, rfl⟩]
  · rw [mI_wI, if_pos ⟨rfl, rfl⟩]
  · rw [mI_wI, if_neg h2, mI_wI, if_neg (by omega), mI_wI, if_neg (by omega), mI_wI, if_neg (by omega)]
    exact e4 a i (by omega) (by omega)
theorem c_goTo {M : XM} (h : Sh M) (hI : StI M) {k s : Nat} (hk : k < 1024) (hs : s = 134 ∨ s = 286) (back : Int32) : K_Checker_goTo 101 (Int32.ofNat k) s back M ∧ GoR k s back M (g_Checker_goTo 101 (Int32.ofNat k) s back M) := by
  obtain ⟨ka, ga⟩ := c_at h hI hk
  have hC := h.C
  unfold g_Checker_goTo K_Checker_goTo g_Checker_goTo_0 K_Checker_goTo_0
  rcases ga with ⟨c1, e1⟩ | ⟨c1, M1, e1, s1, i1, r1, mc, ms, z0, fr⟩
  · rw [e1]
    show (mT M 101 = 2 ∧ K_Checker_at 101 (Int32.ofNat k) M ∧ K_Checker_goTo_5 101 s back (mR M 442 k) M) ∧ GoR k s back M (g_Checker_goTo_5 101 s back (mR M 442 k) M)
    rcases hI.1 k hk with z | ⟨z1, z2, z3⟩
    · exact absurd z c1
    unfold g_Checker_goTo_5 K_Checker_goTo_5
    by_cases c2 : mI M (mR M 442 k) 2 = 0
    · obtain ⟨f1, f2, f3, f4, f5, f6, f7, f8, f9, f10, f11⟩ := go_first h hs z3 z1
      rw [if_pos c2]
      have eR' := eR f3
      refine ⟨⟨h.T101, ka, z3.1, fun _ => ⟨z3.1, f1, f2⟩, fun z => absurd c2 z⟩, h.kept f3, hI.kept f3, fun a ha => ⟨fun b1 b2 i => ⟨fun b3 => f10 a i (fun w => b1 ⟨c1, w⟩) b3, f11 a i (fun w => b1 ⟨c1, w⟩)⟩, fun i _ => eR' a i, eT f3 a, eN f3 a⟩, by rw [eR']; exact c1, fun _ => eR' _ _, Or.inl ⟨c1, eC f3, eS f3⟩, ?_, Or.inl ⟨fun w => w.2 c2, ?_, ?_, ?_, ?_, f9⟩⟩
      · rw [eR', f6]; decide
      · intro n hn; unfold pTh; rw [eR']; exact f4 n hn
      · unfold pKn; rw [eR']; exact f5
      · unfold pCh; rw [eR']; exact f7
      · unfold pDn; rw [eR']; exact f8
    · rw [if_neg c2]
      have ss : ShSt M s := by rcases hs with e | e <;> rw [e]; exact h.St134; exact h.St286
      have wd : (if back = 0 then g_Checker_goTo_62 101 s (mR M 442 k) M else if mI M (mR M 442 k) 3 < 2 then g_Checker_goTo_62 101 s (mR M 442 k) M else g_Checker_goTo_63 101 s (mR M 442 k) 1 M) = g_Checker_goTo_63 101 s (mR M 442 k) (wdN back (pCh M k)) M := by
        unfold wdN g_Checker_goTo_62 pCh
        by_cases b1 : back = 0
        · rw [if_pos b1, if_pos b1]
        · rw [if_neg b1, if_neg b1]
          by_cases b2 : mI M (mR M 442 k) 3 < 2
          · rw [if_pos b2, if_pos b2]
          · rw [if_neg b2, if_neg b2]
      have kw : K_Checker_goTo_63 101 s (mR M 442 k) (wdN back (pCh M k)) M → ((back = 0 → K_Checker_goTo_62 101 s (mR M 442 k) M) ∧ (¬ back = 0 → mT M (mR M 442 k) = 24 ∧ (mI M (mR M 442 k) 3 < 2 → K_Checker_goTo_62 101 s (mR M 442 k) M) ∧ (¬ mI M (mR M 442 k) 3 < 2 → K_Checker_goTo_63 101 s (mR M 442 k) 1 M))) := by
        intro z
        unfold wdN pCh at z
        refine ⟨fun b1 => ?_, fun b1 => ⟨z3.1, fun b2 => ?_, fun b2 => ?_⟩⟩
        · rw [if_pos b1] at z; exact z
        · rw [if_neg b1, if_pos b2] at z; exact z
        · rw [if_neg b1, if_neg b2] at z; exact z
      rw [wd]
      generalize hw : wdN back (pCh M k) = w at kw ⊢
      -- the loop, on the state with its new known
      have sW : ∀ v, Sh (wI M (mR M 442 k) 1 v) := fun v => h.kept rfl
      have thW : ∀ v a, a ≠ mR M 442 k → thC (wI M (mR M 442 k) 1 v) a = thC M a := fun v a ha => thC_wIst ha
      have L : ∀ c0 : Int32, (c0 = 0 ∨ c0 = 1) → (c0 = 0 ↔ ¬ mI M s 1 < pKn M k) → K_Checker_goTo_82 101 s (mR M 442 k) w c0 M ∧ GoR k s back M (g_Checker_goTo_82 101 s (mR M 442 k) w c0 M) := by
        intro c0 h01 hc0
        unfold g_Checker_goTo_82 K_Checker_goTo_82
        obtain ⟨l1, M2, c', l2, l3, l4, l5, l6⟩ := goto_loop (M := wI M (mR M 442 k) 1 (g_Math_min_II (mI M (mR M 442 k) 1) (mI M s 1))) (h.kept rfl) (s := s) (t := mR M 442 k) (ss.kept rfl) (z3.kept rfl) (by omega) z1 w c0 75 0 xF (wI M (mR M 442 k) 1 (g_Math_min_II (mI M (mR M 442 k) 1) (mI M s 1))) c0 (by decide) xF_75 Fr.rf h01 (fun n hn => absurd hn (Nat.not_lt_zero n)) (fun _ _ _ => rfl) ⟨fun q => ⟨q, fun n hn => absurd hn (Nat.not_lt_zero n)⟩, fun q => q.1⟩
        have tS : ∀ n, n < 75 → thC (wI M (mR M 442 k) 1 (g_Math_min_II (mI M (mR M 442 k) 1) (mI M s 1))) (s + 2 + 2 * n) = thC M (s + 2 + 2 * n) := fun n hn => thW _ _ (by omega)
        have tT : ∀ n, n < 75 → thC (wI M (mR M 442 k) 1 (g_Math_min_II (mI M (mR M 442 k) 1) (mI M s 1))) (mR M 442 k + 2 + 2 * n) = pTh M k n := fun n hn => thW _ _ (by omega)
        refine ⟨⟨z3.1, ss.1, z3.1, l1⟩, ?_⟩
        rw [show g_Checker_goTo_104 xF 101 s (mR M 442 k) w c0 0 (wI M (mR M 442 k) 1 (g_Math_min_II (mI M (mR M 442 k) 1) (mI M s 1))) = _ from l6]
        have f22 : (if c' = 0 then M2 else wI (wI (wI M2 (mR M 442 k) 3 (mI M2 (mR M 442 k) 3 + 1)) (mR M 442 k) 4 0) 101 9 1).2.2 = M.2.2 := by
          split
          · exact l2.1
          · exact l2.1
        have eR' := eR f22
        -- ints of the state's own name and of others
        have nGJ : ¬ GJ (mR M 442 k) (mR M 442 k) := by unfold GJ JJ; omega
        have own : ∀ i, mI M2 (mR M 442 k) i = if i = 1 then g_Math_min_II (mI M (mR M 442 k) 1) (mI M s 1) else mI M (mR M 442 k) i := fun i => by
          rw [(l2.2 _ nGJ i).1, mI_wI]
          by_cases q : i = 1
          · rw [if_pos ⟨rfl, q⟩, if_pos q]
          · rw [if_neg (fun y => q y.2), if_neg q]
        have gr9 : mI M2 101 9 = mI M 101 9 := by
          rw [(l2.2 101 (by unfold GJ JJ; omega) 9).1, mI_wI, if_neg (by omega)]
        have thF : ∀ n, n < 75 → thC (if c' = 0 then M2 else wI (wI (wI M2 (mR M 442 k) 3 (mI M2 (mR M 442 k) 3 + 1)) (mR M 442 k) 4 0) 101 9 1) (mR M 442 k + 2 + 2 * n) = thC M2 (mR M 442 k + 2 + 2 * n) := fun n hn => by
          split
          · rfl
          · rw [thC_wIst (by omega), thC_wIst (by omega), thC_wIst (by omega)]
        have inF' : ∀ a i, mI (if c' = 0 then M2 else wI (wI (wI M2 (mR M 442 k) 3 (mI M2 (mR M 442 k) 3 + 1)) (mR M 442 k) 4 0) 101 9 1) a i = if c' = 0 then mI M2 a i else if a = 101 ∧ i = 9 then 1 else if a = mR M 442 k ∧ i = 4 then 0 else if a = mR M 442 k ∧ i = 3 then mI M2 (mR M 442 k) 3 + 1 else mI M2 a i := fun a i => by
          by_cases q : c' = 0
          · rw [if_pos q, if_pos q]
          · rw [if_neg q, if_neg q, mI_wI, mI_wI, mI_wI]
        have lnF : ∀ a i, mL (if c' = 0 then M2 else wI (wI (wI M2 (mR M 442 k) 3 (mI M2 (mR M 442 k) 3 + 1)) (mR M 442 k) 4 0) 101 9 1) a i = mL M2 a i := fun a i => by
          split <;> rfl
        generalize (if c' = 0 then M2 else wI (wI (wI M2 (mR M 442 k) 3 (mI M2 (mR M 442 k) 3 + 1)) (mR M 442 k) 4 0) 101 9 1) = R at f22 eR' thF inF' lnF ⊢
        refine ⟨h.kept f22, hI.kept f22, fun a ha => ⟨fun b1 b2 i => ⟨fun b3 => ?_, ?_⟩, fun i _ => eR' a i, eT f22 a, eN f22 a⟩, by rw [eR']; exact c1, fun _ => eR' _ _, Or.inl ⟨c1, eC f22, eS f22⟩, ?_, Or.inr ⟨⟨c1, c2⟩, c', l3, ?_, ?_, ?_, ?_, ?_, ?_⟩⟩
        · have nb : ¬ GJ (mR M 442 k) a := fun w => w.elim (fun q => b1 ⟨c1, by omega, q.2⟩) b2
          have na : a ≠ mR M 442 k := fun q => b1 ⟨c1, by omega, by omega⟩
          have e0 : mI M2 a i = mI M a i := by rw [(l2.2 a nb i).1, mI_wI, if_neg (fun y => na y.1)]
          by_cases q : c' = 0
          · rw [inF', if_pos q]; exact e0
          · rw [inF', if_neg q, if_neg b3, if_neg (fun (y : a = mR M 442 k ∧ i = 4) => na y.1), if_neg (fun (y : a = mR M 442 k ∧ i = 3) => na y.1)]; exact e0
        · have nb : ¬ GJ (mR M 442 k) a := fun w => w.elim (fun q => b1 ⟨c1, by omega, q.2⟩) b2
          rw [lnF, (l2.2 a nb i).2]; rfl
        · have x1 : ¬ ((mR M 442 k = 101) ∧ (2 : Nat) = 9) := by omega
          have x2 : ¬ (mR M 442 k = mR M 442 k ∧ (2 : Nat) = 4) := by omega
          have x3 : ¬ (mR M 442 k = mR M 442 k ∧ (2 : Nat) = 3) := by omega
          have e0 : mI M2 (mR M 442 k) 2 = mI M (mR M 442 k) 2 := by rw [own, if_neg (by decide)]
          by_cases q : c' = 0
          · rw [eR', inF', if_pos q, e0]; exact c2
          · rw [eR', inF', if_neg q, if_neg x1, if_neg x2, if_neg x3, e0]; exact c2
        · rw [l5, hc0, hw]
          constructor
          · rintro ⟨q1, q2⟩
            exact ⟨q1, fun n hn => by have := q2 n hn; rw [tT n hn, tS n hn] at this; exact this⟩
          · rintro ⟨q1, q2⟩
            exact ⟨q1, fun n hn => by rw [tT n hn, tS n hn]; exact q2 n hn⟩
        · intro n hn
          have := l4 n hn
          rw [tT n hn, tS n hn] at this
          rw [hw]
          show thC R (mR R 442 k + 2 + 2 * n) = _
          rw [eR', thF n hn]; exact this
        · show mI R (mR R 442 k) 1 = _
          have x1 : ¬ ((mR M 442 k = 101) ∧ (1 : Nat) = 9) := by omega
          have x2 : ¬ (mR M 442 k = mR M 442 k ∧ (1 : Nat) = 4) := by omega
          have x3 : ¬ (mR M 442 k = mR M 442 k ∧ (1 : Nat) = 3) := by omega
          have e0 : mI M2 (mR M 442 k) 1 = g_Math_min_II (mI M (mR M 442 k) 1) (mI M s 1) := by rw [own, if_pos rfl]
          by_cases q : c' = 0
          · rw [eR', inF', if_pos q, e0]; rfl
          · rw [eR', inF', if_neg q, if_neg x1, if_neg x2, if_neg x3, e0]; rfl
        · show mI R (mR R 442 k) 3 = mI M (mR M 442 k) 3 + c'
          have x1 : ¬ ((mR M 442 k = 101) ∧ (3 : Nat) = 9) := by omega
          have x2 : ¬ (mR M 442 k = mR M 442 k ∧ (3 : Nat) = 4) := by omega
          have e0 : mI M2 (mR M 442 k) 3 = mI M (mR M 442 k) 3 := by rw [own, if_neg (by decide)]
          rcases l3 with q | q
          · rw [eR', inF', if_pos q, e0, q, Int32.add_zero]
          · rw [eR', inF', if_neg (by rw [q]; decide), if_neg x1, if_neg x2, if_pos ⟨rfl, rfl⟩, e0, q]
        · show mI R (mR R 442 k) 4 = if c' = 0 then mI M (mR M 442 k) 4 else 0
          have x1 : ¬ ((mR M 442 k = 101) ∧ (4 : Nat) = 9) := by omega
          have e0 : mI M2 (mR M 442 k) 4 = mI M (mR M 442 k) 4 := by rw [own, if_neg (by decide)]
          by_cases q : c' = 0
          · rw [eR', inF', if_pos q, if_pos q, e0]
          · rw [eR', inF', if_neg q, if_neg q, if_neg x1, if_pos ⟨rfl, rfl⟩]
        · by_cases q : c' = 0
          · rw [inF', if_pos q, if_pos q, gr9]
          · rw [inF', if_neg q, if_neg q, if_pos ⟨rfl, rfl⟩]
      unfold g_Checker_goTo_63 K_Checker_goTo_63 at *
      have i10 : ¬ (1 : Int32) = 0 := by decide
      by_cases c3 : mI M (mR M 442 k) 1 ≤ mI M s 1
      · have c3' : ¬ mI M s 1 < pKn M k := fun q => by
          have q' : mI M s 1 < mI M (mR M 442 k) 1 := q
          rw [lt_u3] at q'
          rw [Int32.le_iff_toInt_le] at c3
          omega
        obtain ⟨g1, g2⟩ := L 0 (Or.inl rfl) ⟨fun _ => c3', fun _ => rfl⟩
        rw [if_pos c3]
        exact ⟨⟨h.T101, ka, z3.1, fun q => absurd q c2, fun _ => kw ⟨ss.1, z3.1, fun _ => g1, fun q => absurd c3 q⟩⟩, g2⟩
      · have c3' : mI M s 1 < pKn M k := by
          show mI M s 1 < mI M (mR M 442 k) 1
          rw [Int32.le_iff_toInt_le] at c3
          rw [lt_u3]
          omega
        obtain ⟨g1, g2⟩ := L 1 (Or.inr rfl) ⟨fun q => absurd q i10, fun q => absurd c3' q⟩
        rw [if_neg c3]
        exact ⟨⟨h.T101, ka, z3.1, fun q => absurd q c2, fun _ => kw ⟨ss.1, z3.1, fun q => absurd q c3, fun _ => g1⟩⟩, g2⟩
  · -- a new state
    rw [e1]
    show (mT M 101 = 2 ∧ K_Checker_at 101 (Int32.ofNat k) M ∧ K_Checker_goTo_5 101 s back (mC M) M1) ∧ GoR k s back M (g_Checker_goTo_5 101 s back (mC M) M1)
    unfold g_Checker_goTo_5 K_Checker_goTo_5
    have c2 : mI M1 (mC M) 2 = 0 := z0 2
    rcases i1.1 k hk with z | ⟨z1, z2, z3⟩
    · rw [r1] at z; omega
    rw [r1] at z1 z2 z3
    obtain ⟨f1, f2, f3, f4, f5, f6, f7, f8, f9, f10, f11⟩ := go_first s1 hs z3 z1
    rw [if_pos c2]
    have eR' := eR f3
    have rk' : mR (g_Checker_goTo_21 101 (mC M) (g_State_copy (mC M) s M1)) 442 k = mC M := (eR' _ _).trans r1
    have hsl : s + 152 ≤ 438 := by omega
    refine ⟨⟨h.T101, ka, z3.1, fun _ => ⟨z3.1, f1, f2⟩, fun z => absurd c2 z⟩, s1.kept f3, i1.kept f3, fun a ha => ⟨fun b1 b2 i => ⟨fun b3 => (f10 a i (by omega) b3).trans ((fr a ha).1 i).1, (f11 a i (by omega)).trans ((fr a ha).1 i).2.1⟩, fun i b => (eR' a i).trans (((fr a ha).1 i).2.2 b), (eT f3 a).trans (fr a ha).2.1, (eN f3 a).trans (fr a ha).2.2⟩, by rw [rk']; omega, fun q => absurd c1 q, Or.inr ⟨c1, (eC f3).trans mc, (eS f3).trans ms⟩, ?_, Or.inl ⟨fun w => w.1 c1, ?_, ?_, ?_, ?_, f9⟩⟩
    · rw [rk', f6]; decide
    · intro n hn
      unfold pTh
      rw [rk', f4 n hn]
      have a1 := fr (s + 2 + 2 * n) (by omega)
      have a2 := fr (s + 2 + 2 * n + 1) (by omega)
      unfold thC gv6
      rw [(a1.1 0).1, (a1.1 1).1, (a1.1 2).1, (a2.1 0).2.1, (a2.1 1).2.1, (a2.1 2).2.1, (a2.1 3).2.1, (a2.1 4).2.1, (a2.1 5).2.1]
    · unfold pKn; rw [rk', f5]; exact ((fr s (by omega)).1 1).1
    · unfold pCh; rw [rk']; exact f7
    · unfold pDn; rw [rk']; exact f8
