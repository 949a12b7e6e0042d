/-! part 47zzzh: the component's visit (gen/tpl.py) -/
noncomputable def TbC (M : XM) : Tb := fun k => cif (pIs M k) (some (vwC M (mR M 442 k), pKn M k, pCh M k)) none
def zr (f : Nat → Nat) : Nat → Nat
  | 0 => 0
  | n + 1 => zr f n + if f n = 0 then 1 else 0
theorem zr_same {f g : Nat → Nat} : ∀ n, (∀ k, k < n → f k = g k) → zr f n = zr g n
  | 0, _ => rfl
  | n + 1, h => by
    show zr f n + _ = zr g n + _
    rw [zr_same n (fun k hk => h k (by omega)), h n (by omega)]
theorem zr_one {f g : Nat → Nat} {q : Nat} (h0 : f q = 0) (h1 : g q ≠ 0) (he : ∀ k, k ≠ q → f k = g k) : ∀ n, q < n → zr f n = zr g n + 1
  | 0, h => absurd h (Nat.not_lt_zero q)
  | n + 1, h => by
    show zr f n + (if f n = 0 then 1 else 0) = zr g n + (if g n = 0 then 1 else 0) + 1
    by_cases c : q = n
    · subst c
      rw [if_pos h0, if_neg h1, zr_same q (fun k hk => he k (by omega))]
    · rw [zr_one h0 h1 he n (by omega), he n (fun z => c z.symm)]
      omega
def pC (M : XM) : Nat := mC M + 152 * zr (fun k => mR M 442 k) 1024
def pS (M : XM) : Nat := mS M + 830 * zr (fun k => mR M 442 k) 1024
/-- what a visit leaves of the first cells -/
def VF (M X : XM) : Prop := Kp M X ∧ (∀ a i, a < 469 → ¬ TJ a → ¬ JJ a → ¬ (a = 101 ∧ i = 9) → mI X a i = mI M a i) ∧ ∀ a i, a < 469 → ¬ TJ a → ¬ JJ a → mL X a i = mL M a i
theorem VF.rf {M : XM} : VF M M := ⟨⟨fun _ _ => ⟨rfl, rfl⟩, fun _ _ _ _ => rfl, Nat.le_refl _⟩, fun _ _ _ _ _ _ => rfl, fun _ _ _ _ _ => rfl⟩
theorem VF.trans {M M1 M2 : XM} (h : VF M M1) (h' : VF M1 M2) : VF M M2 :=
  ⟨⟨fun a ha => ⟨(h'.1.1 a ha).1.trans (h.1.1 a ha).1, (h'.1.1 a ha).2.trans (h.1.1 a ha).2⟩, fun a i ha hn => (h'.1.2.1 a i ha hn).trans (h.1.2.1 a i ha hn), Nat.le_trans h.1.2.2 h'.1.2.2⟩,
   fun a i h1 h2 h3 h4 => (h'.2.1 a i h1 h2 h3 h4).trans (h.2.1 a i h1 h2 h3 h4), fun a i h1 h2 h3 => (h'.2.2 a i h1 h2 h3).trans (h.2.2 a i h1 h2 h3)⟩
theorem vwC_eq {M X : XM} {r r' : Nat} (h : ∀ n, n < 75 → thC X (r' + 2 + 2 * n) = thC M (r + 2 + 2 * n)) : vwC X r' = vwC M r := by
  funext n
  unfold vwC
  by_cases q : n < 75
  · simp only [if_pos q]; exact h n q
  · simp only [if_neg q]
theorem TbC.eq {M X : XM} {k : Nat} (hr : mR X 442 k = mR M 442 k) (hv : vwC X (mR M 442 k) = vwC M (mR M 442 k)) (hi : ∀ i, i < 4 → mI X (mR M 442 k) i = mI M (mR M 442 k) i) : TbC X k = TbC M k := by
  have e2 := hi 2 (by omega)
  have e1 := hi 1 (by omega)
  have e3 := hi 3 (by omega)
  unfold TbC pIs pKn pCh
  rw [hr, e1, e2, e3, hv]
theorem TbC.is {M : XM} {k : Nat} (h : pIs M k) : TbC M k = some (vwC M (mR M 442 k), pKn M k, pCh M k) := cif_pos h
theorem TbC.no {M : XM} {k : Nat} (h : ¬ pIs M k) : TbC M k = none := cif_neg h
section CG
variable {M : XM}
theorem c_go1 (h : Sh M) (hI : StI M) {k s : Nat} (hk : k < 1024) (hs : s = 134 ∨ s = 286) (back : Int32) {σ : Sg} {kn : Int32} (hv : vwC M s = σ) (hn : mI M s 1 = kn) :
    K_Checker_goTo 101 (Int32.ofNat k) s back M ∧ Sh (g_Checker_goTo 101 (Int32.ofNat k) s back M) ∧ StI (g_Checker_goTo 101 (Int32.ofNat k) s back M) ∧ VF M (g_Checker_goTo 101 (Int32.ofNat k) s back M) ∧ pC (g_Checker_goTo 101 (Int32.ofNat k) s back M) = pC M ∧ pS (g_Checker_goTo 101 (Int32.ofNat k) s back M) = pS M ∧
    (∀ j, j < 1024 → TbC (g_Checker_goTo 101 (Int32.ofNat k) s back M) j = if j = k then (pGo back (TbC M k) (σ, kn)).1 else TbC M j) ∧ mI (g_Checker_goTo 101 (Int32.ofNat k) s back M) 101 9 = (if (pGo back (TbC M k) (σ, kn)).2 = 0 then mI M 101 9 else 1) ∧
    (∀ j, j < 1024 → mR (g_Checker_goTo 101 (Int32.ofNat k) s back M) 442 j ≠ 0 → pDn (g_Checker_goTo 101 (Int32.ofNat k) s back M) j ≠ 0 → TbC (g_Checker_goTo 101 (Int32.ofNat k) s back M) j = TbC M j ∧ mR M 442 j ≠ 0 ∧ pDn M j ≠ 0) ∧
    (∀ q, q = 134 ∨ q = 286 → q ≠ s → vwC (g_Checker_goTo 101 (Int32.ofNat k) s back M) q = vwC M q ∧ mI (g_Checker_goTo 101 (Int32.ofNat k) s back M) q 1 = mI M q 1) ∧ (∀ i, mI (g_Checker_goTo 101 (Int32.ofNat k) s back M) 133 i = mI M 133 i) := by
  obtain ⟨k1, s1, i1, gf, nz, ks, room, is2, body⟩ := c_goTo h hI hk hs back
  generalize g_Checker_goTo 101 (Int32.ofNat k) s back M = X at s1 i1 gf nz ks room is2 body ⊢
  have hC := h.C
  have fr : ∀ a, a < 469 → (¬ JJ a → ∀ i, (¬ (a = 101 ∧ i = 9) → mI X a i = mI M a i) ∧ mL X a i = mL M a i) ∧ (∀ i, ¬ (a = 442 ∧ i = k) → mR X a i = mR M a i) ∧ mT X a = mT M a ∧ mN X a = mN M a := by
    intro a ha
    obtain ⟨f1, f2, f3, f4⟩ := gf a (by omega)
    refine ⟨fun j => f1 (fun z => ?_) j, f2, f3, f4⟩
    rcases hI.1 k hk with q | ⟨q, _⟩
    · exact z.1 q
    · omega
  have ko : ∀ j, j ≠ k → mR X 442 j = mR M 442 j := fun j hj => (fr 442 (by decide)).2.1 j (fun z => hj z.2)
  have vf : VF M X := by
    refine ⟨⟨fun a ha => ⟨(fr a ha).2.2.1, (fr a ha).2.2.2⟩, fun a i ha hn => (fr a ha).2.1 i (fun z => hn z.1), ?_⟩, fun a i ha _ hj h9 => ((fr a ha).1 hj i).1 h9, fun a i ha _ hj => ((fr a ha).1 hj i).2⟩
    rcases room with ⟨_, e, _⟩ | ⟨_, e, _⟩ <;> omega
  have pcs : pC X = pC M ∧ pS X = pS M := by
    unfold pC pS
    rcases room with ⟨a, b, c⟩ | ⟨a, b, c⟩
    · have e : zr (fun k => mR X 442 k) 1024 = zr (fun k => mR M 442 k) 1024 := zr_same 1024 (fun j _ => by
        by_cases q : j = k
        · rw [q]; exact ks a
        · exact ko j q)
      rw [e, b, c]; exact ⟨rfl, rfl⟩
    · have e := zr_one (f := fun k => mR M 442 k) (g := fun k => mR X 442 k) (q := k) a nz (fun j hj => (ko j hj).symm) 1024 hk
      rw [b, c]
      constructor <;> omega
  -- a state that isn't k's
  have oth : ∀ j, j < 1024 → j ≠ k → mR M 442 j ≠ 0 → vwC X (mR M 442 j) = vwC M (mR M 442 j) ∧ ∀ i, mI X (mR M 442 j) i = mI M (mR M 442 j) i := by
    intro j hj jk nz'
    rcases hI.1 j hj with q | ⟨q1, q2, q3⟩
    · exact absurd q nz'
    · have out : ∀ a, mR M 442 j ≤ a → a < mR M 442 j + 152 → ∀ i, mI X a i = mI M a i ∧ mL X a i = mL M a i := by
        intro a l1 l2 i
        obtain ⟨f1, _⟩ := gf a (by omega)
        have nj : ¬ JJ a := by unfold JJ; omega
        have := f1 (fun z => by
          rcases hI.2 j k hj hk jk nz' z.1 with y | y <;> omega) nj i
        exact ⟨this.1 (by omega), this.2⟩
      refine ⟨vwC_eq (fun n hn => ?_), fun i => (out _ (Nat.le_refl _) (by omega) i).1⟩
      unfold thC gv6
      rw [(out (mR M 442 j + 2 + 2 * n) (by omega) (by omega) 0).1, (out (mR M 442 j + 2 + 2 * n) (by omega) (by omega) 1).1, (out (mR M 442 j + 2 + 2 * n) (by omega) (by omega) 2).1,
        (out (mR M 442 j + 2 + 2 * n + 1) (by omega) (by omega) 0).2, (out (mR M 442 j + 2 + 2 * n + 1) (by omega) (by omega) 1).2, (out (mR M 442 j + 2 + 2 * n + 1) (by omega) (by omega) 2).2, (out (mR M 442 j + 2 + 2 * n + 1) (by omega) (by omega) 3).2, (out (mR M 442 j + 2 + 2 * n + 1) (by omega) (by omega) 4).2, (out (mR M 442 j + 2 + 2 * n + 1) (by omega) (by omega) 5).2]
  have tbo : ∀ j, j < 1024 → j ≠ k → TbC X j = TbC M j := by
    intro j hj jk
    by_cases z : mR M 442 j = 0
    · rw [TbC.no (M := M) (fun q => q.1 z), TbC.no (M := X) (fun q => q.1 (by rw [ko j jk]; exact z))]
    · obtain ⟨o1, o2⟩ := oth j hj jk z
      exact TbC.eq (ko j jk) o1 (fun i _ => o2 i)
  have isX : pIs X k := ⟨nz, is2⟩
  have scr : (∀ q, q = 134 ∨ q = 286 → q ≠ s → vwC X q = vwC M q ∧ mI X q 1 = mI M q 1) ∧ ∀ i, mI X 133 i = mI M 133 i := by
    have nj : ∀ a, 133 ≤ a → a < 438 → ¬ JJ a := fun a l1 l2 => by unfold JJ; omega
    refine ⟨fun q hq _ => ⟨vwC_eq (fun n hn => ?_), ((fr q (by omega)).1 (nj q (by omega) (by omega)) 1).1 (by omega)⟩, fun i => ((fr 133 (by decide)).1 (nj 133 (by decide) (by decide)) i).1 (by omega)⟩
    have t1 := (fr (q + 2 + 2 * n) (by omega)).1 (nj _ (by omega) (by omega))
    have t2 := (fr (q + 2 + 2 * n + 1) (by omega)).1 (nj _ (by omega) (by omega))
    unfold thC gv6
    rw [(t1 0).1 (by omega), (t1 1).1 (by omega), (t1 2).1 (by omega), (t2 0).2, (t2 1).2, (t2 2).2, (t2 3).2, (t2 4).2, (t2 5).2]
  have vs : ∀ n, n < 75 → thC M (s + 2 + 2 * n) = σ n := fun n hn => by rw [← hv]; exact (vwC_at hn).symm
  have res : (TbC X k = (pGo back (TbC M k) (σ, kn)).1) ∧ mI X 101 9 = (if (pGo back (TbC M k) (σ, kn)).2 = 0 then mI M 101 9 else 1) ∧ (pDn X k ≠ 0 → TbC X k = TbC M k ∧ mR M 442 k ≠ 0 ∧ pDn M k ≠ 0) := by
    rcases body with ⟨ni, th, e1, e3, e4, e9⟩ | ⟨is, c, c01, cz, th, e1, e3, e4, e9⟩
    · rw [TbC.no ni, TbC.is isX]
      have v : vwC X (mR X 442 k) = σ := by
        funext n
        unfold vwC
        by_cases q : n < 75
        · rw [if_pos q]
          have := th n q
          unfold pTh at this
          rw [this, vs n q]
        · rw [if_neg q, ← hv]; unfold vwC; rw [if_neg q]
      rw [v, e1, e3, hn]
      refine ⟨rfl, ?_, fun z => absurd e4 z⟩
      show mI X 101 9 = if (1 : Int32) = 0 then mI M 101 9 else 1
      rw [if_neg i1_0, e9]
    · rw [TbC.is is, TbC.is isX]
      have v : vwC X (mR X 442 k) = pJn (wdN back (pCh M k)) (vwC M (mR M 442 k)) σ := by
        funext n
        unfold pJn
        by_cases q : n < 75
        · rw [if_pos q, vwC_at q, vwC_at q]
          have := th n q
          unfold pTh at this
          rw [this, vs n q]
        · rw [if_neg q]; unfold vwC; rw [if_neg q]
      have je : (∀ n, n < 75 → pJoin (slN n) (wdN back (pCh M k)) (pTh M k n) (thC M (s + 2 + 2 * n)) = pTh M k n) ↔ pJn (wdN back (pCh M k)) (vwC M (mR M 442 k)) σ = vwC M (mR M 442 k) := by
        constructor
        · intro z
          funext n
          unfold pJn
          by_cases y : n < 75
          · rw [if_pos y, ← vs n y, vwC_at y]; exact z n y
          · rw [if_neg y]; unfold vwC; rw [if_neg y]
        · intro z n hn
          have := congrFun z n
          unfold pJn at this
          rw [if_pos hn, ← vs n hn, vwC_at hn] at this
          exact this
      show some (vwC X (mR X 442 k), pKn X k, pCh X k) = (cif (¬ kn < pKn M k ∧ pJn (wdN back (pCh M k)) (vwC M (mR M 442 k)) σ = vwC M (mR M 442 k)) (some (vwC M (mR M 442 k), pKn M k, pCh M k), (0 : Int32)) (some (pJn (wdN back (pCh M k)) (vwC M (mR M 442 k)) σ, mnK (pKn M k) kn, pCh M k + 1), 1)).1 ∧ mI X 101 9 = (if (cif (¬ kn < pKn M k ∧ pJn (wdN back (pCh M k)) (vwC M (mR M 442 k)) σ = vwC M (mR M 442 k)) (some (vwC M (mR M 442 k), pKn M k, pCh M k), (0 : Int32)) (some (pJn (wdN back (pCh M k)) (vwC M (mR M 442 k)) σ, mnK (pKn M k) kn, pCh M k + 1), 1)).2 = 0 then mI M 101 9 else 1) ∧ (pDn X k ≠ 0 → some (vwC X (mR X 442 k), pKn X k, pCh X k) = some (vwC M (mR M 442 k), pKn M k, pCh M k) ∧ mR M 442 k ≠ 0 ∧ pDn M k ≠ 0)
      rw [v, e1, e3, hn]
      have emn : g_Math_min_II (pKn M k) kn = mnK (pKn M k) kn := rfl
      rw [emn]
      rw [hn] at cz
      by_cases c0 : c = 0
      · obtain ⟨z1, z2⟩ := cz.mp c0
        have cc : ¬ kn < pKn M k ∧ pJn (wdN back (pCh M k)) (vwC M (mR M 442 k)) σ = vwC M (mR M 442 k) := ⟨z1, je.mp z2⟩
        rw [cif_pos cc, cc.2, if_pos rfl]
        rw [if_pos c0] at e4 e9
        have em : mnK (pKn M k) kn = pKn M k := by unfold mnK; rw [if_neg z1]
        rw [em, c0, Int32.add_zero]
        exact ⟨rfl, e9, fun z => ⟨rfl, is.1, by rw [e4] at z; exact z⟩⟩
      · have cc : ¬ (¬ kn < pKn M k ∧ pJn (wdN back (pCh M k)) (vwC M (mR M 442 k)) σ = vwC M (mR M 442 k)) := fun z => c0 (cz.mpr ⟨z.1, je.mpr z.2⟩)
        rw [cif_neg cc, if_neg i1_0]
        rw [if_neg c0] at e4 e9
        rw [c01.resolve_left c0]
        exact ⟨rfl, e9, fun z => absurd e4 z⟩
  refine ⟨k1, s1, i1, vf, pcs.1, pcs.2, fun j hj => ?_, res.2.1, fun j hj nzj dj => ?_, scr⟩
  · by_cases c : j = k
    · rw [if_pos c, c]; exact res.1
    · rw [if_neg c]; exact tbo j hj c
  · by_cases c : j = k
    · rw [c] at dj ⊢; exact res.2.2 dj
    · have z : mR M 442 j ≠ 0 := by rw [← ko j c]; exact nzj
      refine ⟨tbo j hj c, z, ?_⟩
      unfold pDn at dj ⊢
      rw [ko j c, (oth j hj c z).2 4] at dj
      exact dj
end CG
