/-! part 47zx: a new state (gen/tpl.py) -/
/-- names below r are as they were -/
def Old (r : Nat) (M M' : XM) : Prop := ∀ a, a < r → (∀ i, mI M' a i = mI M a i ∧ mL M' a i = mL M a i ∧ mR M' a i = mR M a i) ∧ mT M' a = mT M a ∧ mN M' a = mN M a
theorem Old.rf {r : Nat} {M : XM} : Old r M M := fun _ _ => ⟨fun _ => ⟨rfl, rfl, rfl⟩, rfl, rfl⟩
theorem Old.trans {r : Nat} {M M1 M2 : XM} (h : Old r M M1) (h' : Old r M1 M2) : Old r M M2 := fun a ha => ⟨fun i => ⟨((h' a ha).1 i).1.trans ((h a ha).1 i).1, ((h' a ha).1 i).2.1.trans ((h a ha).1 i).2.1, ((h' a ha).1 i).2.2.trans ((h a ha).1 i).2.2⟩, (h' a ha).2.1.trans (h a ha).2.1, (h' a ha).2.2.trans (h a ha).2.2⟩
theorem Old.wn {r t n : Nat} {M : XM} (h : r ≤ mC M) : Old r M (wN M t n) := fun a ha => by
  have ne : a ≠ mC M := by omega
  refine ⟨fun i => ⟨?_, ?_, ?_⟩, ?_, ?_⟩
  · rw [mI_wN, if_neg ne]
  · rw [mL_wN, if_neg ne]
  · rw [mR_wN, if_neg ne]
  · rw [mT_wN, if_neg ne]
  · rw [mN_wN, if_neg ne]
theorem Old.wi {r q k : Nat} {v : Int32} {M : XM} (h : r ≤ q) : Old r M (wI M q k v) := fun a ha => ⟨fun i => ⟨by rw [mI_wI, if_neg (by omega)], rfl, rfl⟩, rfl, rfl⟩
theorem Old.wr {r q k v : Nat} {M : XM} (h : r ≤ q) : Old r M (wR M q k v) := fun a ha => ⟨fun i => ⟨rfl, rfl, by rw [mR_wR, if_neg (by omega)]⟩, rfl, rfl⟩
/-- one thing more -/
theorem thing_new {M : XM} {p : Nat} (hp : mC M = p) (h1 : 1 ≤ p) : K_Thing_init p (wN M 25 4) ∧ ShTh (g_Thing_init p (wN M 25 4)) p ∧ mC (g_Thing_init p (wN M 25 4)) = p + 2 ∧ mS (g_Thing_init p (wN M 25 4)) = mS M + 10 ∧ Old p M (g_Thing_init p (wN M 25 4)) := by
  subst hp
  unfold g_Thing_init g_Thing_init_0 g_Thing_init_9 g_Thing_init_13 K_Thing_init K_Thing_init_0 K_Thing_init_9 K_Thing_init_13
  have c1 : mC (wI (wN M 25 4) (mC M) 2 (-1)) = mC M + 1 := rfl
  refine ⟨?_, ?_, ?_, ?_, ?_⟩
  · rw [c1]
    refine ⟨by omega, by rw [mT_wN, if_pos rfl], by omega, ?_, ?_⟩
    · show mC M + 1 ≠ 0
      omega
    rw [mT_wN, c1, if_neg (by omega), mT_wI, mT_wN, if_pos rfl]
  · rw [c1]
    refine ⟨?_, ?_, ?_⟩
    · rw [mT_wR, mT_wN, c1, if_neg (by omega), mT_wI, mT_wN, if_pos rfl]
    · rw [mR_wR, if_pos ⟨rfl, rfl⟩]
    · rw [mT_wR, mT_wN, c1, if_pos rfl]
  · rfl
  · show mS M + 4 + 6 = mS M + 10
    omega
  · rw [c1]
    exact (Old.wn (Nat.le_refl _)).trans ((Old.wi (Nat.le_refl _)).trans ((Old.wn (by rw [c1]; omega)).trans (Old.wr (Nat.le_refl _))))
theorem ShTh.old {M M' : XM} {r q : Nat} (h : ShTh M q) (o : Old r M M') (hq : q + 1 < r) : ShTh M' q := ⟨(o q (by omega)).2.1.trans h.1, ((o q (by omega)).1 3).2.2.trans h.2.1, (o (q + 1) hq).2.1.trans h.2.2⟩
theorem state_loop {r : Nat} (h1 : 1 ≤ r) : ∀ (m k f : Nat) (M : XM), k + m = 75 → m < f → mC M = r + 2 + 2 * k → mT M r = 24 → mR M r 0 = r + 1 → mT M (r + 1) = 106 → mN M (r + 1) = 75 → (∀ n, n < k → mR M (r + 1) n = r + 2 + 2 * n ∧ ShTh M (r + 2 + 2 * n)) →
    K_State_init_15 f r (Int32.ofNat k) M ∧ ShSt (g_State_init_15 f r (Int32.ofNat k) M) r ∧ mC (g_State_init_15 f r (Int32.ofNat k) M) = r + 152 ∧ mS (g_State_init_15 f r (Int32.ofNat k) M) = mS M + 10 * m ∧ Old (r + 1) M (g_State_init_15 f r (Int32.ofNat k) M) := by
  intro m
  induction m with
  | zero =>
    intro k f M hk hf e1 e2 e3 e4 e5 e6
    obtain rfl : k = 75 := by omega
    obtain ⟨f, rfl⟩ : ∃ f', f = f' + 1 := ⟨f - 1, by omega⟩
    conv => unfold K_State_init_15 g_State_init_15
    have i1 : (75 : Int32) ≤ Int32.ofNat 75 := by decide
    rw [if_pos i1]
    exact ⟨fun z => absurd i1 z, ⟨e2, e3, e4, e5, e6⟩, by omega, by omega, Old.rf⟩
  | succ m ih =>
    intro k f M hk hf e1 e2 e3 e4 e5 e6
    obtain ⟨f, rfl⟩ : ∃ f', f = f' + 1 := ⟨f - 1, by omega⟩
    have hk75 : k < 75 := by omega
    have i1 : ¬ (75 : Int32) ≤ Int32.ofNat k := i32_le75 ⟨k, hk75⟩
    have ik : ix (Int32.ofNat k) = k := ix75 ⟨k, by omega⟩
    have vk : vp_in (Int32.ofNat k) 75 := vp75 ⟨k, hk75⟩
    have en : Int32.ofNat k + 1 = Int32.ofNat (k + 1) := by rw [Int32.ofNat_add]; rfl
    obtain ⟨t1, t2, t3, t4, t5⟩ := thing_new e1 (by omega)
    conv => unfold K_State_init_15 g_State_init_15
    rw [if_neg i1]
    unfold g_State_init_29 K_State_init_29 g_State_init_33 K_State_init_33
    rw [e1, e3, ik, en]
    generalize g_Thing_init (r + 2 + 2 * k) (wN M 25 4) = M1 at t2 t3 t4 t5 ⊢
    have oR : ∀ a i, a < r + 2 + 2 * k → mR M1 a i = mR M a i := fun a i h => ((t5 a h).1 i).2.2
    have nx := ih (k + 1) f (wR M1 (r + 1) k (r + 2 + 2 * k)) (by omega) (by omega) (by rw [mC_wR]; omega) ?_ ?_ ?_ ?_ ?_
    · obtain ⟨n1, n2, n3, n4, n5⟩ := nx
      refine ⟨fun _ => ⟨e2, by omega, t1, ?_, t2.1, ?_, n1⟩, n2, n3, ?_, ?_⟩
      · exact (t5 (r + 1) (by omega)).2.1.trans e4
      · rw [(t5 (r + 1) (by omega)).2.2, e5]; exact vk
      · rw [n4, mS_wR, t4]; omega
      · intro a ha
        have o1 := t5 a (by omega)
        have o2 := n5 a ha
        refine ⟨fun i => ⟨(o2.1 i).1.trans (o1.1 i).1, (o2.1 i).2.1.trans (o1.1 i).2.1, ?_⟩, o2.2.1.trans o1.2.1, o2.2.2.trans o1.2.2⟩
        rw [(o2.1 i).2.2, mR_wR, if_neg (by omega)]
        exact (o1.1 i).2.2
    · rw [mT_wR, (t5 r (by omega)).2.1]; exact e2
    · rw [mR_wR, if_neg (by omega), oR _ _ (by omega)]; exact e3
    · rw [mT_wR, (t5 (r + 1) (by omega)).2.1]; exact e4
    · rw [mN_wR, (t5 (r + 1) (by omega)).2.2]; exact e5
    · intro n hn
      by_cases q : n = k
      · rw [q, mR_wR, if_pos ⟨rfl, rfl⟩]
        refine ⟨rfl, t2.1, ?_, t2.2.2⟩
        rw [mR_wR, if_neg (by omega)]; exact t2.2.1
      · obtain ⟨x1, x2⟩ := e6 n (by omega)
        refine ⟨?_, ?_⟩
        · rw [mR_wR, if_neg (by omega), oR _ _ (by omega)]; exact x1
        · have x3 := x2.old t5 (by omega)
          refine ⟨x3.1, ?_, x3.2.2⟩
          rw [mR_wR, if_neg (by omega)]; exact x3.2.1
theorem state_new {M : XM} {r : Nat} (hr : mC M = r) (h1 : 1 ≤ r) : K_State_init r (wN M 24 5) ∧ ShSt (g_State_init r (wN M 24 5)) r ∧ mC (g_State_init r (wN M 24 5)) = r + 152 ∧ mS (g_State_init r (wN M 24 5)) = mS M + 830 ∧ Old r M (g_State_init r (wN M 24 5)) ∧ ∀ i, mI (g_State_init r (wN M 24 5)) r i = 0 := by
  subst hr
  have c1 : mC (wN M 24 5) = mC M + 1 := rfl
  unfold g_State_init K_State_init g_State_init_0 K_State_init_0 g_State_init_10 K_State_init_10
  rw [c1]
  have t0 : mT (wN (wN M 24 5) 106 75) (mC M) = 24 := by rw [mT_wN, c1, if_neg (by omega), mT_wN, if_pos rfl]
  obtain ⟨l1, l2, l3, l4, l5⟩ := state_loop (r := mC M) h1 75 0 xF (wR (wN (wN M 24 5) 106 75) (mC M) 0 (mC M + 1)) (by decide) xF_75 rfl (by rw [mT_wR]; exact t0) (by rw [mR_wR, if_pos ⟨rfl, rfl⟩]) (by rw [mT_wR, mT_wN, c1, if_pos rfl]) (by rw [mN_wR, mN_wN, c1, if_pos rfl]) (fun n hn => absurd hn (Nat.not_lt_zero n))
  refine ⟨⟨by omega, t0, l1⟩, l2, l3, ?_, ?_, fun i => ?_⟩
  · rw [show (Int32.ofNat 0) = 0 from rfl] at l4
    rw [l4]
    show mS M + 5 + 75 + 10 * 75 = mS M + 830
    omega
  · have o1 : Old (mC M) M (wR (wN (wN M 24 5) 106 75) (mC M) 0 (mC M + 1)) := (Old.wn (Nat.le_refl _)).trans ((Old.wn (by rw [c1]; omega)).trans (Old.wr (Nat.le_refl _)))
    intro a ha
    have x1 := o1 a ha
    have x2 := l5 a (by omega)
    exact ⟨fun i => ⟨(x2.1 i).1.trans (x1.1 i).1, (x2.1 i).2.1.trans (x1.1 i).2.1, (x2.1 i).2.2.trans (x1.1 i).2.2⟩, x2.2.1.trans x1.2.1, x2.2.2.trans x1.2.2⟩
  · refine Eq.trans ((l5 (mC M) (by omega)).1 i).1 ?_
    rw [mI_wR, mI_wN, c1, if_neg (by omega), mI_wN, if_pos rfl]
