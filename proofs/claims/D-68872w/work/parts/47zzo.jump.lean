/-! part 47zzo: the component's Transfer: jumps, whole; run (gen/tpl.py) -/
def stK (og z : Int32) (σ : Sg) (k : Nat) : Sg := fun n => if n < k ∧ (σ n).so = 8 ∧ (σ n).og = og then (if z = 0 then (7, (σ n).de, -1, vOne 0) else tNu (vOne 0)) else σ n
def SQ (r : Nat) (M : XM) (og z : Int32) (X : XM) : Prop := SF r M X ∧ vwC X r = stK og z (vwC M r) 75 ∧ mI X r 1 = mI M r 1
theorem settle_loop {M : XM} (h : Sh M) {r : Nat} (hr : r = 134 ∨ r = 286) (og z : Int32) : ∀ (m k f : Nat) (M1 : XM), k + m = 75 → m < f → SF r M M1 → mI M1 r 1 = mI M r 1 → vwC M1 r = stK og z (vwC M r) k →
    K_Transfer_settle_12 f og z (r + 1) 75 (Int32.ofNat k) M1 ∧ SQ r M og z (g_Transfer_settle_12 f og z (r + 1) 75 (Int32.ofNat k) M1) := by
  intro m
  induction m with
  | zero =>
    intro k f M1 hk hf nf hkn hv
    obtain rfl : k = 75 := by omega
    obtain ⟨f, rfl⟩ : ∃ f', f = f' + 1 := ⟨f - 1, by omega⟩
    conv => unfold K_Transfer_settle_12 g_Transfer_settle_12
    have i1 : (75 : Int32) ≤ Int32.ofNat 75 := by decide
    rw [if_pos i1]
    exact ⟨fun z => absurd i1 z, nf, hv, hkn⟩
  | succ m ih =>
    intro k f M1 hk hf nf hkn hv
    obtain ⟨f, rfl⟩ : ∃ f', f = f' + 1 := ⟨f - 1, by omega⟩
    have hk75 : k < 75 := by omega
    have i1 : ¬ (75 : Int32) ≤ Int32.ofNat k := i32_le75 ⟨k, hk75⟩
    have ik : ix (Int32.ofNat k) = k := ix75 ⟨k, by omega⟩
    have vk : vp_in (Int32.ofNat k) 75 := vp75 ⟨k, hk75⟩
    have ia : Int32.ofNat k + 1 = Int32.ofNat (k + 1) := i32_1add ⟨k, hk75⟩
    have s1 := nf.sh h
    have st := s1.stT hr
    have tK := (st.2.2.2.2 k hk75).2
    have eK : thC M1 (r + 2 + 2 * k) = vwC M r k := by
      have := congrFun hv k
      unfold stK at this
      rw [if_neg (fun z => absurd z.1 (Nat.lt_irrefl k)), vwC_at hk75] at this; exact this
    have eK0 : mI M1 (r + 2 + 2 * k) 0 = (vwC M r k).so := by rw [← eK]; rfl
    have eK1 : mI M1 (r + 2 + 2 * k) 1 = (vwC M r k).de := by rw [← eK]; rfl
    have eK2 : mI M1 (r + 2 + 2 * k) 2 = (vwC M r k).og := by rw [← eK]; rfl
    conv => unfold K_Transfer_settle_12 g_Transfer_settle_12
    rw [if_neg i1]
    unfold g_Transfer_settle_25 K_Transfer_settle_25 g_Transfer_settle_70 K_Transfer_settle_70
    rw [st.2.2.2.1, ik, (st.2.2.2.2 k hk75).1, eK0, eK1, eK2, ia]
    obtain ⟨u1, u2⟩ := h_become tK 7 (vwC M r k).de (-1)
    obtain ⟨u3, u4⟩ := h_number tK 0
    rw [u1, u3]
    have Y : ∀ t, t = (if z = 0 then (7, (vwC M r k).de, -1, vOne 0) else tNu (vOne 0)) → ((vwC M r k).so = 8 ∧ (vwC M r k).og = og) → K_Transfer_settle_12 f og z (r + 1) 75 (Int32.ofNat (k + 1)) (sT M1 (r + 2 + 2 * k) t) ∧ SQ r M og z (g_Transfer_settle_12 f og z (r + 1) 75 (Int32.ofNat (k + 1)) (sT M1 (r + 2 + 2 * k) t)) := by
      intro t et hc
      obtain ⟨n1, n2, n3⟩ := SF.st (M := M1) hr hk75 t
      refine ih (k + 1) f _ (by omega) (by omega) (nf.trans n1) (n3.trans hkn) ?_
      rw [n2, hv]
      funext n
      unfold up stK
      by_cases e : n = k
      · rw [if_pos e, e, if_pos ⟨by omega, hc⟩, et]
      · rw [if_neg e]
        by_cases q : n < k ∧ (vwC M r n).so = 8 ∧ (vwC M r n).og = og
        · have q' : n < k + 1 ∧ (vwC M r n).so = 8 ∧ (vwC M r n).og = og := ⟨by omega, q.2⟩
          rw [if_pos q, if_pos q']
        · rw [if_neg q, if_neg (fun z => q ⟨by omega, z.2⟩)]
    have N : ¬ ((vwC M r k).so = 8 ∧ (vwC M r k).og = og) → K_Transfer_settle_12 f og z (r + 1) 75 (Int32.ofNat (k + 1)) M1 ∧ SQ r M og z (g_Transfer_settle_12 f og z (r + 1) 75 (Int32.ofNat (k + 1)) M1) := by
      intro hc
      refine ih (k + 1) f M1 (by omega) (by omega) nf hkn ?_
      rw [hv]
      funext n
      unfold stK
      by_cases q : n < k ∧ (vwC M r n).so = 8 ∧ (vwC M r n).og = og
      · have q' : n < k + 1 ∧ (vwC M r n).so = 8 ∧ (vwC M r n).og = og := ⟨by omega, q.2⟩
        rw [if_pos q, if_pos q']
      · rw [if_neg q, if_neg]
        rintro ⟨z1, z2⟩
        by_cases e : n = k
        · rw [e] at z2; exact hc z2
        · exact q ⟨by omega, z2⟩
    refine And.imp_left (fun x => fun _ => x) ?_
    refine kq_and st.2.2.1 (kq_and vk (kq_and tK.1 (kq_if (fun c8 => kq_and tK.1 (kq_if (fun c9 => kq_if (fun a => ?_) (fun a => ?_)) (fun c9 => N (fun z => c9 z.2)))) (fun c8 => N (fun z => c8 z.1)))))
    · exact kq_and tK.1 (kq_and tK.1 (kq_and u2 (Y _ (by rw [if_pos a]) ⟨c8, c9⟩)))
    · exact kq_and tK.1 (kq_and u4 (Y _ (by rw [if_neg a]) ⟨c8, c9⟩))
theorem stK_stl {σ : Sg} {og z : Int32} {P : Prop} [Decidable P] (hz : z = 0 ↔ ¬ P) (h : ∀ n, ¬ n < 75 → σ n = tNo) : stK og z σ 75 = stl og P σ := by
  funext n
  unfold stK stl
  by_cases q : (σ n).so = 8 ∧ (σ n).og = og
  · have n75 : n < 75 := by
      by_cases q' : n < 75
      · exact q'
      · rw [h n q'] at q; exact absurd q.1 (by decide)
    rw [if_pos ⟨n75, q⟩, if_pos q]
    by_cases p : P
    · rw [if_pos p, if_neg (fun y => hz.mp y p)]
    · rw [if_neg p, if_pos (hz.mpr p)]
  · rw [if_neg (fun y => q y.2), if_neg q]
theorem c_settle {M : XM} (h : Sh M) {r : Nat} (hr : r = 134 ∨ r = 286) (og z : Int32) : K_Transfer_settle r og z M ∧ SQ r M og z (g_Transfer_settle r og z M) := by
  have st := h.stT hr
  unfold g_Transfer_settle K_Transfer_settle g_Transfer_settle_0 K_Transfer_settle_0 g_Transfer_settle_5 K_Transfer_settle_5 g_Transfer_settle_9 K_Transfer_settle_9
  rw [st.2.1, st.2.2.2.1]
  obtain ⟨k1, k2⟩ := settle_loop h hr og z 75 0 xF M (by omega) xF_75 Fr.rf rfl (by
    funext n; unfold stK; rw [if_neg (fun z => absurd z.1 (Nat.not_lt_zero n))])
  exact ⟨⟨st.1, st.2.2.1, k1⟩, k2⟩
theorem c_learn {M : XM} {r t : Nat} (hr : mT M r = 24) (ht : ShTh M t) (m : Int32) : K_Transfer_learn r t m M ∧ g_Transfer_learn r t m M = wI M r 1 (lrn (thC M t).va m (mI M r 1)) := by
  obtain ⟨s1, s2⟩ := c_single ht.2.2
  have eb : mL M (t + 1) 0 = (thC M t).va.b := rfl
  have eu : (gv6 M (t + 1)).u = (thC M t).va.u := rfl
  unfold g_Transfer_learn K_Transfer_learn g_Transfer_learn_0 K_Transfer_learn_0 g_Transfer_learn_8 K_Transfer_learn_8
  rw [ht.2.1, s1, eb, eu]
  simp only [f10, cmp_ltN, cmp_le]
  refine ⟨⟨ht.1, ht.2.2, ht.1, ht.2.2, s2, fun _ _ => ⟨hr, fun _ => hr⟩⟩, ?_⟩
  unfold lrn
  have q : ∀ a b : Int64, a ≤ b ↔ ¬ b < a := fun a b => by rw [le_un, lt_un]; omega
  simp only [q ((thC M t).va.b + m.toInt64) _]
  by_cases c1 : (thC M t).va.u = 0
  · by_cases c2 : 0 ≤ (thC M t).va.b
    · by_cases c3 : (mI M r 1).toInt64 < (thC M t).va.b + m.toInt64
      · simp only [c1, c2, c3, if_true, if_false, not_true, not_false_iff, and_self, and_true, true_and, and_false, false_and, or_true, true_or, or_false, false_or, or_self, i32_10, eq_self, true_implies, false_implies, implies_true, ite_self, ne_eq]
      · simp only [c1, c2, c3, if_true, if_false, not_true, not_false_iff, and_self, and_true, true_and, and_false, false_and, or_true, true_or, or_false, false_or, or_self, i32_10, eq_self, true_implies, false_implies, implies_true, ite_self, ne_eq]; exact (wI_same M r 1).symm
    · simp only [c1, c2, if_true, if_false, not_true, not_false_iff, and_self, and_true, true_and, and_false, false_and, or_true, true_or, or_false, false_or, or_self, i32_10, eq_self, true_implies, false_implies, implies_true, ite_self, ne_eq]; exact (wI_same M r 1).symm
  · simp only [c1, if_true, if_false, not_true, not_false_iff, and_self, and_true, true_and, and_false, false_and, or_true, true_or, or_false, false_or, or_self, i32_10, eq_self, true_implies, false_implies, implies_true, ite_self, ne_eq]; exact (wI_same M r 1).symm
theorem vwC_wk {M : XM} {r r' : Nat} {v : Int32} {i : Nat} (h : r' = 134 ∨ r' = 286) (hr : r = 134 ∨ r = 286 ∨ r = 133) : vwC (wI M r i v) r' = vwC M r' := by
  funext n
  unfold vwC
  by_cases q : n < 75
  · simp only [if_pos q]; exact thC_wIst (by omega)
  · simp only [if_neg q]
theorem c_measure {M : XM} (h : Sh M) {t : Nat} (ht : ShTh M t) {n : Int32} {σ : Sg} {kn : Int32} (bo : BO M σ kn) : K_Transfer_measure 133 n t M ∧ JQ M (mea n (thC M t).va σ kn) (0, g_Transfer_measure 133 n t M) := by
  obtain ⟨v1, v2, k1, k2, g5, g6⟩ := bo
  unfold g_Transfer_measure K_Transfer_measure g_Transfer_measure_0 K_Transfer_measure_0 g_Transfer_measure_45 g_Transfer_measure_57 g_Transfer_measure_69
  rw [h.R133_3, h.R133_4]
  have L := fun m => c_learn (M := M) h.St134.1 ht m
  have L' := fun m => c_learn (M := M) h.St286.1 ht m
  rw [(L 0).2, (L 1).2, (L' 0).2, (L' 1).2, k1, k2]
  have fN : ∀ v, Fr TJ M (wI M 134 1 v) := fun v => Fr.wi (Or.inr (Or.inr (by omega)))
  have fF : ∀ v, Fr TJ M (wI M 286 1 v) := fun v => Fr.wi (Or.inr (Or.inr (by omega)))
  have A : ∀ v, VO (wI M 134 1 v) 134 (mI (wI M 134 1 v) 133 5) (some (σ, v)) ∧ VO (wI M 134 1 v) 286 (mI (wI M 134 1 v) 133 6) (some (σ, kn)) := fun v =>
    ⟨VO.so (by rw [mI_wI, if_neg (by omega), g5]) (by rw [vwC_wk (Or.inl rfl) (Or.inl rfl), v1]) (by rw [mI_wI, if_pos ⟨rfl, rfl⟩]), VO.so (by rw [mI_wI, if_neg (by omega), g6]) (by rw [vwC_wk (Or.inr rfl) (Or.inl rfl), v2]) (by rw [mI_wI, if_neg (by omega), k2])⟩
  have B : ∀ v, VO (wI M 286 1 v) 134 (mI (wI M 286 1 v) 133 5) (some (σ, kn)) ∧ VO (wI M 286 1 v) 286 (mI (wI M 286 1 v) 133 6) (some (σ, v)) := fun v =>
    ⟨VO.so (by rw [mI_wI, if_neg (by omega), g5]) (by rw [vwC_wk (Or.inl rfl) (Or.inr (Or.inl rfl)), v1]) (by rw [mI_wI, if_neg (by omega), k1]), VO.so (by rw [mI_wI, if_neg (by omega), g6]) (by rw [vwC_wk (Or.inr rfl) (Or.inr (Or.inl rfl)), v2]) (by rw [mI_wI, if_pos ⟨rfl, rfl⟩])⟩
  refine ⟨⟨fun _ => ⟨h.T133, (L 0).1⟩, fun _ => ⟨fun _ => ⟨h.T133, (L 1).1⟩, fun _ => ⟨fun _ => ⟨h.T133, (L' 1).1⟩, fun _ => ⟨h.T133, (L' 0).1⟩⟩⟩⟩, ?_⟩
  unfold mea
  by_cases c2 : n = 2
  · rw [if_pos c2]
    simp only [if_pos c2, if_pos (Or.inl c2 : n = 2 ∨ n = 3)]
    exact ⟨fN _, rfl, fun _ => A _⟩
  · rw [if_neg c2]
    by_cases c3 : n = 3
    · rw [if_pos c3]
      simp only [if_neg c2, if_pos c3, if_pos (Or.inr c3 : n = 2 ∨ n = 3)]
      exact ⟨fN _, rfl, fun _ => A _⟩
    · rw [if_neg c3]
      have n23 : ¬ (n = 2 ∨ n = 3) := fun z => z.elim c2 c3
      by_cases c10 : n = 10
      · rw [if_pos c10]
        simp only [if_neg c2, if_neg c3, if_neg n23, if_pos c10]
        exact ⟨fF _, rfl, fun _ => B _⟩
      · rw [if_neg c10]
        simp only [if_neg c2, if_neg c3, if_neg n23, if_neg c10]
        exact ⟨fF _, rfl, fun _ => B _⟩
noncomputable def braT (I : In) (hf : Int32) (σ : Sg) (kn : Int32) : Rs :=
  if hf = 0 ∧ (σ I.d).so = 8 ∧ ((opd I hf σ).so = 1 ∧ (opd I hf σ).va.u = 0 ∧ (opd I hf σ).va.b = 0) ∧ (nm I.c = 1 ∨ nm I.c = 5) then
    (0, some (stl (σ I.d).og (nm I.c = 5) σ, kn), some (stl (σ I.d).og (nm I.c = 1) σ, kn))
  else if hf = 0 ∧ (nm I.c = 2 ∨ nm I.c = 3 ∨ nm I.c = 10 ∨ nm I.c = 11) ∧ (σ I.d).so = 4 ∧ (opd I hf σ).so = 5 then mea (nm I.c) (σ I.d).va σ kn
  else if hf = 0 ∧ (nm I.c = 2 ∨ nm I.c = 3 ∨ nm I.c = 10 ∨ nm I.c = 11) ∧ (σ I.d).so = 5 ∧ (opd I hf σ).so = 4 then mea (trn (nm I.c)) (opd I hf σ).va σ kn
  else (2, none, none)
theorem c_isZero {M : XM} {t : Nat} (h : ShTh M t) : g_Thing_isZero t M = (if (thC M t).so = 1 ∧ (thC M t).va.u = 0 ∧ (thC M t).va.b = 0 then 1 else 0) ∧ K_Thing_isZero t M := by
  obtain ⟨s1, s2⟩ := c_single h.2.2
  have e0 : mI M t 0 = (thC M t).so := rfl
  have eb : mL M (t + 1) 0 = (thC M t).va.b := rfl
  have eu : (gv6 M (t + 1)).u = (thC M t).va.u := rfl
  unfold g_Thing_isZero K_Thing_isZero g_Thing_isZero_0 K_Thing_isZero_0
  rw [h.2.1, s1, e0, eb, eu]
  simp only [f10, cmp_eq]
  refine ⟨?_, h.1, fun _ => ⟨h.1, h.2.2, s2, fun _ => ⟨h.1, h.2.2⟩⟩⟩
  by_cases c1 : (thC M t).so = 1 <;> by_cases c2 : (thC M t).va.u = 0 <;> by_cases c3 : (thC M t).va.b = 0 <;> simp only [c1, c2, c3, if_true, if_false, not_true, not_false_iff, and_self, and_true, true_and, and_false, false_and, or_true, true_or, or_false, false_or, or_self, i32_10, eq_self, true_implies, false_implies, implies_true, ite_self, ne_eq]
theorem JQ.two {M : XM} : JQ M (2, none, none) (2, M) := ⟨Fr.rf, rfl, fun z => absurd z i64_2⟩
theorem c_others {M : XM} (h : Sh M) {k : Int32} {I : In} (hI : InC M k I) (w : WI I) {σ : Sg} {kn : Int32} (bo : BO M σ kn) {b : Nat} (hb : ShTh M b) {hf : Int32} (ey : thC M b = opd I hf σ) :
    K_Transfer_compareOthers 133 k (136 + 2 * I.d) b hf M ∧ JQ M (braT I hf σ kn) (g_Transfer_compareOthers 133 k (136 + 2 * I.d) b hf M) := by
  have d75 : I.d < 75 := by have := w.2.1; omega
  have tD := h.now d75
  have bo' := bo
  obtain ⟨v1, v2, k1, k2, g5, g6⟩ := bo
  have eD : thC M (136 + 2 * I.d) = σ I.d := by rw [← v1, vwC_at d75]
  have eD0 : mI M (136 + 2 * I.d) 0 = (σ I.d).so := by rw [← eD]; rfl
  have eD2 : mI M (136 + 2 * I.d) 2 = (σ I.d).og := by rw [← eD]; rfl
  have eB0 : mI M b 0 = (opd I hf σ).so := by rw [← ey]; rfl
  obtain ⟨n1, n2⟩ := hI.num h
  obtain ⟨z1, z2⟩ := c_isZero hb
  rw [ey] at z1
  have hi : ∀ n, ¬ n < 75 → σ n = tNo := fun n hn => by rw [← v1]; exact vwC_hi hn
  unfold g_Transfer_compareOthers K_Transfer_compareOthers g_Transfer_compareOthers_0 K_Transfer_compareOthers_0
  rw [h.R133_0, n1]
  refine kq_and h.T133 (kq_and h.T102 (kq_and n2 ?_))
  -- packets
  have M1 := c_measure h tD (n := nm I.c) bo'
  have M2 := c_measure h hb (n := g_Transfer_turned (nm I.c)) bo'
  rw [eD] at M1
  rw [ey] at M2
  have P91 : ¬ (hf = 0 ∧ (σ I.d).so = 8 ∧ ((opd I hf σ).so = 1 ∧ (opd I hf σ).va.u = 0 ∧ (opd I hf σ).va.b = 0) ∧ (nm I.c = 1 ∨ nm I.c = 5)) → K_Transfer_compareOthers_91 133 (136 + 2 * I.d) b hf (nm I.c) M ∧ JQ M (braT I hf σ kn) (g_Transfer_compareOthers_91 133 (136 + 2 * I.d) b hf (nm I.c) M) := by
    intro ns
    have ed : braT I hf σ kn = if hf = 0 ∧ (nm I.c = 2 ∨ nm I.c = 3 ∨ nm I.c = 10 ∨ nm I.c = 11) ∧ (σ I.d).so = 4 ∧ (opd I hf σ).so = 5 then mea (nm I.c) (σ I.d).va σ kn
  else if hf = 0 ∧ (nm I.c = 2 ∨ nm I.c = 3 ∨ nm I.c = 10 ∨ nm I.c = 11) ∧ (σ I.d).so = 5 ∧ (opd I hf σ).so = 4 then mea (trn (nm I.c)) (opd I hf σ).va σ kn
  else (2, none, none) := by unfold braT; rw [if_neg ns]
    have Q0 : ¬ (hf = 0 ∧ (nm I.c = 2 ∨ nm I.c = 3 ∨ nm I.c = 10 ∨ nm I.c = 11)) → K_Transfer_compareOthers_127 133 (136 + 2 * I.d) b (nm I.c) 0 M ∧ JQ M (braT I hf σ kn) (g_Transfer_compareOthers_127 133 (136 + 2 * I.d) b (nm I.c) 0 M) := by
      intro no
      have e2 : braT I hf σ kn = (2, none, none) := by
        rw [ed, if_neg (fun z => no ⟨z.1, z.2.1⟩), if_neg (fun z => no ⟨z.1, z.2.1⟩)]
      rw [e2]
      unfold g_Transfer_compareOthers_127 K_Transfer_compareOthers_127 g_Transfer_compareOthers_159 K_Transfer_compareOthers_159
      exact kq_if (fun _ => kq_ifn (fun _ => JQ.two) (fun z => absurd rfl z)) (fun z => absurd rfl z)
    have Q1 : (hf = 0 ∧ (nm I.c = 2 ∨ nm I.c = 3 ∨ nm I.c = 10 ∨ nm I.c = 11)) → K_Transfer_compareOthers_127 133 (136 + 2 * I.d) b (nm I.c) 1 M ∧ JQ M (braT I hf σ kn) (g_Transfer_compareOthers_127 133 (136 + 2 * I.d) b (nm I.c) 1 M) := by
      rintro ⟨y0, yo⟩
      have R : ¬ ((σ I.d).so = 4 ∧ (opd I hf σ).so = 5) → K_Transfer_compareOthers_159 133 (136 + 2 * I.d) b (nm I.c) 1 M ∧ JQ M (braT I hf σ kn) (g_Transfer_compareOthers_159 133 (136 + 2 * I.d) b (nm I.c) 1 M) := by
        intro n45
        rw [if_neg (fun z => n45 z.2.2)] at ed
        unfold g_Transfer_compareOthers_159 K_Transfer_compareOthers_159 g_Transfer_compareOthers_190
        rw [eD0, eB0]
        refine kq_ifn (fun z => absurd z i1_0) (fun _ => kq_and tD.1 (kq_ifp (fun a => kq_and hb.1 (kq_ifp (fun c => ?_) (fun c => ?_))) (fun a => ?_)))
        · rw [if_pos ⟨y0, yo, a, c⟩] at ed
          rw [ed]
          exact ⟨⟨h.T133, M2.1⟩, M2.2⟩
        · rw [if_neg (fun z => c z.2.2.2)] at ed
          rw [ed]; exact JQ.two
        · rw [if_neg (fun z => a z.2.2.1)] at ed
          rw [ed]; exact JQ.two
      unfold g_Transfer_compareOthers_127 K_Transfer_compareOthers_127 g_Transfer_compareOthers_157
      rw [eD0, eB0]
      refine kq_if (fun z => absurd z i1_0) (fun _ => kq_and tD.1 (kq_if (fun a => kq_and hb.1 (kq_if (fun c => ?_) (fun c => R (fun z => c z.2)))) (fun a => R (fun z => a z.1))))
      rw [if_pos ⟨y0, yo, a, c⟩] at ed
      rw [ed]
      exact ⟨⟨h.T133, M1.1⟩, M1.2⟩
    unfold g_Transfer_compareOthers_91 K_Transfer_compareOthers_91 g_Transfer_compareOthers_122 K_Transfer_compareOthers_122 g_Transfer_compareOthers_126 K_Transfer_compareOthers_126
    refine kq_if (fun a => kq_if (fun b2 => Q1 ⟨a, Or.inl b2⟩) (fun b2 => kq_if (fun b3 => Q1 ⟨a, Or.inr (Or.inl b3)⟩) (fun b3 => kq_if (fun b4 => Q1 ⟨a, Or.inr (Or.inr (Or.inl b4))⟩) (fun b4 => kq_if (fun b5 => Q1 ⟨a, Or.inr (Or.inr (Or.inr b5))⟩) (fun b5 => Q0 ?_))))) (fun a => Q0 (fun z => a z.1))
    exact fun z => z.2.elim b2 (fun z => z.elim b3 (fun z => z.elim b4 b5))
  -- answers of SEEK
  have P43 : (hf = 0 ∧ (σ I.d).so = 8 ∧ ((opd I hf σ).so = 1 ∧ (opd I hf σ).va.u = 0 ∧ (opd I hf σ).va.b = 0) ∧ (nm I.c = 1 ∨ nm I.c = 5)) → K_Transfer_compareOthers_43 133 (136 + 2 * I.d) (nm I.c) M ∧ JQ M (braT I hf σ kn) (g_Transfer_compareOthers_43 133 (136 + 2 * I.d) (nm I.c) M) := by
    intro ys
    have ed : braT I hf σ kn = (0, some (stl (σ I.d).og (nm I.c = 5) σ, kn), some (stl (σ I.d).og (nm I.c = 1) σ, kn)) := by unfold braT; rw [if_pos ys]
    rw [ed]
    unfold g_Transfer_compareOthers_43 K_Transfer_compareOthers_43 g_Transfer_compareOthers_49 K_Transfer_compareOthers_49 g_Transfer_compareOthers_66 K_Transfer_compareOthers_66 g_Transfer_compareOthers_69 K_Transfer_compareOthers_69 g_Transfer_compareOthers_86 K_Transfer_compareOthers_86 g_Transfer_compareOthers_89
    rw [eD2, h.R133_4]
    have S : ∀ z : Int32, (z = 0 ↔ ¬ nm I.c = 1) → K_Transfer_settle 286 (σ I.d).og z M ∧ Sh (g_Transfer_settle 286 (σ I.d).og z M) ∧ ∀ z' : Int32, (z' = 0 ↔ ¬ nm I.c = 5) → K_Transfer_settle 134 (σ I.d).og z' (g_Transfer_settle 286 (σ I.d).og z M) ∧ JQ M (0, some (stl (σ I.d).og (nm I.c = 5) σ, kn), some (stl (σ I.d).og (nm I.c = 1) σ, kn)) (0, g_Transfer_settle 134 (σ I.d).og z' (g_Transfer_settle 286 (σ I.d).og z M)) := by
      intro z hz
      obtain ⟨a1, a2, a3, a4⟩ := c_settle h (Or.inr rfl) (σ I.d).og z
      generalize g_Transfer_settle 286 (σ I.d).og z M = M1 at a2 a3 a4 ⊢
      have s1 := a2.sh h
      refine ⟨a1, s1, fun z' hz' => ?_⟩
      obtain ⟨b1, b2, b3, b4⟩ := c_settle s1 (Or.inl rfl) (σ I.d).og z'
      obtain ⟨o1, o2⟩ := a2.oth (Or.inr rfl) (Or.inl rfl) (by decide)
      generalize g_Transfer_settle 134 (σ I.d).og z' M1 = M2 at b2 b3 b4 ⊢
      obtain ⟨o3, o4⟩ := b2.oth (Or.inl rfl) (Or.inr rfl) (by decide)
      refine ⟨b1, (a2.tj (Or.inr rfl)).trans (b2.tj (Or.inl rfl)), rfl, fun _ => ⟨VO.so ?_ ?_ ?_, VO.so ?_ ?_ ?_⟩⟩
      · show mI M2 133 5 = 1
        rw [b2.f (Or.inl rfl), a2.f (Or.inr rfl), g5]
      · rw [b3, o1, v1]; exact stK_stl hz' hi
      · rw [b4, o2, k1]
      · show mI M2 133 6 = 1
        rw [b2.f (Or.inl rfl), a2.f (Or.inr rfl), g6]
      · rw [o3, a3, v2]; exact stK_stl hz hi
      · rw [o4, a4, k2]
    refine kq_and tD.1 (kq_and h.T133 (kq_if (fun a => ?_) (fun a => ?_)))
    · obtain ⟨x1, x2, x3⟩ := S 1 ⟨fun z => absurd z i1_0, fun z => absurd a z⟩
      rw [x2.R133_3]
      exact kq_and x1 (kq_and x2.T133 (kq_if (fun c => x3 1 ⟨fun z => absurd z i1_0, fun z => absurd c z⟩) (fun c => x3 0 ⟨fun _ => c, fun _ => rfl⟩)))
    · obtain ⟨x1, x2, x3⟩ := S 0 ⟨fun _ => a, fun _ => rfl⟩
      rw [x2.R133_3]
      exact kq_and x1 (kq_and x2.T133 (kq_if (fun c => x3 1 ⟨fun z => absurd z i1_0, fun z => absurd c z⟩) (fun c => x3 0 ⟨fun _ => c, fun _ => rfl⟩)))
  unfold g_Transfer_compareOthers_10 K_Transfer_compareOthers_10
  rw [eD0, z1]
  simp only [f10]
  refine kq_if (fun a => kq_and tD.1 (kq_if (fun a8 => kq_and hb.1 (kq_and z2 (kq_if (fun az => P91 (fun z => az z.2.2.1)) (fun az => kq_if (fun a1 => P43 ⟨a, a8, Classical.not_not.mp az, Or.inl a1⟩) (fun a1 => kq_if (fun a5 => P43 ⟨a, a8, Classical.not_not.mp az, Or.inr a5⟩) (fun a5 => P91 (fun z => z.2.2.2.elim a1 a5))))))) (fun a8 => P91 (fun z => a8 z.2.1)))) (fun a => P91 (fun z => a z.1))
