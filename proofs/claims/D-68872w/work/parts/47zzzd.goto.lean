/-! part 47zzzd: the twin's goTo (gen/tpl.py) -/
theorem FK.pg {q : Nat} {M X : XM} (h : FK q M X) : FP (PG q) (QG q) M X := FP.weak h (fun _ _ z => Or.inl z) (fun _ z => Or.inl z)
theorem FK.pm {q : Nat} {M X : XM} (h : FK 1026 M X) : FP (PG q) (QG q) M X := FP.weak h (fun _ _ z => Or.inr (Or.inl z)) (fun _ z => Or.inr z)
theorem FP.w6 {q : Nat} {M : XM} {v : Int32} : FP (PG q) (QG q) M (wI M 456 q v) := ⟨rfl, fun a i z => by rw [mI_wI, if_neg (fun y => z (Or.inr (Or.inr (Or.inl y))))], fun _ _ _ => rfl⟩
theorem FP.w17 {q : Nat} {M : XM} {v : Int32} : FP (PG q) (QG q) M (wI M 448 17 v) := ⟨rfl, fun a i z => by rw [mI_wI, if_neg (fun y => z (Or.inr (Or.inr (Or.inr y))))], fun _ _ _ => rfl⟩
section TGO
variable {M : XM}
theorem TG.non {q : Nat} (hq : q < 1024) {back : Int32} {s : St} {X : XM} (h0 : mI M 454 q = 0) (t : TW X) (f : FP (PG q) (QG q) M X) (e4 : mI X 454 q ≠ 0) (ev : vwT X q = s.1) (e5 : mI X 455 q = s.2) (e6 : mI X 456 q = 0) (e17 : mI X 448 17 = 1) : TG q back s M X := by
  have en : TbT M q = none := if_pos h0
  refine ⟨t, f, ?_, ?_⟩
  · rw [en]
    show (if mI X 454 q = 0 then none else some (vwT X q, mI X 455 q, mI X 456 q)) = some (s.1, s.2, 0)
    rw [if_neg e4, ev, e5, e6]
  · rw [en]
    show mI X 448 17 = if (1 : Int32) = 0 then mI M 448 17 else 1
    rw [if_neg i1_0, e17]
theorem goT_loop (h : TW M) {q kk : Nat} (hq : q < 1024) (hkk : kk = 1024 ∨ kk = 1025 ∨ kk = 1027) {wd x40 : Int32} : ∀ (m j f : Nat) (M1 : XM) (x4 : Int32), j + m = 75 → m < f → TW M1 → FK 1026 M M1 → (∀ n, n < j → vwT M1 1026 n = pJoin (slN n) wd (vwT M q n) (vwT M kk n)) → (x4 = 0 ↔ x40 = 0 ∧ ∀ n, n < j → pJoin (slN n) wd (vwT M q n) (vwT M kk n) = vwT M q n) →
    K_Model_goTo_84 f 448 (Int32.ofNat kk) (Int32.ofNat q) wd x4 (Int32.ofNat j) M1 ∧ TW (g_Model_goTo_84 f 448 (Int32.ofNat kk) (Int32.ofNat q) wd x4 (Int32.ofNat j) M1) ∧ FP (PG q) (QG q) M (g_Model_goTo_84 f 448 (Int32.ofNat kk) (Int32.ofNat q) wd x4 (Int32.ofNat j) M1) ∧
      (((x40 = 0 ∧ ∀ n, n < 75 → pJoin (slN n) wd (vwT M q n) (vwT M kk n) = vwT M q n) ∧ FK 1026 M (g_Model_goTo_84 f 448 (Int32.ofNat kk) (Int32.ofNat q) wd x4 (Int32.ofNat j) M1)) ∨
       (¬ (x40 = 0 ∧ ∀ n, n < 75 → pJoin (slN n) wd (vwT M q n) (vwT M kk n) = vwT M q n) ∧ mI (g_Model_goTo_84 f 448 (Int32.ofNat kk) (Int32.ofNat q) wd x4 (Int32.ofNat j) M1) 454 q = 1 ∧ vwT (g_Model_goTo_84 f 448 (Int32.ofNat kk) (Int32.ofNat q) wd x4 (Int32.ofNat j) M1) q = pJn wd (vwT M q) (vwT M kk) ∧ mI (g_Model_goTo_84 f 448 (Int32.ofNat kk) (Int32.ofNat q) wd x4 (Int32.ofNat j) M1) 455 q = mnK (mI M 455 q) (mI M 455 kk) ∧ mI (g_Model_goTo_84 f 448 (Int32.ofNat kk) (Int32.ofNat q) wd x4 (Int32.ofNat j) M1) 456 q = mI M 456 q + 1 ∧ mI (g_Model_goTo_84 f 448 (Int32.ofNat kk) (Int32.ofNat q) wd x4 (Int32.ofNat j) M1) 448 17 = 1)) := by
  have eq : ix (Int32.ofNat q) = q := ixN (by omega)
  have ek : ix (Int32.ofNat kk) = kk := ixN (by omega)
  have e26 : (1026 : Int32) = Int32.ofNat 1026 := rfl
  have ix26 : ix (1026 : Int32) = 1026 := by decide
  intro m
  induction m with
  | zero =>
    intro j f M1 x4 jm mf t1 f1 c1 hx
    obtain ⟨f, rfl⟩ : ∃ f', f = f' + 1 := ⟨f - 1, by omega⟩
    have hj : j = 75 := by omega
    subst hj
    conv => unfold K_Model_goTo_84 g_Model_goTo_84
    rw [if_pos (show (75 : Int32) ≤ Int32.ofNat 75 by decide)]
    have s1 := t1.1
    by_cases c : x4 = 0
    · rw [if_pos c]
      exact ⟨⟨fun _ z => absurd c z, fun z => absurd (by decide) z⟩, t1, f1.pm, Or.inl ⟨hx.mp c, f1⟩⟩
    · rw [if_neg c, s1.R448_11, eq, ek]
      have kq' : mI M1 455 q = mI M 455 q := f1.hk (Or.inr rfl) (by omega)
      have kk' : mI M1 455 kk = mI M 455 kk := f1.hk (Or.inr rfl) (by omega)
      have vq : vp_in (Int32.ofNat q) (mN M1 455) := by rw [s1.N455]; exact vpN (by omega) (by omega)
      have vk : vp_in (Int32.ofNat kk) (mN M1 455) := by rw [s1.N455]; exact vpN (by omega) (by omega)
      have v26 : vp_in (1026 : Int32) (mN M1 455) := by rw [s1.N455]; exact vpN (a := 1026) (by decide) (by decide)
      rw [kq', kk']
      -- the tail, for the lesser
      have T : ∀ v : Int32, v = mnK (mI M 455 q) (mI M 455 kk) → K_Model_goTo_173 448 (Int32.ofNat q) 455 1026 v M1 ∧ TW (g_Model_goTo_173 448 (Int32.ofNat q) 455 1026 v M1) ∧ FP (PG q) (QG q) M (g_Model_goTo_173 448 (Int32.ofNat q) 455 1026 v M1) ∧ mI (g_Model_goTo_173 448 (Int32.ofNat q) 455 1026 v M1) 454 q = 1 ∧ vwT (g_Model_goTo_173 448 (Int32.ofNat q) 455 1026 v M1) q = pJn wd (vwT M q) (vwT M kk) ∧ mI (g_Model_goTo_173 448 (Int32.ofNat q) 455 1026 v M1) 455 q = mnK (mI M 455 q) (mI M 455 kk) ∧ mI (g_Model_goTo_173 448 (Int32.ofNat q) 455 1026 v M1) 456 q = mI M 456 q + 1 ∧ mI (g_Model_goTo_173 448 (Int32.ofNat q) 455 1026 v M1) 448 17 = 1 := by
        intro v hv
        unfold K_Model_goTo_173 g_Model_goTo_173
        have f2 : FK 1026 M (wI M1 455 1026 v) := f1.trans (FK.wi (Or.inr rfl))
        have t2 : TW (wI M1 455 1026 v) := t1.wi (by decide)
        have v2 : vwT (wI M1 455 1026 v) 1026 = vwT M1 1026 := vwT_wi (by decide)
        rw [ix26, s1.R448_10]
        have r10 : mR (wI M1 455 1026 v) 448 10 = 454 := t2.1.R448_10
        have f3 : FK 1026 M (wI (wI M1 455 1026 v) 454 1026 1) := f2.trans (FK.wi (Or.inl rfl))
        have t3 : TW (wI (wI M1 455 1026 v) 454 1026 1) := t2.wi (by decide)
        have v3 : vwT (wI (wI M1 455 1026 v) 454 1026 1) 1026 = pJn wd (vwT M q) (vwT M kk) := by
          rw [vwT_wi (by decide), v2]
          funext n
          unfold pJn
          by_cases y : n < 75
          · rw [if_pos y, c1 n y]
          · rw [if_neg y, vwT_hi y]
        have k3 : mI (wI (wI M1 455 1026 v) 454 1026 1) 455 1026 = v := by rw [mI_wI, if_neg (by omega), mI_wI, if_pos ⟨rfl, rfl⟩]
        have h3 : mI (wI (wI M1 455 1026 v) 454 1026 1) 454 1026 = 1 := by rw [mI_wI, if_pos ⟨rfl, rfl⟩]
        have n4 : vp_in (1026 : Int32) (mN M1 454) := by rw [s1.N454]; exact vpN (a := 1026) (by decide) (by decide)
        obtain ⟨g1, ⟨t4, f4, v4, k4⟩, h4⟩ := m_copyState t3 (k := 1026) (kk := q) (by decide) (by omega) (by omega)
        rw [v3] at v4
        rw [k3] at k4
        rw [h3] at h4
        unfold K_Model_goTo_183 g_Model_goTo_183
        rw [e26]
        generalize g_Model_copyState 448 (Int32.ofNat 1026) (Int32.ofNat q) (wI (wI M1 455 1026 v) 454 1026 1) = X at t4 f4 v4 k4 h4 ⊢
        have s4 := t4.1
        unfold K_Model_goTo_191 g_Model_goTo_191
        rw [s4.R448_12, eq, s4.N456]
        have vq6 : vp_in (Int32.ofNat q) 1028 := vpN (by omega) (by omega)
        have c6 : mI X 456 q = mI M 456 q := by rw [f4.oth (by omega), f3.oth (by omega)]
        refine ⟨⟨s1.T455, v26, t2.1.T448, t2.1.T454, n4, t3.1.T448, g1, s4.T448, s4.T456, vq6, s4.T456, vq6, s4.T448⟩, (t4.wi (by decide)).wi (by decide), ((f3.pm.trans f4.pg).trans FP.w6).trans FP.w17, ?_, ?_, ?_, ?_, ?_⟩
        · rw [mI_wI, if_neg (by omega), mI_wI, if_neg (by omega), h4]; rfl
        · rw [vwT_wi (by decide), vwT_wi (by decide)]; exact v4
        · rw [mI_wI, if_neg (by omega), mI_wI, if_neg (by omega), k4]; exact hv
        · rw [mI_wI, if_neg (by omega), mI_wI, if_pos ⟨rfl, rfl⟩, c6]
        · rw [mI_wI, if_pos ⟨rfl, rfl⟩]
      have no : ¬ (x40 = 0 ∧ ∀ n, n < 75 → pJoin (slN n) wd (vwT M q n) (vwT M kk n) = vwT M q n) := fun z => c (hx.mpr z)
      by_cases cl : mI M 455 q ≤ mI M 455 kk
      · obtain ⟨p1, p2, p3, p4⟩ := T (mI M 455 q) (by unfold mnK; rw [if_neg (Int32.not_lt.mpr cl)])
        rw [if_pos cl]
        exact ⟨⟨fun _ _ => ⟨s1.T448, s1.T448, s1.T455, vk, s1.T448, s1.T455, vq, fun _ => ⟨s1.T448, s1.T455, vq, p1⟩, fun z => absurd cl z⟩, fun z => absurd (by decide) z⟩, p2, p3, Or.inr ⟨no, p4⟩⟩
      · obtain ⟨p1, p2, p3, p4⟩ := T (mI M 455 kk) (by unfold mnK; rw [if_pos (Int32.not_le.mp cl)])
        rw [if_neg cl]
        exact ⟨⟨fun _ _ => ⟨s1.T448, s1.T448, s1.T455, vk, s1.T448, s1.T455, vq, fun z => absurd z cl, fun _ => ⟨s1.T448, s1.T455, vk, p1⟩⟩, fun z => absurd (by decide) z⟩, p2, p3, Or.inr ⟨no, p4⟩⟩
  | succ m ih =>
    intro j f M1 x4 jm mf t1 f1 c1 hx
    obtain ⟨f, rfl⟩ : ∃ f', f = f' + 1 := ⟨f - 1, by omega⟩
    have hj : j < 75 := by omega
    conv => unfold K_Model_goTo_84 g_Model_goTo_84
    have s1 := t1.1
    have n75 := i32_le75 ⟨j, hj⟩
    simp only at n75
    obtain ⟨k1, k2⟩ := m_meet t1 (q := q) (kk := kk) (n := j) (by omega) (by omega) (by omega) (by omega) hj wd
    have vq1 : vwT M1 q = vwT M q := f1.vw (by omega)
    have vk1 : vwT M1 kk = vwT M kk := f1.vw (by omega)
    rw [vq1, vk1] at k2
    rw [if_neg n75]
    generalize g_Model_meet 448 (Int32.ofNat q) (Int32.ofNat j) (Int32.ofNat kk) wd M1 = X at k2 ⊢
    obtain ⟨t2, f2, v2, n2⟩ := k2
    have f02 := f1.trans f2
    have c2 : ∀ n, n < j + 1 → vwT X 1026 n = pJoin (slN n) wd (vwT M q n) (vwT M kk n) := fun n hn => by
      rw [v2]
      by_cases y : n = j
      · rw [y, up_same]
      · rw [up_ne _ _ y]; exact c1 n (by omega)
    unfold K_Model_goTo_100 g_Model_goTo_100 K_Model_goTo_118 g_Model_goTo_118 K_Model_goTo_123 g_Model_goTo_123
    rw [add1_32]
    have go := fun x => ih (j + 1) f X x (by omega) (by omega) t2 f02 c2
    obtain ⟨q1, q2⟩ := m_sameT t2 (q := 1026) (kk := q) (n := j) (by decide) (by omega) hj
    rw [← e26] at q1 q2
    have vqx : vwT X q = vwT M q := f02.vw (by omega)
    rw [vqx, c2 j (Nat.lt_succ_self j)] at q2
    have h1 : ¬ (x40 = 0 ∧ ∀ n, n < j + 1 → pJoin (slN n) wd (vwT M q n) (vwT M kk n) = vwT M q n) → ((1 : Int32) = 0 ↔ x40 = 0 ∧ ∀ n, n < j + 1 → pJoin (slN n) wd (vwT M q n) (vwT M kk n) = vwT M q n) := fun z => ⟨fun y => absurd y i1_0, fun y => absurd y z⟩
    by_cases c : x4 = 0
    · rw [if_pos c]
      obtain ⟨y1, y2⟩ := hx.mp c
      by_cases cs : g_Model_isSameThing 448 1026 (Int32.ofNat j) (Int32.ofNat q) X = 0
      · obtain ⟨g1, g2⟩ := go 1 (h1 (fun z => q2.mp cs (z.2 j (Nat.lt_succ_self j))))
        rw [if_pos cs]
        exact ⟨⟨fun z => absurd z n75, fun _ => ⟨s1.T448, k1, fun _ => ⟨t2.1.T448, q1, fun _ => g1, fun z => absurd cs z⟩, fun z => absurd c z⟩⟩, g2⟩
      · have sm : pJoin (slN j) wd (vwT M q j) (vwT M kk j) = vwT M q j := Classical.not_not.mp (fun z => cs (q2.mpr z))
        obtain ⟨g1, g2⟩ := go 0 ⟨fun _ => ⟨y1, fun n hn => by
          by_cases y : n = j
          · rw [y]; exact sm
          · exact y2 n (by omega)⟩, fun _ => rfl⟩
        rw [if_neg cs]
        exact ⟨⟨fun z => absurd z n75, fun _ => ⟨s1.T448, k1, fun _ => ⟨t2.1.T448, q1, fun z => absurd z cs, fun _ => g1⟩, fun z => absurd c z⟩⟩, g2⟩
    · obtain ⟨g1, g2⟩ := go 1 (h1 (fun z => c (hx.mpr ⟨z.1, fun n hn => z.2 n (by omega)⟩)))
      rw [if_neg c]
      exact ⟨⟨fun z => absurd z n75, fun _ => ⟨s1.T448, k1, fun z => absurd z c, fun _ => g1⟩⟩, g2⟩
theorem m_goTo (h : TW M) {q kk : Nat} (hq : q < 1024) (hkk : kk = 1024 ∨ kk = 1025 ∨ kk = 1027) {p : Int32} (hp : mI M 448 18 = p) : K_Model_goTo 448 (Int32.ofNat kk) (Int32.ofNat q) M ∧ TG q (if p < Int32.ofNat q then 0 else 1) (vwT M kk, mI M 455 kk) M (g_Model_goTo 448 (Int32.ofNat kk) (Int32.ofNat q) M) := by
  have s := h.1
  have eq : ix (Int32.ofNat q) = q := ixN (by omega)
  have ek : ix (Int32.ofNat kk) = kk := ixN (by omega)
  have vq4 : vp_in (Int32.ofNat q) (mN M 454) := by rw [s.N454]; exact vpN (by omega) (by omega)
  have vq5 : vp_in (Int32.ofNat q) (mN M 455) := by rw [s.N455]; exact vpN (by omega) (by omega)
  have vk5 : vp_in (Int32.ofNat kk) (mN M 455) := by rw [s.N455]; exact vpN (by omega) (by omega)
  have vq6 : vp_in (Int32.ofNat q) (mN M 456) := by rw [s.N456]; exact vpN (by omega) (by omega)
  unfold K_Model_goTo g_Model_goTo K_Model_goTo_0 g_Model_goTo_0 K_Model_goTo_57 g_Model_goTo_57
  rw [s.R448_10, s.R448_12, eq, hp]
  refine kq_and s.T448 (kq_and s.T454 (kq_and vq4 (kq_if (fun c => ?_) (fun c => ?_))))
  · obtain ⟨k1, ⟨t1, f1, v1, n1⟩, e1⟩ := m_copyState h (k := kk) (kk := q) (by omega) (by omega) (by omega)
    refine kq_and s.T448 (kq_and k1 ?_)
    generalize g_Model_copyState 448 (Int32.ofNat kk) (Int32.ofNat q) M = X at t1 f1 v1 n1 e1 ⊢
    have s1 := t1.1
    unfold K_Model_goTo_15 g_Model_goTo_15
    rw [s1.R448_10, eq]
    have t2 : TW (wI X 454 q 1) := t1.wi (by decide)
    rw [s1.R448_12]
    have r12 : mR (wI X 454 q 1) 448 12 = 456 := t2.1.R448_12
    have t3 : TW (wI (wI X 454 q 1) 456 q 0) := t2.wi (by decide)
    refine ⟨⟨s1.T448, s1.T454, by rw [s1.N454]; exact vpN (by omega) (by omega), s1.T448, s1.T456, by rw [s1.N456]; exact vpN (by omega) (by omega), s1.T448⟩, ?_⟩
    refine TG.non hq c (t3.wi (by decide)) (((f1.trans (FK.wi (Or.inl rfl))).pg.trans FP.w6).trans FP.w17) ?_ ?_ ?_ ?_ ?_
    · rw [mI_wI, if_neg (by omega), mI_wI, if_neg (by omega), mI_wI, if_pos ⟨rfl, rfl⟩]; exact i1_0
    · rw [vwT_wi (by decide), vwT_wi (by decide), vwT_wi (by decide)]; exact v1
    · rw [mI_wI, if_neg (by omega), mI_wI, if_neg (by omega), mI_wI, if_neg (by omega)]; exact n1
    · rw [mI_wI, if_neg (by omega), mI_wI, if_pos ⟨rfl, rfl⟩]
    · rw [mI_wI, if_pos ⟨rfl, rfl⟩]
  · have eS : TbT M q = some (vwT M q, mI M 455 q, mI M 456 q) := if_neg c
    have G58 : ∀ wd : Int32, wd = wdN (if p < Int32.ofNat q then 0 else 1) (mI M 456 q) → K_Model_goTo_58 448 (Int32.ofNat kk) (Int32.ofNat q) wd M ∧ TG q (if p < Int32.ofNat q then 0 else 1) (vwT M kk, mI M 455 kk) M (g_Model_goTo_58 448 (Int32.ofNat kk) (Int32.ofNat q) wd M) := by
      intro wd hwd
      have G79 : ∀ x40 : Int32, (x40 = 0 ↔ ¬ mI M 455 kk < mI M 455 q) → K_Model_goTo_79 448 (Int32.ofNat kk) (Int32.ofNat q) wd x40 M ∧ TG q (if p < Int32.ofNat q then 0 else 1) (vwT M kk, mI M 455 kk) M (g_Model_goTo_79 448 (Int32.ofNat kk) (Int32.ofNat q) wd x40 M) := by
        intro x40 hx
        unfold K_Model_goTo_79 g_Model_goTo_79
        obtain ⟨r1, r2, r3, r4⟩ := goT_loop h hq hkk (wd := wd) (x40 := x40) 75 0 xF M x40 (by omega) (by have := xF_600; omega) h FK.rf (fun n hn => absurd hn (Nat.not_lt_zero n)) ⟨fun z => ⟨z, fun n hn => absurd hn (Nat.not_lt_zero n)⟩, fun z => z.1⟩
        rw [show Int32.ofNat 0 = 0 from rfl] at r1 r2 r3 r4
        refine ⟨r1, r2, r3, ?_⟩
        rw [eS]
        have je : (∀ n, n < 75 → pJoin (slN n) wd (vwT M q n) (vwT M kk n) = vwT M q n) ↔ pJn wd (vwT M q) (vwT M kk) = vwT M q := by
          constructor
          · intro z
            funext n
            unfold pJn
            by_cases y : n < 75
            · rw [if_pos y]; exact z n y
            · rw [if_neg y, vwT_hi y]
          · intro z n hn
            have := congrFun z n
            unfold pJn at this
            rw [if_pos hn] at this
            exact this
        show TbT _ q = (cif (¬ mI M 455 kk < mI M 455 q ∧ pJn (wdN (if p < Int32.ofNat q then 0 else 1) (mI M 456 q)) (vwT M q) (vwT M kk) = vwT M q) (some (vwT M q, mI M 455 q, mI M 456 q), (0 : Int32)) (some (pJn (wdN (if p < Int32.ofNat q then 0 else 1) (mI M 456 q)) (vwT M q) (vwT M kk), mnK (mI M 455 q) (mI M 455 kk), mI M 456 q + 1), 1)).1 ∧ mI _ 448 17 = if (cif (¬ mI M 455 kk < mI M 455 q ∧ pJn (wdN (if p < Int32.ofNat q then 0 else 1) (mI M 456 q)) (vwT M q) (vwT M kk) = vwT M q) (some (vwT M q, mI M 455 q, mI M 456 q), (0 : Int32)) (some (pJn (wdN (if p < Int32.ofNat q then 0 else 1) (mI M 456 q)) (vwT M q) (vwT M kk), mnK (mI M 455 q) (mI M 455 kk), mI M 456 q + 1), 1)).2 = 0 then mI M 448 17 else 1
        rw [← hwd]
        rcases r4 with ⟨y, fk⟩ | ⟨y, y1, y2, y3, y4, y5⟩
        · have cc : ¬ mI M 455 kk < mI M 455 q ∧ pJn wd (vwT M q) (vwT M kk) = vwT M q := ⟨hx.mp y.1, je.mp y.2⟩
          rw [cif_pos cc, if_pos rfl]
          refine ⟨?_, fk.oth (by omega)⟩
          show (if _ = 0 then none else some _) = _
          rw [fk.hk (Or.inl rfl) (by omega), if_neg c, fk.vw (by omega), fk.hk (Or.inr rfl) (by omega), fk.oth (by omega)]
        · have cc : ¬ (¬ mI M 455 kk < mI M 455 q ∧ pJn wd (vwT M q) (vwT M kk) = vwT M q) := fun z => y ⟨hx.mpr z.1, je.mpr z.2⟩
          rw [cif_neg cc, if_neg i1_0]
          refine ⟨?_, y5⟩
          show (if _ = 0 then none else some _) = _
          rw [y1, if_neg i1_0, y2, y3, y4]
      unfold K_Model_goTo_58 g_Model_goTo_58
      rw [s.R448_11, eq, ek]
      exact kq_and s.T448 (kq_and s.T455 (kq_and vk5 (kq_and s.T448 (kq_and s.T455 (kq_and vq5 (kq_if (fun cl => G79 0 ⟨fun _ => Int32.not_lt.mpr cl, fun _ => rfl⟩) (fun cl => G79 1 ⟨fun z => absurd z i1_0, fun z => absurd (Int32.not_le.mp cl) z⟩)))))))
    refine kq_and s.T448 (kq_if (fun cp => G58 0 ?_) (fun cp => kq_and s.T448 (kq_and s.T456 (kq_and vq6 (kq_if (fun c2 => G58 0 ?_) (fun c2 => G58 1 ?_))))))
    · unfold wdN; rw [if_pos cp, if_pos rfl]
    · unfold wdN; rw [if_neg cp, if_neg i1_0, if_pos c2]
    · unfold wdN; rw [if_neg cp, if_neg i1_0, if_neg c2]
end TGO
