/-! part 47zzz: the twin: what a jump tells of maybe and of the packet (gen/tpl.py) -/
section SE
variable {M : XM}
/-- a thing of a state is set, its row becomes zero -/
theorem m_putK (h : TW M) {kk n : Nat} (hkk : kk < 1028) (hn : n < 75) (w d : Int32) : K_Model_set 448 (Int32.ofNat kk) (Int32.ofNat n) w d M ∧ Sh (g_Model_set 448 (Int32.ofNat kk) (Int32.ofNat n) w d M) ∧ K_Sets_copy 460 6 (g_Model_row (Int32.ofNat kk) (Int32.ofNat n)) (g_Model_set 448 (Int32.ofNat kk) (Int32.ofNat n) w d M) ∧ KQ kk M (up (vwT M kk) n (w, d, -1, vOne 0)) (mI M 455 kk) (g_Sets_copy 460 6 (g_Model_row (Int32.ofNat kk) (Int32.ofNat n)) (g_Model_set 448 (Int32.ofNat kk) (Int32.ofNat n) w d M)) := by
  obtain ⟨a, b⟩ := m_set h.1 (k := kk) hkk hn w d
  rw [rowN, a]
  have sS : Sh (sX M (75 * kk + n) (w, d, -1, (tR M (75 * kk + n)).va) (tE M (75 * kk + n))) := h.1.kept rfl
  have tc := t_copy sS 6 (Int32.ofNat (8 + (75 * kk + n)))
  rw [ix6, ixN (show 8 + (75 * kk + n) < 2147483648 by omega), tvk_sXne _ _ _ _ (show 6 ≠ 8 + (75 * kk + n) by omega), tek_sXne _ _ _ _ (show 6 ≠ 8 + (75 * kk + n) by omega), h.2.2.1, h.2.2.2, jz0, sX_r, tR_sX, sX_sX] at tc
  rw [tc]
  refine ⟨b, sS, kt_copy sS rk6 (rkN (by omega)), h.sx rfl (one_T 0), FK.sx hn, ?_, mI_sXa _ _ _ _ (by decide) _⟩
  rw [vwT_sX hn]
  exact congrArg (up (vwT M kk) n) (nrm_one0 _ _ _)
theorem setT_loop (h : TW M) {kk : Nat} (hkk : kk < 1028) {x2 og : Int32} : ∀ (m k f : Nat) (M1 : XM), k + m = 75 → m < f → KQ kk M (fun n => if n < k then stl og (¬ x2 = 0) (vwT M kk) n else vwT M kk n) (mI M 455 kk) M1 →
    K_Model_settle_19 f 448 (Int32.ofNat kk) x2 og (Int32.ofNat k) M1 ∧ KQ kk M (fun n => if n < 75 then stl og (¬ x2 = 0) (vwT M kk) n else vwT M kk n) (mI M 455 kk) (g_Model_settle_19 f 448 (Int32.ofNat kk) x2 og (Int32.ofNat k) M1) := by
  intro m
  induction m with
  | zero =>
    intro k f M1 km mf i
    obtain ⟨f, rfl⟩ : ∃ f', f = f' + 1 := ⟨f - 1, by omega⟩
    have hk : k = 75 := by omega
    subst hk
    conv => unfold K_Model_settle_19 g_Model_settle_19
    rw [if_pos (by decide)]
    exact ⟨fun z => absurd (by decide) z, i⟩
  | succ m ih =>
    intro k f M1 km mf i
    obtain ⟨f, rfl⟩ : ∃ f', f = f' + 1 := ⟨f - 1, by omega⟩
    have hk : k < 75 := by omega
    conv => unfold K_Model_settle_19 g_Model_settle_19
    have s := i.1.1
    have vk : vwT M1 kk k = vwT M kk k := by rw [i.2.2.1]; simp
    have e7 : mI M1 457 (75 * kk + k) = (vwT M kk k).so := by rw [← vk, vwT_at hk, nrm_so]; rfl
    have e8 : mI M1 458 (75 * kk + k) = (vwT M kk k).de := by rw [← vk, vwT_at hk, nrm_de]; rfl
    have e9 : mI M1 459 (75 * kk + k) = (vwT M kk k).og := by rw [← vk, vwT_at hk, nrm_og]; rfl
    rw [s.R448_13, s.R448_15, thingN, ixN (show 75 * kk + k < 2147483648 by omega), e7, e9]
    have n75 := i32_le75 ⟨k, hk⟩
    simp only at n75
    have nx : ∀ {M2 : XM}, KQ kk M (fun n => if n < k + 1 then stl og (¬ x2 = 0) (vwT M kk) n else vwT M kk n) (mI M 455 kk) M2 → K_Model_settle_108 (g_Model_settle_19 f) (K_Model_settle_19 f) 448 (Int32.ofNat kk) x2 og (Int32.ofNat k) M2 ∧ KQ kk M (fun n => if n < 75 then stl og (¬ x2 = 0) (vwT M kk) n else vwT M kk n) (mI M 455 kk) (g_Model_settle_108 (g_Model_settle_19 f) 448 (Int32.ofNat kk) x2 og (Int32.ofNat k) M2) := by
      intro M2 i2
      unfold K_Model_settle_108 g_Model_settle_108
      rw [add1_32]
      exact ih (k + 1) f M2 (by omega) (by omega) i2
    have no : ¬ ((vwT M kk k).so = 8 ∧ (vwT M kk k).og = og) → K_Model_settle_108 (g_Model_settle_19 f) (K_Model_settle_19 f) 448 (Int32.ofNat kk) x2 og (Int32.ofNat k) M1 ∧ KQ kk M (fun n => if n < 75 then stl og (¬ x2 = 0) (vwT M kk) n else vwT M kk n) (mI M 455 kk) (g_Model_settle_108 (g_Model_settle_19 f) 448 (Int32.ofNat kk) x2 og (Int32.ofNat k) M1) := by
      intro c
      refine nx ?_
      have e : (fun n => if n < k then stl og (¬ x2 = 0) (vwT M kk) n else vwT M kk n) = fun n => if n < k + 1 then stl og (¬ x2 = 0) (vwT M kk) n else vwT M kk n := by
        funext n
        by_cases q : n = k
        · have e : stl og (¬ x2 = 0) (vwT M kk) k = vwT M kk k := if_neg c
          rw [q, if_neg (Nat.lt_irrefl k), if_pos (Nat.lt_succ_self k), e]
        · by_cases q2 : n < k
          · rw [if_pos q2, if_pos (by omega)]
          · rw [if_neg q2, if_neg (by omega)]
      rw [← e]; exact i
    have st : ∀ w d : Int32, stl og (¬ x2 = 0) (vwT M kk) k = (w, d, -1, vOne 0) → K_Model_settle_90 (g_Model_settle_19 f) (K_Model_settle_19 f) 448 (Int32.ofNat kk) x2 og (Int32.ofNat k) 448 (Int32.ofNat kk) (Int32.ofNat k) w d M1 ∧ KQ kk M (fun n => if n < 75 then stl og (¬ x2 = 0) (vwT M kk) n else vwT M kk n) (mI M 455 kk) (g_Model_settle_90 (g_Model_settle_19 f) 448 (Int32.ofNat kk) x2 og (Int32.ofNat k) 448 (Int32.ofNat kk) (Int32.ofNat k) w d M1) := by
      intro w d ec
      unfold K_Model_settle_90 g_Model_settle_90 K_Model_settle_93 g_Model_settle_93
      obtain ⟨k1, k2, k3, k4⟩ := m_putK i.1 hkk hk w d
      rw [k2.R448_16]
      rw [i.2.2.1, i.2.2.2] at k4
      refine kq_and s.T448 (kq_and k1 (kq_and k2.T448 (kq_and k2.T460 (kq_and k3 (nx ?_)))))
      have e : up (fun n => if n < k then stl og (¬ x2 = 0) (vwT M kk) n else vwT M kk n) k (w, d, -1, vOne 0) = fun n => if n < k + 1 then stl og (¬ x2 = 0) (vwT M kk) n else vwT M kk n := by
        funext n
        by_cases q : n = k
        · rw [q, up_same, if_pos (Nat.lt_succ_self k), ec]
        · rw [up_ne _ _ q]
          by_cases q2 : n < k
          · rw [if_pos q2, if_pos (by omega)]
          · rw [if_neg q2, if_neg (by omega)]
      rw [← e]
      exact i.trans k4
    have v7 : vp_in (Int32.ofNat (75 * kk + k)) (mN M1 457) := by rw [s.N457]; exact vpN (by omega) (by omega)
    have v8 : vp_in (Int32.ofNat (75 * kk + k)) (mN M1 458) := by rw [s.N458]; exact vpN (by omega) (by omega)
    have v9 : vp_in (Int32.ofNat (75 * kk + k)) (mN M1 459) := by rw [s.N459]; exact vpN (by omega) (by omega)
    unfold K_Model_settle_71 g_Model_settle_71
    rw [s.R448_14, thingN, ixN (show 75 * kk + k < 2147483648 by omega), e8]
    refine kq_ifn (fun z => absurd z n75) (fun _ => kq_and s.T448 (kq_and s.T457 (kq_and v7 (kq_if (fun c8 => kq_and s.T448 (kq_and s.T459 (kq_and v9 (kq_if (fun co => ?_) (fun co => no (fun z => co z.2)))))) (fun c8 => no (fun z => c8 z.1))))))
    have cc : (vwT M kk k).so = 8 ∧ (vwT M kk k).og = og := ⟨c8, co⟩
    refine kq_if (fun cx => kq_if (fun _ => kq_and s.T448 (kq_and s.T458 (kq_and v8 (st 7 _ ?_)))) (fun z => absurd cx z)) (fun cx => kq_if (fun z => absurd z cx) (fun _ => st 1 0 ?_))
    · unfold stl
      rw [if_pos cc, if_neg (fun z => z cx)]
    · unfold stl
      rw [if_pos cc, if_pos cx]
theorem m_settle (h : TW M) {I : In} (hI : InT M I) (hd : I.d < 75) {kk : Nat} (hkk : kk < 1028) {x2 : Int32} : K_Model_settle 448 (Int32.ofNat kk) x2 M ∧ KQ kk M (stl (vwT M 1024 I.d).og (¬ x2 = 0) (vwT M kk)) (mI M 455 kk) (g_Model_settle 448 (Int32.ofNat kk) x2 M) := by
  have s := h.1
  have og : mI M 459 (76800 + I.d) = (vwT M 1024 I.d).og := tw_og hd
  unfold K_Model_settle g_Model_settle K_Model_settle_0 g_Model_settle_0 K_Model_settle_16 g_Model_settle_16
  rw [hI.2.1, s.R448_15, thN, ixN (show 76800 + I.d < 2147483648 by omega), og]
  have r := setT_loop h hkk (x2 := x2) (og := (vwT M 1024 I.d).og) 75 0 xF M (by omega) (by have := xF_600; omega) ⟨h, FK.rf, by funext n; rw [if_neg (Nat.not_lt_zero n)], rfl⟩
  have e : (fun n => if n < 75 then stl (vwT M 1024 I.d).og (¬ x2 = 0) (vwT M kk) n else vwT M kk n) = stl (vwT M 1024 I.d).og (¬ x2 = 0) (vwT M kk) := by
    funext n
    by_cases q : n < 75
    · rw [if_pos q]
    · rw [if_neg q]
      unfold stl
      rw [vwT_hi q, if_neg (fun (z : TH.so tNo = 8 ∧ _) => absurd z.1 (by decide))]
  rw [e] at r
  exact ⟨⟨s.T448, s.T448, s.T459, by rw [s.N459]; exact vpN (by omega) (by omega), r.1⟩, r.2⟩
theorem lrn_ok {v : AV} (tv : Tt v) (nv : nearV v) {x2 kn : Int32} (cu : v.u = 0) (c0 : 0 ≤ v.b) {m : Int32} (hm : m = 0 ∨ m = 1) : (if v.b.toInt32 + m ≤ kn then kn else v.b.toInt32 + m) = lrn v m kn := by
  have e := tv.one_of cu
  have g2 : v.b.toInt ≤ 536870912 := by
    have := Int64.le_iff_toInt_le.mp nv.2
    rw [e] at this
    exact this
  have g1 : 0 ≤ v.b.toInt := Int64.le_iff_toInt_le.mp c0
  have mI' : m.toInt = 0 ∨ m.toInt = 1 := by rcases hm with z | z <;> rw [z] <;> decide
  have eb : v.b.toInt32.toInt = v.b.toInt := by
    rw [Int64.toInt_toInt32]
    exact Int.bmod_eq_of_le (by omega) (by omega)
  have es : (v.b.toInt32 + m).toInt = v.b.toInt + m.toInt := by
    rw [Int32.toInt_add, eb]
    exact Int.bmod_eq_of_le (by omega) (by omega)
  have el : (v.b + m.toInt64).toInt = v.b.toInt + m.toInt := by
    rw [Int64.toInt_add, Int32.toInt_toInt64]
    exact Int.bmod_eq_of_le (by omega) (by omega)
  unfold lrn
  by_cases c : v.b.toInt32 + m ≤ kn
  · have q : ¬ (v.u = 0 ∧ 0 ≤ v.b ∧ kn.toInt64 < v.b + m.toInt64) := fun z => by
      have z1 := Int64.lt_iff_toInt_lt.mp z.2.2
      rw [el, Int32.toInt_toInt64] at z1
      have z2 := Int32.le_iff_toInt_le.mp c
      rw [es] at z2
      omega
    rw [if_pos c, if_neg q]
  · have q : v.u = 0 ∧ 0 ≤ v.b ∧ kn.toInt64 < v.b + m.toInt64 := by
      refine ⟨cu, c0, Int64.lt_iff_toInt_lt.mpr ?_⟩
      rw [el, Int32.toInt_toInt64]
      have : ¬ (v.b.toInt32 + m).toInt ≤ kn.toInt := fun z => c (Int32.le_iff_toInt_le.mpr z)
      rw [es] at this
      omega
    rw [if_neg c, if_pos q]
theorem m_learn (h : TW M) {I : In} (hI : InT M I) (w : WI I) (wt : WS (vwT M 1024)) {kk n : Nat} (hkk : kk < 1028) (k4 : kk ≠ 1024) (hn : n = if (vwT M 1024 I.d).so = 4 then I.d else I.s) (h4 : (vwT M 1024 n).so = 4) {x2 : Int32} :
    K_Model_learn 448 (Int32.ofNat kk) x2 M ∧ KQ kk M (vwT M kk) (lrn (vwT M 1024 n).va (if x2 = 0 then 0 else 1) (mI M 455 kk)) (g_Model_learn 448 (Int32.ofNat kk) x2 M) := by
  have s := h.1
  have hd : I.d < 75 := by have := w.2.1; omega
  have hs : I.s < 75 := by have := w.2.2.1; omega
  have n75 : n < 75 := by rw [hn]; split; exact hd; exact hs
  obtain ⟨a1, a2⟩ := m_sortOf s hd
  have tv := (wt n).2.1
  have nv := (wt n).2.2.2.2.2.2 (Or.inl h4)
  have ev := tw_va (M := M) n75 (by rw [h4]; decide)
  have kx : rk (Int32.ofNat (8 + (76800 + n))) := rkN (by omega)
  have ixn : ix (Int32.ofNat (8 + (76800 + n))) = 8 + (76800 + n) := ixN (by omega)
  have ekk : ix (Int32.ofNat kk) = kk := ixN (by omega)
  have vk : vp_in (Int32.ofNat kk) (mN M 455) := by rw [s.N455]; exact vpN (by omega) (by omega)
  obtain ⟨g1, g2⟩ := t_isSingle s kx (by rw [ixn]; exact ev) tv
  have lo : mL M 463 (8 + (76800 + n)) = (vwT M 1024 n).va.lo := by rw [← ev]; rfl
  have body : K_Model_learn_30 448 (Int32.ofNat kk) x2 (Int32.ofNat (8 + (76800 + n))) M ∧ KQ kk M (vwT M kk) (lrn (vwT M 1024 n).va (if x2 = 0 then 0 else 1) (mI M 455 kk)) (g_Model_learn_30 448 (Int32.ofNat kk) x2 (Int32.ofNat (8 + (76800 + n))) M) := by
    unfold K_Model_learn_30 g_Model_learn_30 K_Model_learn_41 g_Model_learn_41
    rw [s.R448_16, s.R460_2, ixn, lo, g1]
    refine kq_and s.T448 (kq_and s.T460 (kq_and s.T463 (kq_and (by rw [s.N463]; exact kx) (kq_and s.T448 (kq_and s.T460 (kq_and g2 ?_))))))
    simp only [f10]
    have same : ¬ ((vwT M 1024 n).va.u = 0 ∧ 0 ≤ (vwT M 1024 n).va.b) → KQ kk M (vwT M kk) (lrn (vwT M 1024 n).va (if x2 = 0 then 0 else 1) (mI M 455 kk)) M := by
      intro z
      unfold lrn
      rw [if_neg (fun q => z ⟨q.1, q.2.1⟩)]
      exact ⟨h, FK.rf, rfl, rfl⟩
    refine kq_ifn (fun c => same (fun z => c z.1)) (fun c => ?_)
    have cu : (vwT M 1024 n).va.u = 0 := Decidable.not_not.mp c
    have eb : (vwT M 1024 n).va.lo = (vwT M 1024 n).va.b := by rw [tv.one_of cu]
    rw [eb]
    refine kq_ifn (fun c2 => same (fun z => ?_)) (fun c2 => ?_)
    · rw [cmp_ltN] at c2
      exact c2 z.2
    have c0 : (0 : Int64) ≤ (vwT M 1024 n).va.b := Decidable.not_not.mp (by rw [cmp_ltN] at c2; exact c2)
    have L71 : ∀ m : Int32, (m = 0 ∨ m = 1) → K_Model_learn_71 448 (Int32.ofNat kk) (vwT M 1024 n).va.b.toInt32 m M ∧ KQ kk M (vwT M kk) (lrn (vwT M 1024 n).va m (mI M 455 kk)) (g_Model_learn_71 448 (Int32.ofNat kk) (vwT M 1024 n).va.b.toInt32 m M) := by
      intro m hm
      rw [← lrn_ok tv (nv cu) (x2 := x2) cu c0 hm]
      unfold K_Model_learn_71 g_Model_learn_71 K_Model_learn_74 g_Model_learn_74 K_Model_learn_101 g_Model_learn_101
      rw [s.R448_11, ekk]
      have fin : ∀ v, KQ kk M (vwT M kk) v (wI M 455 kk v) := fun v => by
        have f : FK kk M (wI M 455 kk v) := FK.wi (Or.inr rfl)
        have vt : ∀ j, tR (wI M 455 kk v) j = tR M j ∧ tE (wI M 455 kk v) j = tE M j := fun j => by
          unfold tR tE tek
          simp only [mI_wI]
          rw [if_neg (by omega), if_neg (by omega), if_neg (by omega), if_neg (by omega)]
          exact ⟨rfl, rfl⟩
        refine ⟨FK.tw h f (fun i hi _ => by rw [(vt i).1, (vt i).2]; exact h.2.1 i hi), f, ?_, by rw [mI_wI, if_pos ⟨rfl, rfl⟩]⟩
        funext j
        unfold vwT
        by_cases q : j < 75
        · simp only [if_pos q]; rw [(vt _).1]
        · simp only [if_neg q]
      refine kq_and s.T448 (kq_and s.T448 (kq_and s.T455 (kq_and vk ?_)))
      refine kq_if (fun c => ?_) (fun c => ?_)
      · rw [if_pos c]
        exact ⟨⟨s.T448, s.T455, vk, s.T455, vk⟩, fin _⟩
      · rw [if_neg c]
        exact ⟨⟨s.T455, vk⟩, fin _⟩
    refine kq_if (fun cx => ?_) (fun cx => ?_)
    · rw [if_pos cx]; exact L71 0 (Or.inl rfl)
    · rw [if_neg cx]; exact L71 1 (Or.inr rfl)
  unfold K_Model_learn g_Model_learn K_Model_learn_0 g_Model_learn_0 K_Model_learn_26 g_Model_learn_26
  rw [hI.2.1, hI.2.2.1, a1, roN, roN]
  by_cases c4 : (vwT M 1024 I.d).so = 4
  · rw [if_pos c4] at hn
    rw [hn] at body ⊢
    rw [if_pos c4]
    exact ⟨⟨s.T448, s.T448, a2, fun _ => ⟨s.T448, body.1⟩, fun z => absurd c4 z⟩, body.2⟩
  · rw [if_neg c4] at hn
    rw [hn] at body ⊢
    rw [if_neg c4]
    exact ⟨⟨s.T448, s.T448, a2, fun z => absurd z c4, fun _ => ⟨s.T448, body.1⟩⟩, body.2⟩
end SE
