/-! part 47zzzc: states meet: as a plain function; the twin's goTo (gen/tpl.py) -/
abbrev Ent : Type := Sg × Int32 × Int32
abbrev Tb : Type := Nat → Option Ent
noncomputable def pJn (wd : Int32) (τ σ : Sg) : Sg := fun n => if n < 75 then pJoin (slN n) wd (τ n) (σ n) else tNo
def mnK (a b : Int32) : Int32 := if b < a then b else a
noncomputable def pGo (back : Int32) (e : Option Ent) (s : St) : Option Ent × Int32 :=
  match e with
  | none => (some (s.1, s.2, 0), 1)
  | some (τ, k, c) => cif (¬ s.2 < k ∧ pJn (wdN back c) τ s.1 = τ) (some (τ, k, c), 0) (some (pJn (wdN back c) τ s.1, mnK k s.2, c + 1), 1)
def TbT (M : XM) : Tb := fun k => if mI M 454 k = 0 then none else some (vwT M k, mI M 455 k, mI M 456 k)
def PG (q a i : Nat) : Prop := PK q a i ∨ PK 1026 a i ∨ (a = 456 ∧ i = q) ∨ (a = 448 ∧ i = 17)
def QG (q i : Nat) : Prop := QK q i ∨ QK 1026 i
def TG (q : Nat) (back : Int32) (s : St) (M X : XM) : Prop := TW X ∧ FP (PG q) (QG q) M X ∧ TbT X q = (pGo back (TbT M q) s).1 ∧ mI X 448 17 = if (pGo back (TbT M q) s).2 = 0 then mI M 448 17 else 1
section MT
variable {M : XM}
theorem tR_wi {a i j : Nat} {v : Int32} (ha : a ≠ 457 ∧ a ≠ 458 ∧ a ≠ 459 ∧ a ≠ 467) : tR (wI M a i v) j = tR M j ∧ tE (wI M a i v) j = tE M j := by
  unfold tR tE tek
  simp only [mI_wI]
  rw [if_neg (by omega), if_neg (by omega), if_neg (by omega), if_neg (by omega)]
  exact ⟨rfl, rfl⟩
theorem vwT_wi {a i k : Nat} {v : Int32} (ha : a ≠ 457 ∧ a ≠ 458 ∧ a ≠ 459 ∧ a ≠ 467) : vwT (wI M a i v) k = vwT M k := by
  funext n
  unfold vwT
  by_cases q : n < 75
  · simp only [if_pos q]; rw [(tR_wi ha).1]
  · simp only [if_neg q]
theorem TW.wi {a i : Nat} {v : Int32} (h : TW M) (ha : a ≠ 457 ∧ a ≠ 458 ∧ a ≠ 459 ∧ a ≠ 467) : TW (wI M a i v) := by
  refine ⟨h.1.kept rfl, fun j hj => by rw [(tR_wi ha).1, (tR_wi ha).2]; exact h.2.1 j hj, h.2.2.1, ?_⟩
  unfold tek
  rw [mI_wI, if_neg (by omega)]
  exact h.2.2.2
theorem m_hasV (so : Int32) : g_Model_hasValue so = bI (hvB so) := hv_if so
theorem m_wr (h : Sh M) {k n : Nat} (hk : k < 1028) (hn : n < 75) : g_Model_written 448 (Int32.ofNat k) (Int32.ofNat n) M = wrT (vwT M k n) ∧ K_Model_written 448 (Int32.ofNat k) (Int32.ofNat n) M := by
  have de : mI M 458 (75 * k + n) = (vwT M k n).de := by rw [vwT_at hn, nrm_de]; rfl
  have so : mI M 457 (75 * k + n) = (vwT M k n).so := by rw [vwT_at hn, nrm_so]; rfl
  unfold g_Model_written K_Model_written g_Model_written_0 K_Model_written_0 g_Model_written_11 K_Model_written_11
  rw [h.R448_13, h.R448_14, thingN, ixN (show 75 * k + n < 2147483648 by omega), de, so]
  exact ⟨rfl, h.T448, h.T457, by rw [h.N457]; exact vpN (by omega) (by omega), fun _ => ⟨h.T448, h.T458, by rw [h.N458]; exact vpN (by omega) (by omega)⟩⟩
theorem m_putQ (h : TW M) {kk n : Nat} (hkk : kk < 1028) (hn : n < 75) (w d : Int32) (hw : hvB w = false) : K_Model_set 448 (Int32.ofNat kk) (Int32.ofNat n) w d M ∧ KQ kk M (up (vwT M kk) n (w, d, -1, vOne 0)) (mI M 455 kk) (g_Model_set 448 (Int32.ofNat kk) (Int32.ofNat n) w d M) := by
  obtain ⟨a, b⟩ := m_set h.1 (k := kk) hkk hn w d
  rw [a]
  refine ⟨b, h.sx (h.2.1 _ (by omega)).1 (h.2.1 _ (by omega)).2, FK.sx hn, ?_, mI_sXa _ _ _ _ (by decide) _⟩
  rw [vwT_sX hn]
  exact congrArg (up (vwT M kk) n) (nrm_no hw)
theorem t_isSame (h : Sh M) {a b : Int32} (ra : rk a) (rb : rk b) : K_Sets_isSame 460 a b M ∧ g_Sets_isSame 460 a b M = if tvk M (ix a) = tvk M (ix b) then 1 else 0 := by
  have ra' : vp_in a 77200 := ra
  have rb' : vp_in b 77200 := rb
  constructor
  · unfold K_Sets_isSame K_Sets_isSame_0
    simp [h.R460_0, h.R460_1, h.R460_2, h.R460_3, h.R460_4, h.R460_5, h.R460_6, h.T460, h.T461, h.T462, h.T463, h.T464, h.T465, h.T466, h.T467, h.N461, h.N462, h.N463, h.N464, h.N465, h.N466, h.N467, ra', rb']
  · unfold g_Sets_isSame g_Sets_isSame_0
    simp only [h.R460_0, h.R460_1, h.R460_2, h.R460_3, h.R460_4, h.R460_5, h.R460_6, cmp_eq]
    have e : tvk M (ix a) = tvk M (ix b) ↔ mL M 461 (ix a) = mL M 461 (ix b) ∧ mL M 462 (ix a) = mL M 462 (ix b) ∧ mL M 463 (ix a) = mL M 463 (ix b) ∧ mL M 464 (ix a) = mL M 464 (ix b) ∧ mL M 465 (ix a) = mL M 465 (ix b) ∧ mL M 466 (ix a) = mL M 466 (ix b) := by
      unfold tvk
      simp only [Prod.mk.injEq]
    by_cases c1 : mL M 461 (ix a) = mL M 461 (ix b) <;> by_cases c2 : mL M 462 (ix a) = mL M 462 (ix b) <;> by_cases c3 : mL M 463 (ix a) = mL M 463 (ix b) <;> by_cases c4 : mL M 464 (ix a) = mL M 464 (ix b) <;> by_cases c5 : mL M 465 (ix a) = mL M 465 (ix b) <;> by_cases c6 : mL M 466 (ix a) = mL M 466 (ix b) <;> simp [e, c1, c2, c3, c4, c5, c6]
theorem tr_so {k n : Nat} (hn : n < 75) : mI M 457 (75 * k + n) = (vwT M k n).so ∧ mI M 458 (75 * k + n) = (vwT M k n).de ∧ mI M 459 (75 * k + n) = (vwT M k n).og := by
  refine ⟨?_, ?_, ?_⟩
  · rw [vwT_at hn, nrm_so]; rfl
  · rw [vwT_at hn, nrm_de]; rfl
  · rw [vwT_at hn, nrm_og]; rfl
theorem m_meet (h : TW M) {q kk n : Nat} (hq : q < 1028) (hkk : kk < 1028) (nq : q ≠ 1026) (nk : kk ≠ 1026) (hn : n < 75) (wd : Int32) : K_Model_meet 448 (Int32.ofNat q) (Int32.ofNat n) (Int32.ofNat kk) wd M ∧ KQ 1026 M (up (vwT M 1026) n (pJoin (slN n) wd (vwT M q n) (vwT M kk n))) (mI M 455 1026) (g_Model_meet 448 (Int32.ofNat q) (Int32.ofNat n) (Int32.ofNat kk) wd M) := by
  have s := h.1
  have e26 : (1026 : Int32) = Int32.ofNat 1026 := rfl
  have ix5' : ix (Int32.ofNat (75 * q + n)) = 75 * q + n := ixN (by omega)
  have ix6' : ix (Int32.ofNat (75 * kk + n)) = 75 * kk + n := ixN (by omega)
  obtain ⟨a7, a8, a9⟩ := tr_so (M := M) (k := q) hn
  obtain ⟨b7, b8, b9⟩ := tr_so (M := M) (k := kk) hn
  have vp5 : ∀ a, mN M a = 77100 → vp_in (Int32.ofNat (75 * q + n)) (mN M a) := fun a e => by rw [e]; exact vpN (by omega) (by omega)
  have vp6 : ∀ a, mN M a = 77100 → vp_in (Int32.ofNat (75 * kk + n)) (mN M a) := fun a e => by rw [e]; exact vpN (by omega) (by omega)
  obtain ⟨wq1, wq2⟩ := m_wr s hq hn
  obtain ⟨wk1, wk2⟩ := m_wr s hkk hn
  have A94 : ∀ x7 : Int32, x7 = slN n → ¬ (((vwT M q n).so = (vwT M kk n).so ∧ (vwT M q n).de = (vwT M kk n).de ∧ (vwT M q n).og = (vwT M kk n).og) ∧ ¬ (vwT M q n).so = 9) → K_Model_meet_94 448 (Int32.ofNat q) (Int32.ofNat n) (Int32.ofNat kk) wd (Int32.ofNat (75 * q + n)) x7 M ∧ KQ 1026 M (up (vwT M 1026) n (pJoin (slN n) wd (vwT M q n) (vwT M kk n))) (mI M 455 1026) (g_Model_meet_94 448 (Int32.ofNat q) (Int32.ofNat n) (Int32.ofNat kk) wd (Int32.ofNat (75 * q + n)) x7 M) := by
    intro x7 hx7 no
    unfold K_Model_meet_94 g_Model_meet_94 K_Model_meet_95 g_Model_meet_95 g_Model_meet_190 pJoin
    rw [wq1, wk1, if_neg no, e26, hx7]
    refine kq_if (fun _ => kq_if (fun c => ?_) (fun c => ?_)) (fun z => absurd rfl z)
    · obtain ⟨p1, p2⟩ := m_putQ h (kk := 1026) (by decide) hn 0 0 (by decide)
      rw [if_pos c]
      exact ⟨⟨s.T448, p1⟩, p2⟩
    · obtain ⟨p1, p2⟩ := m_putQ h (kk := 1026) (by decide) hn 9 (wrT (vwT M q n) &&& wrT (vwT M kk n)) (by decide)
      rw [if_neg c]
      exact ⟨⟨s.T448, wq2, s.T448, wk2, s.T448, p1⟩, p2⟩
  have A95 : ∀ x7 : Int32, (((vwT M q n).so = (vwT M kk n).so ∧ (vwT M q n).de = (vwT M kk n).de ∧ (vwT M q n).og = (vwT M kk n).og) ∧ ¬ (vwT M q n).so = 9) → K_Model_meet_95 448 (Int32.ofNat q) (Int32.ofNat n) (Int32.ofNat kk) wd (Int32.ofNat (75 * q + n)) x7 1 M ∧ KQ 1026 M (up (vwT M 1026) n (pJoin (slN n) wd (vwT M q n) (vwT M kk n))) (mI M 455 1026) (g_Model_meet_95 448 (Int32.ofNat q) (Int32.ofNat n) (Int32.ofNat kk) wd (Int32.ofNat (75 * q + n)) x7 1 M) := by
    intro x7 yes
    unfold K_Model_meet_95 g_Model_meet_95
    obtain ⟨c1, c2⟩ := m_copyThing s (k := q) (m := n) (k' := 1026) (m' := n) hq hn (by decide) hn
    rw [e26, c1]
    have te := h.2.1 (75 * q + n) (by omega)
    have x1 : KQ 1026 M (up (vwT M 1026) n (nrm (tR M (75 * q + n)))) (mI M 455 1026) (sX M (75 * 1026 + n) (tR M (75 * q + n)) (j_z (tE M (75 * q + n)))) :=
      ⟨h.sx (by rw [te.1, jz0]) te.2, FK.sx hn, vwT_sX hn _ _, mI_sXa _ _ _ _ (by decide) _⟩
    have tq : tR (sX M (75 * 1026 + n) (tR M (75 * q + n)) (j_z (tE M (75 * q + n)))) (75 * 1026 + n) = tR M (75 * q + n) := tR_sX _ _ _ _
    refine kq_if (fun z => absurd z i1_0) (fun _ => kq_and s.T448 (kq_and c2 ?_))
    generalize sX M (75 * 1026 + n) (tR M (75 * q + n)) (j_z (tE M (75 * q + n))) = X1 at x1 tq ⊢
    obtain ⟨t1, f1, v1, n1⟩ := x1
    have s1 := t1.1
    have vq : vwT X1 q = vwT M q := f1.vw nq
    have vk : vwT X1 kk = vwT M kk := f1.vw nk
    unfold K_Model_meet_112 g_Model_meet_112
    have a7' : mI X1 457 (75 * q + n) = (vwT M q n).so := by rw [(tr_so (M := X1) (k := q) hn).1, vq]
    rw [s1.R448_13, ix5', a7', m_hasV, s1.N457]
    have nv : nrm (tR M (75 * q + n)) = vwT M q n := (vwT_at hn).symm
    rw [nv] at v1
    unfold pJoin
    rw [if_pos yes]
    refine kq_and s1.T448 (kq_and s1.T457 (kq_and (vpN (by omega) (by omega)) (kq_ifn (fun c => ?_) (fun c => ?_))))
    · have hv : ¬ hvB (vwT M q n).so = true := fun z => by rw [z] at c; exact absurd c (by decide)
      rw [if_neg hv]
      exact ⟨t1, f1, v1, n1⟩
    · have hv : hvB (vwT M q n).so = true := by
        cases e : hvB (vwT M q n).so
        · rw [e] at c; exact absurd rfl c
        · rfl
      have hv2 : hvB (vwT M kk n).so = true := by rw [← yes.1.1]; exact hv
      rw [if_pos hv, s1.R448_16, rowN, rowN]
      have ixa : ix (Int32.ofNat (8 + (75 * q + n))) = 8 + (75 * q + n) := ixN (by omega)
      have ixb : ix (Int32.ofNat (8 + (75 * kk + n))) = 8 + (75 * kk + n) := ixN (by omega)
      have xa : tvk X1 (8 + (75 * q + n)) = (vwT M q n).va := by
        have := tr_of (M := X1) (k := q) hn (by rw [vq]; exact hv)
        rw [vq] at this
        exact congrArg TH.va this
      have xb : tvk X1 (8 + (75 * kk + n)) = (vwT M kk n).va := by
        have := tr_of (M := X1) (k := kk) hn (by rw [vk]; exact hv2)
        rw [vk] at this
        exact congrArg TH.va this
      have ta := t1.2.1 (75 * q + n) (by omega)
      have tb := t1.2.1 (75 * kk + n) (by omega)
      have ta2 : Tt (vwT M q n).va := by rw [← xa]; exact ta.2
      have tb2 : Tt (vwT M kk n).va := by rw [← xb]; exact tb.2
      obtain ⟨m1, m2⟩ := t_meet s1 (a := Int32.ofNat (8 + (75 * q + n))) (b := Int32.ofNat (8 + (75 * kk + n))) (wd := wd) (rkN (by omega)) (rkN (by omega)) (by rw [ixa]; omega) (by rw [ixb]; omega) (by rw [ixa, xa]; exact ta2) (by rw [ixb, xb]; exact tb2) (by rw [ixa]; exact ta.1)
      rw [ixa, ixb, xa, xb] at m2
      rw [m2]
      have tj : Tt (vJoin wd (vwT M q n).va (vwT M kk n).va) := join_T ta2
      unfold K_Model_meet_144 g_Model_meet_144 g_Model_meet_159
      have s2 : Sh (sR X1 2 (vJoin wd (vwT M q n).va (vwT M kk n).va) 0) := s1.kept rfl
      have t2 : TW (sR X1 2 (vJoin wd (vwT M q n).va (vwT M kk n).va) 0) := t1.sr (by decide) (by decide)
      rw [s2.R448_16, e26, rowN]
      have ix2 : ix (2 : Int32) = 2 := by decide
      have tc := t_copy s2 2 (Int32.ofNat (8 + (75 * 1026 + n)))
      have t3 : tR (sR X1 2 (vJoin wd (vwT M q n).va (vwT M kk n).va) 0) (75 * 1026 + n) = tR M (75 * q + n) := by
        rw [← tq]
        unfold tR
        rw [tvk_sRne _ _ _ (by omega), mI_sRa _ _ _ (by decide), mI_sRa _ _ _ (by decide), mI_sRa _ _ _ (by decide)]
      rw [ix2, ixN (show 8 + (75 * 1026 + n) < 2147483648 by omega), tvk_sR, tek_sR, jz0, sX_r, t3] at tc
      rw [tc]
      refine ⟨⟨s1.T448, s1.T460, m1, s2.T448, s2.T460, kt_copy s2 (rkN (k := 2) (by decide)) (rkN (by omega))⟩, t2.sx rfl tj, (f1.trans (FK.sr (by decide))).trans (FK.sx hn), ?_, ?_⟩
      · rw [vwT_sX hn]
        have vw2 : vwT (sR X1 2 (vJoin wd (vwT M q n).va (vwT M kk n).va) 0) 1026 = vwT X1 1026 := by
          funext m
          unfold vwT
          by_cases qm : m < 75
          · simp only [if_pos qm]
            unfold tR
            rw [tvk_sRne _ _ _ (by omega), mI_sRa _ _ _ (by decide), mI_sRa _ _ _ (by decide), mI_sRa _ _ _ (by decide)]
          · simp only [if_neg qm]
        rw [vw2, v1, up_up]
        have tq' := tr_of (M := M) (k := q) hn hv
        rw [tq']
        exact congrArg (up (vwT M 1026) n) (nrm_id hv)
      · rw [mI_sXa _ _ _ _ (by decide), mI_sRa _ _ _ (by decide)]
        exact n1
  unfold K_Model_meet g_Model_meet K_Model_meet_0 g_Model_meet_0 K_Model_meet_7 g_Model_meet_7 K_Model_meet_14 g_Model_meet_14 K_Model_meet_25 g_Model_meet_25
  rw [thingN, thingN, s.R448_13, s.R448_14, s.R448_15, ix5', ix6', a7, a8, a9, b7, b8, b9]
  have v7 := vp5 457 s.N457
  have v8 := vp5 458 s.N458
  have v9 := vp5 459 s.N459
  have u7 := vp6 457 s.N457
  have u8 := vp6 458 s.N458
  have u9 := vp6 459 s.N459
  have l11 := i32_lt11 ⟨n, hn⟩
  refine kq_if (fun c => ?_) (fun c => ?_)
  · have hx7 : (0 : Int32) = slN n := by unfold slN; rw [if_pos (l11.mp c)]
    exact kq_and s.T448 (kq_and s.T457 (kq_and v7 (kq_and s.T448 (kq_and s.T457 (kq_and u7 (kq_if (fun c1 => kq_and s.T448 (kq_and s.T458 (kq_and v8 (kq_and s.T448 (kq_and s.T458 (kq_and u8 (kq_if (fun c2 => kq_and s.T448 (kq_and s.T459 (kq_and v9 (kq_and s.T448 (kq_and s.T459 (kq_and u9 (kq_if (fun c3 => kq_and s.T448 (kq_and s.T457 (kq_and v7 (kq_if (fun c9 => A94 0 hx7 (fun z => z.2 c9)) (fun c9 => A95 0 ⟨⟨c1, c2, c3⟩, c9⟩))))) (fun c3 => A94 0 hx7 (fun z => c3 z.1.2.2))))))))) (fun c2 => A94 0 hx7 (fun z => c2 z.1.2.1))))))))) (fun c1 => A94 0 hx7 (fun z => c1 z.1.1))))))))
  · have hx7 : (1 : Int32) = slN n := by unfold slN; rw [if_neg (fun z => c (l11.mpr z))]
    exact kq_and s.T448 (kq_and s.T457 (kq_and v7 (kq_and s.T448 (kq_and s.T457 (kq_and u7 (kq_if (fun c1 => kq_and s.T448 (kq_and s.T458 (kq_and v8 (kq_and s.T448 (kq_and s.T458 (kq_and u8 (kq_if (fun c2 => kq_and s.T448 (kq_and s.T459 (kq_and v9 (kq_and s.T448 (kq_and s.T459 (kq_and u9 (kq_if (fun c3 => kq_and s.T448 (kq_and s.T457 (kq_and v7 (kq_if (fun c9 => A94 1 hx7 (fun z => z.2 c9)) (fun c9 => A95 1 ⟨⟨c1, c2, c3⟩, c9⟩))))) (fun c3 => A94 1 hx7 (fun z => c3 z.1.2.2))))))))) (fun c2 => A94 1 hx7 (fun z => c2 z.1.2.1))))))))) (fun c1 => A94 1 hx7 (fun z => c1 z.1.1))))))))
theorem m_sameT (h : TW M) {q kk n : Nat} (hq : q < 1028) (hkk : kk < 1028) (hn : n < 75) : K_Model_isSameThing 448 (Int32.ofNat q) (Int32.ofNat n) (Int32.ofNat kk) M ∧ (g_Model_isSameThing 448 (Int32.ofNat q) (Int32.ofNat n) (Int32.ofNat kk) M = 0 ↔ ¬ vwT M q n = vwT M kk n) := by
  have s := h.1
  have ix5' : ix (Int32.ofNat (75 * q + n)) = 75 * q + n := ixN (by omega)
  have ix6' : ix (Int32.ofNat (75 * kk + n)) = 75 * kk + n := ixN (by omega)
  obtain ⟨a7, a8, a9⟩ := tr_so (M := M) (k := q) hn
  obtain ⟨b7, b8, b9⟩ := tr_so (M := M) (k := kk) hn
  have v7 : ∀ a, mN M a = 77100 → vp_in (Int32.ofNat (75 * q + n)) (mN M a) := fun a e => by rw [e]; exact vpN (by omega) (by omega)
  have u7 : ∀ a, mN M a = 77100 → vp_in (Int32.ofNat (75 * kk + n)) (mN M a) := fun a e => by rw [e]; exact vpN (by omega) (by omega)
  have ixa : ix (Int32.ofNat (8 + (75 * q + n))) = 8 + (75 * q + n) := ixN (by omega)
  have ixb : ix (Int32.ofNat (8 + (75 * kk + n))) = 8 + (75 * kk + n) := ixN (by omega)
  obtain ⟨i1, i2⟩ := t_isSame s (a := Int32.ofNat (8 + (75 * q + n))) (b := Int32.ofNat (8 + (75 * kk + n))) (rkN (by omega)) (rkN (by omega))
  rw [ixa, ixb] at i2
  unfold K_Model_isSameThing g_Model_isSameThing K_Model_isSameThing_0 g_Model_isSameThing_0 K_Model_isSameThing_7 g_Model_isSameThing_7 K_Model_isSameThing_14 g_Model_isSameThing_14 K_Model_isSameThing_69 g_Model_isSameThing_69 K_Model_isSameThing_70 g_Model_isSameThing_70 g_Model_isSameThing_110
  rw [thingN, thingN, s.R448_13, s.R448_14, s.R448_15, ix5', ix6', a7, a8, a9, b7, b8, b9, s.R448_16, rowN, rowN, i2, m_hasV]
  have K70 : ∀ x : Int32, ¬ x = 0 → mT M 448 = 26 ∧ mT M 457 = 103 ∧ vp_in (Int32.ofNat (75 * q + n)) (mN M 457) ∧ (¬ bI (hvB (vwT M q n).so) = 0 → mT M 448 = 26 ∧ mT M 460 = 27 ∧ K_Sets_isSame 460 (Int32.ofNat (8 + (75 * q + n))) (Int32.ofNat (8 + (75 * kk + n))) M) := fun _ _ => ⟨s.T448, s.T457, v7 457 s.N457, fun _ => ⟨s.T448, s.T460, i1⟩⟩
  refine ⟨⟨s.T448, s.T457, v7 457 s.N457, s.T448, s.T457, u7 457 s.N457, fun _ => ⟨s.T448, s.T458, v7 458 s.N458, s.T448, s.T458, u7 458 s.N458, fun _ => ⟨s.T448, s.T459, v7 459 s.N459, s.T448, s.T459, u7 459 s.N459, fun _ => K70 1, fun _ => K70 0⟩, fun _ => K70 0⟩, fun _ => K70 0⟩, ?_⟩
  by_cases c1 : (vwT M q n).so = (vwT M kk n).so
  · by_cases c2 : (vwT M q n).de = (vwT M kk n).de
    · by_cases c3 : (vwT M q n).og = (vwT M kk n).og
      · rw [if_pos c1, if_pos c2, if_pos c3, if_neg i1_0]
        cases hv : hvB (vwT M q n).so
        · have e : vwT M q n = vwT M kk n := by
            have e1 := vwT_at (M := M) (k := q) hn
            have e2 := vwT_at (M := M) (k := kk) hn
            have hv1 : hvB (tR M (75 * q + n)).so = false := by rw [← nrm_so, ← e1]; exact hv
            have hv2 : hvB (tR M (75 * kk + n)).so = false := by rw [← nrm_so, ← e2, ← c1]; exact hv
            have w1 : (vwT M q n).va = vOne 0 := by rw [e1, nrm_no hv1]
            have w2 : (vwT M kk n).va = vOne 0 := by rw [e2, nrm_no hv2]
            exact Prod.ext c1 (Prod.ext c2 (Prod.ext c3 (w1.trans w2.symm)))
          rw [if_pos (show bI false = 0 from rfl)]
          exact ⟨fun z => absurd z i1_0, fun z => absurd e z⟩
        · have t1 := tr_of (M := M) (k := q) hn hv
          have t2 := tr_of (M := M) (k := kk) hn (by rw [← c1]; exact hv)
          have w1 : tvk M (8 + (75 * q + n)) = (vwT M q n).va := congrArg TH.va t1
          have w2 : tvk M (8 + (75 * kk + n)) = (vwT M kk n).va := congrArg TH.va t2
          rw [if_neg (show ¬ bI true = 0 by decide), w1, w2]
          by_cases c4 : (vwT M q n).va = (vwT M kk n).va
          · rw [if_pos c4, if_neg i1_0]
            exact ⟨fun z => absurd z i1_0, fun z => absurd (Prod.ext c1 (Prod.ext c2 (Prod.ext c3 c4))) z⟩
          · rw [if_neg c4, if_pos rfl]
            exact ⟨fun _ z => c4 (by rw [z]), fun _ => rfl⟩
      · rw [if_pos c1, if_pos c2, if_neg c3, if_pos rfl]
        exact ⟨fun _ z => c3 (by rw [z]), fun _ => rfl⟩
    · rw [if_pos c1, if_neg c2, if_pos rfl]
      exact ⟨fun _ z => c2 (by rw [z]), fun _ => rfl⟩
  · rw [if_neg c1, if_pos rfl]
    exact ⟨fun _ z => c1 (by rw [z]), fun _ => rfl⟩
end MT
