/-! part 47zzy: the twin's states: copies, narrowed states (gen/tpl.py) -/
def FP (P : Nat → Nat → Prop) (Q : Nat → Prop) (M M' : XM) : Prop := M'.2.2 = M.2.2 ∧ (∀ a i, ¬ P a i → mI M' a i = mI M a i) ∧ ∀ a i, ¬ (461 ≤ a ∧ a < 467 ∧ Q i) → mL M' a i = mL M a i
theorem FP.rf {P : Nat → Nat → Prop} {Q : Nat → Prop} {M : XM} : FP P Q M M := ⟨rfl, fun _ _ _ => rfl, fun _ _ _ => rfl⟩
theorem FP.trans {P : Nat → Nat → Prop} {Q : Nat → Prop} {M M1 M2 : XM} (h : FP P Q M M1) (h' : FP P Q M1 M2) : FP P Q M M2 := ⟨h'.1.trans h.1, fun a i z => (h'.2.1 a i z).trans (h.2.1 a i z), fun a i z => (h'.2.2 a i z).trans (h.2.2 a i z)⟩
theorem FP.weak {P P' : Nat → Nat → Prop} {Q Q' : Nat → Prop} {M M1 : XM} (h : FP P Q M M1) (hP : ∀ a i, P a i → P' a i) (hQ : ∀ i, Q i → Q' i) : FP P' Q' M M1 :=
  ⟨h.1, fun a i z => h.2.1 a i (fun q => z (hP a i q)), fun a i z => h.2.2 a i (fun q => z ⟨q.1, q.2.1, hQ i q.2.2⟩)⟩
theorem FP.sh {P : Nat → Nat → Prop} {Q : Nat → Prop} {M M' : XM} (h : FP P Q M M') (s : Sh M) : Sh M' := s.kept h.1
theorem FP.row {P : Nat → Nat → Prop} {Q : Nat → Prop} {M M' : XM} {k : Nat} (h : FP P Q M M') (hk : ¬ Q k) (hp : ¬ P 467 k) : tvk M' k = tvk M k ∧ tek M' k = tek M k := by
  constructor
  · unfold tvk
    rw [h.2.2 461 k (fun z => hk z.2.2), h.2.2 462 k (fun z => hk z.2.2), h.2.2 463 k (fun z => hk z.2.2), h.2.2 464 k (fun z => hk z.2.2), h.2.2 465 k (fun z => hk z.2.2), h.2.2 466 k (fun z => hk z.2.2)]
  · exact h.2.1 467 k hp
theorem FP.tr {P : Nat → Nat → Prop} {Q : Nat → Prop} {M M' : XM} {j : Nat} (h : FP P Q M M') (h7 : ¬ P 457 j) (h8 : ¬ P 458 j) (h9 : ¬ P 459 j) (hq : ¬ Q (8 + j)) (hp : ¬ P 467 (8 + j)) : tR M' j = tR M j ∧ tE M' j = tE M j := by
  obtain ⟨t1, t2⟩ := h.row hq hp
  refine ⟨?_, t2⟩
  unfold tR
  rw [h.2.1 457 j h7, h.2.1 458 j h8, h.2.1 459 j h9, t1]
def QK (kk i : Nat) : Prop := i < 5 ∨ (8 + 75 * kk ≤ i ∧ i < 8 + 75 * kk + 75)
def PK (kk a i : Nat) : Prop := ((a = 457 ∨ a = 458 ∨ a = 459) ∧ 75 * kk ≤ i ∧ i < 75 * kk + 75) ∨ (a = 467 ∧ QK kk i) ∨ ((a = 454 ∨ a = 455) ∧ i = kk)
def FK (kk : Nat) (M M' : XM) : Prop := FP (PK kk) (QK kk) M M'
theorem FK.rf {kk : Nat} {M : XM} : FK kk M M := FP.rf
theorem FK.trans {kk : Nat} {M M1 M2 : XM} (h : FK kk M M1) (h' : FK kk M1 M2) : FK kk M M2 := FP.trans h h'
theorem FK.sh {kk : Nat} {M M' : XM} (h : FK kk M M') (s : Sh M) : Sh M' := s.kept h.1
theorem FK.row {kk k : Nat} {M M' : XM} (h : FK kk M M') (hk : ¬ QK kk k) : tvk M' k = tvk M k ∧ tek M' k = tek M k := FP.row h hk (by unfold PK; rintro (z | z | z); omega; exact hk z.2; omega)
theorem FK.tr {kk j : Nat} {M M' : XM} (h : FK kk M M') (hj : ¬ (75 * kk ≤ j ∧ j < 75 * kk + 75)) : tR M' j = tR M j ∧ tE M' j = tE M j :=
  FP.tr h (by unfold PK QK; omega) (by unfold PK QK; omega) (by unfold PK QK; omega) (by unfold QK; omega) (by unfold PK QK; omega)
theorem FK.vw {kk k : Nat} {M M' : XM} (h : FK kk M M') (hk : k ≠ kk) : vwT M' k = vwT M k := by
  funext n
  unfold vwT
  by_cases q : n < 75
  · simp only [if_pos q]; rw [(h.tr (j := 75 * k + n) (by omega)).1]
  · simp only [if_neg q]
theorem FK.hk {kk k a : Nat} {M M' : XM} (h : FK kk M M') (ha : a = 454 ∨ a = 455) (hk : k ≠ kk) : mI M' a k = mI M a k := h.2.1 a k (by unfold PK; omega)
theorem FK.oth {kk a i : Nat} {M M' : XM} (h : FK kk M M') (ha : a < 454 ∨ a = 456 ∨ a = 460 ∨ 468 ≤ a) : mI M' a i = mI M a i := h.2.1 a i (by unfold PK; omega)
theorem FK.inT {kk : Nat} {M M' : XM} {I : In} (f : FK kk M M') (h : InT M I) : InT M' I := by
  unfold InT; rw [f.oth (by omega), f.oth (by omega), f.oth (by omega), f.oth (by omega), f.oth (by omega)]; exact h
theorem FK.tw {kk : Nat} {M M' : XM} (h : TW M) (f : FK kk M M') (hJ : ∀ i, i < 77100 → 75 * kk ≤ i ∧ i < 75 * kk + 75 → tE M' i = 0 ∧ Tt (tR M' i).va) : TW M' := by
  have r6 : ¬ QK kk 6 := by unfold QK; omega
  refine ⟨f.sh h.1, fun i hi => ?_, (f.row r6).1.trans h.2.2.1, (f.row r6).2.trans h.2.2.2⟩
  by_cases q : 75 * kk ≤ i ∧ i < 75 * kk + 75
  · exact hJ i hi q
  · rw [(f.tr q).1, (f.tr q).2]; exact h.2.1 i hi
theorem FK.sx {kk n : Nat} {M : XM} (hn : n < 75) {t : TH} {e : Int32} : FK kk M (sX M (75 * kk + n) t e) := by
  refine ⟨rfl, fun a j z => ?_, fun a j z => ?_⟩
  · by_cases a1 : 457 ≤ a ∧ a ≤ 459
    · exact mI_sXj M _ t e a1 (fun q => z (Or.inl ⟨by omega, by omega⟩))
    · by_cases a2 : a = 467
      · subst a2
        exact tek_sXne M _ t e (k := j) (fun q => z (Or.inr (Or.inl ⟨rfl, Or.inr (by omega)⟩)))
      · exact mI_sXa M _ t e ⟨a1, a2⟩ j
  · exact if_neg (fun (q : 461 ≤ a ∧ a < 467 ∧ j = 8 + (75 * kk + n)) => z ⟨q.1, q.2.1, Or.inr (by omega)⟩)
theorem FK.wi {kk a : Nat} {M : XM} {v : Int32} (ha : a = 454 ∨ a = 455) : FK kk M (wI M a kk v) :=
  ⟨rfl, fun b i z => by rw [mI_wI, if_neg (fun q => z (Or.inr (Or.inr ⟨by omega, q.2⟩)))], fun _ _ _ => rfl⟩
theorem FK.frt {kk : Nat} {M M' : XM} (f : FrT (fun q => q ≤ 4) M M') : FK kk M M' :=
  ⟨f.1, fun a i z => f.2.1 a i (fun q => z (Or.inr (Or.inl ⟨q.1, Or.inl (by omega)⟩))), fun a i z => f.2.2 a i (fun q => z ⟨q.1, q.2.1, Or.inl (by omega)⟩)⟩
theorem FK.sr {kk k : Nat} {M : XM} {w : AV} {e : Int32} (hk : k < 5) : FK kk M (sR M k w e) :=
  ⟨rfl, fun a j z => if_neg (fun (q : a = 467 ∧ j = k) => z (Or.inr (Or.inl ⟨q.1, Or.inl (by omega)⟩))), fun a j z => if_neg (fun (q : 461 ≤ a ∧ a < 467 ∧ j = k) => z ⟨q.1, q.2.1, Or.inl (by omega)⟩)⟩
/-- a state with what it is -/
def KQ (kk : Nat) (M : XM) (σ : Sg) (kn : Int32) (X : XM) : Prop := TW X ∧ FK kk M X ∧ vwT X kk = σ ∧ mI X 455 kk = kn
section CS
variable {M : XM}
theorem scopyT_loop {k kk : Nat} (hk : k < 1028) (hkk : kk < 1028) (ne : k ≠ kk) {M0 : XM} (h0 : TW M0) : ∀ (m j f : Nat) (M1 : XM), j + m = 75 → m < f → TW M1 → FK kk M0 M1 → (∀ n, n < j → tR M1 (75 * kk + n) = tR M0 (75 * k + n)) → mI M1 454 kk = mI M0 454 kk → mI M1 455 kk = mI M0 455 kk →
    K_Model_copyState_26 f 448 (Int32.ofNat k) (Int32.ofNat kk) (Int32.ofNat j) M1 ∧ KQ kk M0 (vwT M0 k) (mI M0 455 kk) (g_Model_copyState_26 f 448 (Int32.ofNat k) (Int32.ofNat kk) (Int32.ofNat j) M1) ∧ mI (g_Model_copyState_26 f 448 (Int32.ofNat k) (Int32.ofNat kk) (Int32.ofNat j) M1) 454 kk = mI M0 454 kk := by
  intro m
  induction m with
  | zero =>
    intro j f M1 jm mf t1 f1 c1 e4 e5
    obtain ⟨f, rfl⟩ : ∃ f', f = f' + 1 := ⟨f - 1, by omega⟩
    have hj : j = 75 := by omega
    subst hj
    conv => unfold K_Model_copyState_26 g_Model_copyState_26
    rw [if_pos (by decide)]
    refine ⟨fun z => absurd (by decide) z, ⟨t1, f1, ?_, e5⟩, e4⟩
    funext n
    unfold vwT
    by_cases q : n < 75
    · simp only [if_pos q]; rw [c1 n q]
    · simp only [if_neg q]
  | succ m ih =>
    intro j f M1 jm mf t1 f1 c1 e4 e5
    obtain ⟨f, rfl⟩ : ∃ f', f = f' + 1 := ⟨f - 1, by omega⟩
    have hj : j < 75 := by omega
    conv => unfold K_Model_copyState_26 g_Model_copyState_26
    have n75 := i32_le75 ⟨j, hj⟩
    simp only at n75
    obtain ⟨k1, k2⟩ := m_copyThing t1.1 hk hj hkk hj
    rw [if_neg n75, k1]
    unfold K_Model_copyState_40 g_Model_copyState_40
    rw [add1_32]
    have tr := (f1.tr (j := 75 * k + j) (by omega)).1
    have te := (t1.2.1 (75 * k + j) (by omega))
    have r := ih (j + 1) f (sX M1 (75 * kk + j) (tR M1 (75 * k + j)) (j_z (tE M1 (75 * k + j)))) (by omega) (by omega) (t1.sx (by rw [te.1, jz0]) te.2) (f1.trans (FK.sx hj)) (fun n hn => by
      by_cases q : n = j
      · rw [q, tR_sX, tr]
      · rw [tR_sXne _ _ _ _ (by omega)]; exact c1 n (by omega)) (by rw [mI_sXa _ _ _ _ (by decide)]; exact e4) (by rw [mI_sXa _ _ _ _ (by decide)]; exact e5)
    exact ⟨fun _ => ⟨t1.1.T448, k2, r.1⟩, r.2⟩
theorem m_copyState (h : TW M) {k kk : Nat} (hk : k < 1028) (hkk : kk < 1028) (ne : k ≠ kk) : K_Model_copyState 448 (Int32.ofNat k) (Int32.ofNat kk) M ∧ KQ kk M (vwT M k) (mI M 455 k) (g_Model_copyState 448 (Int32.ofNat k) (Int32.ofNat kk) M) ∧ mI (g_Model_copyState 448 (Int32.ofNat k) (Int32.ofNat kk) M) 454 kk = j_z (mI M 454 k) := by
  have s := h.1
  have ek : ix (Int32.ofNat k) = k := ixN (by omega)
  have ekk : ix (Int32.ofNat kk) = kk := ixN (by omega)
  unfold K_Model_copyState g_Model_copyState K_Model_copyState_0 g_Model_copyState_0 K_Model_copyState_12 g_Model_copyState_12
  rw [s.R448_10, ek, ekk]
  have f1 : FK kk M (wI M 454 kk (j_z (mI M 454 k))) := FK.wi (Or.inl rfl)
  have s1 : Sh (wI M 454 kk (j_z (mI M 454 k))) := f1.sh s
  rw [s1.R448_11]
  have e5 : mI (wI M 454 kk (j_z (mI M 454 k))) 455 k = mI M 455 k := by rw [mI_wI, if_neg (by omega)]
  rw [e5]
  have f2 : FK kk M (wI (wI M 454 kk (j_z (mI M 454 k))) 455 kk (mI M 455 k)) := f1.trans (FK.wi (Or.inr rfl))
  have t2 : TW (wI (wI M 454 kk (j_z (mI M 454 k))) 455 kk (mI M 455 k)) := by
    refine FK.tw h f2 (fun i hi q => ?_)
    have : tR (wI (wI M 454 kk (j_z (mI M 454 k))) 455 kk (mI M 455 k)) i = tR M i ∧ tE (wI (wI M 454 kk (j_z (mI M 454 k))) 455 kk (mI M 455 k)) i = tE M i := by
      unfold tR tE tek
      simp only [mI_wI]
      rw [if_neg (by omega), if_neg (by omega), if_neg (by omega), if_neg (by omega), if_neg (by omega), if_neg (by omega), if_neg (by omega), if_neg (by omega)]
      exact ⟨rfl, rfl⟩
    rw [this.1, this.2]; exact h.2.1 i hi
  have r := scopyT_loop hk hkk ne t2 75 0 xF _ (by omega) (by have := xF_600; omega) t2 FK.rf (fun n hn => absurd hn (Nat.not_lt_zero n)) rfl rfl
  have v2 : vwT (wI (wI M 454 kk (j_z (mI M 454 k))) 455 kk (mI M 455 k)) k = vwT M k := f2.vw ne
  have k2 : mI (wI (wI M 454 kk (j_z (mI M 454 k))) 455 kk (mI M 455 k)) 455 kk = mI M 455 k := by rw [mI_wI, if_pos ⟨rfl, rfl⟩]
  have k3 : mI (wI (wI M 454 kk (j_z (mI M 454 k))) 455 kk (mI M 455 k)) 454 kk = j_z (mI M 454 k) := by rw [mI_wI, if_neg (by omega), mI_wI, if_pos ⟨rfl, rfl⟩]
  rw [v2, k2, k3] at r
  obtain ⟨r1, r2, r3⟩ := r
  exact ⟨⟨s.T448, s.T448, s.T454, by rw [s.N454]; exact vpN (by omega) (by omega), s.T454, by rw [s.N454]; exact vpN (by omega) (by omega), s1.T448, s1.T448, s1.T455, by rw [s1.N455]; exact vpN (by omega) (by omega), s1.T455, by rw [s1.N455]; exact vpN (by omega) (by omega), r1⟩, ⟨r2.1, f2.trans r2.2.1, r2.2.2⟩, r3⟩
theorem tr_of {k n : Nat} (hn : n < 75) (hv : hvB (vwT M k n).so = true) : tR M (75 * k + n) = vwT M k n := by
  rw [vwT_at hn] at hv ⊢
  rw [nrm_so] at hv
  exact (nrm_id hv).symm
/-- a row among the first goes to a thing that is a number -/
theorem m_rowTo (h : TW M) {kk n : Nat} (hkk : kk < 1028) (hn : n < 75) {i : Int32} (ri : rk i) {w : AV} (ev : tvk M (ix i) = w) (fv : tek M (ix i) = 0) (tw : Tt w) (e1 : (vwT M kk n).so = 1) (wt : WT (vwT M kk n)) : K_Sets_copy 460 i (g_Model_row (Int32.ofNat kk) (Int32.ofNat n)) M ∧ KQ kk M (up (vwT M kk) n (tNu w)) (mI M 455 kk) (g_Sets_copy 460 i (g_Model_row (Int32.ofNat kk) (Int32.ofNat n)) M) := by
  rw [rowN]
  have tc := t_copy h.1 i (Int32.ofNat (8 + (75 * kk + n)))
  have t1 := tr_of hn (M := M) (k := kk) (by rw [e1]; decide)
  rw [ixN (show 8 + (75 * kk + n) < 2147483648 by omega), ev, fv, jz0, sX_r, t1, e1, wt.2.2.1 e1, wt.2.2.2.1 (by rw [e1]; decide)] at tc
  rw [tc]
  refine ⟨kt_copy h.1 ri (rkN (by omega)), h.sx rfl tw, FK.sx hn, ?_, mI_sXa _ _ _ _ (by decide) _⟩
  rw [vwT_sX hn]
  exact congrArg (up (vwT M kk) n) (nrm_id rfl)
theorem KQ.trans {kk : Nat} {M1 X : XM} {σ σ' : Sg} {kn kn' : Int32} (h : KQ kk M σ' kn' M1) (h' : KQ kk M1 σ kn X) : KQ kk M σ kn X := ⟨h'.1, h.2.1.trans h'.2.1, h'.2.2⟩
def NK (kk : Nat) (M : XM) (o : Option St) (r : Int32 × XM) : Prop := TW r.2 ∧ FK kk M r.2 ∧ (vwT r.2 kk 10).so = 3 ∧ ((o = none ∧ r.1 = 0) ∨ ∃ s, o = some s ∧ r.1 = 1 ∧ vwT r.2 kk = s.1 ∧ mI r.2 455 kk = s.2)
theorem m_way (h : TW M) {I : In} (hI : InT M I) (w : WI I) (wt : WS (vwT M 1024)) (h10 : (vwT M 1024 10).so = 3) {kk c : Nat} (hkk : kk = 1025 ∨ kk = 1027) (hc : c < 12) (hd : (vwT M 1024 I.d).so = 1) (hs : rg I.c ≠ 0 → (vwT M 1024 I.s).so = 1 ∧ I.d ≠ I.s)
    {r : Int32} (rr : rk r) (gr : 4 < ix r) (nq : ¬ QK kk (ix r)) {y : AV} (ey : tvk M (ix r) = y) (fy : tek M (ix r) = 0) (ty : Tt y) :
    K_Model_way 448 (Int32.ofNat kk) (Int32.ofNat c) r M ∧ NK kk M (nar I c (vwT M 1024) (mI M 455 1024) (vwT M 1024 I.d).va y) (g_Model_way 448 (Int32.ofNat kk) (Int32.ofNat c) r M) := by
  have s := h.1
  have kb : kk < 1028 := by omega
  have d10 : 10 ≠ I.d := fun z => by rw [← z, h10] at hd; exact absurd hd (by decide)
  have d75 : I.d < 75 := by have := w.2.1; omega
  have s75 : I.s < 75 := by have := w.2.2.1; omega
  obtain ⟨k1, k2, k3⟩ := m_copyState h (k := 1024) (kk := kk) (by decide) kb (by omega)
  unfold K_Model_way g_Model_way K_Model_way_0 g_Model_way_0
  rw [i1024]
  refine kq_and s.T448 (kq_and k1 ?_)
  generalize g_Model_copyState 448 (Int32.ofNat 1024) (Int32.ofNat kk) M = M1 at k2 k3 ⊢
  obtain ⟨t1, f1, v1, n1⟩ := k2
  have s1 := t1.1
  have hI1 := f1.inT hI
  unfold K_Model_way_8 g_Model_way_8
  have ixd : ix (Int32.ofNat (8 + (76800 + I.d))) = 8 + (76800 + I.d) := ixN (by omega)
  have rd := f1.row (k := 8 + (76800 + I.d)) (by unfold QK; omega)
  have ry := f1.row nq
  have xd : tvk M1 (8 + (76800 + I.d)) = (vwT M 1024 I.d).va := by rw [rd.1]; exact tw_va d75 (by rw [hd]; decide)
  have xe : tek M1 (8 + (76800 + I.d)) = 0 := by rw [rd.2]; exact (tw_tt h d75).2
  have yy : tvk M1 (ix r) = y := by rw [ry.1, ey]
  have ye : tek M1 (ix r) = 0 := by rw [ry.2, fy]
  rw [s1.R448_16, hI1.2.1, roN]
  obtain ⟨p1, p2, p3⟩ := t_refines s1 hc (a := Int32.ofNat (8 + (76800 + I.d))) (b := r) (rkN (by omega)) rr (by rw [ixd]; omega) gr (by rw [ixd, xd]; exact (wt I.d).2.1) (by rw [yy]; exact ty) (by rw [ixd]; exact xe) ye
  rw [ixd, xd, yy] at p3
  refine kq_and s1.T448 (kq_and s1.T448 (kq_and s1.T460 (kq_and p1 ?_)))
  generalize g_Sets_refines 460 (Int32.ofNat c) (Int32.ofNat (8 + (76800 + I.d))) r M1 = G at p2 p3 ⊢
  have f2 : FK kk M1 G.2 := FK.frt p2
  have t2 : TW G.2 := t1.frt p2 (fun q z => by omega)
  have s2 := t2.1
  have v2 : vwT G.2 kk = vwT M 1024 := by
    rw [← v1]
    funext n
    unfold vwT
    by_cases q : n < 75
    · simp only [if_pos q]
      have : tR G.2 (75 * kk + n) = tR M1 (75 * kk + n) := by
        have rw1 := FX.row (J := fun _ => False) (FX.frt p2 (fun q z => by omega)) (k := 8 + (75 * kk + n)) (by rintro (z | z); omega; exact z.2)
        have e7 := p2.2.1 457 (75 * kk + n) (by omega)
        have e8 := p2.2.1 458 (75 * kk + n) (by omega)
        have e9 := p2.2.1 459 (75 * kk + n) (by omega)
        unfold tR
        rw [e7, e8, e9, rw1.1]
      rw [this]
    · simp only [if_neg q]
  have n2 : mI G.2 455 kk = mI M 455 1024 := by rw [p2.2.1 455 kk (by omega)]; exact n1
  have f02 := f1.trans f2
  unfold K_Model_way_27 g_Model_way_27
  rcases p3 with ⟨q1, q2, q3, q4, q5, q6, q7, q8⟩ | ⟨q1, q2⟩
  · rw [q1]
    have hI2 := f2.inT hI1
    have ok : rfG c (vwT M 1024 I.d).va y := ⟨q2, ⟨_, q3.1.1⟩, ⟨_, q4.1.1⟩⟩
    unfold nar
    rw [cif_pos ok]
    refine kq_ifn (fun z => absurd z i1_0) (fun _ => ?_)
    rw [s2.R448_16, hI2.2.1]
    have ix0 : ix (0 : Int32) = 0 := by decide
    have ix1 : ix (1 : Int32) = 1 := by decide
    have tX : Tt (tite (rfX c (vwT M 1024 I.d).va y)) := q3.tt
    have tY : Tt (tite (rfY c (vwT M 1024 I.d).va y)) := q4.tt
    obtain ⟨a1, a2⟩ := m_rowTo t2 kb d75 (i := 0) (rkN (k := 0) (by decide)) (by rw [ix0]; exact q5) (by rw [ix0]; exact q7) tX (by rw [v2]; exact hd) (by rw [v2]; exact wt I.d)
    refine kq_and s2.T448 (kq_and s2.T448 (kq_and s2.T460 (kq_and a1 ?_)))
    have r1 : tvk (g_Sets_copy 460 0 (g_Model_row (Int32.ofNat kk) (Int32.ofNat I.d)) G.2) 1 = tvk G.2 1 ∧ tek (g_Sets_copy 460 0 (g_Model_row (Int32.ofNat kk) (Int32.ofNat I.d)) G.2) 1 = tek G.2 1 := by
      rw [rowN, t_copy s2, ixN (show 8 + (75 * kk + I.d) < 2147483648 by omega), tvk_sRne _ _ _ (by omega), tek_sRne _ _ _ (by omega)]
      exact ⟨rfl, rfl⟩
    generalize g_Sets_copy 460 0 (g_Model_row (Int32.ofNat kk) (Int32.ofNat I.d)) G.2 = M3 at a2 r1 ⊢
    obtain ⟨t3, f3, v3, n3⟩ := a2
    rw [v2] at v3
    rw [n2] at n3
    have s3 := t3.1
    have hI3 := f3.inT hI2
    obtain ⟨b1, b2⟩ := hI3.bit s3 w
    unfold K_Model_way_48 g_Model_way_48 g_Model_way_71
    rw [b1]
    refine kq_and s3.T448 (kq_and b2 (kq_ifn (fun c0 => ?_) (fun c0 => ?_)))
    · rw [if_pos c0]
      exact ⟨t3, f02.trans f3, by rw [v3, up_ne _ _ d10]; exact h10, Or.inr ⟨_, rfl, rfl, v3, n3⟩⟩
    · rw [if_neg c0, s3.R448_16, hI3.2.2.1]
      obtain ⟨o1, o2⟩ := hs c0
      have vs : vwT M3 kk I.s = vwT M 1024 I.s := by rw [v3, up_ne _ _ (fun z => o2 z.symm)]
      obtain ⟨a3, a4⟩ := m_rowTo t3 kb s75 (i := 1) (rkN (k := 1) (by decide)) (by rw [ix1, r1.1]; exact q6) (by rw [ix1, r1.2]; exact q8) tY (by rw [vs]; exact o1) (by rw [vs]; exact wt I.s)
      rw [v3, n3] at a4
      have s10 : 10 ≠ I.s := fun z => by rw [← z, h10] at o1; exact absurd o1 (by decide)
      exact ⟨⟨s3.T448, s3.T448, s3.T460, a3⟩, a4.1, (f02.trans f3).trans a4.2.1, by rw [a4.2.2.1, up_ne _ _ s10, up_ne _ _ d10]; exact h10, Or.inr ⟨_, rfl, rfl, a4.2.2.1, a4.2.2.2⟩⟩
  · rw [q1]
    unfold nar
    have q2' : ¬ rfG c (vwT M 1024 I.d).va y := q2
    rw [cif_neg q2']
    refine kq_ifn (fun _ => ?_) (fun z => absurd rfl z)
    exact ⟨t2, f02, by rw [v2]; exact h10, Or.inl ⟨rfl, rfl⟩⟩
end CS
