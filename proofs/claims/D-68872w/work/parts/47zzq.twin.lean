/-! part 47zzq: the twin's things: views and frames (gen/tpl.py) -/
def RJ (J : Nat → Prop) (i : Nat) : Prop := (i < 8 ∧ i ≠ 6) ∨ (8 ≤ i ∧ J (i - 8))
def XJ (J : Nat → Prop) (a i : Nat) : Prop := ((a = 457 ∨ a = 458 ∨ a = 459) ∧ J i) ∨ (a = 467 ∧ RJ J i) ∨ ((a = 454 ∨ a = 455) ∧ 1024 ≤ i)
def FX (J : Nat → Prop) (M M' : XM) : Prop := M'.2.2 = M.2.2 ∧ (∀ a i, ¬ XJ J a i → mI M' a i = mI M a i) ∧ ∀ a i, ¬ (461 ≤ a ∧ a < 467 ∧ RJ J i) → mL M' a i = mL M a i
theorem FX.rf {J : Nat → Prop} {M : XM} : FX J M M := ⟨rfl, fun _ _ _ => rfl, fun _ _ _ => rfl⟩
theorem FX.trans {J : Nat → Prop} {M M1 M2 : XM} (h : FX J M M1) (h' : FX J M1 M2) : FX J M M2 := ⟨h'.1.trans h.1, fun a i z => (h'.2.1 a i z).trans (h.2.1 a i z), fun a i z => (h'.2.2 a i z).trans (h.2.2 a i z)⟩
theorem RJ.weak {J J' : Nat → Prop} (hJ : ∀ r, J r → J' r) {i : Nat} (h : RJ J i) : RJ J' i := h.elim Or.inl (fun z => Or.inr ⟨z.1, hJ _ z.2⟩)
theorem FX.weak {J J' : Nat → Prop} {M M1 : XM} (h : FX J M M1) (hJ : ∀ r, J r → J' r) : FX J' M M1 :=
  ⟨h.1, fun a i z => h.2.1 a i (fun q => z (by rcases q with ⟨q, q'⟩ | ⟨q, q'⟩ | q; exact Or.inl ⟨q, hJ _ q'⟩; exact Or.inr (Or.inl ⟨q, RJ.weak hJ q'⟩); exact Or.inr (Or.inr q))), fun a i z => h.2.2 a i (fun q => z ⟨q.1, q.2.1, RJ.weak hJ q.2.2⟩)⟩
theorem FX.sh {J : Nat → Prop} {M M' : XM} (h : FX J M M') (s : Sh M) : Sh M' := s.kept h.1
theorem FX.row {J : Nat → Prop} {M M' : XM} {k : Nat} (h : FX J M M') (hk : ¬ RJ J k) : tvk M' k = tvk M k ∧ tek M' k = tek M k := by
  constructor
  · unfold tvk
    rw [h.2.2 461 k (fun z => hk z.2.2), h.2.2 462 k (fun z => hk z.2.2), h.2.2 463 k (fun z => hk z.2.2), h.2.2 464 k (fun z => hk z.2.2), h.2.2 465 k (fun z => hk z.2.2), h.2.2 466 k (fun z => hk z.2.2)]
  · exact h.2.1 467 k (by unfold XJ; rintro (z | z | z); omega; exact hk z.2; omega)
theorem FX.tr {J : Nat → Prop} {M M' : XM} {j : Nat} (h : FX J M M') (hj : ¬ J j) : tR M' j = tR M j ∧ tE M' j = tE M j := by
  have r : ¬ RJ J (8 + j) := by
    rintro (z | z)
    · omega
    · rw [show 8 + j - 8 = j from by omega] at z; exact hj z.2
  have x : ∀ a, a = 457 ∨ a = 458 ∨ a = 459 → ¬ XJ J a j := fun a ha => by
    unfold XJ
    rintro (z | z | z)
    · exact hj z.2
    · omega
    · omega
  obtain ⟨t1, t2⟩ := h.row r
  refine ⟨?_, t2⟩
  unfold tR
  rw [h.2.1 457 j (x 457 (Or.inl rfl)), h.2.1 458 j (x 458 (Or.inr (Or.inl rfl))), h.2.1 459 j (x 459 (Or.inr (Or.inr rfl))), t1]
theorem FX.sx {J : Nat → Prop} {M : XM} {i : Nat} {t : TH} {e : Int32} (hi : J i) : FX J M (sX M i t e) := by
  refine ⟨rfl, fun a j z => ?_, fun a j z => ?_⟩
  · by_cases a1 : 457 ≤ a ∧ a ≤ 459
    · exact mI_sXj M i t e a1 (fun q => z (Or.inl ⟨by omega, q ▸ hi⟩))
    · by_cases a2 : a = 467
      · subst a2
        exact tek_sXne M i t e (k := j) (fun q => z (Or.inr (Or.inl ⟨rfl, Or.inr ⟨by omega, by rw [q, show 8 + i - 8 = i from by omega]; exact hi⟩⟩)))
      · exact mI_sXa M i t e ⟨a1, a2⟩ j
  · exact if_neg (fun (q : 461 ≤ a ∧ a < 467 ∧ j = 8 + i) => z ⟨q.1, q.2.1, Or.inr ⟨by omega, by rw [q.2.2, show 8 + i - 8 = i from by omega]; exact hi⟩⟩)
theorem FX.sr {J : Nat → Prop} {M : XM} {k : Nat} {w : AV} {e : Int32} (hk : k < 8) (h6 : k ≠ 6) : FX J M (sR M k w e) :=
  ⟨rfl, fun a j z => if_neg (fun (q : a = 467 ∧ j = k) => z (Or.inr (Or.inl ⟨q.1, Or.inl ⟨by omega, by omega⟩⟩))), fun a j z => if_neg (fun (q : 461 ≤ a ∧ a < 467 ∧ j = k) => z ⟨q.1, q.2.1, Or.inl ⟨by omega, by omega⟩⟩)⟩
theorem FX.frt {J J' : Nat → Prop} {M M' : XM} (h : FrT J' M M') (hJ : ∀ q, J' q → q < 8 ∧ q ≠ 6) : FX J M M' :=
  ⟨h.1, fun a i z => h.2.1 a i (fun q => z (Or.inr (Or.inl ⟨q.1, Or.inl (hJ i q.2)⟩))), fun a i z => h.2.2 a i (fun q => z ⟨q.1, q.2.1, Or.inl (hJ i q.2.2)⟩)⟩
/-- what holds of the twin's memory -/
def TW (M : XM) : Prop := Sh M ∧ (∀ i, i < 77100 → tE M i = 0 ∧ Tt (tR M i).va) ∧ tvk M 6 = vOne 0 ∧ tek M 6 = 0
theorem TW.fx {J : Nat → Prop} {M M' : XM} (h : TW M) (f : FX J M M') (hJ : ∀ i, i < 77100 → J i → tE M' i = 0 ∧ Tt (tR M' i).va) : TW M' := by
  have r6 : ¬ RJ J 6 := by rintro (z | z); omega; omega
  refine ⟨f.sh h.1, fun i hi => ?_, (f.row r6).1.trans h.2.2.1, (f.row r6).2.trans h.2.2.2⟩
  by_cases q : J i
  · exact hJ i hi q
  · rw [(f.tr q).1, (f.tr q).2]; exact h.2.1 i hi
theorem TW.sx {M : XM} (h : TW M) {i : Nat} {t : TH} {e : Int32} (he : e = 0) (ht : Tt t.va) : TW (sX M i t e) :=
  h.fx (J := fun j => j = i) (FX.sx rfl) (fun j _ hj => by rw [hj, tE_sX, tR_sX]; exact ⟨he, ht⟩)
theorem TW.sr {M : XM} (h : TW M) {k : Nat} {w : AV} {e : Int32} (hk : k < 8) (h6 : k ≠ 6) : TW (sR M k w e) :=
  h.fx (J := fun _ => False) (FX.sr hk h6) (fun j _ hj => hj.elim)
theorem TW.frt {J' : Nat → Prop} {M M' : XM} (h : TW M) (f : FrT J' M M') (hJ : ∀ q, J' q → q < 8 ∧ q ≠ 6) : TW M' :=
  h.fx (J := fun _ => False) (FX.frt f hJ) (fun j _ hj => hj.elim)
/-- a thing counts without its value if its sort has none -/
def nrm (t : TH) : TH := if hvB t.so = true then t else (t.so, t.de, t.og, vOne 0)
def vwT (M : XM) (k : Nat) : Sg := fun n => if n < 75 then nrm (tR M (75 * k + n)) else tNo
theorem nrm_so (t : TH) : (nrm t).so = t.so := by unfold nrm; split <;> rfl
theorem nrm_de (t : TH) : (nrm t).de = t.de := by unfold nrm; split <;> rfl
theorem nrm_og (t : TH) : (nrm t).og = t.og := by unfold nrm; split <;> rfl
theorem nrm_va {t : TH} (h : hvB t.so = true) : (nrm t).va = t.va := by unfold nrm; rw [if_pos h]
theorem nrm_id {t : TH} (h : hvB t.so = true) : nrm t = t := if_pos h
theorem nrm_no {t : TH} (h : hvB t.so = false) : nrm t = (t.so, t.de, t.og, vOne 0) := if_neg (by rw [h]; decide)
theorem nrm_nrm (t : TH) : nrm (nrm t) = nrm t := by
  cases h : hvB t.so
  · rw [nrm_no h]; exact nrm_no h
  · rw [nrm_id h, nrm_id h]
theorem vwT_at {M : XM} {k n : Nat} (hn : n < 75) : vwT M k n = nrm (tR M (75 * k + n)) := if_pos hn
theorem vwT_hi {M : XM} {k n : Nat} (hn : ¬ n < 75) : vwT M k n = tNo := if_neg hn
theorem vwT_sX {M : XM} {k n : Nat} (hn : n < 75) (t : TH) (e : Int32) : vwT (sX M (75 * k + n) t e) k = up (vwT M k) n (nrm t) := by
  funext m
  unfold vwT up
  by_cases c : m = n
  · rw [if_pos c, c, if_pos hn, tR_sX]
  · rw [if_neg c]
    by_cases q : m < 75
    · simp only [if_pos q]; rw [tR_sXne _ _ _ _ (by omega)]
    · simp only [if_neg q]
theorem FX.vw {J : Nat → Prop} {M M' : XM} {k : Nat} (h : FX J M M') (hk : ∀ n, n < 75 → ¬ J (75 * k + n)) : vwT M' k = vwT M k := by
  funext n
  unfold vwT
  by_cases q : n < 75
  · simp only [if_pos q]; rw [(h.tr (hk n q)).1]
  · simp only [if_neg q]
/-- the states that are put together -/
def JN (j : Nat) : Prop := 76800 ≤ j ∧ j < 76875
theorem FX.oth {M M' : XM} {k : Nat} (h : FX JN M M') (hk : k < 1024) : vwT M' k = vwT M k := h.vw (fun n hn => by unfold JN; omega)
def ZQ (M : XM) (w : Int32 × Sg × Int32) (r : Int32 × XM) : Prop := TW r.2 ∧ FX JN M r.2 ∧ r.1 = w.1 ∧ (w.1 = 0 → vwT r.2 1024 = w.2.1 ∧ mI r.2 455 1024 = w.2.2)
def MX (M : XM) (σ : Sg) (X : XM) : Prop := TW X ∧ FX JN M X ∧ vwT X 1024 = σ ∧ mI X 455 1024 = mI M 455 1024
theorem MX.mq {M : XM} {σ : Sg} {X : XM} (h : MX M σ X) : ZQ M (0, σ, mI M 455 1024) (0, X) := ⟨h.1, h.2.1, rfl, fun _ => ⟨h.2.2.1, h.2.2.2⟩⟩
theorem MX.trans {M M1 : XM} {σ σ' : Sg} {X : XM} (h : MX M σ' M1) (h' : MX M1 σ X) : MX M σ X := ⟨h'.1, h.2.1.trans h'.2.1, h'.2.2.1, h'.2.2.2.trans h.2.2.2⟩
theorem MX.no {M X : XM} (h : TW X) (f : FX (fun _ => False) M X) (k : mI X 455 1024 = mI M 455 1024) : MX M (vwT M 1024) X := ⟨h, f.weak (fun _ z => z.elim), f.vw (fun _ _ z => z), k⟩
theorem MX.sr {M : XM} (h : TW M) {k : Nat} {w : AV} {e : Int32} (hk : k < 8) (h6 : k ≠ 6) : MX M (vwT M 1024) (sR M k w e) := MX.no (h.sr hk h6) (FX.sr hk h6) (mI_sRa _ _ _ (by decide))
theorem MX.sx {M : XM} (h : TW M) {n : Nat} (hn : n < 75) {t : TH} {e : Int32} (he : e = 0) (ht : Tt t.va) : MX M (up (vwT M 1024) n (nrm t)) (sX M (76800 + n) t e) :=
  ⟨h.sx he ht, FX.sx (by unfold JN; omega), vwT_sX (k := 1024) hn t e, mI_sXa _ _ _ _ (by decide) 1024⟩
theorem ZQ.err {M X : XM} {w : Int32} {σ : Sg} {kn : Int32} (hw : w ≠ 0) (h : TW X) (f : FX JN M X) : ZQ M (w, σ, kn) (w, X) := ⟨h, f, rfl, fun z => absurd z hw⟩
theorem tw_so {M : XM} {n : Nat} (hn : n < 75) : mI M 457 (76800 + n) = (vwT M 1024 n).so := by rw [vwT_at hn, nrm_so]; rfl
theorem tw_de {M : XM} {n : Nat} (hn : n < 75) : mI M 458 (76800 + n) = (vwT M 1024 n).de := by rw [vwT_at hn, nrm_de]; rfl
theorem tw_og {M : XM} {n : Nat} (hn : n < 75) : mI M 459 (76800 + n) = (vwT M 1024 n).og := by rw [vwT_at hn, nrm_og]; rfl
theorem tw_va {M : XM} {n : Nat} (hn : n < 75) (c : hvB (vwT M 1024 n).so = true) : tvk M (8 + (76800 + n)) = (vwT M 1024 n).va := by
  rw [vwT_at hn] at c ⊢
  rw [nrm_so] at c
  rw [nrm_va c]; rfl
theorem tw_tt {M : XM} (h : TW M) {n : Nat} (hn : n < 75) : Tt (tvk M (8 + (76800 + n))) ∧ tek M (8 + (76800 + n)) = 0 := ⟨(h.2.1 (76800 + n) (by omega)).2, (h.2.1 (76800 + n) (by omega)).1⟩
theorem i1024 : (1024 : Int32) = Int32.ofNat 1024 := rfl
theorem thN (n : Nat) : g_Model_thing 1024 (Int32.ofNat n) = Int32.ofNat (76800 + n) := thingN 1024 n
theorem roN (n : Nat) : g_Model_row 1024 (Int32.ofNat n) = Int32.ofNat (8 + (76800 + n)) := rowN 1024 n
theorem rkN {k : Nat} (h : k < 77200) : rk (Int32.ofNat k) := vpN h (by omega)
theorem rk7 : rk 7 := rkN (k := 7) (by decide)
theorem rk5 : rk 5 := rkN (k := 5) (by decide)
theorem rk6 : rk 6 := rkN (k := 6) (by decide)
theorem ix7 : ix 7 = 7 := by decide
theorem ix5 : ix 5 = 5 := by decide
theorem ix6 : ix 6 = 6 := by decide
theorem m_sortOf {M : XM} (h : Sh M) {n : Nat} (hn : n < 75) : g_Model_sortOf 448 (Int32.ofNat n) M = (vwT M 1024 n).so ∧ K_Model_sortOf 448 (Int32.ofNat n) M := by
  unfold g_Model_sortOf K_Model_sortOf g_Model_sortOf_0 K_Model_sortOf_0
  rw [h.R448_13, thN, ixN (by omega), h.N457]
  exact ⟨tw_so hn, h.T448, h.T457, vpN (by omega) (by omega)⟩
theorem m_reads {M : XM} (h : Sh M) {n : Nat} (hn : n < 75) : g_Model_reads 448 (Int32.ofNat n) M = (if (vwT M 1024 n).so = 0 then 1 else 0) ∧ K_Model_reads 448 (Int32.ofNat n) M := by
  obtain ⟨a, b⟩ := m_sortOf h hn
  unfold g_Model_reads K_Model_reads g_Model_reads_0 K_Model_reads_0
  rw [a]; exact ⟨rfl, h.T448, b⟩
/-- the instruction that is taken apart -/
def InT (M : XM) (I : In) : Prop := mI M 448 19 = I.c ∧ mI M 448 20 = Int32.ofNat I.d ∧ mI M 448 21 = Int32.ofNat I.s ∧ mI M 448 22 = I.o ∧ mI M 448 23 = I.i
theorem InT.fx {J : Nat → Prop} {M M' : XM} {I : In} (h : InT M I) (f : FX J M M') : InT M' I := by
  have : ∀ i, mI M' 448 i = mI M 448 i := fun i => f.2.1 448 i (by unfold XJ; omega)
  unfold InT; rw [this, this, this, this, this]; exact h
theorem rg_bit : ∀ m : Fin 256, (if (j_ishr (Int32.ofNat m.val) 3 &&& 1) = 1 then (1 : Int32) else 0) = rg (Int32.ofNat m.val) := by decide +kernel
section IT
variable {M : XM} {I : In}
theorem InT.kind (h : InT M I) (s : Sh M) : g_Model_kind 448 M = kd I.c ∧ K_Model_kind 448 M := ⟨by show mI M 448 19 &&& 7 = _; rw [h.1]; rfl, s.T448⟩
theorem InT.num (h : InT M I) (s : Sh M) : g_Model_n 448 M = nm I.c ∧ K_Model_n 448 M := ⟨by show j_ishr (mI M 448 19) 4 = _; rw [h.1]; rfl, s.T448⟩
theorem InT.mode (h : InT M I) (s : Sh M) : g_Model_mode 448 M = md I.c ∧ K_Model_mode 448 M := ⟨by show j_ishr (mI M 448 19) 5 = _; rw [h.1]; rfl, s.T448⟩
theorem InT.size (h : InT M I) (s : Sh M) : g_Model_size 448 M = sz I.c ∧ K_Model_size 448 M := ⟨by unfold g_Model_size g_Model_size_0 g_Model_size_9; rw [h.1]; rfl, s.T448⟩
theorem InT.bit (h : InT M I) (s : Sh M) (w : WI I) : g_Model_bit3 448 M = rg I.c ∧ K_Model_bit3 448 M := by
  refine ⟨?_, s.T448⟩
  unfold g_Model_bit3 g_Model_bit3_0
  rw [h.1]
  obtain ⟨m, hm, e⟩ := w.1
  rw [e]; exact rg_bit ⟨m, hm⟩
end IT
theorem cut_any {b : Int32} (hb : b = 1 ∨ b = 2 ∨ b = 4 ∨ b = 8) : ∃ bn : Nat, bn ≤ 64 ∧ 8 * b = Int32.ofNat bn ∧ (8 ≤ b ↔ b = 8) := by
  rcases hb with e | e | e | e <;> rw [e]
  · exact ⟨8, by decide⟩
  · exact ⟨16, by decide⟩
  · exact ⟨32, by decide⟩
  · exact ⟨64, by decide⟩
theorem m_setNum {M : XM} (h : TW M) {n : Nat} (hn : n < 75) {w : AV} (hw : tvk M 7 = w) (he : tek M 7 = 0) (ht : Tt w) : K_Model_setNumber 448 1024 (Int32.ofNat n) 7 M ∧ MX M (up (vwT M 1024) n (tNu w)) (g_Model_setNumber 448 1024 (Int32.ofNat n) 7 M) := by
  obtain ⟨a, b⟩ := m_setNumber h.1 (k := 1024) (by decide) hn rk7
  rw [ix7, hw, he, jz0] at a
  rw [i1024, a]
  exact ⟨b, MX.sx h hn rfl ht⟩
theorem m_setAny {M : XM} (h : TW M) {n : Nat} (hn : n < 75) {b : Int32} (hb : b = 1 ∨ b = 2 ∨ b = 4 ∨ b = 8) : K_Model_setAny 448 (Int32.ofNat n) b M ∧ MX M (up (vwT M 1024) n (tNu (vCut (8 * b) vFree))) (g_Model_setAny 448 (Int32.ofNat n) b M) := by
  obtain ⟨bn, b1, b2, b3⟩ := cut_any hb
  unfold g_Model_setAny K_Model_setAny g_Model_setAny_0 K_Model_setAny_0 g_Model_setAny_9 K_Model_setAny_9 g_Model_setAny_30 K_Model_setAny_30
  rw [h.1.R448_16, t_free h.1, ix7]
  have kf := kt_free h.1 rk7
  have m1 : MX M (vwT M 1024) (sR M 7 vFree 0) := MX.sr h (by decide) (by decide)
  have v7 : tvk (sR M 7 vFree 0) 7 = vFree := tvk_sR _ _ _ _
  have e7 : tek (sR M 7 vFree 0) 7 = 0 := tek_sR _ _ _ _
  generalize sR M 7 vFree 0 = M1 at m1 v7 e7 ⊢
  have s1 := m1.1.1
  rw [s1.R448_16]
  refine kq_and h.1.T448 (kq_and h.1.T460 (kq_and kf (kq_if (fun c => ?_) (fun c => ?_))))
  · rw [b3.mp c, show vCut (8 * 8) vFree = vFree from cut_64 free_T]
    obtain ⟨k1, k2⟩ := m_setNum m1.1 hn v7 e7 free_T
    rw [m1.2.2.1] at k2
    exact ⟨⟨s1.T448, k1⟩, m1.trans k2⟩
  · rw [b2]
    obtain ⟨k1, k2⟩ := t_cut s1 rk7 rk7 (by rw [ix7]; decide) b1 (by rw [ix7, v7]; exact free_T)
    rw [ix7, v7, e7, jz0] at k2
    rw [k2]
    have m2 := MX.sr m1.1 (k := 3) (w := vFree) (e := 0) (by decide) (by decide)
    have m3 := MX.sr m2.1 (k := 7) (w := vCut (Int32.ofNat bn) vFree) (e := 0) (by decide) (by decide)
    have m4 := m1.trans (m2.trans m3)
    obtain ⟨k3, k4⟩ := m_setNum m3.1 hn (tvk_sR _ _ _ _) (tek_sR _ _ _ _) (cut_T free_T b1)
    rw [m4.2.2.1, m2.2.2.1, m1.2.2.1] at k4
    exact ⟨⟨s1.T448, s1.T460, k1, m3.1.1.T448, k3⟩, m4.trans k4⟩
