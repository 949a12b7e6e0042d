/-! part 47zzb: the component's Transfer: views, frames, small methods (gen/tpl.py) -/
theorem kq_if {α : Type} {c : Prop} [Decidable c] {A B : α} {KA KB : Prop} {Q : α → Prop} (h1 : c → KA ∧ Q A) (h2 : ¬ c → KB ∧ Q B) : ((c → KA) ∧ (¬ c → KB)) ∧ Q (if c then A else B) := by
  by_cases h : c
  · rw [if_pos h]; exact ⟨⟨fun _ => (h1 h).1, fun z => absurd h z⟩, (h1 h).2⟩
  · rw [if_neg h]; exact ⟨⟨fun z => absurd z h, fun _ => (h2 h).1⟩, (h2 h).2⟩
theorem kq_ifp {α : Type} {c : Prop} [Decidable c] {A B : α} {KA : Prop} {Q : α → Prop} (h1 : c → KA ∧ Q A) (h2 : ¬ c → Q B) : (c → KA) ∧ Q (if c then A else B) := by
  by_cases h : c
  · rw [if_pos h]; exact ⟨fun _ => (h1 h).1, (h1 h).2⟩
  · rw [if_neg h]; exact ⟨fun z => absurd z h, h2 h⟩
theorem kq_ifn {α : Type} {c : Prop} [Decidable c] {A B : α} {KB : Prop} {Q : α → Prop} (h1 : c → Q A) (h2 : ¬ c → KB ∧ Q B) : (¬ c → KB) ∧ Q (if c then A else B) := by
  by_cases h : c
  · rw [if_pos h]; exact ⟨fun z => absurd h z, h1 h⟩
  · rw [if_neg h]; exact ⟨fun _ => (h2 h).1, (h2 h).2⟩
theorem kq_and {P K q : Prop} (p : P) (h : K ∧ q) : (P ∧ K) ∧ q := ⟨⟨p, h.1⟩, h.2⟩
def vwC (M : XM) (r : Nat) : Sg := fun n => if n < 75 then thC M (r + 2 + 2 * n) else tNo
theorem vwC_at {M : XM} {r n : Nat} (hn : n < 75) : vwC M r n = thC M (r + 2 + 2 * n) := if_pos hn
/-- names that the reckoner uses -/
def JX (q : Nat) : Prop := q = 112 ∨ q = 113 ∨ q = 115 ∨ q = 116 ∨ q = 130 ∨ q = 131 ∨ q = 132
/-- one thing changes, and what the reckoner uses -/
def OX (t : Nat) (M M' : XM) : Prop := Fr (fun q => q = t ∨ q = t + 1 ∨ JX q) M M'
def TJ (q : Nat) : Prop := JX q ∨ q = 133 ∨ (134 ≤ q ∧ q < 442)
def TS (M M' : XM) : Prop := Fr TJ M M' ∧ mI M' 133 5 = mI M 133 5 ∧ mI M' 133 6 = mI M 133 6
def NV (M : XM) (σ : Sg) (kn : Int32) : Prop := vwC M 134 = σ ∧ mI M 134 1 = kn
def TQ (M : XM) (w : Int32 × Sg × Int32) (r : Int32 × XM) : Prop := TS M r.2 ∧ r.1 = w.1 ∧ (w.1 = 0 → NV r.2 w.2.1 w.2.2)
theorem TS.rf {M : XM} : TS M M := ⟨Fr.rf, rfl, rfl⟩
theorem TS.trans {M M1 M2 : XM} (h : TS M M1) (h' : TS M1 M2) : TS M M2 := ⟨h.1.trans h'.1, h'.2.1.trans h.2.1, h'.2.2.trans h.2.2⟩
theorem TS.sh {M M' : XM} (h : TS M M') (s : Sh M) : Sh M' := s.kept h.1.1
theorem OX.trans {t : Nat} {M M1 M2 : XM} (h : OX t M M1) (h' : OX t M1 M2) : OX t M M2 := Fr.trans h h'
theorem OX.sh {t : Nat} {M M' : XM} (h : OX t M M') (s : Sh M) : Sh M' := s.kept h.1
theorem OX.st {t : Nat} {M : XM} (x : TH) : OX t M (sT M t x) := Fr.st (Or.inl rfl) (Or.inr (Or.inl rfl))
theorem OX.fr {t : Nat} {M M' : XM} {J : Nat → Prop} (h : Fr J M M') (hJ : ∀ q, J q → q = t + 1 ∨ JX q) : OX t M M' := h.weak (fun q z => (hJ q z).elim (fun e => Or.inr (Or.inl e)) (fun e => Or.inr (Or.inr e)))
theorem OX.th {t a : Nat} {M M' : XM} (h : OX t M M') (h1 : a ≠ t) (h2 : a ≠ t + 1) (h3 : a + 1 ≠ t) (h4 : ¬ JX a) (h5 : ¬ JX (a + 1)) : thC M' a = thC M a :=
  Fr.th h (fun z => z.elim h1 (fun z => z.elim h2 h4)) (fun z => z.elim h3 (fun z => z.elim (by omega) h5))
theorem OX.sort {t : Nat} {M M' : XM} {J : Nat → Prop} (h : Fr J M M') (hJ : ¬ J t) : thC M' t = ((thC M t).so, (thC M t).de, (thC M t).og, gv6 M' (t + 1)) := by
  unfold thC
  rw [(h.2 t hJ 0).1, (h.2 t hJ 1).1, (h.2 t hJ 2).1]
theorem OX.ts {t : Nat} {M M' : XM} (h : OX t M M') (ht : 134 ≤ t) (ht2 : t + 1 < 442) : TS M M' := by
  have n5 : ¬ ((133 : Nat) = t ∨ 133 = t + 1 ∨ JX 133) := by unfold JX; omega
  exact ⟨Fr.weak h (fun q z => z.elim (fun e => Or.inr (Or.inr (by omega))) (fun z => z.elim (fun e => Or.inr (Or.inr (by omega))) Or.inl)), (h.2 133 n5 5).1, (h.2 133 n5 6).1⟩
theorem OX.now {n : Nat} {M M' : XM} (hn : n < 75) (h : OX (136 + 2 * n) M M') : vwC M' 134 = up (vwC M 134) n (thC M' (136 + 2 * n)) ∧ mI M' 134 1 = mI M 134 1 ∧ TS M M' := by
  refine ⟨?_, (h.2 134 (by unfold JX; omega) 1).1, h.ts (by omega) (by omega)⟩
  funext m
  unfold vwC up
  by_cases e : m = n
  · rw [if_pos e, e, if_pos hn, show 134 + 2 + 2 * n = 136 + 2 * n from rfl]
  · rw [if_neg e]
    by_cases m75 : m < 75
    · simp only [if_pos m75]
      exact h.th (by omega) (by omega) (by omega) (by unfold JX; omega) (by unfold JX; omega)
    · simp only [if_neg m75]
theorem OX.tmp {t : Nat} {M M' : XM} (ht : t = 438 ∨ t = 440) (h : OX t M M') : vwC M' 134 = vwC M 134 ∧ mI M' 134 1 = mI M 134 1 ∧ TS M M' := by
  refine ⟨?_, (h.2 134 (by unfold JX; omega) 1).1, h.ts (by omega) (by omega)⟩
  funext m
  unfold vwC
  by_cases m75 : m < 75
  · rw [if_pos m75, if_pos m75]
    exact h.th (by omega) (by omega) (by omega) (by unfold JX; omega) (by unfold JX; omega)
  · rw [if_neg m75, if_neg m75]
/-- the names of now's things -/
def nT (n : Nat) : Nat := 136 + 2 * n
theorem Sh.now {M : XM} (h : Sh M) {n : Nat} (hn : n < 75) : ShTh M (136 + 2 * n) := (h.St134.2.2.2.2 n hn).2
theorem Sh.farT {M : XM} (h : Sh M) {n : Nat} (hn : n < 75) : ShTh M (288 + 2 * n) := (h.St286.2.2.2.2 n hn).2
theorem c_own {M : XM} (h : Sh M) {n : Nat} (hn : n < 75) : g_Transfer_own 133 (Int32.ofNat n) M = 136 + 2 * n ∧ K_Transfer_own 133 (Int32.ofNat n) M := by
  unfold g_Transfer_own g_Transfer_own_0 K_Transfer_own K_Transfer_own_0
  have e : ix (Int32.ofNat n) = n := ixN (by omega)
  rw [h.R133_3, h.St134.2.1, h.St134.2.2.2.1, e, (h.St134.2.2.2.2 n hn).1]
  exact ⟨rfl, h.T133, h.St134.1, h.St134.2.2.1, vpN hn (by omega)⟩
theorem c_isRead {M : XM} (h : Sh M) {n : Nat} (hn : n < 75) : g_Transfer_isRead 133 (Int32.ofNat n) M = (if (vwC M 134 n).so = 0 then 0 else 1) ∧ K_Transfer_isRead 133 (Int32.ofNat n) M := by
  unfold g_Transfer_isRead g_Transfer_isRead_0 K_Transfer_isRead K_Transfer_isRead_0
  have e : ix (Int32.ofNat n) = n := ixN (by omega)
  rw [h.R133_3, h.St134.2.1, h.St134.2.2.2.1, e, (h.St134.2.2.2.2 n hn).1, vwC_at hn]
  exact ⟨rfl, h.T133, h.St134.1, h.St134.2.2.1, vpN hn (by omega), (h.St134.2.2.2.2 n hn).2.1⟩
theorem c_isNum {M : XM} {t : Nat} (h : ShTh M t) : g_Thing_isNumber t M = (if (thC M t).so = 1 then 1 else 0) ∧ K_Thing_isNumber t M := ⟨rfl, h.1⟩
theorem c_single {M : XM} {t : Nat} (h : mT M t = 10) : g_Value_isSingle t M = (if (gv6 M t).u = 0 then 1 else 0) ∧ K_Value_isSingle t M := by
  refine ⟨?_, h⟩
  show (if lg_cmp (mL M t 1) 0 = 0 then (1 : Int32) else 0) = if mL M t 1 = 0 then 1 else 0
  by_cases c : mL M t 1 = 0
  · rw [if_pos c, if_pos (cmp_eq.mpr c)]
  · rw [if_neg c, if_neg (fun z => c (cmp_eq.mp z))]
theorem cmp_ltN {x y : Int64} : (lg_cmp x y < 0) = ¬ y ≤ x := by
  rw [cmp_lt]; apply propext; rw [lt_un, le_un]; omega
theorem cmp_gtN {x y : Int64} : (0 < lg_cmp x y) = ¬ x ≤ y := by
  rw [cmp_gt]; apply propext; rw [lt_un, le_un]; omega
theorem c_isNear {M : XM} {t : Nat} (h : mT M t = 10) : g_Transfer_isNear t M = (if nearV (gv6 M t) then 1 else 0) ∧ K_Transfer_isNear t M := by
  refine ⟨?_, h, fun _ => h⟩
  show (if lg_cmp (mL M t 4) (-536870912) < 0 then (0 : Int32) else if 0 < lg_cmp (mL M t 5) 536870912 then 0 else 1) = if (-536870912 : Int64) ≤ mL M t 4 ∧ mL M t 5 ≤ 536870912 then 1 else 0
  simp only [cmp_ltN, cmp_gtN]
  by_cases c1 : (-536870912 : Int64) ≤ mL M t 4 <;> by_cases c2 : mL M t 5 ≤ 536870912 <;> simp only [c1, c2, not_true, not_false_iff, if_true, if_false, and_true, true_and, and_false, false_and, and_self]
/-- the instruction at a place -/
def InC (M : XM) (k : Int32) (I : In) : Prop := (g_Program_code 102 k M = I.c ∧ K_Program_code 102 k M) ∧ (g_Program_d 102 k M = Int32.ofNat I.d ∧ K_Program_d 102 k M) ∧ (g_Program_s 102 k M = Int32.ofNat I.s ∧ K_Program_s 102 k M) ∧ (g_Program_offset 102 k M = I.o ∧ K_Program_offset 102 k M) ∧ (g_Program_immediate 102 k M = I.i ∧ K_Program_immediate 102 k M) ∧ (kd I.c = 0 → g_Program_immediate 102 (k + 1) M = I.j ∧ K_Program_immediate 102 (k + 1) M)
section IC
variable {M : XM} {k : Int32} {I : In}
theorem InC.kept {M' : XM} (h : InC M k I) (s : Sh M) (e : M'.2.2 = M.2.2) (e2 : ∀ i, mI M' 103 i = mI M 103 i) : InC M' k I := by
  have s' := s.kept e
  unfold InC at *
  unfold g_Program_code g_Program_code_0 g_Program_d g_Program_d_0 g_Program_s g_Program_s_0 g_Program_offset g_Program_offset_0 g_Program_immediate g_Program_immediate_0 g_Program_immediate_7 g_Program_get g_Program_get_0 K_Program_code K_Program_code_0 K_Program_d K_Program_d_0 K_Program_s K_Program_s_0 K_Program_offset K_Program_offset_0 K_Program_immediate K_Program_immediate_0 K_Program_immediate_7 K_Program_get K_Program_get_0 at *
  rw [s.R102_0] at h
  rw [s'.R102_0]
  simp only [e2, eT e, eN e]
  exact h
theorem InC.ts {M' : XM} (h : InC M k I) (s : Sh M) (t : TS M M') : InC M' k I := h.kept s t.1.1 (fun i => (t.1.2 103 (by unfold TJ JX; omega) i).1)
theorem InC.kind (h : InC M k I) (s : Sh M) : g_Program_kind 102 k M = kd I.c ∧ K_Program_kind 102 k M := ⟨by show g_Program_code 102 k M &&& 7 = _; rw [h.1.1]; rfl, s.T102, h.1.2⟩
theorem InC.num (h : InC M k I) (s : Sh M) : g_Program_number 102 k M = nm I.c ∧ K_Program_number 102 k M := ⟨by show j_ishr (g_Program_code 102 k M) 4 = _; rw [h.1.1]; rfl, s.T102, h.1.2⟩
theorem InC.mode (h : InC M k I) (s : Sh M) : g_Program_mode 102 k M = md I.c ∧ K_Program_mode 102 k M := ⟨by show j_ishr (g_Program_code 102 k M) 5 = _; rw [h.1.1]; rfl, s.T102, h.1.2⟩
theorem InC.reg (h : InC M k I) (s : Sh M) : g_Program_ofRegister 102 k M = rg I.c ∧ K_Program_ofRegister 102 k M := ⟨by unfold g_Program_ofRegister g_Program_ofRegister_0; rw [h.1.1]; rfl, s.T102, h.1.2⟩
theorem InC.size (h : InC M k I) (s : Sh M) : g_Program_bytesOf 102 k M = sz I.c ∧ K_Program_bytesOf 102 k M := ⟨by unfold g_Program_bytesOf g_Program_bytesOf_0 g_Program_bytesOf_10; rw [h.1.1]; rfl, s.T102, h.1.2⟩
end IC
/-- the second operand: a thing, and what the memory is then -/
theorem c_operand {M : XM} (h : Sh M) {k : Int32} {I : In} (hI : InC M k I) (hs : I.s < 75) (hf : Int32) : K_Transfer_operand 133 k hf M ∧ ∃ t M', g_Transfer_operand 133 k hf M = (t, M') ∧ (t = 438 ∨ t = 136 + 2 * I.s) ∧ thC M' t = opd I hf (vwC M 134) ∧ OX 438 M M' := by
  obtain ⟨r1, r2⟩ := hI.reg h
  obtain ⟨m1, m2⟩ := hI.2.2.2.2.1
  obtain ⟨s1, s2⟩ := hI.2.2.1
  obtain ⟨o1, o2⟩ := c_own h hs
  unfold g_Transfer_operand K_Transfer_operand g_Transfer_operand_0 K_Transfer_operand_0 g_Transfer_operand_57 K_Transfer_operand_57 g_Transfer_operand_60 K_Transfer_operand_60
  rw [h.R133_0, h.R133_7, r1, s1, m1, o1]
  unfold opd
  have nu := fun v => h_number (M := M) h.Th438 v
  by_cases c : rg I.c = 0
  · have sh : ∀ v, Sh (sT M 438 v) := fun v => h.kept rfl
    rw [if_pos c, if_pos c, (nu _).1, (nu _).1]
    refine ⟨⟨h.T133, h.T102, r2, fun _ => ⟨h.T133, fun _ => ⟨h.T133, h.T102, m2, h.Th438.1, (nu _).2, h.T133⟩, fun _ => ⟨h.T133, h.T102, m2, h.Th438.1, (nu _).2, h.T133⟩⟩, fun z => absurd c z⟩, ?_⟩
    rw [(sh _).R133_7, (sh _).R133_7]
    by_cases c2 : hf = 0
    · rw [if_pos c2, if_pos c2]
      exact ⟨438, _, rfl, Or.inl rfl, thC_sT _ _ _, OX.st _⟩
    · rw [if_neg c2, if_neg c2]
      exact ⟨438, _, rfl, Or.inl rfl, thC_sT _ _ _, OX.st _⟩
  · rw [if_neg c, if_neg c, vwC_at hs]
    exact ⟨⟨h.T133, h.T102, r2, fun z => absurd z c, fun _ => ⟨h.T133, h.T102, s2, h.T133, o2⟩⟩, _, _, rfl, Or.inr rfl, rfl, Fr.rf⟩
theorem c_any {M : XM} (h : Sh M) {t : Nat} (ht : ShTh M t) (t1 : 134 ≤ t) (b : Int32) : K_Transfer_any 133 t b M ∧ OX t M (g_Transfer_any 133 t b M) ∧ thC (g_Transfer_any 133 t b M) t = tNu (vCut (8 * b) vFree) := by
  obtain ⟨b1, b2⟩ := h_become ht 1 0 (-1)
  unfold g_Transfer_any K_Transfer_any g_Transfer_any_0 K_Transfer_any_0 g_Transfer_any_7 K_Transfer_any_7 g_Transfer_any_14 K_Transfer_any_14
  rw [b1]
  simp only [mR_sT, ht.2.1, v_free]
  have e : sV (sT M t (1, 0, -1, vOne 0)) (t + 1) vFree = sT M t (1, 0, -1, vFree) := by rw [sTv, thC_sT, sT_sT]
  rw [e]
  have s1 : Sh (sT M t (1, 0, -1, vFree)) := h.kept rfl
  have gf : gv6 (sT M t (1, 0, -1, vFree)) (t + 1) = vFree := gv6_sT _ _ _
  obtain ⟨k1, k2, k3⟩ := r_cut s1 (v := t + 1) (t := t + 1) (n := 8 * b) ht.2.2 ht.2.2 (by omega) (by rw [gf]; exact bu_free)
  rw [gf] at k3
  simp only [mR_sT, mT_sT, h.R133_2, ht.2.1]
  have kf : K_Value_free (t + 1) (sT M t (1, 0, -1, vOne 0)) := kv_free ht.2.2
  refine ⟨⟨ht.1, b2, ht.1, ht.2.2, kf, h.T133, ht.1, ht.1, h.T110, k1⟩, (OX.st _).trans (OX.fr k2 fun q z => ?_), ?_⟩
  · rcases z with z | z
    · exact Or.inl z
    · unfold J0 at z; unfold JX; omega
  · rw [OX.sort k2 (by unfold J0; omega), thC_sT, k3]
