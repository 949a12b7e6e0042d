/-! part 47zzzf: a visit as a plain function; the twin's does (gen/tpl.py) -/
def bkN (p q : Nat) : Int32 := if Int32.ofNat p < Int32.ofNat q then 0 else 1
noncomputable def pTo (p : Nat) (T : Tb) (q : Nat) (o : Option St) : Tb × Int32 :=
  match o with
  | none => (T, 0)
  | some s => (fun k => if k = q then (pGo (bkN p q) (T q) s).1 else T k, (pGo (bkN p q) (T q) s).2)
def nxN (I : In) (p : Nat) : Nat := if kd I.c = 0 then p + 2 else p + 1
def glI (I : In) (p : Nat) : Int32 := if I.c = 6 then Int32.ofNat p + 1 + I.i else Int32.ofNat p + 1 + I.o
def orC (a b : Int32) : Int32 := if a = 0 then b else 1
noncomputable def pVi (I : In) (p : Nat) (T : Tb) (R : Rs) : Int32 × Tb × Int32 :=
  if R.1 = 0 then (0, (pTo p (pTo p T (nxN I p) R.2.1).1 (ix (glI I p)) R.2.2).1, orC (pTo p T (nxN I p) R.2.1).2 (pTo p (pTo p T (nxN I p) R.2.1).1 (ix (glI I p)) R.2.2).2) else (R.1, T, 0)
/-- what the form says of ways -/
def WG (I : In) (p : Nat) : Prop := (I.c ≠ 5 ∧ I.c ≠ 6 ∧ I.c ≠ 149 → nxN I p < 1024) ∧ ((kd I.c = 5 ∨ kd I.c = 6) ∧ I.c ≠ 133 ∧ I.c ≠ 149 → ix (glI I p) < 1024 ∧ glI I p = Int32.ofNat (ix (glI I p)))
/-- and of registers that are written -/
def WJ (I : In) : Prop := (kd I.c = 0 → I.d < 10 ∧ I.c = 24) ∧ (kd I.c = 1 → I.d < 10)
def PD (a i : Nat) : Prop := (454 ≤ a ∧ a ≤ 459) ∨ a = 467 ∨ (a = 448 ∧ 17 ≤ i ∧ i ≤ 23)
def FD (M X : XM) : Prop := FP PD (fun _ => True) M X
theorem FD.trans {M M1 M2 : XM} (h : FD M M1) (h' : FD M1 M2) : FD M M2 := FP.trans h h'
theorem FX.fd {J : Nat → Prop} {M X : XM} (h : FX J M X) : FD M X := ⟨h.1, fun a i z => h.2.1 a i (fun q => z (by unfold XJ at q; unfold PD; omega)), fun a i z => h.2.2 a i (fun q => z ⟨q.1, q.2.1, trivial⟩)⟩
theorem FP.fd {P : Nat → Nat → Prop} {Q : Nat → Prop} {M X : XM} (h : FP P Q M X) (hP : ∀ a i, P a i → PD a i) : FD M X := h.weak hP (fun _ _ => trivial)
theorem FK.fd {k : Nat} {M X : XM} (h : FK k M X) : FD M X := FP.fd h (fun a i q => by unfold PK at q; unfold PD; omega)
theorem FB.fd {M X : XM} (h : FB M X) : FD M X := FP.fd h (fun a i q => by unfold PB PK at q; unfold PD; omega)
theorem FG.fd {k : Nat} {M X : XM} (h : FP (PG k) (QG k) M X) : FD M X := FP.fd h (fun a i q => by unfold PG PK at q; unfold PD; omega)
theorem FT.fd {M X : XM} (h : FT M X) : FD M X := ⟨by rw [h.1], fun a i z => h.2 a i (fun q => z (by unfold PD; omega)), fun a i _ => by show X.2.1 a i = M.2.1 a i; rw [h.1]⟩
theorem FD.wi {M : XM} {i : Nat} {v : Int32} (hi : 17 ≤ i ∧ i ≤ 23) : FD M (wI M 448 i v) := ⟨rfl, fun a j z => by rw [mI_wI, if_neg (fun q => z (by unfold PD; omega))], fun _ _ _ => rfl⟩
theorem FD.mp {M X : XM} (h : FD M X) : mpT X = mpT M := by
  have : ∀ a, a = 451 ∨ a = 452 ∨ a = 453 → ∀ i, mI X a i = mI M a i := fun a ha i => h.2.1 a i (by unfold PD; omega)
  unfold mpT
  simp only [this 451 (by omega), this 452 (by omega), this 453 (by omega)]
theorem FT.tr {M X : XM} (h : FT M X) (j : Nat) : tR X j = tR M j ∧ tE X j = tE M j := by
  have rw1 : ∀ k, tvk X k = tvk M k := fun k => by unfold tvk mL; rw [h.1]
  unfold tR tE tek
  rw [rw1, h.2 457 j (by omega), h.2 458 j (by omega), h.2 459 j (by omega), h.2 467 _ (by omega)]
  exact ⟨rfl, rfl⟩
theorem FT.vw {M X : XM} (h : FT M X) (k : Nat) : vwT X k = vwT M k := by
  funext n
  unfold vwT
  by_cases q : n < 75
  · simp only [if_pos q]; rw [(h.tr _).1]
  · simp only [if_neg q]
theorem FT.tw {M X : XM} (h : FT M X) (t : TW M) : TW X := by
  have rw1 : ∀ k, tvk X k = tvk M k := fun k => by unfold tvk mL; rw [h.1]
  refine ⟨t.1.kept (by rw [h.1]), fun j hj => by rw [(h.tr j).1, (h.tr j).2]; exact t.2.1 j hj, by rw [rw1]; exact t.2.2.1, ?_⟩
  unfold tek
  rw [h.2 467 6 (by omega)]; exact t.2.2.2
theorem TbT.eq {M X : XM} {k : Nat} (hv : vwT X k = vwT M k) (h4 : mI X 454 k = mI M 454 k) (h5 : mI X 455 k = mI M 455 k) (h6 : mI X 456 k = mI M 456 k) : TbT X k = TbT M k := by
  unfold TbT
  rw [hv, h4, h5, h6]
theorem FK.tb {kk k : Nat} {M X : XM} (h : FK kk M X) (hk : k ≠ kk) : TbT X k = TbT M k := TbT.eq (h.vw hk) (h.hk (Or.inl rfl) hk) (h.hk (Or.inr rfl) hk) (h.oth (by omega))
theorem FX.tb {k : Nat} {M X : XM} (h : FX JN M X) (hk : k < 1024) : TbT X k = TbT M k := TbT.eq (h.oth hk) (h.2.1 454 k (by unfold XJ; omega)) (h.2.1 455 k (by unfold XJ; omega)) (h.2.1 456 k (by unfold XJ; omega))
theorem FT.tb {k : Nat} {M X : XM} (h : FT M X) : TbT X k = TbT M k := TbT.eq (h.vw k) (h.2 454 k (by omega)) (h.2 455 k (by omega)) (h.2 456 k (by omega))
theorem FP.vwk {P : Nat → Nat → Prop} {Q : Nat → Prop} {M X : XM} {k : Nat} (h : FP P Q M X) (h7 : ∀ n, n < 75 → ¬ P 457 (75 * k + n) ∧ ¬ P 458 (75 * k + n) ∧ ¬ P 459 (75 * k + n) ∧ ¬ Q (8 + (75 * k + n)) ∧ ¬ P 467 (8 + (75 * k + n))) : vwT X k = vwT M k := by
  funext n
  unfold vwT
  by_cases q : n < 75
  · simp only [if_pos q]
    obtain ⟨a, b, c, d, e⟩ := h7 n q
    rw [(h.tr a b c d e).1]
  · simp only [if_neg q]
theorem FB.vwk {M X : XM} {k : Nat} (h : FB M X) (h5 : k ≠ 1025) (h7 : k ≠ 1027) : vwT X k = vwT M k := FP.vwk h (fun n hn => by unfold PB PK QB QK; omega)
theorem FB.tb {k : Nat} {M X : XM} (h : FB M X) (hk : k < 1024) : TbT X k = TbT M k := TbT.eq (h.vwk (by omega) (by omega)) (h.2.1 454 k (by unfold PB PK; omega)) (h.2.1 455 k (by unfold PB PK; omega)) (h.2.1 456 k (by unfold PB PK; omega))
theorem FG.vwk {M X : XM} {q k : Nat} (h : FP (PG q) (QG q) M X) (h5 : k ≠ q) (h7 : k ≠ 1026) : vwT X k = vwT M k := FP.vwk h (fun n hn => by unfold PG PK QG QK; omega)
theorem FG.tb {q k : Nat} {M X : XM} (h : FP (PG q) (QG q) M X) (hk : k < 1024) (hq : k ≠ q) : TbT X k = TbT M k := TbT.eq (FG.vwk h hq (by omega)) (h.2.1 454 k (by unfold PG PK; omega)) (h.2.1 455 k (by unfold PG PK; omega)) (h.2.1 456 k (by unfold PG PK; omega))
theorem J10.vw {X : XM} (h : (vwT X 1025 10).so = 3) : J10 X := by
  have := (tr_so (M := X) (k := 1025) (n := 10) (by decide)).1
  right
  rw [← h]
  exact this
theorem J10.same {M X : XM} (h : J10 M) (e : mI X 457 76885 = mI M 457 76885) : J10 X := by unfold J10; rw [e]; exact h
/-- what does leaves -/
def DQ (M : XM) (w : Int32 × Tb × Int32) (r : Int32 × XM) : Prop := TW r.2 ∧ J10 r.2 ∧ FD M r.2 ∧ r.1 = w.1 ∧ (∀ k, k < 1024 → TbT r.2 k = w.2.1 k) ∧ mI r.2 448 17 = if w.2.2 = 0 then mI M 448 17 else 1
section DO
variable {M : XM} {p : Nat}
/-- a way that is gone -/
theorem m_go1 (h : TW M) (j10 : J10 M) {q kk : Nat} (hq : q < 1024) (hkk : kk = 1024 ∨ kk = 1025 ∨ kk = 1027) (hp : mI M 448 18 = Int32.ofNat p) {s : St} (hv : vwT M kk = s.1) (hn : mI M 455 kk = s.2) :
    K_Model_goTo 448 (Int32.ofNat kk) (Int32.ofNat q) M ∧ TW (g_Model_goTo 448 (Int32.ofNat kk) (Int32.ofNat q) M) ∧ J10 (g_Model_goTo 448 (Int32.ofNat kk) (Int32.ofNat q) M) ∧ FP (PG q) (QG q) M (g_Model_goTo 448 (Int32.ofNat kk) (Int32.ofNat q) M) ∧ (∀ k, k < 1024 → TbT (g_Model_goTo 448 (Int32.ofNat kk) (Int32.ofNat q) M) k = (pTo p (TbT M) q (some s)).1 k) ∧ mI (g_Model_goTo 448 (Int32.ofNat kk) (Int32.ofNat q) M) 448 17 = if (pTo p (TbT M) q (some s)).2 = 0 then mI M 448 17 else 1 := by
  obtain ⟨k1, t1, f1, e1, e2⟩ := m_goTo h hq hkk hp
  rw [hv, hn] at e1 e2
  refine ⟨k1, t1, j10.same (f1.2.1 457 76885 (by unfold PG PK; omega)), f1, fun k hk => ?_, e2⟩
  show _ = if k = q then (pGo (bkN p q) (TbT M q) s).1 else TbT M k
  by_cases c : k = q
  · rw [if_pos c, c]; exact e1
  · rw [if_neg c]; exact FG.tb f1 hk c
/-- the tables from which one goes count below 1024 alone -/
theorem pTo_congr {p q : Nat} {T T' : Tb} {o : Option St} (hT : ∀ k, k < 1024 → T k = T' k) (hq : o ≠ none → q < 1024) : (∀ k, k < 1024 → (pTo p T q o).1 k = (pTo p T' q o).1 k) ∧ (pTo p T q o).2 = (pTo p T' q o).2 := by
  cases o with
  | none => exact ⟨hT, rfl⟩
  | some s =>
    have e := hT q (hq (by simp))
    refine ⟨fun k hk => ?_, ?_⟩
    · show (if k = q then (pGo (bkN p q) (T q) s).1 else T k) = if k = q then (pGo (bkN p q) (T' q) s).1 else T' k
      rw [e, hT k hk]
    · show (pGo (bkN p q) (T q) s).2 = (pGo (bkN p q) (T' q) s).2
      rw [e]
theorem orC_0 (a : Int32) (h : a = 0 ∨ a = 1) : orC a 0 = a := by
  unfold orC
  rcases h with e | e <;> rw [e] <;> decide
theorem pGo_01 {b : Int32} {e : Option Ent} {s : St} : (pGo b e s).2 = 0 ∨ (pGo b e s).2 = 1 := by
  cases e with
  | none => exact Or.inr rfl
  | some x =>
    obtain ⟨τ, k, c⟩ := x
    show (cif (¬ s.2 < k ∧ pJn (wdN b c) τ s.1 = τ) (some (τ, k, c), (0 : Int32)) (some (pJn (wdN b c) τ s.1, mnK k s.2, c + 1), 1)).2 = 0 ∨ _
    by_cases q : ¬ s.2 < k ∧ pJn (wdN b c) τ s.1 = τ
    · left; rw [cif_pos q]
    · right
      show (cif (¬ s.2 < k ∧ pJn (wdN b c) τ s.1 = τ) (some (τ, k, c), (0 : Int32)) (some (pJn (wdN b c) τ s.1, mnK k s.2, c + 1), 1)).2 = 1
      rw [cif_neg q]
theorem pTo_01 {p q : Nat} {T : Tb} {o : Option St} : (pTo p T q o).2 = 0 ∨ (pTo p T q o).2 = 1 := by
  cases o with
  | none => exact Or.inl rfl
  | some s => exact pGo_01
/-- behind a step that goes on -/
theorem m_on {M0 : XM} (hM : FD M0 M) (h10 : J10 M) (hp1 : p + 1 < 1024) (hp : mI M 448 18 = Int32.ofNat p) (h17 : mI M 448 17 = mI M0 448 17) (hT : ∀ k, k < 1024 → TbT M k = TbT M0 k) {I : In} (hn : nxN I p = p + 1) {w kn : Int32} {σ : Sg} {r : Int32 × XM} (z : ZQ M (w, σ, kn) r) :
    K_Model_does_136 448 (Int32.ofNat p) r.1 r.2 ∧ DQ M0 (pVi I p (TbT M0) (w, some (σ, kn), none)) (g_Model_does_136 448 (Int32.ofNat p) r.1 r.2) := by
  obtain ⟨t, f, e, z2⟩ := z
  have e' : r.1 = w := e
  unfold K_Model_does_136 g_Model_does_136 g_Model_does_150
  have fd := hM.trans f.fd
  have j1 : J10 r.2 := h10.fx f
  have p18 : mI r.2 448 18 = Int32.ofNat p := by rw [f.2.1 448 18 (by unfold XJ; omega)]; exact hp
  have p17 : mI r.2 448 17 = mI M0 448 17 := by rw [f.2.1 448 17 (by unfold XJ; omega)]; exact h17
  have tb : ∀ k, k < 1024 → TbT r.2 k = TbT M0 k := fun k hk => by rw [f.tb hk]; exact hT k hk
  unfold pVi
  rw [e']
  by_cases c : w = 0
  · obtain ⟨v1, v2⟩ := z2 c
    have e1 : Int32.ofNat p + 1 = Int32.ofNat (p + 1) := add1_32 p
    obtain ⟨k1, t1, j2, f1, tb1, e17⟩ := m_go1 t j1 (p := p) (q := p + 1) (kk := 1024) hp1 (Or.inl rfl) p18 (s := (σ, kn)) v1 v2
    rw [c, if_pos rfl, e1, i1024]
    obtain ⟨g1, g2⟩ := pTo_congr (p := p) (q := p + 1) (o := some (σ, kn)) tb (fun _ => hp1)
    refine ⟨fun _ => ⟨t.1.T448, k1⟩, t1, j2, fd.trans (FG.fd f1), rfl, fun k hk => ?_, ?_⟩
    · rw [if_pos rfl, hn]; exact (tb1 k hk).trans (g1 k hk)
    · rw [if_pos rfl, hn]
      show _ = if orC (pTo p (TbT M0) (p + 1) (some (σ, kn))).2 0 = 0 then mI M0 448 17 else 1
      rw [orC_0 _ pTo_01, ← g2, ← p17]; exact e17
  · have n0 : ¬ ((w, some (σ, kn), (none : Option St)) : Rs).1 = 0 := c
    rw [if_neg c, if_neg n0]
    exact ⟨fun q => absurd q c, t, j1, fd, rfl, tb, by rw [if_pos rfl]; exact p17⟩
/-- behind a step that ends -/
theorem DQ.end {M0 X : XM} (t : TW X) (j : J10 X) (fd : FD M0 X) (h17 : mI X 448 17 = mI M0 448 17) (tb : ∀ k, k < 1024 → TbT X k = TbT M0 k) {I : In} {w : Int32} {R : Rs} (hw : R.1 = w) (h : w = 0 → R.2.1 = none ∧ R.2.2 = none) : DQ M0 (pVi I p (TbT M0) R) (w, X) := by
  unfold pVi
  by_cases c : w = 0
  · obtain ⟨a, b⟩ := h c
    rw [hw, if_pos c, a, b]
    refine ⟨t, j, fd, c, tb, ?_⟩
    show _ = if orC 0 0 = 0 then mI M0 448 17 else 1
    rw [show orC 0 0 = 0 from rfl, if_pos rfl]; exact h17
  · rw [hw, if_neg c]
    exact ⟨t, j, fd, rfl, tb, by rw [if_pos rfl]; exact h17⟩
end DO
