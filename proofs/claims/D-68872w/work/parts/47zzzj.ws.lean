/-! part 47zzzj: what holds of things holds behind a step (gen/tpl.py) -/
abbrev tSt : TH := (3, 0, -1, vOne 0)
def WF (σ : Sg) : Prop := WS σ ∧ σ 10 = tSt ∧ (∀ n, 75 ≤ n → σ n = tNo) ∧ ∀ n, n < 11 → (σ n).so ≠ 9
theorem WT.nu {w : AV} (h : Tt w) : WT (tNu w) := ⟨fun z => absurd z (show ¬ hvB 1 = false by decide), h, fun _ => rfl, fun _ => rfl, fun z => absurd z (show ¬ ((1 : Int32) = 6 ∨ (1 : Int32) = 7 ∨ (1 : Int32) = 8) by decide), fun z => absurd z (show ¬ ((1 : Int32) = 2 ∨ (1 : Int32) = 3) by decide), fun z => absurd z (show ¬ ((1 : Int32) = 4 ∨ (1 : Int32) = 7) by decide)⟩
theorem near0 : nearV (vOne 0) := by decide
theorem WT.no : WT tNo := ⟨fun _ => rfl, one_T 0, fun _ => rfl, fun _ => rfl, fun z => absurd z (by decide), fun z => absurd z (by decide), fun z => absurd z (by decide)⟩
theorem WT.by (m : Int32) : WT (tBy m) := ⟨fun _ => rfl, one_T 0, fun z => absurd z (show ¬ (9 : Int32) = 1 by decide), fun _ => rfl, fun z => absurd z (show ¬ ((9 : Int32) = 6 ∨ (9 : Int32) = 7 ∨ (9 : Int32) = 8) by decide), fun z => absurd z (show ¬ ((9 : Int32) = 2 ∨ (9 : Int32) = 3) by decide), fun z => absurd z (show ¬ ((9 : Int32) = 4 ∨ (9 : Int32) = 7) by decide)⟩
theorem WT.pk : WT (4, 0, -1, vOne 0) := ⟨fun _ => rfl, one_T 0, fun z => absurd z (by decide), fun _ => rfl, fun z => absurd z (by decide), fun z => absurd z (by decide), fun _ _ => near0⟩
theorem WT.en : WT (5, 0, -1, vOne 0) := ⟨fun _ => rfl, one_T 0, fun z => absurd z (by decide), fun _ => rfl, fun z => absurd z (by decide), fun z => absurd z (by decide), fun z => absurd z (by decide)⟩
theorem WT.mp {i : Int32} (h : 0 ≤ i ∧ i < 8) : WT (6, i, -1, vOne 0) := ⟨fun _ => rfl, one_T 0, fun z => absurd z (show ¬ (6 : Int32) = 1 by decide), fun _ => rfl, fun _ => h, fun z => absurd z (show ¬ ((6 : Int32) = 2 ∨ (6 : Int32) = 3) by decide), fun z => absurd z (show ¬ ((6 : Int32) = 4 ∨ (6 : Int32) = 7) by decide)⟩
theorem WT.it {i : Int32} (h : 0 ≤ i ∧ i < 8) : WT (7, i, -1, vOne 0) := ⟨fun _ => rfl, one_T 0, fun z => absurd z (show ¬ (7 : Int32) = 1 by decide), fun _ => rfl, fun _ => h, fun z => absurd z (show ¬ ((7 : Int32) = 2 ∨ (7 : Int32) = 3) by decide), fun _ _ => near0⟩
theorem WT.mb {i o : Int32} (h : 0 ≤ i ∧ i < 8) : WT (8, i, o, vOne 0) := ⟨fun _ => rfl, one_T 0, fun z => absurd z (show ¬ (8 : Int32) = 1 by decide), fun z => absurd rfl z, fun _ => h, fun z => absurd z (show ¬ ((8 : Int32) = 2 ∨ (8 : Int32) = 3) by decide), fun z => absurd z (show ¬ ((8 : Int32) = 4 ∨ (8 : Int32) = 7) by decide)⟩
theorem wt_clr (n : Nat) : WT (clr n) := by
  unfold clr
  by_cases c : n < 11
  · rw [if_pos c]; exact WT.no
  · rw [if_neg c]; exact WT.by 0
theorem WF.up {σ : Sg} (h : WF σ) {n : Nat} (h1 : n ≠ 10) (h2 : n < 75) {t : TH} (ht : WT t) (h9 : n < 11 → t.so ≠ 9) : WF (up σ n t) := by
  refine ⟨fun k => ?_, ?_, fun k hk => ?_, fun k hk => ?_⟩
  · by_cases c : k = n
    · rw [c, up_same]; exact ht
    · rw [up_ne _ _ c]; exact h.1 k
  · rw [up_ne _ _ (fun z => h1 z.symm)]; exact h.2.1
  · rw [up_ne _ _ (by omega)]; exact h.2.2.1 k hk
  · by_cases c : k = n
    · rw [c, up_same]; exact h9 (by omega)
    · rw [up_ne _ _ c]; exact h.2.2.2 k hk
theorem n19 (w : AV) : ∀ P : Prop, P → TH.so (tNu w) ≠ 9 := fun _ _ => show ¬ (1 : Int32) = 9 by decide
theorem opd_wt {I : In} {hf : Int32} {σ : Sg} (h : WS σ) : WT (opd I hf σ) := by
  unfold opd
  by_cases c : rg I.c = 0
  · rw [if_pos c]; exact WT.nu (one_T _)
  · rw [if_neg c]; exact h _
theorem rkV_T {I : In} (w : WI I) (hk : kd I.c = 4 ∨ kd I.c = 7) {hf : Int32} (ehf : hf = if kd I.c = 4 then 1 else 0) {x y : AV} (hx : Tt x) (hy : Tt y) : Tt (rkV I hf x y) := by
  obtain ⟨w1, w2, w3, w4, w5⟩ := w.2.2.2.2.1 hk
  have bq : bw hf = 64 ∨ bw hf = 32 := by
    unfold bw
    by_cases c : hf = 0
    · rw [if_pos c]; exact Or.inl rfl
    · rw [if_neg c]; exact Or.inr rfl
  have cutB : ∀ {z : AV}, Tt z → Tt (vCut (bw hf) z) := fun {z} hz => by
    rcases bq with e | e <;> rw [e]
    · exact cut_T hz (n := 64) (by decide)
    · exact cut_T hz (n := 32) (by decide)
  unfold rkV
  by_cases c8 : nm I.c = 8
  · rw [if_pos c8]; exact op_T (by decide) bq (one_T 0) hx
  rw [if_neg c8]
  by_cases c13 : nm I.c = 13
  · rw [if_pos c13]
    obtain ⟨_, w6, _⟩ := w4 c13
    have cI : Tt (vCut I.i x) := by
      rcases w6 with e | e | e <;> rw [e]
      · exact cut_T hx (n := 16) (by decide)
      · exact cut_T hx (n := 32) (by decide)
      · exact cut_T hx (n := 64) (by decide)
    split
    · exact swap_T
    · split
      · exact cI
      · exact swap_T
  rw [if_neg c13]
  by_cases o1 : I.o = 1
  · rw [if_pos o1]; exact cutB free_T
  rw [if_neg o1]
  by_cases ol : I.o ≤ 1
  · rw [if_pos ol]
    have : opN (nm I.c) < 12 := by
      obtain ⟨m, hm, e⟩ := w.1
      rw [e] at w2 c8 c13 ⊢
      exact (opo_ok ⟨m, hm⟩ w2 c8 c13).2
    exact op_T this bq hx hy
  rw [if_neg ol]
  rcases w5 with e | e | e
  · rw [e] at ol; exact absurd (by decide) ol
  · exact absurd e.1 o1
  · rcases e.2.2 with e | e | e
    · rw [e]; exact cutB (ext_T hy (n := 8) (by decide) (by decide))
    · rw [e]; exact cutB (ext_T hy (n := 16) (by decide) (by decide))
    · rw [e.1]; exact cutB (ext_T hy (n := 32) (by decide) (by decide))
theorem ptr1_wt {n : Int32} (hn : ix n < 12) {b : TH} {v : AV} (hb : WT b) (hv : Tt v) (h0 : (ptr1 n b v).1 = 0) : WT (ptr1 n b v).2 := by
  unfold ptr1 at h0 ⊢
  by_cases c1 : b.so = 4 ∨ b.so = 7
  · rw [if_pos c1] at h0 ⊢
    have tz := op_T (n := 64) hn (Or.inl rfl) hb.2.1 hv
    by_cases nr : nearV (vOp (ix n) 64 b.va v)
    · refine ⟨fun z => ?_, tz, fun z => ?_, fun z => ?_, fun z => hb.2.2.2.2.1 z, fun z => ?_, fun _ _ => nr⟩
      · have : hvB b.so = false := z
        rw [hv47 c1] at this
        exact absurd this (by decide)
      · have : b.so = 1 := z
        rcases c1 with e | e <;> rw [e] at this <;> exact absurd this (by decide)
      · have : b.so ≠ 8 := z
        exact hb.2.2.2.1 this
      · have : b.so = 2 ∨ b.so = 3 := z
        rcases c1 with e | e <;> rw [e] at this <;> exact absurd this (by decide)
    · have : (if nearV (vOp (ix n) 64 b.va v) then (0 : Int32) else 2) = 0 := h0
      rw [if_neg nr] at this
      exact absurd this (by decide)
  · rw [if_neg c1] at h0 ⊢
    by_cases c2 : (b.so = 2 ∨ b.so = 3) ∧ v.u = 0 ∧ (-1073741824 : Int64) ≤ v.le ∧ v.le ≤ 1073741824
    · rw [if_pos c2] at h0 ⊢
      generalize hC : (if n = 0 then b.de.toInt64 + v.le else b.de.toInt64 - v.le) = C at h0 ⊢
      by_cases nr : (-536870912 : Int64) ≤ C ∧ C ≤ 536870912
      · have g1 := Int64.le_iff_toInt_le.mp nr.1
        have g2 := Int64.le_iff_toInt_le.mp nr.2
        have k1 : (-536870912 : Int64).toInt = -536870912 := rfl
        have k2 : (536870912 : Int64).toInt = 536870912 := rfl
        have ec : C.toInt32.toInt = C.toInt := by
          rw [Int64.toInt_toInt32]
          exact Int.bmod_eq_of_le (by omega) (by omega)
        refine ⟨fun z => hb.1 z, hb.2.1, fun z => ?_, fun z => hb.2.2.2.1 z, fun z => ?_, fun _ => ?_, fun z => hb.2.2.2.2.2.2 z⟩
        · have : b.so = 1 := z
          rcases c2.1 with e | e <;> rw [e] at this <;> exact absurd this (by decide)
        · have : b.so = 6 ∨ b.so = 7 ∨ b.so = 8 := z
          rcases c2.1 with e | e <;> rw [e] at this <;> exact absurd this (by decide)
        · show -536870912 ≤ C.toInt32.toInt ∧ C.toInt32.toInt ≤ 536870912
          rw [ec]; omega
      · have : (if (-536870912 : Int64) ≤ C ∧ C ≤ 536870912 then (0 : Int32) else 2) = 0 := h0
        rw [if_neg nr] at this
        exact absurd this (by decide)
    · rw [if_neg c2] at h0
      exact absurd h0 (by show ¬ (2 : Int32) = 0; decide)
theorem ptr_wt {n : Int32} {t y : TH} (ht : WT t) (hy : WT y) (nn : n = 0 ∨ n = 1 ∨ 1 < n) (h0 : (ptr n t y).1 = 0) : WT (ptr n t y).2 := by
  have two : ∀ t : TH, ((2, t) : Int32 × TH).1 = 0 → False := fun _ z => absurd z (show ¬ (2 : Int32) = 0 by decide)
  unfold ptr at h0 ⊢
  by_cases c1 : 1 < n
  · rw [if_pos c1] at h0; exact (two _ h0).elim
  · have hn : ix n < 12 := by
      rcases nn with e | e | e
      · rw [e]; decide
      · rw [e]; decide
      · exact absurd e c1
    rw [if_neg c1] at h0 ⊢
    by_cases c2 : t.so = 1
    · rw [if_pos c2] at h0 ⊢
      by_cases c3 : n = 1
      · rw [if_pos c3] at h0; exact (two _ h0).elim
      · rw [if_neg c3] at h0 ⊢
        exact ptr1_wt hn hy ht.2.1 h0
    · rw [if_neg c2] at h0 ⊢
      by_cases c3 : y.so = 1
      · rw [if_pos c3] at h0 ⊢
        exact ptr1_wt hn ht hy.2.1 h0
      · rw [if_neg c3] at h0; exact (two _ h0).elim
theorem ptr1_9 {n : Int32} {b : TH} {v : AV} (h : b.so ≠ 9) : (ptr1 n b v).2.so ≠ 9 := by
  unfold ptr1
  by_cases c1 : b.so = 4 ∨ b.so = 7
  · rw [if_pos c1]; exact h
  · rw [if_neg c1]
    by_cases c2 : (b.so = 2 ∨ b.so = 3) ∧ v.u = 0 ∧ (-1073741824 : Int64) ≤ v.le ∧ v.le ≤ 1073741824
    · rw [if_pos c2]; exact h
    · rw [if_neg c2]; exact h
theorem ptr_9 {n : Int32} {t y : TH} (ht : t.so ≠ 9) (hy : y.so ≠ 9) : (ptr n t y).2.so ≠ 9 := by
  unfold ptr
  by_cases c1 : 1 < n
  · rw [if_pos c1]; exact ht
  · rw [if_neg c1]
    by_cases c2 : t.so = 1
    · rw [if_pos c2]
      by_cases c3 : n = 1
      · rw [if_pos c3]; exact ht
      · rw [if_neg c3]; exact ptr1_9 hy
    · rw [if_neg c2]
      by_cases c3 : y.so = 1
      · rw [if_pos c3]; exact ptr1_9 ht
      · rw [if_neg c3]; exact ht
theorem nm3 : ∀ m : Fin 256, nm (Int32.ofNat m.val) = 0 ∨ nm (Int32.ofNat m.val) = 1 ∨ 1 < nm (Int32.ofNat m.val) := by decide +kernel
section WS
variable {mp : Mp} {I : In} {σ : Sg} {kn hf : Int32}
theorem rck_wf (h : WF σ) (w : WI I) (hk : kd I.c = 4 ∨ kd I.c = 7) (ehf : hf = if kd I.c = 4 then 1 else 0) (h0 : (rck I hf σ).1 = 0) : WF (rck I hf σ).2 := by
  have hd : I.d < 10 := (w.2.2.2.2.1 hk).1
  have upd : ∀ {t : TH}, WT t → t.so ≠ 9 → WF (up σ I.d t) := fun {t} ht h9 => h.up (by omega) (by omega) ht (fun _ => h9)
  have hs11 : I.s < 11 := w.2.2.1
  have nn : nm I.c = 0 ∨ nm I.c = 1 ∨ 1 < nm I.c := by
    obtain ⟨m, hm, e⟩ := w.1
    rw [e]; exact nm3 ⟨m, hm⟩
  have hy : WT (if nm I.c = 8 ∨ nm I.c = 13 then σ I.d else opd I hf σ) := by
    split
    · exact h.1 _
    · exact opd_wt h.1
  have hy9 : (if nm I.c = 8 ∨ nm I.c = 13 then σ I.d else opd I hf σ).so ≠ 9 := by
    split
    · exact h.2.2.2 _ (by omega)
    · unfold opd
      split
      · exact n19 _ True trivial
      · exact h.2.2.2 _ hs11
  unfold rck at h0 ⊢
  by_cases c1 : (nm I.c ≠ 11 ∧ (σ I.d).so = 0) ∨ (nm I.c ≠ 8 ∧ nm I.c ≠ 13 ∧ rg I.c ≠ 0 ∧ (σ I.s).so = 0)
  · rw [if_pos c1] at h0; exact absurd h0 (show ¬ (1 : Int32) = 0 by decide)
  · rw [if_neg c1] at h0 ⊢
    generalize (if nm I.c = 8 ∨ nm I.c = 13 then σ I.d else opd I hf σ) = y at hy hy9 h0 ⊢
    unfold rck1 at h0 ⊢
    by_cases c2 : nm I.c = 11 ∧ hf = 0 ∧ I.o = 0
    · rw [if_pos c2]; exact upd hy hy9
    · rw [if_neg c2] at h0 ⊢
      by_cases c3 : (nm I.c = 11 ∨ (σ I.d).so = 1) ∧ y.so = 1
      · rw [if_pos c3]
        refine upd (WT.nu (rkV_T w hk ehf ?_ hy.2.1)) (n19 _ True trivial)
        split
        · exact hy.2.1
        · exact (h.1 _).2.1
      · rw [if_neg c3] at h0 ⊢
        by_cases c4 : hf = 0
        · rw [if_pos c4] at h0 ⊢
          exact upd (ptr_wt (h.1 _) hy nn h0) (ptr_9 (h.2.2.2 _ (by omega)) hy9)
        · rw [if_neg c4] at h0; exact absurd h0 (show ¬ (2 : Int32) = 0 by decide)
theorem any_T {b : Int32} (hb : b = 1 ∨ b = 2 ∨ b = 4 ∨ b = 8) : Tt (vCut (8 * b) vFree) := by
  obtain ⟨bn, b1, b2, _⟩ := cut_any hb
  rw [b2]; exact cut_T free_T b1
theorem lod_wf (h : WF σ) (w : WI I) (wj : WJ I) (hk : kd I.c = 1) (h0 : (lod mp I σ kn).1 = 0) : WF (lod mp I σ kn).2 := by
  have hd : I.d < 10 := wj.2 hk
  have upd : ∀ {t : TH}, WT t → t.so ≠ 9 → WF (up σ I.d t) := fun {t} ht h9 => h.up (by omega) (by omega) ht (fun _ => h9)
  have tl : Tt (ldA (sz I.c) (md I.c)) := ldA_T (sz_cases _) (fun z => by
    rcases w.2.2.2.2.2.2.2.2 hk with e | e
    · rw [z] at e; exact absurd e (by decide)
    · exact e.2)
  unfold lod at h0 ⊢
  by_cases c1 : (σ I.s).so = 0
  · rw [if_pos c1] at h0; exact absurd h0 (show ¬ (1 : Int32) = 0 by decide)
  rw [if_neg c1] at h0 ⊢
  by_cases c2 : rch mp kn (σ I.s) I.o (sz I.c) 0 ≠ 0
  · rw [if_pos c2] at h0; exact absurd h0 c2
  rw [if_neg c2] at h0 ⊢
  by_cases c3 : (σ I.s).so = 3
  · rw [if_pos c3] at h0 ⊢
    by_cases c4 : sz I.c = 8 ∧ (σ (slo (q5 (adr (σ I.s) I.o)))).so ≠ 9
    · rw [if_pos c4]; exact upd (h.1 _) c4.2
    · rw [if_neg c4] at h0 ⊢
      by_cases c5 : hasN σ (q5 (adr (σ I.s) I.o)) (ix (sz I.c))
      · rw [cif_pos c5]; exact upd (WT.nu tl) (n19 _ True trivial)
      · rw [cif_neg c5] at h0; exact absurd h0 (show ¬ (5 : Int32) = 0 by decide)
  · rw [if_neg c3] at h0 ⊢
    by_cases c4 : (σ I.s).so = 2 ∧ adr (σ I.s) I.o < 16
    · rw [if_pos c4]
      by_cases c5 : adr (σ I.s) I.o = 0
      · rw [if_pos c5]; exact upd WT.pk (show ¬ (4 : Int32) = 9 by decide)
      · rw [if_neg c5]; exact upd WT.en (show ¬ (5 : Int32) = 9 by decide)
    · rw [if_neg c4]; exact upd (WT.nu tl) (n19 _ True trivial)
theorem slo_in {q : Nat} (h : q < 512) : slo q ≠ 10 ∧ slo q < 75 ∧ ¬ slo q < 11 := by unfold slo; omega
theorem sto_wf {v : TH} (h : WF σ) (hv : WT v) (h0 : (sto mp I v σ kn).1 = 0) : WF (sto mp I v σ kn).2 := by
  unfold sto at h0 ⊢
  by_cases c1 : (σ I.d).so = 0 ∨ v.so = 0
  · rw [if_pos c1] at h0; exact absurd h0 (show ¬ (1 : Int32) = 0 by decide)
  rw [if_neg c1] at h0 ⊢
  by_cases c2 : rch mp kn (σ I.d) I.o (sz I.c) 1 ≠ 0
  · rw [if_pos c2] at h0; exact absurd h0 c2
  rw [if_neg c2] at h0 ⊢
  by_cases c3 : ¬ ((σ I.d).so = 3 ∧ sz I.c = 8) ∧ v.so ≠ 1
  · rw [if_pos c3] at h0; exact absurd h0 (show ¬ (6 : Int32) = 0 by decide)
  rw [if_neg c3] at h0 ⊢
  by_cases c4 : (σ I.d).so = 3
  · rw [if_pos c4]
    have cr : rch mp kn (σ I.d) I.o (sz I.c) 1 = 0 := Decidable.not_not.mp c2
    have rr : -512 ≤ adr (σ I.d) I.o ∧ adr (σ I.d) I.o < 0 := by
      unfold rch at cr
      rw [if_pos c4] at cr
      have bp : 1 ≤ (sz I.c).toInt := by rcases sz_cases I.c with e | e | e | e <;> rw [e] <;> decide
      by_cases q : adr (σ I.d) I.o % (sz I.c).toInt = 0 ∧ -512 ≤ adr (σ I.d) I.o ∧ adr (σ I.d) I.o ≤ -(sz I.c).toInt
      · omega
      · rw [if_neg q] at cr; exact absurd cr (by decide)
    obtain ⟨s1, s2, s3⟩ := slo_in (q := q5 (adr (σ I.d) I.o)) (by unfold q5; omega)
    by_cases c5 : sz I.c = 8
    · rw [if_pos c5]; exact h.up s1 s2 hv (fun z => absurd z s3)
    · rw [if_neg c5]; exact h.up s1 s2 (WT.by _) (fun z => absurd z s3)
  · rw [if_neg c4]; exact h
theorem atm_wf (h : WF σ) (w : WI I) (h0 : (atm mp I σ).1 = 0) : WF (atm mp I σ).2 := by
  have hs : I.s < 11 := w.2.2.1
  have ta := any_T (sz_cases I.c)
  unfold atm at h0 ⊢
  by_cases c1 : (σ I.d).so = 0 ∨ (σ I.s).so = 0 ∨ (I.i = 241 ∧ (σ 0).so = 0)
  · rw [if_pos c1] at h0; exact absurd h0 (show ¬ (1 : Int32) = 0 by decide)
  rw [if_neg c1] at h0 ⊢
  by_cases c2 : (σ I.d).so ≠ 7
  · rw [if_pos c2] at h0; exact absurd h0 (show ¬ (3 : Int32) = 0 by decide)
  rw [if_neg c2] at h0 ⊢
  by_cases c3 : ¬ (((σ I.d).va.u &&& ((sz I.c).toInt64 - 1) = 0 ∧ ((σ I.d).va.b + I.o.toInt64) &&& ((sz I.c).toInt64 - 1) = 0) ∧ lie (σ I.d).va I.o (sz I.c) (mp.2.2 (ix (σ I.d).de)))
  · rw [if_pos c3] at h0; exact absurd h0 (show ¬ (4 : Int32) = 0 by decide)
  rw [if_neg c3] at h0 ⊢
  by_cases c4 : (σ I.s).so ≠ 1 ∨ (I.i = 241 ∧ (σ 0).so ≠ 1)
  · rw [if_pos c4] at h0; exact absurd h0 (show ¬ (6 : Int32) = 0 by decide)
  rw [if_neg c4]
  have s10 : I.s ≠ 10 := fun z => c4 (Or.inl (by rw [z, h.2.1]; decide))
  show WF (if I.i = 241 then up σ 0 (tNu (vCut (8 * sz I.c) vFree)) else if I.i &&& 1 = 1 then up σ I.s (tNu (vCut (8 * sz I.c) vFree)) else σ)
  split
  · exact h.up (by decide) (by decide) (WT.nu ta) (n19 _ _)
  · split
    · exact h.up s10 (by omega) (WT.nu ta) (n19 _ _)
    · exact h
theorem wid_wf (h : WF σ) (w : WI I) (hd : I.d < 10) (h0 : (wid mp I σ).1 = 0) : WF (wid mp I σ).2 := by
  unfold wid at h0 ⊢
  by_cases c1 : I.s = 0
  · rw [if_pos c1]; exact h.up (by omega) (by omega) (WT.nu (one_T _)) (n19 _ _)
  rw [if_neg c1] at h0 ⊢
  by_cases c2 : 0 ≤ I.i ∧ I.i < 8 ∧ 0 < mp.1 (ix I.i)
  · rw [if_pos c2]; exact h.up (by omega) (by omega) (WT.mp ⟨c2.1, c2.2.1⟩) (fun _ => show ¬ (6 : Int32) = 9 by decide)
  · rw [if_neg c2] at h0; exact absurd h0 (show ¬ (8 : Int32) = 0 by decide)
theorem thn_0 {a b : Int32} (h : thn a b = 0) : a = 0 := by
  unfold thn at h
  by_cases c : a = 0
  · exact c
  · rw [if_neg c] at h; exact absurd h c
theorem cls_wf (h : WF σ) {i p : Int32} (h0 : args mp i σ kn = 0) : WF (cls i p σ) := by
  refine ⟨fun n => ?_, ?_, fun n hn => ?_, fun n hn => ?_⟩
  · unfold cls drp
    by_cases c0 : n = 0
    · rw [if_pos c0]
      by_cases c1 : i = 1
      · rw [if_pos c1]
        unfold args at h0
        rw [if_pos c1] at h0
        have s6 := mpk_6 (thn_0 h0)
        exact WT.mb ((h.1 1).2.2.2.2.1 (Or.inl s6))
      · rw [if_neg c1]; exact WT.nu free_T
    · rw [if_neg c0]
      by_cases c6 : n < 6
      · rw [if_pos c6]; exact WT.no
      · rw [if_neg c6]
        split
        · exact wt_clr n
        · exact h.1 n
  · unfold cls drp
    rw [if_neg (by decide), if_neg (by decide), h.2.1]
    rw [if_neg (fun z => by
      rcases z with z | z
      · exact absurd z.2 (by decide)
      · exact absurd z.2.1 (by decide))]
  · unfold cls drp
    rw [if_neg (by omega), if_neg (by omega), h.2.2.1 n hn]
    rw [if_neg (fun z => by
      rcases z with z | z
      · exact absurd z.2 (by decide)
      · exact absurd z.2.1 (by decide))]
  · unfold cls drp
    by_cases c0 : n = 0
    · rw [if_pos c0]
      by_cases c1 : i = 1
      · rw [if_pos c1]; exact (show ¬ (8 : Int32) = 9 by decide)
      · rw [if_neg c1]; exact n19 _ True trivial
    · rw [if_neg c0]
      by_cases c6 : n < 6
      · rw [if_pos c6]; decide
      · rw [if_neg c6]
        split
        · unfold clr; rw [if_pos hn]; decide
        · exact h.2.2.2 n hn
theorem nar_wf (h : WF σ) {c : Nat} {x y : AV} (bx : bu x) (by' : bu y) (d10 : I.d ≠ 10) (hd : I.d < 75) (s10 : rg I.c ≠ 0 → I.s ≠ 10) (hs : I.s < 75) {s : St} (e : nar I c σ kn x y = some s) : WF s.1 := by
  unfold nar at e
  by_cases g : rfG c x y
  · rw [cif_pos g] at e
    have es := Option.some.inj e
    rw [← es]
    obtain ⟨_, ⟨z1, h1⟩, ⟨z2, h2⟩⟩ := g
    have tx : Tt (tite (rfX c x y)) := tt_T (bu_rfX bx) h1
    have ty : Tt (tite (rfY c x y)) := tt_T (bu_rfY by') h2
    show WF (if rg I.c = 0 then up σ I.d (tNu (tite (rfX c x y))) else up (up σ I.d (tNu (tite (rfX c x y)))) I.s (tNu (tite (rfY c x y))))
    by_cases c0 : rg I.c = 0
    · rw [if_pos c0]; exact h.up d10 hd (WT.nu tx) (n19 _ _)
    · rw [if_neg c0]; exact (h.up d10 hd (WT.nu tx) (n19 _ _)).up (s10 c0) hs (WT.nu ty) (n19 _ _)
  · rw [cif_neg g] at e; exact absurd e (by simp)
theorem stl_wf (h : WF σ) {og : Int32} {z : Prop} [Decidable z] : WF (stl og z σ) := by
  refine ⟨fun n => ?_, ?_, fun n hn => ?_, fun n hn => ?_⟩
  · unfold stl
    by_cases c : (σ n).so = 8 ∧ (σ n).og = og
    · rw [if_pos c]
      by_cases c1 : z
      · rw [if_pos c1]; exact WT.nu (one_T 0)
      · rw [if_neg c1]; exact WT.it ((h.1 n).2.2.2.2.1 (Or.inr (Or.inr c.1)))
    · rw [if_neg c]; exact h.1 n
  · unfold stl
    rw [h.2.1, if_neg (fun q => absurd q.1 (by decide))]
  · unfold stl
    rw [h.2.2.1 n hn, if_neg (fun q => absurd q.1 (by decide))]
  · unfold stl
    by_cases c : (σ n).so = 8 ∧ (σ n).og = og
    · rw [if_pos c]
      by_cases c1 : z
      · rw [if_pos c1]; exact n19 _ True trivial
      · rw [if_neg c1]; exact (show ¬ (7 : Int32) = 9 by decide)
    · rw [if_neg c]; exact h.2.2.2 n hn
theorem bra_wf (h : WF σ) (w : WI I) {s : St} (e : (bra I hf σ kn).2.1 = some s ∨ (bra I hf σ kn).2.2 = some s) : WF s.1 := by
  have hd : I.d < 75 := by have := w.2.1; omega
  have hs : I.s < 75 := by have := w.2.2.1; omega
  have none_ : ∀ {P : Prop}, ((none : Option St) = some s ∨ (none : Option St) = some s) → P := fun {P} z => by
    rcases z with z | z <;> exact absurd z (by simp)
  unfold bra at e
  by_cases c1 : (σ I.d).so = 0 ∨ (rg I.c ≠ 0 ∧ (σ I.s).so = 0)
  · rw [if_pos c1] at e; exact none_ e
  rw [if_neg c1] at e
  by_cases c2 : (σ I.d).so = 1 ∧ (opd I hf σ).so = 1
  · rw [if_pos c2] at e
    by_cases c3 : (rg I.c ≠ 0 ∧ I.d = I.s) ∨ (hf ≠ 0 ∧ ¬ (hlf (σ I.d).va ∧ hlf (opd I hf σ).va))
    · rw [if_pos c3] at e
      rcases e with e | e
      · rw [← Option.some.inj e]; exact h
      · rw [← Option.some.inj e]; exact h
    · rw [if_neg c3] at e
      have d10 : I.d ≠ 10 := fun z => by
        have := c2.1
        rw [z, h.2.1] at this
        exact absurd this (by decide)
      have s10 : rg I.c ≠ 0 → I.s ≠ 10 := fun r z => by
        have := c2.2
        unfold opd at this
        rw [if_neg r, z, h.2.1] at this
        exact absurd this (by decide)
      have bx : bu (σ I.d).va := (h.1 I.d).2.1.bu
      have by' : bu (opd I hf σ).va := (opd_wt h.1).2.1.bu
      rcases e with e | e
      · exact nar_wf h bx by' d10 hd s10 hs e
      · exact nar_wf h bx by' d10 hd s10 hs e
  rw [if_neg c2] at e
  by_cases c3 : hf = 0 ∧ (σ I.d).so = 8 ∧ ((opd I hf σ).so = 1 ∧ (opd I hf σ).va.u = 0 ∧ (opd I hf σ).va.b = 0) ∧ (nm I.c = 1 ∨ nm I.c = 5)
  · rw [if_pos c3] at e
    rcases e with e | e
    · rw [← Option.some.inj e]; exact stl_wf h
    · rw [← Option.some.inj e]; exact stl_wf h
  rw [if_neg c3] at e
  by_cases c4 : hf = 0 ∧ (nm I.c = 2 ∨ nm I.c = 3 ∨ nm I.c = 10 ∨ nm I.c = 11) ∧ (σ I.d).so = 4 ∧ (opd I hf σ).so = 5
  · rw [if_pos c4] at e
    rcases e with e | e
    · rw [← Option.some.inj e]; exact h
    · rw [← Option.some.inj e]; exact h
  rw [if_neg c4] at e
  by_cases c5 : hf = 0 ∧ (nm I.c = 2 ∨ nm I.c = 3 ∨ nm I.c = 10 ∨ nm I.c = 11) ∧ (σ I.d).so = 5 ∧ (opd I hf σ).so = 4
  · rw [if_pos c5] at e
    rcases e with e | e
    · rw [← Option.some.inj e]; exact h
    · rw [← Option.some.inj e]; exact h
  rw [if_neg c5] at e
  exact none_ e
theorem stp_wf (h : WF σ) (w : WI I) (wj : WJ I) {p : Int32} {s : St} (h0 : (stp mp I p σ kn).1 = 0) (e : (stp mp I p σ kn).2.1 = some s ∨ (stp mp I p σ kn).2.2 = some s) : WF s.1 := by
  have on : ∀ {r : Int32 × Sg}, (r.1 = 0 → WF r.2) → r.1 = 0 → ((on1 r kn).2.1 = some s ∨ (on1 r kn).2.2 = some s) → WF s.1 := fun {r} f z q => by
    rcases q with q | q
    · have : some (r.2, kn) = some s := q
      rw [← Option.some.inj this]; exact f z
    · have : (none : Option St) = some s := q
      exact absurd this (by simp)
  unfold stp at h0 e
  by_cases c0 : kd I.c = 0
  · rw [if_pos c0] at h0 e; exact on (wid_wf h w (wj.1 c0).1) h0 e
  rw [if_neg c0] at h0 e
  by_cases c1 : kd I.c = 1
  · rw [if_pos c1] at h0 e; exact on (lod_wf h w wj c1) h0 e
  rw [if_neg c1] at h0 e
  by_cases c2 : kd I.c = 2
  · rw [if_pos c2] at h0 e; exact on (sto_wf h (WT.nu (one_T _))) h0 e
  rw [if_neg c2] at h0 e
  by_cases c3 : kd I.c = 3
  · rw [if_pos c3] at h0 e
    by_cases c6 : md I.c = 6
    · rw [if_pos c6] at h0 e; exact on (atm_wf h w) h0 e
    · rw [if_neg c6] at h0 e; exact on (sto_wf h (h.1 _)) h0 e
  rw [if_neg c3] at h0 e
  by_cases c5 : kd I.c = 5 ∨ kd I.c = 6
  · rw [if_pos c5] at h0 e
    unfold jmp at h0 e
    by_cases q1 : I.c = 133
    · rw [if_pos q1] at h0 e
      rcases e with e | e
      · have : some (cls I.i p σ, if I.i = 6 then 0 else kn) = some s := e
        rw [← Option.some.inj this]; exact cls_wf h h0
      · exact absurd e (by simp)
    · rw [if_neg q1] at h0 e
      by_cases q2 : I.c = 149
      · rw [if_pos q2] at e
        rcases e with e | e <;> exact absurd e (by simp)
      · rw [if_neg q2] at h0 e
        by_cases q3 : I.c = 5 ∨ I.c = 6
        · rw [if_pos q3] at e
          rcases e with e | e
          · exact absurd e (by simp)
          · rw [← Option.some.inj e]; exact h
        · rw [if_neg q3] at e
          exact bra_wf h w e
  · rw [if_neg c5] at h0 e
    by_cases c4 : kd I.c = 4
    · exact on (rck_wf h w (Or.inl c4) rfl) h0 e
    · have c7 : kd I.c = 7 := by
        obtain ⟨m, hm, em⟩ := w.1
        have := kd_list ⟨m, hm⟩
        rw [← em] at this
        rcases this with q | q | q | q | q | q | q | q
        · exact absurd q c0
        · exact absurd q c1
        · exact absurd q c2
        · exact absurd q c3
        · exact absurd q c4
        · exact absurd (Or.inl q) c5
        · exact absurd (Or.inr q) c5
        · exact q
      exact on (rck_wf h w (Or.inr c7) rfl) h0 e
end WS
