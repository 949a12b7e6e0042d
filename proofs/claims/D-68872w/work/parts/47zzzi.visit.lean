/-! part 47zzzi: the component's visit, whole (gen/tpl.py) -/
theorem nn_thn {x y : Int32} (a : 0 ≤ x) (b : 0 ≤ y) : (0 : Int32) ≤ thn x y := by unfold thn; split; exact b; exact a
theorem rch_nn {mp : Mp} {kn : Int32} {t : TH} {o b w : Int32} : 0 ≤ rch mp kn t o b w := by
  rcases rch_vals (mp := mp) (kn := kn) (t := t) (o := o) (b := b) (w := w) with e | e | e <;> rw [e] <;> decide
theorem args_nn {mp : Mp} {i : Int32} {σ : Sg} {kn : Int32} : 0 ≤ args mp i σ kn := by
  unfold args
  split
  · exact nn_thn mpk_v tel_v
  · split
    · exact nn_thn mpk_v (nn_thn tel_v (nn_thn tel_v numb_v))
    · split
      · exact nn_thn mpk_v tel_v
      · split
        · refine nn_thn mpk_v (nn_thn numb_v ?_)
          split
          · decide
          · exact tel_v
        · split
          · decide
          · split
            · split
              · decide
              · split
                · decide
                · exact numb_v
            · decide
theorem i02 {q : Prop} [Decidable q] : (0 : Int32) ≤ if q then 0 else 2 := by
  by_cases c : q
  · rw [if_pos c]; decide
  · rw [if_neg c]; decide
theorem nn0 : (0 : Int32) ≤ 0 := by decide
theorem nn1 : (0 : Int32) ≤ 1 := by decide
theorem nn2 : (0 : Int32) ≤ 2 := by decide
theorem nn3 : (0 : Int32) ≤ 3 := by decide
theorem nn4 : (0 : Int32) ≤ 4 := by decide
theorem nn5 : (0 : Int32) ≤ 5 := by decide
theorem nn6 : (0 : Int32) ≤ 6 := by decide
theorem nn8 : (0 : Int32) ≤ 8 := by decide
theorem nit {α : Type} {q : Prop} [Decidable q] {a b : Int32 × α} (h1 : 0 ≤ a.1) (h2 : 0 ≤ b.1) : 0 ≤ (if q then a else b).1 := by
  by_cases c : q
  · rw [if_pos c]; exact h1
  · rw [if_neg c]; exact h2
theorem nif {α : Type} {q : Prop} {a b : Int32 × α} (h1 : 0 ≤ a.1) (h2 : 0 ≤ b.1) : 0 ≤ (cif q a b).1 := by
  by_cases c : q
  · rw [cif_pos c]; exact h1
  · rw [cif_neg c]; exact h2
theorem ptr1_nn {n : Int32} {b : TH} {v : AV} : 0 ≤ (ptr1 n b v).1 := nit i02 (nit i02 nn2)
theorem ptr_nn {n : Int32} {t y : TH} : 0 ≤ (ptr n t y).1 := nit nn2 (nit (nit nn2 ptr1_nn) (nit ptr1_nn nn2))
theorem rck_nn {I : In} {hf : Int32} {σ : Sg} : 0 ≤ (rck I hf σ).1 := nit nn1 (nit nn0 (nit nn0 (nit ptr_nn nn2)))
theorem lod_nn {mp : Mp} {I : In} {σ : Sg} {kn : Int32} : 0 ≤ (lod mp I σ kn).1 := nit nn1 (nit rch_nn (nit (nit nn0 (nif nn0 nn5)) (nit nn0 nn0)))
theorem sto_nn {mp : Mp} {I : In} {v : TH} {σ : Sg} {kn : Int32} : 0 ≤ (sto mp I v σ kn).1 := nit nn1 (nit rch_nn (nit nn6 (nit (nit nn0 nn0) nn0)))
theorem atm_nn {mp : Mp} {I : In} {σ : Sg} : 0 ≤ (atm mp I σ).1 := nit nn1 (nit nn3 (nit nn4 (nit nn6 nn0)))
theorem wid_nn {mp : Mp} {I : In} {σ : Sg} : 0 ≤ (wid mp I σ).1 := nit nn0 (nit nn0 nn8)
theorem bra_nn {I : In} {hf : Int32} {σ : Sg} {kn : Int32} : 0 ≤ (bra I hf σ kn).1 := nit nn1 (nit (nit nn0 nn0) (nit nn0 (nit nn0 (nit nn0 nn2))))
theorem i106 {q r : Prop} [Decidable q] [Decidable r] : (0 : Int32) ≤ if q then 1 else if r then 0 else 6 := by
  by_cases c : q
  · rw [if_pos c]; decide
  · rw [if_neg c]
    by_cases c2 : r
    · rw [if_pos c2]; decide
    · rw [if_neg c2]; decide
theorem jmp_nn {mp : Mp} {I : In} {p : Int32} {σ : Sg} {kn : Int32} : 0 ≤ (jmp mp I p σ kn).1 := nit args_nn (nit i106 (nit nn0 bra_nn))
theorem stp_nn {mp : Mp} {I : In} {p : Int32} {σ : Sg} {kn : Int32} : 0 ≤ (stp mp I p σ kn).1 := nit wid_nn (nit lod_nn (nit sto_nn (nit (nit atm_nn sto_nn) (nit jmp_nn rck_nn))))
theorem nn_le0 {a : Int32} (h : 0 ≤ a) : a ≤ 0 ↔ a = 0 := by
  constructor
  · intro z
    have x1 := Int32.le_iff_toInt_le.mp h
    have x2 := Int32.le_iff_toInt_le.mp z
    exact Int32.toInt_inj.mp (by omega)
  · intro z; rw [z]; decide
theorem thC_wi {M : XM} {r i a : Nat} {v : Int32} (hi : 3 ≤ i) : thC (wI M r i v) a = thC M a := by
  unfold thC
  rw [mI_wI, mI_wI, mI_wI, if_neg (by omega), if_neg (by omega), if_neg (by omega)]; rfl
theorem vwC_wi {M : XM} {r i q : Nat} {v : Int32} (hi : 3 ≤ i) : vwC (wI M r i v) q = vwC M q := vwC_eq (fun n _ => thC_wi hi)
def VQ (p : Nat) (M : XM) (w : Int32 × Tb × Int32) (r : Int32 × XM) : Prop := Sh r.2 ∧ StI r.2 ∧ VF M r.2 ∧ pC r.2 = pC M ∧ pS r.2 = pS M ∧ r.1 = w.1 ∧ (∀ k, k < 1024 → TbC r.2 k = w.2.1 k) ∧ mI r.2 101 9 = (if w.2.2 = 0 then mI M 101 9 else 1) ∧ ∀ j, j < 1024 → mR r.2 442 j ≠ 0 → pDn r.2 j ≠ 0 → TbC r.2 j = TbC M j ∧ mR M 442 j ≠ 0 ∧ (j = p ∨ pDn M j ≠ 0)
theorem lt_ofNat {a b : Nat} (ha : a < 2147483648) (hb : b < 2147483648) : Int32.ofNat a < Int32.ofNat b ↔ a < b := by
  rw [lt_u3, toInt_ofNat32 ha, toInt_ofNat32 hb]
  omega
theorem bC_vf {M X : XM} (v : VF M X) : bC X 103 = bC M 103 := by
  funext i
  unfold bC
  rw [v.2.1 103 i (by decide) (by unfold TJ JX; omega) (by unfold JJ; omega) (by omega)]
theorem fr_vf {M X : XM} (f : Fr TJ M X) : VF M X :=
  ⟨⟨fun a _ => ⟨by show X.2.2.2.1 a = M.2.2.2.1 a; rw [f.1], by show X.2.2.2.2.1 a = M.2.2.2.2.1 a; rw [f.1]⟩, fun a i _ _ => by show X.2.2.1 a i = M.2.2.1 a i; rw [f.1], by show M.2.2.2.2.2.1 ≤ X.2.2.2.2.2.1; rw [f.1]; exact Nat.le_refl _⟩, fun a i _ ht _ _ => (f.2 a ht i).1, fun a i _ ht _ => (f.2 a ht i).2⟩
section CV
variable {M : XM} {p : Nat} {I : In}
theorem c_visit (h : Sh M) (hI : StI M) (hp : p < 1024) (is : pIs M p) (eI : I = IB (bC M 103) p) (w : WI I) (wj : WJ I) (wg : WG I p) (ws : WS (vwC M (mR M 442 p))) (wm : WM (mpC M)) :
    K_Checker_visit 101 (Int32.ofNat p) M ∧ VQ p M (pVi I p (TbC M) (stp (mpC M) I (Int32.ofNat p) (vwC M (mR M 442 p)) (pKn M p))) (g_Checker_visit 101 (Int32.ofNat p) M) := by
  have hC := h.C
  obtain ⟨r1, r2, r3⟩ := (hI.1 p hp).resolve_left is.1
  have kdc : kd I.c = 0 ↔ I.c = 24 := ⟨fun z => (wj.1 z).2, fun z => by rw [z]; decide⟩
  have nx1 : I.c ≠ 5 ∧ I.c ≠ 6 ∧ I.c ≠ 149 → nxN I p < 1024 := wg.1
  have h0 : kd (bC M 103 (8 * p)) = 0 → p + 1 < 1024 := fun z => by
    have e : I.c = bC M 103 (8 * p) := by rw [eI, IB_at hp]
    rw [← e] at z
    have c := kdc.mp z
    have := nx1 ⟨by rw [c]; decide, by rw [c]; decide, by rw [c]; decide⟩
    unfold nxN at this
    rw [if_pos z] at this
    omega
  unfold K_Checker_visit g_Checker_visit K_Checker_visit_0 g_Checker_visit_0 K_Checker_visit_7 g_Checker_visit_7
  rw [h.R101_5, ixN (by omega), h.N442]
  refine kq_and h.T101 (kq_and h.T442 (kq_and (vpN hp (by omega)) (kq_and r3.1 ?_)))
  -- it counts as done
  have s1 : Sh (wI M (mR M 442 p) 4 1) := h.kept rfl
  have i1 : StI (wI M (mR M 442 p) 4 1) := hI.kept rfl
  have vf1 : VF M (wI M (mR M 442 p) 4 1) := ⟨⟨fun _ _ => ⟨rfl, rfl⟩, fun _ _ _ _ => rfl, Nat.le_refl _⟩, fun a i ha _ _ _ => by rw [mI_wI, if_neg (by omega)], fun _ _ _ _ _ => rfl⟩
  have tb1 : ∀ k, TbC (wI M (mR M 442 p) 4 1) k = TbC M k := fun k => TbC.eq rfl (vwC_wi (by decide)) (fun i hi => by rw [mI_wI, if_neg (by omega)])
  have dn1 : ∀ j, j < 1024 → mR M 442 j ≠ 0 → pDn (wI M (mR M 442 p) 4 1) j ≠ 0 → j = p ∨ pDn M j ≠ 0 := by
    intro j hj nz d
    by_cases c : j = p
    · exact Or.inl c
    · right
      unfold pDn at d ⊢
      have e : mR (wI M (mR M 442 p) 4 1) 442 j = mR M 442 j := rfl
      rw [e, mI_wI, if_neg (fun z => by
        rcases hI.2 j p hj hp c nz is.1 with y | y <;> omega)] at d
      exact d
  have v1 : vwC (wI M (mR M 442 p) 4 1) (mR M 442 p) = vwC M (mR M 442 p) := vwC_wi (by decide)
  have n1 : mI (wI M (mR M 442 p) 4 1) (mR M 442 p) 1 = pKn M p := by rw [mI_wI, if_neg (by omega)]; rfl
  have mp1 : mpC (wI M (mR M 442 p) 4 1) = mpC M := by
    unfold mpC
    have : ∀ a i, a < 469 → mI (wI M (mR M 442 p) 4 1) a i = mI M a i := fun a i ha => by rw [mI_wI, if_neg (by omega)]
    simp only [this 107 _ (by decide), this 108 _ (by decide), this 109 _ (by decide)]
  have st1 : ShSt (wI M (mR M 442 p) 4 1) (mR M 442 p) := r3
  have pc1 : pC (wI M (mR M 442 p) 4 1) = pC M ∧ pS (wI M (mR M 442 p) 4 1) = pS M := ⟨rfl, rfl⟩
  have f9 : mI (wI M (mR M 442 p) 4 1) 101 9 = mI M 101 9 := by rw [mI_wI, if_neg (by omega)]
  have mr1 : ∀ j, mR (wI M (mR M 442 p) 4 1) 442 j = mR M 442 j := fun _ => rfl
  generalize wI M (mR M 442 p) 4 1 = M1 at s1 i1 vf1 tb1 dn1 v1 n1 mp1 st1 pc1 f9 mr1 ⊢
  have bc1 := bC_vf vf1
  have in1 : InC M1 (Int32.ofNat p) I := by
    have := c_inC s1 hp (by rw [bc1]; exact h0)
    rw [bc1, ← eI] at this
    exact this
  obtain ⟨k1, j1⟩ := c_run s1 in1 w st1 (by omega) (by rw [v1]; exact ws) (by rw [mp1]; exact wm)
  rw [mp1, v1, n1] at j1
  unfold K_Checker_visit_12 g_Checker_visit_12
  rw [s1.R101_4]
  refine kq_and s1.T101 (kq_and s1.T133 (kq_and k1 ?_))
  generalize g_Transfer_run 133 (Int32.ofNat p) (mR M 442 p) M1 = G at j1 ⊢
  have hR : ∃ R, R = stp (mpC M) I (Int32.ofNat p) (vwC M (mR M 442 p)) (pKn M p) := ⟨_, rfl⟩
  obtain ⟨R, hR⟩ := hR
  have rnn : 0 ≤ R.1 := by rw [hR]; exact stp_nn
  rw [← hR] at j1 ⊢
  obtain ⟨f2, e2, o2⟩ := j1
  have s2 : Sh G.2 := s1.kept f2.1
  have i2 : StI G.2 := i1.kept f2.1
  have vf2 := vf1.trans (fr_vf f2)
  have mr2 : ∀ j, mR G.2 442 j = mR M 442 j := fun j => by rw [← mr1 j]; show G.2.2.2.1 442 j = M1.2.2.1 442 j; rw [f2.1]
  have big : ∀ j, j < 1024 → mR M 442 j ≠ 0 → ∀ a, mR M 442 j ≤ a → ¬ TJ a := fun j hj nz a ha => by
    have := ((hI.1 j hj).resolve_left nz).1
    unfold TJ JX; omega
  have tb2 : ∀ k, k < 1024 → TbC G.2 k = TbC M k := fun k hk => by
    rw [← tb1 k]
    by_cases z : mR M 442 k = 0
    · rw [TbC.no (M := M1) (fun q => q.1 (by rw [mr1]; exact z)), TbC.no (M := G.2) (fun q => q.1 (by rw [mr2]; exact z))]
    · refine TbC.eq (by rw [mr2, mr1]) ?_ (fun i _ => (f2.2 _ (by rw [mr1]; exact big k hk z _ (Nat.le_refl _)) i).1)
      rw [mr1]
      refine vwC_eq (fun n hn => ?_)
      have a1 := f2.2 (mR M 442 k + 2 + 2 * n) (big k hk z _ (by omega))
      have a2 := f2.2 (mR M 442 k + 2 + 2 * n + 1) (big k hk z _ (by omega))
      unfold thC gv6
      rw [(a1 0).1, (a1 1).1, (a1 2).1, (a2 0).2, (a2 1).2, (a2 2).2, (a2 3).2, (a2 4).2, (a2 5).2]
  have dn2 : ∀ j, j < 1024 → mR M 442 j ≠ 0 → pDn G.2 j ≠ 0 → j = p ∨ pDn M j ≠ 0 := by
    intro j hj nz d
    refine dn1 j hj nz ?_
    unfold pDn at d ⊢
    rw [mr2, (f2.2 _ (big j hj nz _ (Nat.le_refl _)) 4).1] at d
    rw [mr1]; exact d
  have f92 : mI G.2 101 9 = mI M 101 9 := by rw [(f2.2 101 (by unfold TJ JX; omega) 9).1]; exact f9
  have pc2 : pC G.2 = pC M ∧ pS G.2 = pS M := by
    rw [← pc1.1, ← pc1.2]
    unfold pC pS
    have e1 : mC G.2 = mC M1 := by show G.2.2.2.2.2.2.1 = M1.2.2.2.2.2.1; rw [f2.1]
    have e2 : mS G.2 = mS M1 := by show G.2.2.2.2.2.2.2 = M1.2.2.2.2.2.2; rw [f2.1]
    rw [e1, e2]
    have e3 : zr (fun k => mR G.2 442 k) 1024 = zr (fun k => mR M1 442 k) 1024 := zr_same 1024 (fun j _ => by rw [mr2, mr1])
    rw [e3]; exact ⟨rfl, rfl⟩
  unfold K_Checker_visit_21 g_Checker_visit_21
  rw [e2]
  by_cases c : R.1 = 0
  · obtain ⟨oN, oF⟩ := o2 c
    have le0 := (nn_le0 rnn).mpr c
    unfold pVi
    rw [if_pos c]
    -- where it goes
    have tgt : ∀ X : XM, Sh X → VF M X → (g_Program_next 102 (Int32.ofNat p) X = Int32.ofNat (nxN I p) ∧ K_Program_next 102 (Int32.ofNat p) X) ∧ (g_Program_target 102 (Int32.ofNat p) X = glI I p ∧ K_Program_target 102 (Int32.ofNat p) X) := by
      intro X sx vx
      have bx := bC_vf vx
      have inx : InC X (Int32.ofNat p) I := by
        have := c_inC sx hp (by rw [bx]; exact h0)
        rw [bx, ← eI] at this
        exact this
      constructor
      · unfold g_Program_next K_Program_next g_Program_next_0 K_Program_next_0 g_Program_isWide K_Program_isWide g_Program_isWide_0 K_Program_isWide_0
        rw [inx.1.1]
        refine ⟨?_, sx.T102, sx.T102, inx.1.2⟩
        simp only [f10]
        unfold nxN
        by_cases c24 : I.c = 24
        · rw [if_neg (fun z => z c24), if_pos (kdc.mpr c24), Int32.ofNat_add]; rfl
        · rw [if_pos c24, if_neg (fun z => c24 (kdc.mp z)), add1_32]
      · unfold g_Program_target K_Program_target g_Program_target_0 K_Program_target_0 g_Program_target_26 glI
        rw [inx.1.1, inx.2.2.2.1.1, inx.2.2.2.2.1.1]
        exact ⟨rfl, sx.T102, inx.1.2, fun _ => ⟨sx.T102, inx.2.2.2.2.1.2⟩, fun _ => ⟨sx.T102, inx.2.2.2.1.2⟩⟩
    -- what R goes to is there
    have jo : R.2.1 ≠ none → nxN I p < 1024 := fun z => nx1 ⟨fun q => z ?_, fun q => z ?_, fun q => z ?_⟩
    rotate_left
    · rw [hR]; unfold stp jmp
      rw [if_neg (by rw [q]; decide), if_neg (by rw [q]; decide), if_neg (by rw [q]; decide), if_neg (by rw [q]; decide), if_pos (by rw [q]; decide), if_neg (by rw [q]; decide), if_neg (by rw [q]; decide), if_pos (Or.inl q)]
    · rw [hR]; unfold stp jmp
      rw [if_neg (by rw [q]; decide), if_neg (by rw [q]; decide), if_neg (by rw [q]; decide), if_neg (by rw [q]; decide), if_pos (by rw [q]; decide), if_neg (by rw [q]; decide), if_neg (by rw [q]; decide), if_pos (Or.inr q)]
    · rw [hR]; unfold stp jmp
      rw [if_neg (by rw [q]; decide), if_neg (by rw [q]; decide), if_neg (by rw [q]; decide), if_neg (by rw [q]; decide), if_pos (by rw [q]; decide), if_neg (by rw [q]; decide), if_pos q]
    have jf : R.2.2 ≠ none → ix (glI I p) < 1024 ∧ glI I p = Int32.ofNat (ix (glI I p)) := by
      intro z
      by_cases k56 : kd I.c = 5 ∨ kd I.c = 6
      · refine wg.2 ⟨k56, fun q => z ?_, fun q => z ?_⟩
        · rw [hR]; unfold stp jmp
          rw [if_neg (by rw [q]; decide), if_neg (by rw [q]; decide), if_neg (by rw [q]; decide), if_neg (by rw [q]; decide), if_pos (by rw [q]; decide), if_pos q]
        · rw [hR]; unfold stp jmp
          rw [if_neg (by rw [q]; decide), if_neg (by rw [q]; decide), if_neg (by rw [q]; decide), if_neg (by rw [q]; decide), if_pos (by rw [q]; decide), if_neg (by rw [q]; decide), if_pos q]
      · exfalso
        apply z
        rw [hR]; unfold stp on1
        split
        · rfl
        · split
          · rfl
          · split
            · rfl
            · split
              · split <;> rfl
              · rfl
    have F2 : ∀ (Y : XM) (T1 : Tb), Sh Y → StI Y → VF M Y → pC Y = pC M → pS Y = pS M → (∀ k, k < 1024 → TbC Y k = T1 k) → VO Y 286 (mI Y 133 6) R.2.2 → (∀ j, j < 1024 → mR Y 442 j ≠ 0 → pDn Y j ≠ 0 → TbC Y j = TbC M j ∧ mR M 442 j ≠ 0 ∧ (j = p ∨ pDn M j ≠ 0)) →
        K_Checker_visit_58 101 (Int32.ofNat p) Y ∧ Sh (g_Checker_visit_58 101 (Int32.ofNat p) Y).2 ∧ StI (g_Checker_visit_58 101 (Int32.ofNat p) Y).2 ∧ VF M (g_Checker_visit_58 101 (Int32.ofNat p) Y).2 ∧ pC (g_Checker_visit_58 101 (Int32.ofNat p) Y).2 = pC M ∧ pS (g_Checker_visit_58 101 (Int32.ofNat p) Y).2 = pS M ∧ (g_Checker_visit_58 101 (Int32.ofNat p) Y).1 = 0 ∧ (∀ k, k < 1024 → TbC (g_Checker_visit_58 101 (Int32.ofNat p) Y).2 k = (pTo p T1 (ix (glI I p)) R.2.2).1 k) ∧ mI (g_Checker_visit_58 101 (Int32.ofNat p) Y).2 101 9 = (if (pTo p T1 (ix (glI I p)) R.2.2).2 = 0 then mI Y 101 9 else 1) ∧
        ∀ j, j < 1024 → mR (g_Checker_visit_58 101 (Int32.ofNat p) Y).2 442 j ≠ 0 → pDn (g_Checker_visit_58 101 (Int32.ofNat p) Y).2 j ≠ 0 → TbC (g_Checker_visit_58 101 (Int32.ofNat p) Y).2 j = TbC M j ∧ mR M 442 j ≠ 0 ∧ (j = p ∨ pDn M j ≠ 0) := by
      intro Y T1 sy iy vy cy ssy ty oy dy
      obtain ⟨_, t1, t2⟩ := tgt Y sy vy
      unfold K_Checker_visit_58 g_Checker_visit_58 K_Checker_visit_101 g_Checker_visit_101 g_Checker_visit_104
      rw [sy.R101_4, sy.R101_0, sy.R133_4, t1]
      rcases oy with ⟨st, q1, q2, q3, q4⟩ | ⟨q1, q2⟩
      · obtain ⟨g1, g2⟩ := jf (by rw [q1]; simp)
        rw [q1, q2, if_neg i1_0]
        have go : ∀ back : Int32, back = bkN p (ix (glI I p)) → (mT Y 101 = 2 ∧ K_Checker_goTo 101 (glI I p) 286 back Y) ∧ Sh (g_Checker_goTo 101 (glI I p) 286 back Y) ∧ StI (g_Checker_goTo 101 (glI I p) 286 back Y) ∧ VF M (g_Checker_goTo 101 (glI I p) 286 back Y) ∧ pC (g_Checker_goTo 101 (glI I p) 286 back Y) = pC M ∧ pS (g_Checker_goTo 101 (glI I p) 286 back Y) = pS M ∧ (∀ k, k < 1024 → TbC (g_Checker_goTo 101 (glI I p) 286 back Y) k = (pTo p T1 (ix (glI I p)) (some st)).1 k) ∧ mI (g_Checker_goTo 101 (glI I p) 286 back Y) 101 9 = (if (pTo p T1 (ix (glI I p)) (some st)).2 = 0 then mI Y 101 9 else 1) ∧ ∀ j, j < 1024 → mR (g_Checker_goTo 101 (glI I p) 286 back Y) 442 j ≠ 0 → pDn (g_Checker_goTo 101 (glI I p) 286 back Y) j ≠ 0 → TbC (g_Checker_goTo 101 (glI I p) 286 back Y) j = TbC M j ∧ mR M 442 j ≠ 0 ∧ (j = p ∨ pDn M j ≠ 0) := by
          intro back eb
          obtain ⟨a1, a2, a3, a4, a5, a6, a7, a8, a9, _⟩ := c_go1 sy iy g1 (Or.inr rfl) back q3 q4
          rw [← g2] at a1 a2 a3 a4 a5 a6 a7 a8 a9
          refine ⟨⟨sy.T101, a1⟩, a2, a3, vy.trans a4, a5.trans cy, a6.trans ssy, fun k hk => ?_, ?_, fun j hj nz d => ?_⟩
          · rw [a7 k hk]
            show _ = if k = ix (glI I p) then (pGo (bkN p (ix (glI I p))) (T1 (ix (glI I p))) st).1 else T1 k
            rw [← eb, ← ty _ g1, ← ty k hk]
          · rw [a8]
            show _ = if (pGo (bkN p (ix (glI I p))) (T1 (ix (glI I p))) st).2 = 0 then mI Y 101 9 else 1
            rw [← eb, ← ty _ g1]
          · obtain ⟨b1, b2, b3⟩ := a9 j hj nz d
            obtain ⟨b4, b5, b6⟩ := dy j hj b2 b3
            exact ⟨b1.trans b4, b5, b6⟩
        have sw : Int32.ofNat p < glI I p ↔ Int32.ofNat p < Int32.ofNat (ix (glI I p)) := by rw [← g2]
        by_cases cp : Int32.ofNat p < glI I p
        · obtain ⟨b1, b2, b3, b4, b5, b6, b7, b8, b9⟩ := go 0 (by unfold bkN; rw [if_pos (sw.mp cp)])
          rw [if_pos cp]
          exact ⟨⟨sy.T101, sy.T133, fun _ => ⟨sy.T101, sy.T102, t2, sy.T101, sy.T133, sy.T101, sy.T102, t2, fun _ => b1, fun z => absurd cp z⟩⟩, b2, b3, b4, b5, b6, rfl, b7, b8, b9⟩
        · obtain ⟨b1, b2, b3, b4, b5, b6, b7, b8, b9⟩ := go 1 (by unfold bkN; rw [if_neg (fun z => cp (sw.mpr z))])
          rw [if_neg cp]
          exact ⟨⟨sy.T101, sy.T133, fun _ => ⟨sy.T101, sy.T102, t2, sy.T101, sy.T133, sy.T101, sy.T102, t2, fun z => absurd z cp, fun _ => b1⟩⟩, b2, b3, b4, b5, b6, rfl, b7, b8, b9⟩
      · rw [q1, q2, if_pos rfl]
        refine ⟨⟨sy.T101, sy.T133, fun z => absurd rfl z⟩, sy, iy, vy, cy, ssy, rfl, ty, ?_, dy⟩
        rw [if_pos (show (pTo p T1 (ix (glI I p)) none).2 = 0 from rfl)]
    rw [s2.R101_4, s2.R101_0, s2.R133_3]
    obtain ⟨⟨x1, x2⟩, _⟩ := tgt G.2 s2 vf2
    rw [x1]
    rcases oN with ⟨st, q1, q2, q3, q4⟩ | ⟨q1, q2⟩
    · have hq := jo (by rw [q1]; simp)
      have eb : (0 : Int32) = bkN p (nxN I p) := by
        unfold bkN
        rw [if_pos ((lt_ofNat (by omega) (by omega)).mpr (by unfold nxN; split <;> omega))]
      obtain ⟨a1, a2, a3, a4, a5, a6, a7, a8, a9, a10, a11⟩ := c_go1 s2 i2 hq (Or.inl rfl) 0 q3 q4
      have oF' : VO (g_Checker_goTo 101 (Int32.ofNat (nxN I p)) 134 0 G.2) 286 (mI (g_Checker_goTo 101 (Int32.ofNat (nxN I p)) 134 0 G.2) 133 6) R.2.2 := by
        obtain ⟨b1, b2⟩ := a10 286 (Or.inr rfl) (by decide)
        rw [a11 6]
        rcases oF with ⟨s', y1, y2, y3, y4⟩ | y
        · exact Or.inl ⟨s', y1, y2, by rw [b1]; exact y3, by rw [b2]; exact y4⟩
        · exact Or.inr y
      have tb3 : ∀ k, k < 1024 → TbC (g_Checker_goTo 101 (Int32.ofNat (nxN I p)) 134 0 G.2) k = (pTo p (TbC M) (nxN I p) (some st)).1 k := fun k hk => by
        rw [a7 k hk]
        show _ = if k = nxN I p then (pGo (bkN p (nxN I p)) (TbC M (nxN I p)) st).1 else TbC M k
        rw [← eb, ← tb2 _ hq, ← tb2 k hk]
      have e93 : mI (g_Checker_goTo 101 (Int32.ofNat (nxN I p)) 134 0 G.2) 101 9 = if (pTo p (TbC M) (nxN I p) (some st)).2 = 0 then mI M 101 9 else 1 := by
        rw [a8, f92]
        show _ = if (pGo (bkN p (nxN I p)) (TbC M (nxN I p)) st).2 = 0 then mI M 101 9 else 1
        rw [← eb, ← tb2 _ hq]
      have dn3 : ∀ j, j < 1024 → mR (g_Checker_goTo 101 (Int32.ofNat (nxN I p)) 134 0 G.2) 442 j ≠ 0 → pDn (g_Checker_goTo 101 (Int32.ofNat (nxN I p)) 134 0 G.2) j ≠ 0 → TbC (g_Checker_goTo 101 (Int32.ofNat (nxN I p)) 134 0 G.2) j = TbC M j ∧ mR M 442 j ≠ 0 ∧ (j = p ∨ pDn M j ≠ 0) := fun j hj nz d => by
        obtain ⟨b1, b2, b3⟩ := a9 j hj nz d
        rw [mr2] at b2
        exact ⟨b1.trans (tb2 j hj), b2, dn2 j hj b2 b3⟩
      rw [q1, q2, if_pos le0, if_neg i1_0]
      obtain ⟨b1, b2, b3, b4, b5, b6, b7, b8, b9, b10⟩ := F2 _ (pTo p (TbC M) (nxN I p) (some st)).1 a2 a3 (vf2.trans a4) (a5.trans pc2.1) (a6.trans pc2.2) tb3 oF' dn3
      refine ⟨fun _ => ⟨s2.T101, s2.T133, fun z => absurd z i1_0, fun _ => ⟨s2.T101, s2.T102, x2, s2.T101, s2.T133, s2.T101, a1, b1⟩⟩, b2, b3, b4, b5, b6, b7, b8, ?_, b10⟩
      rw [b9, e93]
      show (if (pTo p (pTo p (TbC M) (nxN I p) (some st)).1 (ix (glI I p)) R.2.2).2 = 0 then (if (pTo p (TbC M) (nxN I p) (some st)).2 = 0 then mI M 101 9 else 1) else 1) = if (if (pTo p (TbC M) (nxN I p) (some st)).2 = 0 then (pTo p (pTo p (TbC M) (nxN I p) (some st)).1 (ix (glI I p)) R.2.2).2 else 1) = 0 then mI M 101 9 else 1
      by_cases a : (pTo p (TbC M) (nxN I p) (some st)).2 = 0
      · rw [if_pos a, if_pos a]
      · rw [if_neg a, if_neg a, if_neg i1_0]
        simp only [ite_self]
    · rw [q1, q2, if_pos le0, if_pos rfl]
      obtain ⟨b1, b2, b3, b4, b5, b6, b7, b8, b9, b10⟩ := F2 G.2 (TbC M) s2 i2 vf2 pc2.1 pc2.2 tb2 oF (fun j hj nz d => by
        rw [mr2] at nz
        exact ⟨tb2 j hj, nz, dn2 j hj nz d⟩)
      refine ⟨fun _ => ⟨s2.T101, s2.T133, fun _ => b1, fun z => absurd rfl z⟩, b2, b3, b4, b5, b6, b7, b8, ?_, b10⟩
      rw [b9, f92]
      show (if (pTo p (TbC M) (ix (glI I p)) R.2.2).2 = 0 then mI M 101 9 else 1) = if (if (0 : Int32) = 0 then (pTo p (TbC M) (ix (glI I p)) R.2.2).2 else 1) = 0 then mI M 101 9 else 1
      rw [if_pos rfl]
  · have n0 : ¬ R.1 ≤ 0 := fun z => c ((nn_le0 rnn).mp z)
    unfold pVi
    rw [if_neg n0, if_neg c]
    exact ⟨fun z => absurd z n0, s2, i2, vf2, pc2.1, pc2.2, rfl, tb2, by rw [if_pos rfl]; exact f92, fun j hj nz d => by
      have nz' : mR M 442 j ≠ 0 := by rw [← mr2 j]; exact nz
      exact ⟨tb2 j hj, nz', dn2 j hj nz' d⟩⟩
end CV
