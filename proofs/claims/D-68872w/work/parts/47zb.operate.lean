/-! part 47zb: Reckoner.operate (gen/tpl.py) -/
theorem ix12 : ∀ k : Fin 12, ix (Int32.ofNat k.val) = k.val := by decide +kernel
theorem op_89 {M : XM} (s : Sh M) {t : Nat} {n : Int32} (ht : mT M t = 10) (hb : bu (gv6 M 132)) : K_Reckoner_operate_89 110 n t M ∧ Fr (fun q => q = t ∨ JR q) M (g_Reckoner_operate_89 110 n t M) ∧ gv6 (g_Reckoner_operate_89 110 n t M) t = vCut n (tite (gv6 M 132)) := by
  obtain ⟨f1, f2, f3, f4, f5, f6, f7⟩ := r_fin s (t := 130) s.T130 hb
  unfold g_Reckoner_operate_89 K_Reckoner_operate_89 g_Reckoner_operate_97 K_Reckoner_operate_97 g_Reckoner_operate_108 K_Reckoner_operate_108
  have s1 : Sh (g_Reckoner_tighten 110 132 M) := by
    have := r_press s s.T132 hb
    have e : g_Reckoner_tighten 110 132 M = (g_Press_tighten 111 132 M).2 := by
      unfold g_Reckoner_tighten g_Reckoner_tighten_0 g_Reckoner_tighten_8
      rw [s.R110_0]
    rw [e]; exact this.2.1.sh s
  have s2 := f6.sh s
  rw [s.R110_5, s1.R110_5, s1.R110_3]
  generalize g_Value_copy 130 132 (g_Reckoner_tighten 110 132 M) = M2 at f6 f7 s2 ⊢
  rw [s2.R110_3]
  obtain ⟨c1, c2, c3⟩ := r_cut (n := n) (v := 130) (t := t) s2 s2.T130 ((eT f6.1 t).trans ht) (by decide) (by rw [f7]; exact bu_tt hb)
  rw [f7] at c3
  refine ⟨⟨s.T110, s.T110, f1, s1.T110, s1.T110, s1.T130, f5, s2.T110, s2.T110, c1⟩, ?_, c3⟩
  refine (f6.weak fun q hq => ?_).trans (c2.weak fun q hq => ?_)
  · rcases hq with e | e
    · exact Or.inr (by unfold JR; omega)
    · exact Or.inr (by unfold JR; unfold J0 at e; omega)
  · rcases hq with e | e
    · exact Or.inl e
    · exact Or.inr (by unfold JR; unfold J0 at e; omega)
theorem op_65 {M : XM} (s : Sh M) {t k : Nat} {n : Int32} (hk : k < 12) (ht : mT M t = 10) (b1 : bu (gv6 M 130)) (b2 : bu (gv6 M 131)) (b3 : bu (gv6 M 132)) : K_Reckoner_operate_65 110 (Int32.ofNat k) n t M ∧ g_Reckoner_operate_65 110 (Int32.ofNat k) n t M = g_Reckoner_operate_89 110 n t (sV M 132 (oRaw k (n - 1) (gv6 M 132) (gv6 M 130) (gv6 M 131))) := by
  have hx := ix12 ⟨k, hk⟩
  have n1 : (130 : Nat) ≠ 132 := by decide
  have n2 : (131 : Nat) ≠ 132 := by decide
  have kf := (op_89 (M := sV M 132 (oRaw k (n - 1) (gv6 M 132) (gv6 M 130) (gv6 M 131))) (s.kept rfl) (n := n) ht (by rw [gv6_sV]; exact bu_raw b3 b1 b2)).1
  have vp : vp_in (Int32.ofNat k) (mN M 117) := by
    rw [s.N117]
    have : ∀ k : Fin 12, vp_in (Int32.ofNat k.val) 12 := by unfold vp_in; decide +kernel
    exact this ⟨k, hk⟩
  have t0 := s.T110
  have ta := s.T130
  have tb' := s.T131
  have tr := s.T132
  unfold g_Reckoner_operate_65 K_Reckoner_operate_65
  rw [hx, s.R110_2, s.R110_3, s.R110_4, s.R110_5]
  have : k = 0 ∨ k = 1 ∨ k = 2 ∨ k = 3 ∨ k = 4 ∨ k = 5 ∨ k = 6 ∨ k = 7 ∨ k = 8 ∨ k = 9 ∨ k = 10 ∨ k = 11 := by omega
  rcases this with rfl | rfl | rfl | rfl | rfl | rfl | rfl | rfl | rfl | rfl | rfl | rfl
  · rw [s.R117_0, s.T118]
    have vp' : vp_in (0 : Int32) (mN M 117) := vp
    have e := v_add (M := M) (a := 130) (b := 131) (r := 132) 118 (n - 1) n1 n2
    have kk := kv_add (M := M) (a := 130) (b := 131) (r := 132) 118 (n - 1) ta tb' tr
    simp only [oRaw, Nat.reduceEqDiff, if_true, if_false, e] at kf ⊢
    simp [s.T117, vp, vp', t0, kk, kf]
  · rw [s.R117_1, s.T119]
    have vp' : vp_in (1 : Int32) (mN M 117) := vp
    have e := v_sub (M := M) (a := 130) (b := 131) (r := 132) 119 (n - 1) n1 n2
    have kk := kv_sub (M := M) (a := 130) (b := 131) (r := 132) 119 (n - 1) ta tb' tr
    simp only [oRaw, Nat.reduceEqDiff, if_true, if_false, e] at kf ⊢
    simp [s.T117, vp, vp', t0, kk, kf]
  · rw [s.R117_2, s.T120]
    have vp' : vp_in (2 : Int32) (mN M 117) := vp
    have e := v_mul (M := M) (a := 130) (b := 131) (r := 132) 120 (n - 1) n1 n2
    have kk := kv_mul (M := M) (a := 130) (b := 131) (r := 132) 120 (n - 1) ta tb' tr
    simp only [oRaw, Nat.reduceEqDiff, if_true, if_false, e] at kf ⊢
    simp [s.T117, vp, vp', t0, kk, kf]
  · rw [s.R117_3, s.T121]
    have vp' : vp_in (3 : Int32) (mN M 117) := vp
    have e := v_div (M := M) (a := 130) (b := 131) (r := 132) 121 (n - 1) n1 n2
    have kk := kv_div (M := M) (a := 130) (b := 131) (r := 132) 121 (n - 1) ta tb' tr
    simp only [oRaw, Nat.reduceEqDiff, if_true, if_false, e] at kf ⊢
    simp [s.T117, vp, vp', t0, kk, kf]
  · rw [s.R117_4, s.T122]
    have vp' : vp_in (4 : Int32) (mN M 117) := vp
    have e := v_rest (M := M) (a := 130) (b := 131) (r := 132) 122 (n - 1) n1 n2
    have kk := kv_rest (M := M) (a := 130) (b := 131) (r := 132) 122 (n - 1) ta tb' tr
    simp only [oRaw, Nat.reduceEqDiff, if_true, if_false, e] at kf ⊢
    simp [s.T117, vp, vp', t0, kk, kf]
  · rw [s.R117_5, s.T123]
    have vp' : vp_in (5 : Int32) (mN M 117) := vp
    have e := v_and (M := M) (a := 130) (b := 131) (r := 132) 123 (n - 1) n1 n2
    have kk := kv_and (M := M) (a := 130) (b := 131) (r := 132) 123 (n - 1) ta tb' tr
    simp only [oRaw, Nat.reduceEqDiff, if_true, if_false, e] at kf ⊢
    simp [s.T117, vp, vp', t0, kk, kf]
  · rw [s.R117_6, s.T124]
    have vp' : vp_in (6 : Int32) (mN M 117) := vp
    have e := v_or (M := M) (a := 130) (b := 131) (r := 132) 124 (n - 1) n1 n2
    have kk := kv_or (M := M) (a := 130) (b := 131) (r := 132) 124 (n - 1) ta tb' tr
    simp only [oRaw, Nat.reduceEqDiff, if_true, if_false, e] at kf ⊢
    simp [s.T117, vp, vp', t0, kk, kf]
  · rw [s.R117_7, s.T125]
    have vp' : vp_in (7 : Int32) (mN M 117) := vp
    have e := v_xor (M := M) (a := 130) (b := 131) (r := 132) 125 (n - 1) n1 n2
    have kk := kv_xor (M := M) (a := 130) (b := 131) (r := 132) 125 (n - 1) ta tb' tr
    simp only [oRaw, Nat.reduceEqDiff, if_true, if_false, e] at kf ⊢
    simp [s.T117, vp, vp', t0, kk, kf]
  · rw [s.R117_8, s.T126]
    have vp' : vp_in (8 : Int32) (mN M 117) := vp
    have e := v_shift (M := M) (a := 130) (b := 131) (r := 132) 126 (n - 1) (k := 8) (Or.inl rfl) s.T126 n1 n2
    have kk := kv_shift (M := M) (a := 130) (b := 131) (r := 132) 126 (n - 1) (k := 8) (Or.inl rfl) s.T126 ta tb' tr
    simp only [oRaw, Nat.reduceEqDiff, if_true, if_false, e] at kf ⊢
    simp [s.T117, vp, vp', t0, kk, kf]
  · rw [s.R117_9, s.T127]
    have vp' : vp_in (9 : Int32) (mN M 117) := vp
    have e := v_shift (M := M) (a := 130) (b := 131) (r := 132) 127 (n - 1) (k := 9) (Or.inr (Or.inl rfl)) s.T127 n1 n2
    have kk := kv_shift (M := M) (a := 130) (b := 131) (r := 132) 127 (n - 1) (k := 9) (Or.inr (Or.inl rfl)) s.T127 ta tb' tr
    simp only [oRaw, Nat.reduceEqDiff, if_true, if_false, e] at kf ⊢
    simp [s.T117, vp, vp', t0, kk, kf]
  · rw [s.R117_10, s.T128]
    have vp' : vp_in (10 : Int32) (mN M 117) := vp
    have e := v_shift (M := M) (a := 130) (b := 131) (r := 132) 128 (n - 1) (k := 10) (Or.inr (Or.inr rfl)) s.T128 n1 n2
    have kk := kv_shift (M := M) (a := 130) (b := 131) (r := 132) 128 (n - 1) (k := 10) (Or.inr (Or.inr rfl)) s.T128 ta tb' tr
    simp only [oRaw, Nat.reduceEqDiff, if_true, if_false, e] at kf ⊢
    simp [s.T117, vp, vp', t0, kk, kf]
  · rw [s.R117_11, s.T129]
    have vp' : vp_in (11 : Int32) (mN M 117) := vp
    have e := v_move (M := M) (a := 130) (b := 131) (r := 132) 129 (n - 1)
    have kk := kv_move (M := M) (a := 130) (b := 131) (r := 132) 129 (n - 1) tb' tr
    simp only [oRaw, Nat.reduceEqDiff, if_true, if_false, e] at kf ⊢
    simp [s.T117, vp, vp', t0, kk, kf]
theorem r_op {M : XM} (h : Sh M) {x y t k : Nat} {n : Int32} (hk : k < 12) (hx : mT M x = 10) (hy : mT M y = 10) (ht : mT M t = 10) (nx : ¬ JR x) (ny : ¬ JR y) (bx : bu (gv6 M x)) (bY : bu (gv6 M y)) :
    K_Reckoner_operate 110 (Int32.ofNat k) n x y t M ∧ Fr (fun q => q = t ∨ JR q) M (g_Reckoner_operate 110 (Int32.ofNat k) n x y t M) ∧ gv6 (g_Reckoner_operate 110 (Int32.ofNat k) n x y t M) t = vOp k n (gv6 M x) (gv6 M y) := by
  have hx' : x ≠ 132 := fun e => nx (by unfold JR; omega)
  have hy' : y ≠ 132 := fun e => ny (by unfold JR; omega)
  -- behind the first operand
  have go : ∀ (M1 : XM) (X : AV), Fr (fun q => q = t ∨ JR q) M M1 → Fr (fun q => JR q) M M1 → gv6 M1 130 = X → bu X → K_Reckoner_operate_47 110 (Int32.ofNat k) n y t M1 ∧ Fr (fun q => q = t ∨ JR q) M (g_Reckoner_operate_47 110 (Int32.ofNat k) n y t M1) ∧ gv6 (g_Reckoner_operate_47 110 (Int32.ofNat k) n y t M1) t = vCut n (tite (oRaw k (n - 1) vFree X (vCut n (gv6 M y)))) := by
    intro M1 X f fj e bX
    have s1 := f.sh h
    have ey : gv6 M1 y = gv6 M y := fj.gv ny
    obtain ⟨c1, c2, c3⟩ := r_cut (n := n) (v := y) (t := 131) s1 ((eT f.1 y).trans hy) s1.T131 hy' (by rw [ey]; exact bY)
    rw [ey] at c3
    have e2 : gv6 (g_Reckoner_cut 110 y n 131 M1) 130 = X := (c2.gv (by unfold J0; omega)).trans e
    unfold g_Reckoner_operate_47 K_Reckoner_operate_47 g_Reckoner_operate_58 K_Reckoner_operate_58
    rw [s1.R110_4]
    have s2 := c2.sh s1
    generalize g_Reckoner_cut 110 y n 131 M1 = M2 at c2 c3 e2 s2 ⊢
    rw [s2.R110_5, v_free]
    have n1 : (130 : Nat) ≠ 132 := by decide
    have n2 : (131 : Nat) ≠ 132 := by decide
    have t2 : mT M2 t = 10 := (eT c2.1 t).trans ((eT f.1 t).trans ht)
    obtain ⟨o1, o2⟩ := op_65 (M := sV M2 132 vFree) (s2.kept rfl) (n := n) hk t2 (by rw [gv6_sVne _ _ _ n1, e2]; exact bX) (by rw [gv6_sVne _ _ _ n2, c3]; exact bu_cut bY) (by rw [gv6_sV]; exact bu_free)
    rw [gv6_sVne _ _ _ n1, gv6_sVne _ _ _ n2, gv6_sV, e2, c3, sV_sV] at o2
    rw [o2]
    obtain ⟨p1, p2, p3⟩ := op_89 (M := sV M2 132 (oRaw k (n - 1) vFree X (vCut n (gv6 M y)))) (s2.kept rfl) (n := n) t2 (by rw [gv6_sV]; exact bu_raw bu_free bX (bu_cut bY))
    rw [gv6_sV] at p3
    refine ⟨⟨s1.T110, s1.T110, c1, s2.T110, s2.T132, kv_free s2.T132, o1⟩, ?_, p3⟩
    refine f.trans ((c2.weak fun q hq => ?_).trans ((Fr.sv (Or.inr (by unfold JR; omega))).trans p2))
    exact Or.inr (by unfold JR; unfold J0 at hq; omega)
  have cutX := r_cut (n := n) (v := x) (t := 130) h hx h.T130 hx' bx
  have extX := r_ext (n := n) (v := x) (t := 130) h hx h.T130 hx' bx
  have cx := go _ _ (cutX.2.1.weak fun q hq => Or.inr (by unfold JR; unfold J0 at hq; omega)) (cutX.2.1.weak fun q hq => by unfold JR; unfold J0 at hq; omega) cutX.2.2 (bu_cut bx)
  have ex := go _ _ (extX.2.1.weak fun q hq => Or.inr (by unfold JR; unfold J1 at hq; omega)) (extX.2.1.weak fun q hq => by unfold JR; unfold J1 at hq; omega) extX.2.2 bu_ext
  have k10 : Int32.ofNat k = 10 ↔ k = 10 := by
    have : ∀ k : Fin 12, Int32.ofNat k.val = 10 ↔ k.val = 10 := by decide +kernel
    exact this ⟨k, hk⟩
  unfold g_Reckoner_operate K_Reckoner_operate g_Reckoner_operate_0 K_Reckoner_operate_0 g_Reckoner_operate_16 K_Reckoner_operate_16 g_Reckoner_operate_17 K_Reckoner_operate_17 vOp
  rw [h.R110_3]
  have i1 : ¬ (1 : Int32) = 0 := by decide
  by_cases c1 : k = 10
  · rw [if_pos (k10.mpr c1)]
    by_cases c2 : n = 32
    · rw [if_pos c2, if_neg i1, if_pos ⟨c1, c2⟩]
      exact ⟨⟨fun _ => ⟨fun _ => ⟨fun z => absurd z i1, fun _ => ⟨h.T110, h.T110, extX.1, ex.1⟩⟩, fun z => absurd c2 z⟩, fun z => absurd (k10.mpr c1) z⟩, ex.2.1, ex.2.2⟩
    · rw [if_neg c2, if_pos rfl, if_neg (fun z => c2 z.2)]
      exact ⟨⟨fun _ => ⟨fun z => absurd z c2, fun _ => ⟨fun _ => ⟨h.T110, h.T110, cutX.1, cx.1⟩, fun z => absurd rfl z⟩⟩, fun z => absurd (k10.mpr c1) z⟩, cx.2.1, cx.2.2⟩
  · rw [if_neg (fun z => c1 (k10.mp z)), if_pos rfl, if_neg (fun z => c1 z.1)]
    exact ⟨⟨fun z => absurd (k10.mp z) c1, fun _ => ⟨fun _ => ⟨h.T110, h.T110, cutX.1, cx.1⟩, fun z => absurd rfl z⟩⟩, cx.2.1, cx.2.2⟩
