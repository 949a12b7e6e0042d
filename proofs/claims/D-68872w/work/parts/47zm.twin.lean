/-! part 47zm: the twin's apply, operate, meet (gen/tpl.py) -/
def FrT (J : Nat → Prop) (M M' : XM) : Prop := M'.2.2 = M.2.2 ∧ (∀ a j, ¬ (a = 467 ∧ J j) → mI M' a j = mI M a j) ∧ ∀ a j, ¬ (461 ≤ a ∧ a < 467 ∧ J j) → mL M' a j = mL M a j
theorem FrT.rf {J : Nat → Prop} {M : XM} : FrT J M M := ⟨rfl, fun _ _ _ => rfl, fun _ _ _ => rfl⟩
theorem FrT.trans {J : Nat → Prop} {M M1 M2 : XM} (h : FrT J M M1) (h' : FrT J M1 M2) : FrT J M M2 := ⟨h'.1.trans h.1, fun a j z => (h'.2.1 a j z).trans (h.2.1 a j z), fun a j z => (h'.2.2 a j z).trans (h.2.2 a j z)⟩
theorem FrT.weak {J J' : Nat → Prop} {M M1 : XM} (h : FrT J M M1) (hJ : ∀ r, J r → J' r) : FrT J' M M1 := ⟨h.1, fun a j z => h.2.1 a j (fun q => z ⟨q.1, hJ j q.2⟩), fun a j z => h.2.2 a j (fun q => z ⟨q.1, q.2.1, hJ j q.2.2⟩)⟩
theorem FrT.sr {J : Nat → Prop} {M : XM} {k : Nat} {w : AV} {e : Int32} (hk : J k) : FrT J M (sR M k w e) := ⟨rfl, fun a j z => if_neg (fun (q : a = 467 ∧ j = k) => z ⟨q.1, q.2 ▸ hk⟩), fun a j z => if_neg (fun (q : 461 ≤ a ∧ a < 467 ∧ j = k) => z ⟨q.1, q.2.1, q.2.2 ▸ hk⟩)⟩
theorem FrT.tv {J : Nat → Prop} {M M' : XM} {k : Nat} (h : FrT J M M') (hk : ¬ J k) : tvk M' k = tvk M k := by
  unfold tvk
  rw [h.2.2 461 k (fun z => hk z.2.2), h.2.2 462 k (fun z => hk z.2.2), h.2.2 463 k (fun z => hk z.2.2), h.2.2 464 k (fun z => hk z.2.2), h.2.2 465 k (fun z => hk z.2.2), h.2.2 466 k (fun z => hk z.2.2)]
theorem FrT.te {J : Nat → Prop} {M M' : XM} {k : Nat} (h : FrT J M M') (hk : ¬ J k) : tek M' k = tek M k := h.2.1 467 k (fun z => hk z.2)
theorem FrT.sh {J : Nat → Prop} {M M' : XM} (h : FrT J M M') (hs : Sh M) : Sh M' := hs.kept h.1
theorem t_apply {M : XM} (h : Sh M) {k : Nat} {most : Int32} (hk : k < 12) (hm : most = 63 ∨ most = 31) (hx : Tt (tvk M 0)) (hy : Tt (tvk M 1)) (he0 : tek M 0 = 0) (he1 : tek M 1 = 0) :
    K_Sets_apply 460 (Int32.ofNat k) most M ∧ g_Sets_apply 460 (Int32.ofNat k) most M = sR M 2 (tite (oRaw k most vFree (tvk M 0) (tvk M 1))) 0 := by
  have s1 : Sh (sR M 2 vFree 0) := h.kept rfl
  have kf := kt_free h rk2
  have tf := t_free h 2
  rw [i32_2] at tf
  obtain ⟨z, hz⟩ := raw_ne hk hm hx hy
  have fin := t_tight (M := sR M 2 (oRaw k most vFree (tvk M 0) (tvk M 1)) 0) (k := 2) (h.kept rfl) rk2 (by rw [i32_2, tvk_sR]; exact bu_raw bu_free hx.bu hy.bu) (by rw [i32_2, tek_sR]) (x := z) (by rw [i32_2, tvk_sR]; exact hz)
  rw [i32_2, tvk_sR, sR_sR] at fin
  have sT := h.T460
  have sT1 := s1.T460
  have bx := hx.bu
  have bY := hy.bu
  unfold g_Sets_apply K_Sets_apply g_Sets_apply_0 K_Sets_apply_0 g_Sets_apply_5 K_Sets_apply_5 g_Sets_apply_150 K_Sets_apply_150
  rw [tf]
  have : k = 0 ∨ k = 1 ∨ k = 2 ∨ k = 3 ∨ k = 4 ∨ k = 5 ∨ k = 6 ∨ k = 7 ∨ k = 8 ∨ k = 9 ∨ k = 10 ∨ k = 11 := by omega
  rcases this with rfl | rfl | rfl | rfl | rfl | rfl | rfl | rfl | rfl | rfl | rfl | rfl
  · have o := t_add h bx bY
    simp only [oRaw, Nat.reduceEqDiff, if_true, if_false] at fin ⊢
    rw [if_pos (by decide : Int32.ofNat 0 = 0), o.2]
    refine ⟨?_, fin.2⟩
    have e : ∀ q, K_Sets_tighten 460 2 q = K_Sets_tighten 460 2 q := fun _ => rfl
    simp [mT_sR, sT, sT1, kf, o.1, o.2, fin.1]
  · have o := t_sub h bx bY
    simp only [oRaw, Nat.reduceEqDiff, if_true, if_false] at fin ⊢
    rw [if_neg (by decide : ¬ Int32.ofNat 1 = 0), if_pos (by decide : Int32.ofNat 1 = 1), o.2]
    refine ⟨?_, fin.2⟩
    have e : ∀ q, K_Sets_tighten 460 2 q = K_Sets_tighten 460 2 q := fun _ => rfl
    simp [mT_sR, sT, sT1, kf, o.1, o.2, fin.1]
  · have o := t_mul h
    simp only [oRaw, Nat.reduceEqDiff, if_true, if_false] at fin ⊢
    rw [if_neg (by decide : ¬ Int32.ofNat 2 = 0), if_neg (by decide : ¬ Int32.ofNat 2 = 1), if_pos (by decide : Int32.ofNat 2 = 2), o.2]
    refine ⟨?_, fin.2⟩
    have e : ∀ q, K_Sets_tighten 460 2 q = K_Sets_tighten 460 2 q := fun _ => rfl
    simp [mT_sR, sT, sT1, kf, o.1, o.2, fin.1]
  · have o := t_div h
    simp only [oRaw, Nat.reduceEqDiff, if_true, if_false] at fin ⊢
    rw [if_neg (by decide : ¬ Int32.ofNat 3 = 0), if_neg (by decide : ¬ Int32.ofNat 3 = 1), if_neg (by decide : ¬ Int32.ofNat 3 = 2), if_pos (by decide : Int32.ofNat 3 = 3), o.2]
    refine ⟨?_, fin.2⟩
    have e : ∀ q, K_Sets_tighten 460 2 q = K_Sets_tighten 460 2 q := fun _ => rfl
    simp [mT_sR, sT, sT1, kf, o.1, o.2, fin.1]
  · have o := t_rest h he0
    simp only [oRaw, Nat.reduceEqDiff, if_true, if_false] at fin ⊢
    rw [if_neg (by decide : ¬ Int32.ofNat 4 = 0), if_neg (by decide : ¬ Int32.ofNat 4 = 1), if_neg (by decide : ¬ Int32.ofNat 4 = 2), if_neg (by decide : ¬ Int32.ofNat 4 = 3), if_pos (by decide : Int32.ofNat 4 = 4), o.2]
    refine ⟨?_, fin.2⟩
    have e : ∀ q, K_Sets_tighten 460 2 q = K_Sets_tighten 460 2 q := fun _ => rfl
    simp [mT_sR, sT, sT1, kf, o.1, o.2, fin.1]
  · have o := t_and h bx bY
    simp only [oRaw, Nat.reduceEqDiff, if_true, if_false] at fin ⊢
    rw [if_neg (by decide : ¬ Int32.ofNat 5 = 0), if_neg (by decide : ¬ Int32.ofNat 5 = 1), if_neg (by decide : ¬ Int32.ofNat 5 = 2), if_neg (by decide : ¬ Int32.ofNat 5 = 3), if_neg (by decide : ¬ Int32.ofNat 5 = 4), if_pos (by decide : Int32.ofNat 5 = 5), o.2]
    refine ⟨?_, fin.2⟩
    have e : ∀ q, K_Sets_tighten 460 2 q = K_Sets_tighten 460 2 q := fun _ => rfl
    simp [mT_sR, sT, sT1, kf, o.1, o.2, fin.1]
  · have o := t_or h bx bY
    simp only [oRaw, Nat.reduceEqDiff, if_true, if_false] at fin ⊢
    rw [if_neg (by decide : ¬ Int32.ofNat 6 = 0), if_neg (by decide : ¬ Int32.ofNat 6 = 1), if_neg (by decide : ¬ Int32.ofNat 6 = 2), if_neg (by decide : ¬ Int32.ofNat 6 = 3), if_neg (by decide : ¬ Int32.ofNat 6 = 4), if_neg (by decide : ¬ Int32.ofNat 6 = 5), if_pos (by decide : Int32.ofNat 6 = 6), o.2]
    refine ⟨?_, fin.2⟩
    have e : ∀ q, K_Sets_tighten 460 2 q = K_Sets_tighten 460 2 q := fun _ => rfl
    simp [mT_sR, sT, sT1, kf, o.1, o.2, fin.1]
  · have o := t_xor h
    simp only [oRaw, Nat.reduceEqDiff, if_true, if_false] at fin ⊢
    rw [if_neg (by decide : ¬ Int32.ofNat 7 = 0), if_neg (by decide : ¬ Int32.ofNat 7 = 1), if_neg (by decide : ¬ Int32.ofNat 7 = 2), if_neg (by decide : ¬ Int32.ofNat 7 = 3), if_neg (by decide : ¬ Int32.ofNat 7 = 4), if_neg (by decide : ¬ Int32.ofNat 7 = 5), if_neg (by decide : ¬ Int32.ofNat 7 = 6), if_pos (by decide : Int32.ofNat 7 = 7), o.2]
    refine ⟨?_, fin.2⟩
    have e : ∀ q, K_Sets_tighten 460 2 q = K_Sets_tighten 460 2 q := fun _ => rfl
    simp [mT_sR, sT, sT1, kf, o.1, o.2, fin.1]
  · have o := (t_shift h (k := 8) (Or.inl rfl) hm bx hy).1 rfl
    simp only [oRaw, Nat.reduceEqDiff, if_true, if_false] at fin ⊢
    rw [if_neg (by decide : ¬ Int32.ofNat 8 = 0), if_neg (by decide : ¬ Int32.ofNat 8 = 1), if_neg (by decide : ¬ Int32.ofNat 8 = 2), if_neg (by decide : ¬ Int32.ofNat 8 = 3), if_neg (by decide : ¬ Int32.ofNat 8 = 4), if_neg (by decide : ¬ Int32.ofNat 8 = 5), if_neg (by decide : ¬ Int32.ofNat 8 = 6), if_neg (by decide : ¬ Int32.ofNat 8 = 7), if_pos (by decide : Int32.ofNat 8 = 8), o.2]
    refine ⟨?_, fin.2⟩
    have e : ∀ q, K_Sets_tighten 460 2 q = K_Sets_tighten 460 2 q := fun _ => rfl
    simp [mT_sR, sT, sT1, kf, o.1, o.2, fin.1]
  · have o := (t_shift h (k := 9) (Or.inr (Or.inl rfl)) hm bx hy).2.1 rfl
    simp only [oRaw, Nat.reduceEqDiff, if_true, if_false] at fin ⊢
    rw [if_neg (by decide : ¬ Int32.ofNat 9 = 0), if_neg (by decide : ¬ Int32.ofNat 9 = 1), if_neg (by decide : ¬ Int32.ofNat 9 = 2), if_neg (by decide : ¬ Int32.ofNat 9 = 3), if_neg (by decide : ¬ Int32.ofNat 9 = 4), if_neg (by decide : ¬ Int32.ofNat 9 = 5), if_neg (by decide : ¬ Int32.ofNat 9 = 6), if_neg (by decide : ¬ Int32.ofNat 9 = 7), if_neg (by decide : ¬ Int32.ofNat 9 = 8), if_pos (by decide : Int32.ofNat 9 = 9), o.2]
    refine ⟨?_, fin.2⟩
    have e : ∀ q, K_Sets_tighten 460 2 q = K_Sets_tighten 460 2 q := fun _ => rfl
    simp [mT_sR, sT, sT1, kf, o.1, o.2, fin.1]
  · have o := (t_shift h (k := 10) (Or.inr (Or.inr rfl)) hm bx hy).2.2 rfl
    simp only [oRaw, Nat.reduceEqDiff, if_true, if_false] at fin ⊢
    rw [if_neg (by decide : ¬ Int32.ofNat 10 = 0), if_neg (by decide : ¬ Int32.ofNat 10 = 1), if_neg (by decide : ¬ Int32.ofNat 10 = 2), if_neg (by decide : ¬ Int32.ofNat 10 = 3), if_neg (by decide : ¬ Int32.ofNat 10 = 4), if_neg (by decide : ¬ Int32.ofNat 10 = 5), if_neg (by decide : ¬ Int32.ofNat 10 = 6), if_neg (by decide : ¬ Int32.ofNat 10 = 7), if_neg (by decide : ¬ Int32.ofNat 10 = 8), if_neg (by decide : ¬ Int32.ofNat 10 = 9), if_pos (by decide : Int32.ofNat 10 = 10), o.2]
    refine ⟨?_, fin.2⟩
    have e : ∀ q, K_Sets_tighten 460 2 q = K_Sets_tighten 460 2 q := fun _ => rfl
    simp [mT_sR, sT, sT1, kf, o.1, o.2, fin.1]
  · have kc := kt_copy s1 rk1 rk2
    have tc := t_copy s1 1 2
    rw [i32_1, i32_2, tvk_sRne _ _ _ (by decide), tek_sRne _ _ _ (by decide), he1, jz0, sR_sR] at tc
    have o := And.intro kc tc
    simp only [oRaw, Nat.reduceEqDiff, if_true, if_false] at fin ⊢
    rw [if_neg (by decide : ¬ Int32.ofNat 11 = 0), if_neg (by decide : ¬ Int32.ofNat 11 = 1), if_neg (by decide : ¬ Int32.ofNat 11 = 2), if_neg (by decide : ¬ Int32.ofNat 11 = 3), if_neg (by decide : ¬ Int32.ofNat 11 = 4), if_neg (by decide : ¬ Int32.ofNat 11 = 5), if_neg (by decide : ¬ Int32.ofNat 11 = 6), if_neg (by decide : ¬ Int32.ofNat 11 = 7), if_neg (by decide : ¬ Int32.ofNat 11 = 8), if_neg (by decide : ¬ Int32.ofNat 11 = 9), if_neg (by decide : ¬ Int32.ofNat 11 = 10), o.2]
    refine ⟨?_, fin.2⟩
    have e : ∀ q, K_Sets_tighten 460 2 q = K_Sets_tighten 460 2 q := fun _ => rfl
    simp [mT_sR, sT, sT1, kf, o.1, o.2, fin.1]
theorem not_le_of {a b : Nat} (h : b < a) : ¬ a ≤ b := by omega
theorem t_op {M : XM} (h : Sh M) {a b d : Int32} {k : Nat} {n : Int32} (hk : k < 12) (hn : n = 64 ∨ n = 32) (ra : rk a) (rb : rk b) (rd : rk d) (ga : 4 < ix a) (gb : 4 < ix b) (gd : 4 < ix d) (hx : Tt (tvk M (ix a))) (hy : Tt (tvk M (ix b))) (ea : tek M (ix a) = 0) (eb : tek M (ix b) = 0) :
    K_Sets_operate 460 (Int32.ofNat k) n d a b M ∧ FrT (fun q => q = ix d ∨ q ≤ 4) M (g_Sets_operate 460 (Int32.ofNat k) n d a b M) ∧ tvk (g_Sets_operate 460 (Int32.ofNat k) n d a b M) (ix d) = vOp k n (tvk M (ix a)) (tvk M (ix b)) ∧ tek (g_Sets_operate 460 (Int32.ofNat k) n d a b M) (ix d) = 0 := by
  have sT := h.T460
  have i1 : ¬ (32 : Int32) = 64 := by decide
  have k10 : Int32.ofNat k = 10 ↔ k = 10 := by
    have : ∀ k : Fin 12, Int32.ofNat k.val = 10 ↔ k.val = 10 := by decide +kernel
    exact this ⟨k, hk⟩
  unfold g_Sets_operate K_Sets_operate g_Sets_operate_0 K_Sets_operate_0
  rcases hn with rfl | rfl
  · -- 64 bits
    rw [if_pos rfl]
    unfold g_Sets_operate_13 K_Sets_operate_13 g_Sets_operate_20 K_Sets_operate_20 g_Sets_operate_27 K_Sets_operate_27
    have t1 := t_copy h a 0
    rw [i32_0, ea, jz0] at t1
    have k1 := kt_copy h ra rk0
    rw [t1]
    have s1 : Sh (sR M 0 (tvk M (ix a)) 0) := h.kept rfl
    have t2 := t_copy s1 b 1
    have k2 := kt_copy s1 rb rk1
    rw [i32_1, tvk_sRne _ _ _ (by omega), tek_sRne _ _ _ (by omega), eb, jz0] at t2
    rw [t2]
    have s2 : Sh (sR (sR M 0 (tvk M (ix a)) 0) 1 (tvk M (ix b)) 0) := h.kept rfl
    have v0 : tvk (sR (sR M 0 (tvk M (ix a)) 0) 1 (tvk M (ix b)) 0) 0 = tvk M (ix a) := by rw [tvk_sRne _ _ _ (by decide), tvk_sR]
    have v1 : tvk (sR (sR M 0 (tvk M (ix a)) 0) 1 (tvk M (ix b)) 0) 1 = tvk M (ix b) := tvk_sR _ _ _ _
    have w0 : tek (sR (sR M 0 (tvk M (ix a)) 0) 1 (tvk M (ix b)) 0) 0 = 0 := by rw [tek_sRne _ _ _ (by decide), tek_sR]
    have w1 : tek (sR (sR M 0 (tvk M (ix a)) 0) 1 (tvk M (ix b)) 0) 1 = 0 := tek_sR _ _ _ _
    obtain ⟨k3, t3⟩ := t_apply s2 hk (most := 63) (Or.inl rfl) (by rw [v0]; exact hx) (by rw [v1]; exact hy) w0 w1
    rw [v0, v1] at t3
    rw [t3]
    have s3 : Sh (sR (sR (sR M 0 (tvk M (ix a)) 0) 1 (tvk M (ix b)) 0) 2 (tite (oRaw k 63 vFree (tvk M (ix a)) (tvk M (ix b)))) 0) := h.kept rfl
    have t4 := t_copy s3 2 d
    have k4 := kt_copy s3 rk2 rd
    rw [i32_2, tvk_sR, tek_sR, jz0] at t4
    rw [t4]
    have rT := raw_T hk (Or.inl rfl : (63 : Int32) = 63 ∨ (63 : Int32) = 31) hx hy
    have ev : vOp k 64 (tvk M (ix a)) (tvk M (ix b)) = tite (oRaw k 63 vFree (tvk M (ix a)) (tvk M (ix b))) := by
      unfold vOp
      rw [if_neg (fun z => i1 z.2.symm), cut_64 hx, cut_64 hy, show (64 : Int32) - 1 = 63 from by decide, cut_64 rT]
    refine ⟨⟨fun _ => ⟨sT, k1, sT, k2, sT, k3, sT, k4⟩, fun z => absurd rfl z⟩, ?_, ?_, ?_⟩
    · exact (FrT.sr (Or.inr (by omega))).trans ((FrT.sr (Or.inr (by omega))).trans ((FrT.sr (Or.inr (by omega))).trans (FrT.sr (Or.inl rfl))))
    · rw [tvk_sR, ev]
    · rw [tek_sR]
  · -- 32 bits
    rw [if_neg i1]
    have go : ∀ (M1 : XM) (X : AV), FrT (fun q => q ≤ 4) M M1 → tvk M1 0 = X → tek M1 0 = 0 → Tt X → (if k = 10 then vExt 32 (tvk M (ix a)) else vCut 32 (tvk M (ix a))) = X → K_Sets_operate_65 460 (Int32.ofNat k) d b M1 ∧ FrT (fun q => q = ix d ∨ q ≤ 4) M (g_Sets_operate_65 460 (Int32.ofNat k) d b M1) ∧ tvk (g_Sets_operate_65 460 (Int32.ofNat k) d b M1) (ix d) = vOp k 32 (tvk M (ix a)) (tvk M (ix b)) ∧ tek (g_Sets_operate_65 460 (Int32.ofNat k) d b M1) (ix d) = 0 := by
      intro M1 X f e1 e2 hX eX
      have s1 := f.sh h
      have vb : tvk M1 (ix b) = tvk M (ix b) := f.tv (by omega)
      obtain ⟨k2, t2⟩ := t_cut s1 rb rk1 (by rw [i32_1]; decide) (n := 32) (by decide) (by rw [vb]; exact hy)
      rw [i32_1, vb, show Int32.ofNat 32 = 32 from rfl] at t2
      unfold g_Sets_operate_65 K_Sets_operate_65 g_Sets_operate_74 K_Sets_operate_74 g_Sets_operate_81 K_Sets_operate_81 g_Sets_operate_87 K_Sets_operate_87
      have k2' : K_Sets_cutRow 460 b 1 32 M1 := k2
      rw [t2]
      have f2 : FrT (fun q => q ≤ 4) M1 (sR (sR M1 3 (tvk M (ix b)) (j_z (tek M1 (ix b)))) 1 (vCut 32 (tvk M (ix b))) 0) := (FrT.sr (by decide)).trans (FrT.sr (by decide))
      have v0 : tvk (sR (sR M1 3 (tvk M (ix b)) (j_z (tek M1 (ix b)))) 1 (vCut 32 (tvk M (ix b))) 0) 0 = X := by rw [tvk_sRne _ _ _ (by decide), tvk_sRne _ _ _ (by decide), e1]
      have v1 : tvk (sR (sR M1 3 (tvk M (ix b)) (j_z (tek M1 (ix b)))) 1 (vCut 32 (tvk M (ix b))) 0) 1 = vCut 32 (tvk M (ix b)) := tvk_sR _ _ _ _
      have w0 : tek (sR (sR M1 3 (tvk M (ix b)) (j_z (tek M1 (ix b)))) 1 (vCut 32 (tvk M (ix b))) 0) 0 = 0 := by rw [tek_sRne _ _ _ (by decide), tek_sRne _ _ _ (by decide), e2]
      have w1 : tek (sR (sR M1 3 (tvk M (ix b)) (j_z (tek M1 (ix b)))) 1 (vCut 32 (tvk M (ix b))) 0) 1 = 0 := tek_sR _ _ _ _
      have s2 := f2.sh s1
      generalize sR (sR M1 3 (tvk M (ix b)) (j_z (tek M1 (ix b)))) 1 (vCut 32 (tvk M (ix b))) 0 = M2 at f2 v0 v1 w0 w1 s2 ⊢
      have cy : Tt (vCut 32 (tvk M (ix b))) := cut_T hy (n := 32) (by decide)
      obtain ⟨k3, t3⟩ := t_apply s2 hk (most := 31) (Or.inr rfl) (by rw [v0]; exact hX) (by rw [v1]; exact cy) w0 w1
      rw [v0, v1] at t3
      rw [t3]
      have rT := raw_T hk (Or.inr rfl : (31 : Int32) = 63 ∨ (31 : Int32) = 31) hX cy
      have s3 : Sh (sR M2 2 (tite (oRaw k 31 vFree X (vCut 32 (tvk M (ix b))))) 0) := s2.kept rfl
      have t4 := t_copy s3 2 0
      have k4 := kt_copy s3 rk2 rk0
      rw [i32_2, i32_0, tvk_sR, tek_sR, jz0] at t4
      rw [t4]
      have s4 : Sh (sR (sR M2 2 (tite (oRaw k 31 vFree X (vCut 32 (tvk M (ix b))))) 0) 0 (tite (oRaw k 31 vFree X (vCut 32 (tvk M (ix b))))) 0) := s2.kept rfl
      have v4 : tvk (sR (sR M2 2 (tite (oRaw k 31 vFree X (vCut 32 (tvk M (ix b))))) 0) 0 (tite (oRaw k 31 vFree X (vCut 32 (tvk M (ix b))))) 0) 0 = tite (oRaw k 31 vFree X (vCut 32 (tvk M (ix b)))) := tvk_sR _ _ _ _
      obtain ⟨k5, t5⟩ := t_cut s4 rk0 rd (by omega) (n := 32) (by decide) (by rw [i32_0, v4]; exact rT)
      rw [i32_0, v4, show Int32.ofNat 32 = 32 from rfl] at t5
      have k5' : K_Sets_cutRow 460 0 d 32 _ := k5
      rw [t5]
      have ev : vOp k 32 (tvk M (ix a)) (tvk M (ix b)) = vCut 32 (tite (oRaw k 31 vFree X (vCut 32 (tvk M (ix b))))) := by
        unfold vOp
        rw [show (32 : Int32) - 1 = 31 from by decide, ← eX]
        by_cases c : k = 10
        · rw [if_pos ⟨c, rfl⟩, if_pos c]
        · rw [if_neg (fun z => c z.1), if_neg c]
      refine ⟨⟨s1.T460, k2', s2.T460, k3, s3.T460, k4, s4.T460, k5'⟩, ?_, ?_, ?_⟩
      · have ff : ∀ {A B : XM}, FrT (fun q => q ≤ 4) A B → FrT (fun q => q = ix d ∨ q ≤ 4) A B := fun f => f.weak fun q hq => Or.inr hq
        exact (ff f).trans ((ff f2).trans ((FrT.sr (Or.inr (by omega))).trans ((FrT.sr (Or.inr (by omega))).trans ((FrT.sr (Or.inr (by omega))).trans (FrT.sr (Or.inl rfl))))))
      · rw [tvk_sR, ev]
      · rw [tek_sR]
    by_cases c : k = 10
    · rw [if_pos (k10.mpr c)]
      obtain ⟨k1, t1⟩ := t_ext h ra rk0 (by rw [i32_0]; decide) (n := 32) (by decide) (by decide) hx
      rw [i32_0, show Int32.ofNat 32 = 32 from rfl] at t1
      have k1' : K_Sets_extendRow 460 a 0 32 M := k1
      obtain ⟨g1, g2⟩ := go (g_Sets_extendRow 460 a 0 32 M) (vExt 32 (tvk M (ix a))) (by rw [t1]; exact (FrT.sr (by decide)).trans ((FrT.sr (by decide)).trans (FrT.sr (by decide)))) (by rw [t1, tvk_sR]) (by rw [t1, tek_sR]) (ext_T hx (n := 32) (by decide) (by decide)) (if_pos c)
      exact ⟨⟨fun z => absurd z i1, fun _ => ⟨fun _ => ⟨sT, k1', g1⟩, fun z => absurd (k10.mpr c) z⟩⟩, g2⟩
    · rw [if_neg (fun z => c (k10.mp z))]
      obtain ⟨k1, t1⟩ := t_cut h ra rk0 (by rw [i32_0]; decide) (n := 32) (by decide) hx
      rw [i32_0, show Int32.ofNat 32 = 32 from rfl] at t1
      have k1' : K_Sets_cutRow 460 a 0 32 M := k1
      obtain ⟨g1, g2⟩ := go (g_Sets_cutRow 460 a 0 32 M) (vCut 32 (tvk M (ix a))) (by rw [t1]; exact (FrT.sr (by decide)).trans (FrT.sr (by decide))) (by rw [t1, tvk_sR]) (by rw [t1, tek_sR]) (cut_T hx (n := 32) (by decide)) (if_neg c)
      exact ⟨⟨fun z => absurd z i1, fun _ => ⟨fun z => absurd (k10.mp z) c, fun _ => ⟨sT, k1', g1⟩⟩⟩, g2⟩
