/-! part 47zs: refining: the twin's refine and refines (gen/tpl.py) -/
theorem t_ref12 {N : XM} (h : Sh N) {c : Nat} (hc : c < 12) {A B : AV} (hA : Tt A) (hB : Tt B) (v0 : tvk N 0 = A) (v1 : tvk N 1 = B) (v3 : tvk N 3 = A) (v4 : tvk N 4 = B) (e0 : tek N 0 = 0) (e1 : tek N 1 = 0) :
    ∃ N', Out N c A B N' ∧ g_Sets_refine_12 460 (Int32.ofNat c) N = g_Sets_refine_511 460 N' ∧ (K_Sets_refine_511 460 N' → K_Sets_refine_12 460 (Int32.ofNat c) N) := by
  have sT := h.T460
  have bA : bu A := hA.bu
  have bB : bu B := hB.bu
  have i1 : ¬ (1 : Int32) = 0 := by decide
  have r1 : rk 1 := rk1
  have lo3 : mL N 463 3 = A.lo := by rw [← v3]; rfl
  have lo4 : mL N 463 4 = B.lo := by rw [← v4]; rfl
  have hi3 : mL N 464 3 = A.hi := by rw [← v3]; rfl
  have hi4 : mL N 464 4 = B.hi := by rw [← v4]; rfl
  have le3 : mL N 465 3 = A.le := by rw [← v3]; rfl
  have le4 : mL N 465 4 = B.le := by rw [← v4]; rfl
  have gr3 : mL N 466 3 = A.gr := by rw [← v3]; rfl
  have gr4 : mL N 466 4 = B.gr := by rw [← v4]; rfl
  have b3 : mL N 461 3 = A.b := by rw [← v3]; rfl
  have b4 : mL N 461 4 = B.b := by rw [← v4]; rfl
  have u3' : mL N 462 3 = A.u := by rw [← v3]; rfl
  have u4 : mL N 462 4 = B.u := by rw [← v4]; rfl
  have k3 : ∀ w e, K_Sets_isSingle 460 3 (sR N 0 w e) := fun w e => by
    unfold K_Sets_isSingle K_Sets_isSingle_0
    simp [mR_sR, mT_sR, mN_sR, h.R460_0, h.R460_1, h.R460_2, h.R460_3, h.R460_4, h.R460_5, h.R460_6, h.T460, h.T461, h.T462, h.T463, h.T464, h.T465, h.T466, h.T467, h.N461, h.N462, h.N463, h.N464, h.N465, h.N466, h.N467, rk3']
  have k4 : K_Sets_isSingle 460 4 N := by
    unfold K_Sets_isSingle K_Sets_isSingle_0
    simp [h.R460_0, h.R460_1, h.R460_2, h.R460_3, h.R460_4, h.R460_5, h.R460_6, h.T460, h.T461, h.T462, h.T463, h.T464, h.T465, h.T466, h.T467, h.N461, h.N462, h.N463, h.N464, h.N465, h.N466, h.N467, rk4']
  have g4 : g_Sets_isSingle 460 4 N = if lg_cmp B.lo B.hi = 0 then 1 else 0 := by
    unfold g_Sets_isSingle g_Sets_isSingle_0
    rw [h.R460_2, h.R460_3, i32_4, lo4, hi4]
  have g3 : ∀ w e, g_Sets_isSingle 460 3 (sR N 0 w e) = if lg_cmp A.lo A.hi = 0 then 1 else 0 := fun w e => by
    unfold g_Sets_isSingle g_Sets_isSingle_0
    rw [mR_sR, mR_sR, h.R460_2, h.R460_3, i32_3, mL_sRne _ _ _ (by decide), mL_sRne _ _ _ (by decide), lo3, hi3]
  have k4' : ∀ w e, K_Sets_isSingle 460 4 (sR N 0 w e) := fun w e => by
    unfold K_Sets_isSingle K_Sets_isSingle_0
    simp [mR_sR, mT_sR, mN_sR, h.R460_0, h.R460_1, h.R460_2, h.R460_3, h.R460_4, h.R460_5, h.R460_6, h.T460, h.T461, h.T462, h.T463, h.T464, h.T465, h.T466, h.T467, h.N461, h.N462, h.N463, h.N464, h.N465, h.N466, h.N467, rk4']
  have g4' : ∀ w e, g_Sets_isSingle 460 4 (sR N 0 w e) = if lg_cmp B.lo B.hi = 0 then 1 else 0 := fun w e => by
    unfold g_Sets_isSingle g_Sets_isSingle_0
    rw [mR_sR, mR_sR, h.R460_2, h.R460_3, i32_4, mL_sRne _ _ _ (by decide), mL_sRne _ _ _ (by decide), lo4, hi4]
  unfold g_Sets_refine_12 K_Sets_refine_12
  have : c = 0 ∨ c = 1 ∨ c = 2 ∨ c = 3 ∨ c = 4 ∨ c = 5 ∨ c = 6 ∨ c = 7 ∨ c = 8 ∨ c = 9 ∨ c = 10 ∨ c = 11 := by omega
  rcases this with rfl | rfl | rfl | rfl | rfl | rfl | rfl | rfl | rfl | rfl | rfl | rfl
  · obtain ⟨p1, p2⟩ := t_both h rk0 rk4 (by decide) (by rw [i32_0]; exact e0)
    rw [i32_0, i32_4, v0, v4] at p2
    have s1 : Sh (sR N 0 (bothT A B) (bI (!decide (lg_cmp ((A.b ^^^ B.b) &&& ((A.u ^^^ (-1)) &&& (B.u ^^^ (-1)))) 0 = 0)))) := h.kept rfl
    obtain ⟨q1, q2⟩ := t_both s1 rk1 rk3 (by decide) (by rw [i32_1, tek_sRne _ _ _ (by decide)]; exact e1)
    rw [i32_1, i32_3, tvk_sRne _ _ _ (by decide), tvk_sRne _ _ _ (by decide), v1, v3] at q2
    rw [if_pos (by decide : Int32.ofNat 0 = 0), p2]
    unfold g_Sets_refine_78 K_Sets_refine_78
    rw [q2]
    refine ⟨_, ⟨_, _, _, _, rfl, by rw [both_eq bA bB]; exact bu_sgn (bu_uns bu_say), by rw [both_eq bB bA]; exact bu_sgn (bu_uns bu_say), bI_01 _, bI_01 _, ?_, ?_⟩, rfl, fun z => ⟨fun _ => ⟨sT, p1, s1.T460, q1, z⟩, fun z => absurd (by decide : Int32.ofNat 0 = 0) z⟩⟩
    · intro z
      have z' : lg_cmp (((A.b ^^^ B.b) &&& (A.u ^^^ (-1))) &&& (B.u ^^^ (-1))) 0 = 0 := of_decide_eq_true z
      rw [← and_assoc64] at z'
      have z2 : lg_cmp ((B.b ^^^ A.b) &&& ((B.u ^^^ (-1)) &&& (A.u ^^^ (-1)))) 0 = 0 := by
        rw [xor_comm64 B.b, and_comm64 (B.u ^^^ (-1))]; exact z'
      rw [both_eq bA bB, both_eq bB bA, both_comm B A]
      simp only [z', z2, decide_true, Bool.not_true]
      exact ⟨rfl, rfl, rfl, rfl⟩
    · intro z
      have z' : ¬ lg_cmp (((A.b ^^^ B.b) &&& (A.u ^^^ (-1))) &&& (B.u ^^^ (-1))) 0 = 0 := of_decide_eq_false z
      rw [← and_assoc64] at z'
      left
      simp only [z', decide_false, Bool.not_false]; rfl
  · have L1 := lose_eq hA hB
    have L2 := lose_eq hB hA
    obtain ⟨p1, p2⟩ := t_lose h rk0 (g_Sets_isSingle 460 4 N) (mL N 463 4)
    have p3 : g_Sets_lose 460 0 (g_Sets_isSingle 460 4 N) (mL N 463 4) N = sR N 0 (lvV A B) (bI (!lvOk A B)) := by
      rw [p2, g4, lo4, i32_0, v0, e0]
      have x1 := congrArg Prod.fst L1
      have x2 := congrArg Prod.snd L1
      simp only at x1 x2
      rw [← x1, ← x2]
      by_cases d1 : lg_cmp B.lo B.hi = 0
      · by_cases d2 : lg_cmp A.lo A.hi = 0 ∧ lg_cmp A.lo B.lo = 0
        · simp only [d1, if_pos d2, i1, if_true, if_false]
        · simp only [d1, if_neg d2, i1, if_true, if_false]
      · simp only [d1, if_true, if_false]
        have := (sR_self (M := N) (k := 0)).symm
        rw [v0, e0] at this
        exact this
    have s1 : Sh (sR N 0 (lvV A B) (bI (!lvOk A B))) := h.kept rfl
    have e1' : tek (sR N 0 (lvV A B) (bI (!lvOk A B))) 1 = 0 := by rw [tek_sRne _ _ _ (by decide)]; exact e1
    have v1' : tvk (sR N 0 (lvV A B) (bI (!lvOk A B))) 1 = B := by rw [tvk_sRne _ _ _ (by decide)]; exact v1
    have lo3' : mL (sR N 0 (lvV A B) (bI (!lvOk A B))) 463 3 = A.lo := by rw [mL_sRne _ _ _ (by decide)]; exact lo3
    obtain ⟨q1, q2⟩ := t_lose s1 rk1 (g_Sets_isSingle 460 3 (sR N 0 (lvV A B) (bI (!lvOk A B)))) (mL (sR N 0 (lvV A B) (bI (!lvOk A B))) 463 3)
    have q3 : g_Sets_lose 460 1 (g_Sets_isSingle 460 3 (sR N 0 (lvV A B) (bI (!lvOk A B)))) (mL (sR N 0 (lvV A B) (bI (!lvOk A B))) 463 3) (sR N 0 (lvV A B) (bI (!lvOk A B))) = sR (sR N 0 (lvV A B) (bI (!lvOk A B))) 1 (lvV B A) (bI (!lvOk B A)) := by
      rw [q2, g3, lo3', i32_1, v1', e1']
      have x1 := congrArg Prod.fst L2
      have x2 := congrArg Prod.snd L2
      simp only at x1 x2
      rw [← x1, ← x2]
      by_cases d1 : lg_cmp A.lo A.hi = 0
      · by_cases d2 : lg_cmp B.lo B.hi = 0 ∧ lg_cmp B.lo A.lo = 0
        · simp only [d1, if_pos d2, i1, if_true, if_false]
        · simp only [d1, if_neg d2, i1, if_true, if_false]
      · simp only [d1, if_true, if_false]
        have := (sR_self (M := sR N 0 (lvV A B) (bI (!lvOk A B))) (k := 1)).symm
        rw [v1', e1'] at this
        exact this
    rw [if_neg (by decide : ¬ Int32.ofNat 1 = 0), if_pos (by decide : Int32.ofNat 1 = 1), h.R460_2, i32_4, p3]
    unfold g_Sets_refine_103 K_Sets_refine_103
    simp only [mR_sR, h.R460_2, i32_3, q3]
    refine ⟨_, ⟨_, _, _, _, rfl, bu_lv bA, bu_lv bB, bI_01 _, bI_01 _, ?_, ?_⟩, rfl, fun z => ?_⟩
    · intro z
      have z' : (lvOk A B && lvOk B A) = true := z
      rw [Bool.and_eq_true] at z'
      rw [z'.1, z'.2]
      exact ⟨rfl, rfl, rfl, rfl⟩
    · intro z
      have z' : (lvOk A B && lvOk B A) = false := z
      cases q : lvOk A B
      · left; rfl
      · right
        rw [q, Bool.true_and] at z'
        rw [z']; rfl
    · have z2 : vp_in 3 (mN (sR N 0 (lvV A B) (bI (!lvOk A B))) 463) := by rw [s1.N463]; exact rk3
      have z3 : vp_in 4 (mN N 463) := by rw [h.N463]; exact rk4
      exact ⟨fun z => absurd z (by decide : ¬ Int32.ofNat 1 = 0), fun _ => ⟨fun _ => ⟨sT, k4, sT, h.T463, z3, sT, p1, s1.T460, k3 _ _, s1.T460, s1.T463, z2, s1.T460, q1, z⟩, fun z => absurd (by decide : Int32.ofNat 1 = 1) z⟩⟩
  · obtain ⟨p1, p2⟩ := t_order h rk0 rk1 (by decide) B.hi A.lo 1 (by rw [i32_0]; exact e0) (by rw [i32_1]; exact e1)
    rw [i32_0, i32_1, v0, v1] at p2
    rw [if_neg (by decide : ¬ Int32.ofNat 2 = 0), if_neg (by decide : ¬ Int32.ofNat 2 = 1), if_pos (by decide : Int32.ofNat 2 = 2), h.R460_3, h.R460_2, i32_3, i32_4, hi4, lo3, p2]
    refine ⟨_, ⟨_, _, _, _, rfl, bu_hiTo bA, bu_loTo bB, bI_01 _, bI_01 _, ?_, ?_⟩, rfl, fun z => ?_⟩
    · intro z
      have z' : (!(decide (lg_cmp B.hi 0 = 0) || decide (lg_cmp A.lo (-1) = 0))) = true := z
      by_cases d1 : lg_cmp B.hi 0 = 0
      · rw [decide_eq_true d1] at z'; cases z'
      · by_cases d2 : lg_cmp A.lo (-1) = 0
        · rw [decide_eq_true d2, Bool.or_true] at z'; cases z'
        · simp only [d1, d2, i1, or_self, if_false, decide_false, Bool.not_false, Bool.and_false]
          exact ⟨rfl, rfl, rfl, rfl⟩
    · intro z
      have z' : (!(decide (lg_cmp B.hi 0 = 0) || decide (lg_cmp A.lo (-1) = 0))) = false := z
      by_cases d1 : lg_cmp B.hi 0 = 0
      · left
        simp only [d1, i1, decide_true, decide_false, Bool.not_false, Bool.and_true]; rfl
      · by_cases d2 : lg_cmp A.lo (-1) = 0
        · right
          simp only [d2, i1, decide_true, decide_false, Bool.not_false, Bool.and_true]; rfl
        · rw [decide_eq_false d1, decide_eq_false d2] at z'; cases z'
    · have y1 : vp_in 4 (mN N 464) := by rw [h.N464]; exact rk4
      have y2 : vp_in 3 (mN N 463) := by rw [h.N463]; exact rk3
      exact ⟨fun z => absurd z (by decide : ¬ Int32.ofNat 2 = 0), fun _ => ⟨fun z => absurd z (by decide : ¬ Int32.ofNat 2 = 1), fun _ => ⟨fun _ => ⟨sT, h.T464, y1, sT, h.T463, y2, sT, p1, z⟩, fun z => absurd (by decide : Int32.ofNat 2 = 2) z⟩⟩⟩
  · obtain ⟨p1, p2⟩ := t_order h rk0 rk1 (by decide) B.hi A.lo 0 (by rw [i32_0]; exact e0) (by rw [i32_1]; exact e1)
    rw [i32_0, i32_1, v0, v1] at p2
    rw [if_neg (by decide : ¬ Int32.ofNat 3 = 0), if_neg (by decide : ¬ Int32.ofNat 3 = 1), if_neg (by decide : ¬ Int32.ofNat 3 = 2), if_pos (by decide : Int32.ofNat 3 = 3), h.R460_3, h.R460_2, i32_3, i32_4, hi4, lo3, p2]
    refine ⟨_, ⟨_, _, _, _, rfl, bu_hiTo bA, bu_loTo bB, bI_01 _, bI_01 _, ?_, ?_⟩, rfl, fun z => ?_⟩
    · intro z
      simp only [true_or, if_true, decide_true, Bool.not_true, Bool.false_and]
      refine ⟨?_, ?_, rfl, rfl⟩
      · show _ = A.hiTo (g_Sieve_lesser A.hi (B.hi - 0))
        rw [Int64.sub_zero]
      · show _ = B.loTo (g_Sieve_greater B.lo (A.lo + 0))
        rw [Int64.add_zero]
    · intro z
      exact absurd (show true = false from z) (by decide)
    · have y1 : vp_in 4 (mN N 464) := by rw [h.N464]; exact rk4
      have y2 : vp_in 3 (mN N 463) := by rw [h.N463]; exact rk3
      exact ⟨fun z => absurd z (by decide : ¬ Int32.ofNat 3 = 0), fun _ => ⟨fun z => absurd z (by decide : ¬ Int32.ofNat 3 = 1), fun _ => ⟨fun z => absurd z (by decide : ¬ Int32.ofNat 3 = 2), fun _ => ⟨fun _ => ⟨sT, h.T464, y1, sT, h.T463, y2, sT, p1, z⟩, fun z => absurd (by decide : Int32.ofNat 3 = 3) z⟩⟩⟩⟩
  · obtain ⟨p1, p2⟩ := t_order h rk1 rk0 (by decide) A.hi B.lo 1 (by rw [i32_1]; exact e1) (by rw [i32_0]; exact e0)
    rw [i32_1, i32_0, v1, v0] at p2
    rw [if_neg (by decide : ¬ Int32.ofNat 4 = 0), if_neg (by decide : ¬ Int32.ofNat 4 = 1), if_neg (by decide : ¬ Int32.ofNat 4 = 2), if_neg (by decide : ¬ Int32.ofNat 4 = 3), if_pos (by decide : Int32.ofNat 4 = 4), h.R460_3, h.R460_2, i32_3, i32_4, hi3, lo4, p2]
    refine ⟨_, ⟨_, _, _, _, sR_comm (by decide), bu_loTo bA, bu_hiTo bB, bI_01 _, bI_01 _, ?_, ?_⟩, rfl, fun z => ?_⟩
    · intro z
      have z' : (!(decide (lg_cmp A.hi 0 = 0) || decide (lg_cmp B.lo (-1) = 0))) = true := z
      by_cases d1 : lg_cmp A.hi 0 = 0
      · rw [decide_eq_true d1] at z'; cases z'
      · by_cases d2 : lg_cmp B.lo (-1) = 0
        · rw [decide_eq_true d2, Bool.or_true] at z'; cases z'
        · simp only [d1, d2, i1, or_self, if_false, decide_false, Bool.not_false, Bool.and_false]
          exact ⟨rfl, rfl, rfl, rfl⟩
    · intro z
      have z' : (!(decide (lg_cmp A.hi 0 = 0) || decide (lg_cmp B.lo (-1) = 0))) = false := z
      by_cases d1 : lg_cmp A.hi 0 = 0
      · right
        simp only [d1, i1, decide_true, decide_false, Bool.not_false, Bool.and_true]; rfl
      · by_cases d2 : lg_cmp B.lo (-1) = 0
        · left
          simp only [d2, i1, decide_true, decide_false, Bool.not_false, Bool.and_true]; rfl
        · rw [decide_eq_false d1, decide_eq_false d2] at z'; cases z'
    · have y1 : vp_in 3 (mN N 464) := by rw [h.N464]; exact rk3
      have y2 : vp_in 4 (mN N 463) := by rw [h.N463]; exact rk4
      exact ⟨fun z => absurd z (by decide : ¬ Int32.ofNat 4 = 0), fun _ => ⟨fun z => absurd z (by decide : ¬ Int32.ofNat 4 = 1), fun _ => ⟨fun z => absurd z (by decide : ¬ Int32.ofNat 4 = 2), fun _ => ⟨fun z => absurd z (by decide : ¬ Int32.ofNat 4 = 3), fun _ => ⟨fun _ => ⟨sT, h.T464, y1, sT, h.T463, y2, sT, p1, z⟩, fun z => absurd (by decide : Int32.ofNat 4 = 4) z⟩⟩⟩⟩⟩
  · obtain ⟨p1, p2⟩ := t_order h rk1 rk0 (by decide) A.hi B.lo 0 (by rw [i32_1]; exact e1) (by rw [i32_0]; exact e0)
    rw [i32_1, i32_0, v1, v0] at p2
    rw [if_neg (by decide : ¬ Int32.ofNat 5 = 0), if_neg (by decide : ¬ Int32.ofNat 5 = 1), if_neg (by decide : ¬ Int32.ofNat 5 = 2), if_neg (by decide : ¬ Int32.ofNat 5 = 3), if_neg (by decide : ¬ Int32.ofNat 5 = 4), if_pos (by decide : Int32.ofNat 5 = 5), h.R460_3, h.R460_2, i32_3, i32_4, hi3, lo4, p2]
    refine ⟨_, ⟨_, _, _, _, sR_comm (by decide), bu_loTo bA, bu_hiTo bB, bI_01 _, bI_01 _, ?_, ?_⟩, rfl, fun z => ?_⟩
    · intro z
      simp only [true_or, if_true, decide_true, Bool.not_true, Bool.false_and]
      refine ⟨?_, ?_, rfl, rfl⟩
      · show _ = A.loTo (g_Sieve_greater A.lo (B.lo + 0))
        rw [Int64.add_zero]
      · show _ = B.hiTo (g_Sieve_lesser B.hi (A.hi - 0))
        rw [Int64.sub_zero]
    · intro z
      exact absurd (show true = false from z) (by decide)
    · have y1 : vp_in 3 (mN N 464) := by rw [h.N464]; exact rk3
      have y2 : vp_in 4 (mN N 463) := by rw [h.N463]; exact rk4
      exact ⟨fun z => absurd z (by decide : ¬ Int32.ofNat 5 = 0), fun _ => ⟨fun z => absurd z (by decide : ¬ Int32.ofNat 5 = 1), fun _ => ⟨fun z => absurd z (by decide : ¬ Int32.ofNat 5 = 2), fun _ => ⟨fun z => absurd z (by decide : ¬ Int32.ofNat 5 = 3), fun _ => ⟨fun z => absurd z (by decide : ¬ Int32.ofNat 5 = 4), fun _ => ⟨fun _ => ⟨sT, h.T464, y1, sT, h.T463, y2, sT, p1, z⟩, fun z => absurd (by decide : Int32.ofNat 5 = 5) z⟩⟩⟩⟩⟩⟩
  · obtain ⟨p1, p2⟩ := t_orderL h rk0 rk1 (by decide) B.gr A.le 1 (by rw [i32_0]; exact e0) (by rw [i32_1]; exact e1)
    rw [i32_0, i32_1, v0, v1] at p2
    rw [if_neg (by decide : ¬ Int32.ofNat 6 = 0), if_neg (by decide : ¬ Int32.ofNat 6 = 1), if_neg (by decide : ¬ Int32.ofNat 6 = 2), if_neg (by decide : ¬ Int32.ofNat 6 = 3), if_neg (by decide : ¬ Int32.ofNat 6 = 4), if_neg (by decide : ¬ Int32.ofNat 6 = 5), if_pos (by decide : Int32.ofNat 6 = 6), h.R460_5, h.R460_4, i32_3, i32_4, gr4, le3, p2]
    refine ⟨_, ⟨_, _, _, _, rfl, bu_grTo bA, bu_leTo bB, bI_01 _, bI_01 _, ?_, ?_⟩, rfl, fun z => ?_⟩
    · intro z
      have z' : (!(decide (lg_cmp B.gr (-9223372036854775808) = 0) || decide (lg_cmp A.le 9223372036854775807 = 0))) = true := z
      by_cases d1 : lg_cmp B.gr (-9223372036854775808) = 0
      · rw [decide_eq_true d1] at z'; cases z'
      · by_cases d2 : lg_cmp A.le 9223372036854775807 = 0
        · rw [decide_eq_true d2, Bool.or_true] at z'; cases z'
        · simp only [d1, d2, i1, or_self, if_false, decide_false, Bool.not_false, Bool.and_false]
          exact ⟨rfl, rfl, rfl, rfl⟩
    · intro z
      have z' : (!(decide (lg_cmp B.gr (-9223372036854775808) = 0) || decide (lg_cmp A.le 9223372036854775807 = 0))) = false := z
      by_cases d1 : lg_cmp B.gr (-9223372036854775808) = 0
      · left
        simp only [d1, i1, decide_true, decide_false, Bool.not_false, Bool.and_true]; rfl
      · by_cases d2 : lg_cmp A.le 9223372036854775807 = 0
        · right
          simp only [d2, i1, decide_true, decide_false, Bool.not_false, Bool.and_true]; rfl
        · rw [decide_eq_false d1, decide_eq_false d2] at z'; cases z'
    · have y1 : vp_in 4 (mN N 466) := by rw [h.N466]; exact rk4
      have y2 : vp_in 3 (mN N 465) := by rw [h.N465]; exact rk3
      exact ⟨fun z => absurd z (by decide : ¬ Int32.ofNat 6 = 0), fun _ => ⟨fun z => absurd z (by decide : ¬ Int32.ofNat 6 = 1), fun _ => ⟨fun z => absurd z (by decide : ¬ Int32.ofNat 6 = 2), fun _ => ⟨fun z => absurd z (by decide : ¬ Int32.ofNat 6 = 3), fun _ => ⟨fun z => absurd z (by decide : ¬ Int32.ofNat 6 = 4), fun _ => ⟨fun z => absurd z (by decide : ¬ Int32.ofNat 6 = 5), fun _ => ⟨fun _ => ⟨sT, h.T466, y1, sT, h.T465, y2, sT, p1, z⟩, fun z => absurd (by decide : Int32.ofNat 6 = 6) z⟩⟩⟩⟩⟩⟩⟩
  · obtain ⟨p1, p2⟩ := t_orderL h rk0 rk1 (by decide) B.gr A.le 0 (by rw [i32_0]; exact e0) (by rw [i32_1]; exact e1)
    rw [i32_0, i32_1, v0, v1] at p2
    rw [if_neg (by decide : ¬ Int32.ofNat 7 = 0), if_neg (by decide : ¬ Int32.ofNat 7 = 1), if_neg (by decide : ¬ Int32.ofNat 7 = 2), if_neg (by decide : ¬ Int32.ofNat 7 = 3), if_neg (by decide : ¬ Int32.ofNat 7 = 4), if_neg (by decide : ¬ Int32.ofNat 7 = 5), if_neg (by decide : ¬ Int32.ofNat 7 = 6), if_pos (by decide : Int32.ofNat 7 = 7), h.R460_5, h.R460_4, i32_3, i32_4, gr4, le3, p2]
    refine ⟨_, ⟨_, _, _, _, rfl, bu_grTo bA, bu_leTo bB, bI_01 _, bI_01 _, ?_, ?_⟩, rfl, fun z => ?_⟩
    · intro z
      simp only [true_or, if_true, decide_true, Bool.not_true, Bool.false_and]
      refine ⟨?_, ?_, rfl, rfl⟩
      · show _ = A.grTo (g_Math_min_JJ A.gr (B.gr - 0))
        rw [Int64.sub_zero]
      · show _ = B.leTo (g_Math_max B.le (A.le + 0))
        rw [Int64.add_zero]
    · intro z
      exact absurd (show true = false from z) (by decide)
    · have y1 : vp_in 4 (mN N 466) := by rw [h.N466]; exact rk4
      have y2 : vp_in 3 (mN N 465) := by rw [h.N465]; exact rk3
      exact ⟨fun z => absurd z (by decide : ¬ Int32.ofNat 7 = 0), fun _ => ⟨fun z => absurd z (by decide : ¬ Int32.ofNat 7 = 1), fun _ => ⟨fun z => absurd z (by decide : ¬ Int32.ofNat 7 = 2), fun _ => ⟨fun z => absurd z (by decide : ¬ Int32.ofNat 7 = 3), fun _ => ⟨fun z => absurd z (by decide : ¬ Int32.ofNat 7 = 4), fun _ => ⟨fun z => absurd z (by decide : ¬ Int32.ofNat 7 = 5), fun _ => ⟨fun z => absurd z (by decide : ¬ Int32.ofNat 7 = 6), fun _ => ⟨fun _ => ⟨sT, h.T466, y1, sT, h.T465, y2, sT, p1, z⟩, fun z => absurd (by decide : Int32.ofNat 7 = 7) z⟩⟩⟩⟩⟩⟩⟩⟩
  · obtain ⟨p1, p2⟩ := t_orderL h rk1 rk0 (by decide) A.gr B.le 1 (by rw [i32_1]; exact e1) (by rw [i32_0]; exact e0)
    rw [i32_1, i32_0, v1, v0] at p2
    rw [if_neg (by decide : ¬ Int32.ofNat 8 = 0), if_neg (by decide : ¬ Int32.ofNat 8 = 1), if_neg (by decide : ¬ Int32.ofNat 8 = 2), if_neg (by decide : ¬ Int32.ofNat 8 = 3), if_neg (by decide : ¬ Int32.ofNat 8 = 4), if_neg (by decide : ¬ Int32.ofNat 8 = 5), if_neg (by decide : ¬ Int32.ofNat 8 = 6), if_neg (by decide : ¬ Int32.ofNat 8 = 7), if_pos (by decide : Int32.ofNat 8 = 8), h.R460_5, h.R460_4, i32_3, i32_4, gr3, le4, p2]
    refine ⟨_, ⟨_, _, _, _, sR_comm (by decide), bu_leTo bA, bu_grTo bB, bI_01 _, bI_01 _, ?_, ?_⟩, rfl, fun z => ?_⟩
    · intro z
      have z' : (!(decide (lg_cmp A.gr (-9223372036854775808) = 0) || decide (lg_cmp B.le 9223372036854775807 = 0))) = true := z
      by_cases d1 : lg_cmp A.gr (-9223372036854775808) = 0
      · rw [decide_eq_true d1] at z'; cases z'
      · by_cases d2 : lg_cmp B.le 9223372036854775807 = 0
        · rw [decide_eq_true d2, Bool.or_true] at z'; cases z'
        · simp only [d1, d2, i1, or_self, if_false, decide_false, Bool.not_false, Bool.and_false]
          exact ⟨rfl, rfl, rfl, rfl⟩
    · intro z
      have z' : (!(decide (lg_cmp A.gr (-9223372036854775808) = 0) || decide (lg_cmp B.le 9223372036854775807 = 0))) = false := z
      by_cases d1 : lg_cmp A.gr (-9223372036854775808) = 0
      · right
        simp only [d1, i1, decide_true, decide_false, Bool.not_false, Bool.and_true]; rfl
      · by_cases d2 : lg_cmp B.le 9223372036854775807 = 0
        · left
          simp only [d2, i1, decide_true, decide_false, Bool.not_false, Bool.and_true]; rfl
        · rw [decide_eq_false d1, decide_eq_false d2] at z'; cases z'
    · have y1 : vp_in 3 (mN N 466) := by rw [h.N466]; exact rk3
      have y2 : vp_in 4 (mN N 465) := by rw [h.N465]; exact rk4
      exact ⟨fun z => absurd z (by decide : ¬ Int32.ofNat 8 = 0), fun _ => ⟨fun z => absurd z (by decide : ¬ Int32.ofNat 8 = 1), fun _ => ⟨fun z => absurd z (by decide : ¬ Int32.ofNat 8 = 2), fun _ => ⟨fun z => absurd z (by decide : ¬ Int32.ofNat 8 = 3), fun _ => ⟨fun z => absurd z (by decide : ¬ Int32.ofNat 8 = 4), fun _ => ⟨fun z => absurd z (by decide : ¬ Int32.ofNat 8 = 5), fun _ => ⟨fun z => absurd z (by decide : ¬ Int32.ofNat 8 = 6), fun _ => ⟨fun z => absurd z (by decide : ¬ Int32.ofNat 8 = 7), fun _ => ⟨fun _ => ⟨sT, h.T466, y1, sT, h.T465, y2, sT, p1, z⟩, fun z => absurd (by decide : Int32.ofNat 8 = 8) z⟩⟩⟩⟩⟩⟩⟩⟩⟩
  · obtain ⟨p1, p2⟩ := t_orderL h rk1 rk0 (by decide) A.gr B.le 0 (by rw [i32_1]; exact e1) (by rw [i32_0]; exact e0)
    rw [i32_1, i32_0, v1, v0] at p2
    rw [if_neg (by decide : ¬ Int32.ofNat 9 = 0), if_neg (by decide : ¬ Int32.ofNat 9 = 1), if_neg (by decide : ¬ Int32.ofNat 9 = 2), if_neg (by decide : ¬ Int32.ofNat 9 = 3), if_neg (by decide : ¬ Int32.ofNat 9 = 4), if_neg (by decide : ¬ Int32.ofNat 9 = 5), if_neg (by decide : ¬ Int32.ofNat 9 = 6), if_neg (by decide : ¬ Int32.ofNat 9 = 7), if_neg (by decide : ¬ Int32.ofNat 9 = 8), if_pos (by decide : Int32.ofNat 9 = 9), h.R460_5, h.R460_4, i32_3, i32_4, gr3, le4, p2]
    refine ⟨_, ⟨_, _, _, _, sR_comm (by decide), bu_leTo bA, bu_grTo bB, bI_01 _, bI_01 _, ?_, ?_⟩, rfl, fun z => ?_⟩
    · intro z
      simp only [true_or, if_true, decide_true, Bool.not_true, Bool.false_and]
      refine ⟨?_, ?_, rfl, rfl⟩
      · show _ = A.leTo (g_Math_max A.le (B.le + 0))
        rw [Int64.add_zero]
      · show _ = B.grTo (g_Math_min_JJ B.gr (A.gr - 0))
        rw [Int64.sub_zero]
    · intro z
      exact absurd (show true = false from z) (by decide)
    · have y1 : vp_in 3 (mN N 466) := by rw [h.N466]; exact rk3
      have y2 : vp_in 4 (mN N 465) := by rw [h.N465]; exact rk4
      exact ⟨fun z => absurd z (by decide : ¬ Int32.ofNat 9 = 0), fun _ => ⟨fun z => absurd z (by decide : ¬ Int32.ofNat 9 = 1), fun _ => ⟨fun z => absurd z (by decide : ¬ Int32.ofNat 9 = 2), fun _ => ⟨fun z => absurd z (by decide : ¬ Int32.ofNat 9 = 3), fun _ => ⟨fun z => absurd z (by decide : ¬ Int32.ofNat 9 = 4), fun _ => ⟨fun z => absurd z (by decide : ¬ Int32.ofNat 9 = 5), fun _ => ⟨fun z => absurd z (by decide : ¬ Int32.ofNat 9 = 6), fun _ => ⟨fun z => absurd z (by decide : ¬ Int32.ofNat 9 = 7), fun _ => ⟨fun z => absurd z (by decide : ¬ Int32.ofNat 9 = 8), fun _ => ⟨fun _ => ⟨sT, h.T466, y1, sT, h.T465, y2, sT, p1, z⟩, fun z => absurd (by decide : Int32.ofNat 9 = 9) z⟩⟩⟩⟩⟩⟩⟩⟩⟩⟩
  · have O1 := one_eq bA hB
    have O2 := one_eq bB hA
    simp only at O1 O2
    have s1 : Sh (sR N 0 A (bI (decide (lg_cmp ((A.b ||| A.u) &&& (B.b ||| B.u)) 0 = 0)))) := h.kept rfl
    obtain ⟨p1, p2⟩ := t_force s1 rk0 (if lg_cmp B.lo B.hi = 0 then (if g_Sets_isOneBit B.lo = 0 then 0 else B.lo) else 0) 0
    rw [i32_0, tvk_sR, tek_sR, sR_sR, O1.1] at p2
    have fe : (if (bI (decide (lg_cmp ((A.b ||| A.u) &&& (B.b ||| B.u)) 0 = 0))) = 0 then bI (!decide (lg_cmp (A.b &&& 0) 0 = 0) || !decide (lg_cmp (((A.b ||| A.u) ^^^ (-1)) &&& (if lg_cmp B.lo B.hi = 0 then (if g_Sets_isOneBit B.lo = 0 then 0 else B.lo) else 0)) 0 = 0)) else 1) = (bI (decide (lg_cmp ((A.b ||| A.u) &&& (B.b ||| B.u)) 0 = 0))) := by
      have za : lg_cmp (A.b &&& 0) 0 = 0 := cmp_eq.mpr (tb_ext fun j _ => by rw [tb_and, tb_zero]; simp)
      have zb : lg_cmp (((A.b ||| A.u) ^^^ (-1)) &&& 0) 0 = 0 := cmp_eq.mpr (tb_ext fun j _ => by rw [tb_and, tb_zero]; simp)
      by_cases d1 : lg_cmp ((A.b ||| A.u) &&& (B.b ||| B.u)) 0 = 0
      · rw [decide_eq_true d1]; rfl
      · have d2 : lg_cmp (((A.b ||| A.u) ^^^ (-1)) &&& (if lg_cmp B.lo B.hi = 0 then (if g_Sets_isOneBit B.lo = 0 then 0 else B.lo) else 0)) 0 = 0 := Classical.byContradiction fun q => d1 (O1.2 q)
        rw [decide_eq_false d1, decide_eq_true za, decide_eq_true d2]; rfl
    rw [fe] at p2
    have s2 : Sh (sR N 0 (stV A B) (bI (decide (lg_cmp ((A.b ||| A.u) &&& (B.b ||| B.u)) 0 = 0)))) := h.kept rfl
    obtain ⟨q1, q2⟩ := t_force s2 rk1 (if lg_cmp A.lo A.hi = 0 then (if g_Sets_isOneBit A.lo = 0 then 0 else A.lo) else 0) 0
    rw [i32_1, tvk_sRne _ _ _ (by decide), tek_sRne _ _ _ (by decide), v1, e1, O2.1, if_pos rfl] at q2
    have wI0 : ∀ e, wI N 467 0 e = sR N 0 A e := fun e => by rw [sR_wI, v0]
    have lo4' : ∀ w e, mL (sR N 0 w e) 463 4 = B.lo := fun w e => by rw [mL_sRne _ _ _ (by decide)]; exact lo4
    have lo3' : ∀ w e, mL (sR N 0 w e) 463 3 = A.lo := fun w e => by rw [mL_sRne _ _ _ (by decide)]; exact lo3
    have hOut : Out N 10 A B (sR (sR N 0 (stV A B) (bI (decide (lg_cmp ((A.b ||| A.u) &&& (B.b ||| B.u)) 0 = 0)))) 1 (stV B A) (bI (!decide (lg_cmp (B.b &&& 0) 0 = 0) || !decide (lg_cmp (((B.b ||| B.u) ^^^ (-1)) &&& (if lg_cmp A.lo A.hi = 0 then (if g_Sets_isOneBit A.lo = 0 then 0 else A.lo) else 0)) 0 = 0)))) := by
      have za : lg_cmp (B.b &&& 0) 0 = 0 := cmp_eq.mpr (tb_ext fun j _ => by rw [tb_and, tb_zero]; simp)
      have zb : lg_cmp (((B.b ||| B.u) ^^^ (-1)) &&& 0) 0 = 0 := cmp_eq.mpr (tb_ext fun j _ => by rw [tb_and, tb_zero]; simp)
      refine ⟨_, _, _, _, rfl, bu_st bA, bu_st bB, bI_01 _, bI_01 _, ?_, ?_⟩
      · intro z
        have z' : (!decide (lg_cmp ((A.b ||| A.u) &&& (B.b ||| B.u)) 0 = 0)) = true := z
        have d1 : ¬ lg_cmp ((A.b ||| A.u) &&& (B.b ||| B.u)) 0 = 0 := fun q => by rw [decide_eq_true q] at z'; cases z'
        have d2 : lg_cmp (((B.b ||| B.u) ^^^ (-1)) &&& (if lg_cmp A.lo A.hi = 0 then (if g_Sets_isOneBit A.lo = 0 then 0 else A.lo) else 0)) 0 = 0 := Classical.byContradiction fun q => d1 (by rw [and_comm64]; exact O2.2 q)
        rw [decide_eq_false d1, decide_eq_true za, decide_eq_true d2]
        exact ⟨rfl, rfl, rfl, rfl⟩
      · intro z
        have z' : (!decide (lg_cmp ((A.b ||| A.u) &&& (B.b ||| B.u)) 0 = 0)) = false := z
        left
        by_cases d1 : lg_cmp ((A.b ||| A.u) &&& (B.b ||| B.u)) 0 = 0
        · rw [decide_eq_true d1]; rfl
        · rw [decide_eq_false d1] at z'; cases z'
    rw [if_neg (by decide : ¬ Int32.ofNat 10 = 0), if_neg (by decide : ¬ Int32.ofNat 10 = 1), if_neg (by decide : ¬ Int32.ofNat 10 = 2), if_neg (by decide : ¬ Int32.ofNat 10 = 3), if_neg (by decide : ¬ Int32.ofNat 10 = 4), if_neg (by decide : ¬ Int32.ofNat 10 = 5), if_neg (by decide : ¬ Int32.ofNat 10 = 6), if_neg (by decide : ¬ Int32.ofNat 10 = 7), if_neg (by decide : ¬ Int32.ofNat 10 = 8), if_neg (by decide : ¬ Int32.ofNat 10 = 9), if_pos (by decide : Int32.ofNat 10 = 10)]
    have tail : g_Sets_refine_350 460 (sR N 0 A (bI (decide (lg_cmp ((A.b ||| A.u) &&& (B.b ||| B.u)) 0 = 0)))) = g_Sets_refine_511 460 (sR (sR N 0 (stV A B) (bI (decide (lg_cmp ((A.b ||| A.u) &&& (B.b ||| B.u)) 0 = 0)))) 1 (stV B A) (bI (!decide (lg_cmp (B.b &&& 0) 0 = 0) || !decide (lg_cmp (((B.b ||| B.u) ^^^ (-1)) &&& (if lg_cmp A.lo A.hi = 0 then (if g_Sets_isOneBit A.lo = 0 then 0 else A.lo) else 0)) 0 = 0)))) := by
      have x1 : g_Sets_refine_350 460 (sR N 0 A (bI (decide (lg_cmp ((A.b ||| A.u) &&& (B.b ||| B.u)) 0 = 0)))) = g_Sets_refine_386 460 (g_Sets_force 460 0 (if lg_cmp B.lo B.hi = 0 then (if g_Sets_isOneBit B.lo = 0 then 0 else B.lo) else 0) 0 (sR N 0 A (bI (decide (lg_cmp ((A.b ||| A.u) &&& (B.b ||| B.u)) 0 = 0))))) := by
        unfold g_Sets_refine_350 g_Sets_refine_381 g_Sets_refine_382
        rw [g4', mR_sR, h.R460_2, i32_4, lo4']
        by_cases d1 : lg_cmp B.lo B.hi = 0
        · rw [if_pos d1, if_neg i1, if_pos d1]
          by_cases d2 : g_Sets_isOneBit B.lo = 0
          · rw [if_pos d2, if_pos d2]
          · rw [if_neg d2, if_neg d2]
        · rw [if_neg d1, if_pos rfl, if_neg d1]
      rw [x1, p2]
      unfold g_Sets_refine_386 g_Sets_refine_417 g_Sets_refine_418
      rw [g3, mR_sR, h.R460_2, i32_3, lo3']
      refine Eq.trans ?_ (congrArg (g_Sets_refine_511 460) q2)
      by_cases d1 : lg_cmp A.lo A.hi = 0
      · rw [if_pos d1, if_neg i1, if_pos d1]
        by_cases d2 : g_Sets_isOneBit A.lo = 0
        · rw [if_pos d2, if_pos d2]
        · rw [if_neg d2, if_neg d2]
      · rw [if_neg d1, if_pos rfl, if_neg d1]
    have ktail : K_Sets_refine_511 460 (sR (sR N 0 (stV A B) (bI (decide (lg_cmp ((A.b ||| A.u) &&& (B.b ||| B.u)) 0 = 0)))) 1 (stV B A) (bI (!decide (lg_cmp (B.b &&& 0) 0 = 0) || !decide (lg_cmp (((B.b ||| B.u) ^^^ (-1)) &&& (if lg_cmp A.lo A.hi = 0 then (if g_Sets_isOneBit A.lo = 0 then 0 else A.lo) else 0)) 0 = 0)))) → K_Sets_refine_350 460 (sR N 0 A (bI (decide (lg_cmp ((A.b ||| A.u) &&& (B.b ||| B.u)) 0 = 0)))) := by
      intro z
      have kf : ∀ a b w e, K_Sets_force 460 0 a b (sR N 0 w e) := fun a b w e => (t_force (M := sR N 0 w e) (h.kept rfl) rk0 a b).1
      have kg : ∀ a b w e, K_Sets_force 460 1 a b (sR N 0 w e) := fun a b w e => (t_force (M := sR N 0 w e) (h.kept rfl) rk1 a b).1
      have x2 : K_Sets_refine_386 460 (sR N 0 (stV A B) (bI (decide (lg_cmp ((A.b ||| A.u) &&& (B.b ||| B.u)) 0 = 0)))) := by
        unfold K_Sets_refine_386 K_Sets_refine_417 K_Sets_refine_418
        rw [g3]
        simp only [mR_sR, mT_sR, mN_sR, h.R460_2, i32_3, lo3', h.T460, h.T463, h.N463, rk3', k3, kg, true_and]
        rw [← q2] at z
        by_cases d1 : lg_cmp A.lo A.hi = 0
        · rw [if_pos d1] at z ⊢
          refine ⟨fun w => absurd w i1, fun _ => ⟨fun d2 => ?_, fun d2 => ?_⟩⟩
          · rw [if_pos d2] at z; exact z
          · rw [if_neg d2] at z; exact z
        · rw [if_neg d1] at z ⊢
          exact ⟨fun _ => z, fun w => absurd rfl w⟩
      rw [← p2] at x2
      unfold K_Sets_refine_350 K_Sets_refine_381 K_Sets_refine_382
      rw [g4']
      simp only [mR_sR, mT_sR, mN_sR, h.R460_2, i32_4, lo4', h.T460, h.T463, h.N463, rk4', k4', kf, true_and]
      by_cases d1 : lg_cmp B.lo B.hi = 0
      · rw [if_pos d1] at x2 ⊢
        refine ⟨fun w => absurd w i1, fun _ => ⟨fun d2 => ?_, fun d2 => ?_⟩⟩
        · rw [if_pos d2] at x2; exact x2
        · rw [if_neg d2] at x2; exact x2
      · rw [if_neg d1] at x2 ⊢
        exact ⟨fun _ => x2, fun w => absurd rfl w⟩
    refine ⟨_, hOut, ?_, fun z => ?_⟩
    · rw [← tail]
      rw [h.R460_6, i32_0, i32_3, i32_4, h.R460_0, h.R460_1, b3, b4, u3', u4, tke, e0, if_pos rfl]
      unfold g_Sets_refine_344 g_Sets_refine_349
      rw [i32_0, jz0, jz1, wI0, wI0]
      by_cases d1 : lg_cmp ((A.b ||| A.u) &&& (B.b ||| B.u)) 0 = 0
      · rw [if_pos d1, decide_eq_true d1]; rfl
      · rw [if_neg d1, decide_eq_false d1]; rfl
    · have kz := ktail z
      have y0 : vp_in 0 (mN N 467) := by rw [h.N467]; exact rk0
      have body : ∀ q, q = (bI (decide (lg_cmp ((A.b ||| A.u) &&& (B.b ||| B.u)) 0 = 0))) → K_Sets_refine_349 460 467 0 q N := fun q hq => by
        unfold K_Sets_refine_349
        rw [i32_0, hq, jz_bI, wI0]
        exact ⟨h.T467, y0, kz⟩
      have y3 : vp_in 3 (mN N 461) := by rw [h.N461]; exact rk3
      have y3' : vp_in 3 (mN N 462) := by rw [h.N462]; exact rk3
      have y4 : vp_in 4 (mN N 461) := by rw [h.N461]; exact rk4
      have y4' : vp_in 4 (mN N 462) := by rw [h.N462]; exact rk4
      have z0 : mI N 467 0 = 0 := e0
      rw [h.R460_6, h.R460_0, h.R460_1, i32_0, i32_3, i32_4, b3, b4, u3', u4]
      exact ⟨fun z => absurd z (by decide : ¬ Int32.ofNat 10 = 0), fun _ => ⟨fun z => absurd z (by decide : ¬ Int32.ofNat 10 = 1), fun _ => ⟨fun z => absurd z (by decide : ¬ Int32.ofNat 10 = 2), fun _ => ⟨fun z => absurd z (by decide : ¬ Int32.ofNat 10 = 3), fun _ => ⟨fun z => absurd z (by decide : ¬ Int32.ofNat 10 = 4), fun _ => ⟨fun z => absurd z (by decide : ¬ Int32.ofNat 10 = 5), fun _ => ⟨fun z => absurd z (by decide : ¬ Int32.ofNat 10 = 6), fun _ => ⟨fun z => absurd z (by decide : ¬ Int32.ofNat 10 = 7), fun _ => ⟨fun z => absurd z (by decide : ¬ Int32.ofNat 10 = 8), fun _ => ⟨fun z => absurd z (by decide : ¬ Int32.ofNat 10 = 9), fun _ => ⟨fun _ => ⟨sT, sT, h.T467, y0, fun _ => ⟨sT, h.T461, y3, sT, h.T462, y3', sT, h.T461, y4, sT, h.T462, y4', fun d1 => body 1 (by rw [decide_eq_true d1]; rfl), fun d1 => body 0 (by rw [decide_eq_false d1]; rfl)⟩, fun q => absurd z0 q⟩, fun z => absurd (by decide : Int32.ofNat 10 = 10) z⟩⟩⟩⟩⟩⟩⟩⟩⟩⟩⟩
  · have O1 := zer_eq bA hB
    have O2 := zer_eq bB hA
    simp only at O1 O2
    have s1 : Sh (sR N 0 A (bI (!decide (lg_cmp (A.b &&& B.b) 0 = 0)))) := h.kept rfl
    obtain ⟨p1, p2⟩ := t_force s1 rk0 0 (if lg_cmp B.lo B.hi = 0 then B.lo else 0)
    rw [i32_0, tvk_sR, tek_sR, sR_sR, O1.1] at p2
    have fe : (if (bI (!decide (lg_cmp (A.b &&& B.b) 0 = 0))) = 0 then bI (!decide (lg_cmp (A.b &&& (if lg_cmp B.lo B.hi = 0 then B.lo else 0)) 0 = 0) || !decide (lg_cmp (((A.b ||| A.u) ^^^ (-1)) &&& 0) 0 = 0)) else 1) = (bI (!decide (lg_cmp (A.b &&& B.b) 0 = 0))) := by
      have za : lg_cmp (A.b &&& 0) 0 = 0 := cmp_eq.mpr (tb_ext fun j _ => by rw [tb_and, tb_zero]; simp)
      have zb : lg_cmp (((A.b ||| A.u) ^^^ (-1)) &&& 0) 0 = 0 := cmp_eq.mpr (tb_ext fun j _ => by rw [tb_and, tb_zero]; simp)
      by_cases d1 : lg_cmp (A.b &&& B.b) 0 = 0
      · have d2 : lg_cmp (A.b &&& (if lg_cmp B.lo B.hi = 0 then B.lo else 0)) 0 = 0 := Classical.byContradiction fun q => O1.2 q d1
        rw [decide_eq_true d1, decide_eq_true zb, decide_eq_true d2]; rfl
      · rw [decide_eq_false d1]; rfl
    rw [fe] at p2
    have s2 : Sh (sR N 0 (clV A B) (bI (!decide (lg_cmp (A.b &&& B.b) 0 = 0)))) := h.kept rfl
    obtain ⟨q1, q2⟩ := t_force s2 rk1 0 (if lg_cmp A.lo A.hi = 0 then A.lo else 0)
    rw [i32_1, tvk_sRne _ _ _ (by decide), tek_sRne _ _ _ (by decide), v1, e1, O2.1, if_pos rfl] at q2
    have wI0 : ∀ e, wI N 467 0 e = sR N 0 A e := fun e => by rw [sR_wI, v0]
    have lo4' : ∀ w e, mL (sR N 0 w e) 463 4 = B.lo := fun w e => by rw [mL_sRne _ _ _ (by decide)]; exact lo4
    have lo3' : ∀ w e, mL (sR N 0 w e) 463 3 = A.lo := fun w e => by rw [mL_sRne _ _ _ (by decide)]; exact lo3
    have hOut : Out N 11 A B (sR (sR N 0 (clV A B) (bI (!decide (lg_cmp (A.b &&& B.b) 0 = 0)))) 1 (clV B A) (bI (!decide (lg_cmp (B.b &&& (if lg_cmp A.lo A.hi = 0 then A.lo else 0)) 0 = 0) || !decide (lg_cmp (((B.b ||| B.u) ^^^ (-1)) &&& 0) 0 = 0)))) := by
      have za : lg_cmp (B.b &&& 0) 0 = 0 := cmp_eq.mpr (tb_ext fun j _ => by rw [tb_and, tb_zero]; simp)
      have zb : lg_cmp (((B.b ||| B.u) ^^^ (-1)) &&& 0) 0 = 0 := cmp_eq.mpr (tb_ext fun j _ => by rw [tb_and, tb_zero]; simp)
      refine ⟨_, _, _, _, rfl, bu_cl bA, bu_cl bB, bI_01 _, bI_01 _, ?_, ?_⟩
      · intro z
        have d1 : lg_cmp (A.b &&& B.b) 0 = 0 := of_decide_eq_true z
        have d2 : lg_cmp (B.b &&& (if lg_cmp A.lo A.hi = 0 then A.lo else 0)) 0 = 0 := Classical.byContradiction fun q => O2.2 q (by rw [and_comm64]; exact d1)
        rw [decide_eq_true d1, decide_eq_true zb, decide_eq_true d2]
        exact ⟨rfl, rfl, rfl, rfl⟩
      · intro z
        have d1 : ¬ lg_cmp (A.b &&& B.b) 0 = 0 := of_decide_eq_false z
        left
        rw [decide_eq_false d1]; rfl
    rw [if_neg (by decide : ¬ Int32.ofNat 11 = 0), if_neg (by decide : ¬ Int32.ofNat 11 = 1), if_neg (by decide : ¬ Int32.ofNat 11 = 2), if_neg (by decide : ¬ Int32.ofNat 11 = 3), if_neg (by decide : ¬ Int32.ofNat 11 = 4), if_neg (by decide : ¬ Int32.ofNat 11 = 5), if_neg (by decide : ¬ Int32.ofNat 11 = 6), if_neg (by decide : ¬ Int32.ofNat 11 = 7), if_neg (by decide : ¬ Int32.ofNat 11 = 8), if_neg (by decide : ¬ Int32.ofNat 11 = 9), if_neg (by decide : ¬ Int32.ofNat 11 = 10)]
    have tail : g_Sets_refine_463 460 (sR N 0 A (bI (!decide (lg_cmp (A.b &&& B.b) 0 = 0)))) = g_Sets_refine_511 460 (sR (sR N 0 (clV A B) (bI (!decide (lg_cmp (A.b &&& B.b) 0 = 0)))) 1 (clV B A) (bI (!decide (lg_cmp (B.b &&& (if lg_cmp A.lo A.hi = 0 then A.lo else 0)) 0 = 0) || !decide (lg_cmp (((B.b ||| B.u) ^^^ (-1)) &&& 0) 0 = 0)))) := by
      have x1 : g_Sets_refine_463 460 (sR N 0 A (bI (!decide (lg_cmp (A.b &&& B.b) 0 = 0)))) = g_Sets_refine_487 460 (g_Sets_force 460 0 0 (if lg_cmp B.lo B.hi = 0 then B.lo else 0) (sR N 0 A (bI (!decide (lg_cmp (A.b &&& B.b) 0 = 0))))) := by
        unfold g_Sets_refine_463 g_Sets_refine_484
        rw [g4', mR_sR, h.R460_2, i32_4, lo4']
        by_cases d1 : lg_cmp B.lo B.hi = 0
        · rw [if_pos d1, if_neg i1, if_pos d1]
        · rw [if_neg d1, if_pos rfl, if_neg d1]
      rw [x1, p2]
      unfold g_Sets_refine_487 g_Sets_refine_508
      rw [g3, mR_sR, h.R460_2, i32_3, lo3']
      refine Eq.trans ?_ (congrArg (g_Sets_refine_511 460) q2)
      by_cases d1 : lg_cmp A.lo A.hi = 0
      · rw [if_pos d1, if_neg i1, if_pos d1]
      · rw [if_neg d1, if_pos rfl, if_neg d1]
    have ktail : K_Sets_refine_511 460 (sR (sR N 0 (clV A B) (bI (!decide (lg_cmp (A.b &&& B.b) 0 = 0)))) 1 (clV B A) (bI (!decide (lg_cmp (B.b &&& (if lg_cmp A.lo A.hi = 0 then A.lo else 0)) 0 = 0) || !decide (lg_cmp (((B.b ||| B.u) ^^^ (-1)) &&& 0) 0 = 0)))) → K_Sets_refine_463 460 (sR N 0 A (bI (!decide (lg_cmp (A.b &&& B.b) 0 = 0)))) := by
      intro z
      have kf : ∀ a b w e, K_Sets_force 460 0 a b (sR N 0 w e) := fun a b w e => (t_force (M := sR N 0 w e) (h.kept rfl) rk0 a b).1
      have kg : ∀ a b w e, K_Sets_force 460 1 a b (sR N 0 w e) := fun a b w e => (t_force (M := sR N 0 w e) (h.kept rfl) rk1 a b).1
      have x2 : K_Sets_refine_487 460 (sR N 0 (clV A B) (bI (!decide (lg_cmp (A.b &&& B.b) 0 = 0)))) := by
        unfold K_Sets_refine_487 K_Sets_refine_508
        rw [g3]
        simp only [mR_sR, mT_sR, mN_sR, h.R460_2, i32_3, lo3', h.T460, h.T463, h.N463, rk3', k3, kg, true_and]
        rw [← q2] at z
        by_cases d1 : lg_cmp A.lo A.hi = 0
        · rw [if_pos d1] at z ⊢
          exact ⟨fun w => absurd w i1, fun _ => z⟩
        · rw [if_neg d1] at z ⊢
          exact ⟨fun _ => z, fun w => absurd rfl w⟩
      rw [← p2] at x2
      unfold K_Sets_refine_463 K_Sets_refine_484
      rw [g4']
      simp only [mR_sR, mT_sR, mN_sR, h.R460_2, i32_4, lo4', h.T460, h.T463, h.N463, rk4', k4', kf, true_and]
      by_cases d1 : lg_cmp B.lo B.hi = 0
      · rw [if_pos d1] at x2 ⊢
        exact ⟨fun w => absurd w i1, fun _ => x2⟩
      · rw [if_neg d1] at x2 ⊢
        exact ⟨fun _ => x2, fun w => absurd rfl w⟩
    refine ⟨_, hOut, ?_, fun z => ?_⟩
    · rw [← tail]
      rw [h.R460_6, i32_0, i32_3, i32_4, h.R460_0, b3, b4, tke, e0, if_pos rfl]
      unfold g_Sets_refine_457 g_Sets_refine_462
      rw [i32_0, jz0, jz1, wI0, wI0]
      by_cases d1 : lg_cmp (A.b &&& B.b) 0 = 0
      · rw [if_pos d1, decide_eq_true d1]; rfl
      · rw [if_neg d1, decide_eq_false d1]; rfl
    · have kz := ktail z
      have y0 : vp_in 0 (mN N 467) := by rw [h.N467]; exact rk0
      have body : ∀ q, q = (bI (!decide (lg_cmp (A.b &&& B.b) 0 = 0))) → K_Sets_refine_462 460 467 0 q N := fun q hq => by
        unfold K_Sets_refine_462
        rw [i32_0, hq, jz_bI, wI0]
        exact ⟨h.T467, y0, kz⟩
      have y3 : vp_in 3 (mN N 461) := by rw [h.N461]; exact rk3
      have y4 : vp_in 4 (mN N 461) := by rw [h.N461]; exact rk4
      have z0 : mI N 467 0 = 0 := e0
      rw [h.R460_6, h.R460_0, i32_0, i32_3, i32_4, b3, b4]
      exact ⟨fun z => absurd z (by decide : ¬ Int32.ofNat 11 = 0), fun _ => ⟨fun z => absurd z (by decide : ¬ Int32.ofNat 11 = 1), fun _ => ⟨fun z => absurd z (by decide : ¬ Int32.ofNat 11 = 2), fun _ => ⟨fun z => absurd z (by decide : ¬ Int32.ofNat 11 = 3), fun _ => ⟨fun z => absurd z (by decide : ¬ Int32.ofNat 11 = 4), fun _ => ⟨fun z => absurd z (by decide : ¬ Int32.ofNat 11 = 5), fun _ => ⟨fun z => absurd z (by decide : ¬ Int32.ofNat 11 = 6), fun _ => ⟨fun z => absurd z (by decide : ¬ Int32.ofNat 11 = 7), fun _ => ⟨fun z => absurd z (by decide : ¬ Int32.ofNat 11 = 8), fun _ => ⟨fun z => absurd z (by decide : ¬ Int32.ofNat 11 = 9), fun _ => ⟨fun z => absurd z (by decide : ¬ Int32.ofNat 11 = 10), fun _ => ⟨sT, sT, h.T467, y0, fun _ => ⟨sT, h.T461, y3, sT, h.T461, y4, fun d1 => body 0 (by rw [decide_eq_true d1]; rfl), fun d1 => body 1 (by rw [decide_eq_false d1]; rfl)⟩, fun q => absurd z0 q⟩⟩⟩⟩⟩⟩⟩⟩⟩⟩⟩⟩
theorem t_refines {M : XM} (h : Sh M) {a b : Int32} {c : Nat} (hc : c < 12) (ra : rk a) (rb : rk b) (ga : 4 < ix a) (gb : 4 < ix b) (hA : Tt (tvk M (ix a))) (hB : Tt (tvk M (ix b))) (ea : tek M (ix a) = 0) (eb : tek M (ix b) = 0) :
    K_Sets_refines 460 (Int32.ofNat c) a b M ∧ FrT (fun q => q ≤ 4) M (g_Sets_refines 460 (Int32.ofNat c) a b M).2 ∧
    (((g_Sets_refines 460 (Int32.ofNat c) a b M).1 = 1 ∧ rfOk c (tvk M (ix a)) (tvk M (ix b)) = true ∧ IsT (vin (rfX c (tvk M (ix a)) (tvk M (ix b)))) (tite (rfX c (tvk M (ix a)) (tvk M (ix b)))) ∧ IsT (vin (rfY c (tvk M (ix a)) (tvk M (ix b)))) (tite (rfY c (tvk M (ix a)) (tvk M (ix b)))) ∧ tvk (g_Sets_refines 460 (Int32.ofNat c) a b M).2 0 = tite (rfX c (tvk M (ix a)) (tvk M (ix b))) ∧ tvk (g_Sets_refines 460 (Int32.ofNat c) a b M).2 1 = tite (rfY c (tvk M (ix a)) (tvk M (ix b))) ∧ tek (g_Sets_refines 460 (Int32.ofNat c) a b M).2 0 = 0 ∧ tek (g_Sets_refines 460 (Int32.ofNat c) a b M).2 1 = 0) ∨
     ((g_Sets_refines 460 (Int32.ofNat c) a b M).1 = 0 ∧ ¬ (rfOk c (tvk M (ix a)) (tvk M (ix b)) = true ∧ (∃ z, vin (rfX c (tvk M (ix a)) (tvk M (ix b))) z) ∧ ∃ z, vin (rfY c (tvk M (ix a)) (tvk M (ix b))) z))) := by
  have t1 := t_copy h a 0
  rw [i32_0, ea, jz0] at t1
  have k1 := kt_copy h ra rk0
  have s1 : Sh (sR M 0 (tvk M (ix a)) 0) := h.kept rfl
  have t2 := t_copy s1 b 1
  have k2 := kt_copy s1 rb rk1
  rw [i32_1, tvk_sRne _ _ _ (by omega), tek_sRne _ _ _ (by omega), eb, jz0] at t2
  have s2 : Sh (sR (sR M 0 (tvk M (ix a)) 0) 1 (tvk M (ix b)) 0) := h.kept rfl
  have t3 := t_copy s2 0 3
  have k3 := kt_copy s2 rk0 rk3
  rw [i32_0, i32_3, tvk_sRne _ _ _ (by decide), tvk_sR, tek_sRne _ _ _ (by decide), tek_sR, jz0] at t3
  have s3 : Sh (sR (sR (sR M 0 (tvk M (ix a)) 0) 1 (tvk M (ix b)) 0) 3 (tvk M (ix a)) 0) := h.kept rfl
  have t4 := t_copy s3 1 4
  have k4 := kt_copy s3 rk1 rk4
  rw [i32_1, i32_4, tvk_sRne _ _ _ (by decide), tvk_sR, tek_sRne _ _ _ (by decide), tek_sR, jz0] at t4
  unfold g_Sets_refines K_Sets_refines g_Sets_refines_0 K_Sets_refines_0 g_Sets_refines_6 K_Sets_refines_6 g_Sets_refines_12 K_Sets_refines_12 g_Sets_refine K_Sets_refine g_Sets_refine_0 K_Sets_refine_0 g_Sets_refine_6 K_Sets_refine_6
  rw [t1, t2, t3, t4]
  have f4 : FrT (fun q => q ≤ 4) M (sR (sR (sR (sR M 0 (tvk M (ix a)) 0) 1 (tvk M (ix b)) 0) 3 (tvk M (ix a)) 0) 4 (tvk M (ix b)) 0) := (FrT.sr (by decide)).trans ((FrT.sr (by decide)).trans ((FrT.sr (by decide)).trans (FrT.sr (by decide))))
  have s4 := f4.sh h
  have v0 : tvk (sR (sR (sR (sR M 0 (tvk M (ix a)) 0) 1 (tvk M (ix b)) 0) 3 (tvk M (ix a)) 0) 4 (tvk M (ix b)) 0) 0 = tvk M (ix a) := by rw [tvk_sRne _ _ _ (by decide), tvk_sRne _ _ _ (by decide), tvk_sRne _ _ _ (by decide), tvk_sR]
  have v1 : tvk (sR (sR (sR (sR M 0 (tvk M (ix a)) 0) 1 (tvk M (ix b)) 0) 3 (tvk M (ix a)) 0) 4 (tvk M (ix b)) 0) 1 = tvk M (ix b) := by rw [tvk_sRne _ _ _ (by decide), tvk_sRne _ _ _ (by decide), tvk_sR]
  have v3 : tvk (sR (sR (sR (sR M 0 (tvk M (ix a)) 0) 1 (tvk M (ix b)) 0) 3 (tvk M (ix a)) 0) 4 (tvk M (ix b)) 0) 3 = tvk M (ix a) := by rw [tvk_sRne _ _ _ (by decide), tvk_sR]
  have v4 : tvk (sR (sR (sR (sR M 0 (tvk M (ix a)) 0) 1 (tvk M (ix b)) 0) 3 (tvk M (ix a)) 0) 4 (tvk M (ix b)) 0) 4 = tvk M (ix b) := tvk_sR _ _ _ _
  have w0 : tek (sR (sR (sR (sR M 0 (tvk M (ix a)) 0) 1 (tvk M (ix b)) 0) 3 (tvk M (ix a)) 0) 4 (tvk M (ix b)) 0) 0 = 0 := by rw [tek_sRne _ _ _ (by decide), tek_sRne _ _ _ (by decide), tek_sRne _ _ _ (by decide), tek_sR]
  have w1 : tek (sR (sR (sR (sR M 0 (tvk M (ix a)) 0) 1 (tvk M (ix b)) 0) 3 (tvk M (ix a)) 0) 4 (tvk M (ix b)) 0) 1 = 0 := by rw [tek_sRne _ _ _ (by decide), tek_sRne _ _ _ (by decide), tek_sR]
  obtain ⟨N', o, e, ke⟩ := t_ref12 s4 hc hA hB v0 v1 v3 v4 w0 w1
  obtain ⟨k5, f5, r5⟩ := fin511 s4 o
  rw [e]
  have f6 := f4.trans f5
  have s6 := f6.sh h
  unfold g_Sets_refines_17 K_Sets_refines_17
  generalize g_Sets_refine_511 460 N' = R at f5 r5 f6 s6 ⊢
  have i1 : ¬ (1 : Int32) = 0 := by decide
  have kk : mT R 460 = 27 ∧ mT R (mR R 460 6) = 101 ∧ vp_in 0 (mN R (mR R 460 6)) ∧ ((mI R (mR R 460 6) (ix 0)) = 0 → mT R 460 = 27 ∧ mT R (mR R 460 6) = 101 ∧ vp_in 1 (mN R (mR R 460 6))) := by
    rw [s6.R460_6, s6.N467]
    exact ⟨s6.T460, s6.T467, rk0, fun _ => ⟨s6.T460, s6.T467, rk1⟩⟩
  have fl0 : mI R (mR R 460 6) (ix 0) = tek R 0 := by rw [s6.R460_6, i32_0]; rfl
  have fl1 : mI R (mR R 460 6) (ix 1) = tek R 1 := by rw [s6.R460_6, i32_1]; rfl
  refine ⟨⟨h.T460, k1, s1.T460, k2, s2.T460, ⟨s2.T460, k3, s3.T460, k4, ke k5⟩, kk⟩, ?_⟩
  rw [fl0, fl1]
  rcases r5 with ⟨q1, q2, q3, q4, q5, q6, q7⟩ | ⟨q1, q2⟩
  · rw [q1, if_pos rfl, q2, if_pos rfl]
    exact ⟨f6, Or.inl ⟨rfl, q3, q4, q5, q6, q7, q1, q2⟩⟩
  · rcases q1 with ⟨q1, -⟩ | ⟨q1, q3⟩
    · rw [q1, if_neg i1]
      exact ⟨f6, Or.inr ⟨rfl, q2⟩⟩
    · rw [q1, if_pos rfl, q3, if_neg i1]
      exact ⟨f6, Or.inr ⟨rfl, q2⟩⟩
