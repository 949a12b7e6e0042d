/-! part 47zzzzk: a step of the law (gen/tpl.py) -/
section LSt
variable {Γ : XG} {κ : Nat → Nat → Nat → Int32 → XM → Int32 × XM} {P : Nat → Nat → Nat → Int32 → XM → Prop} {Q : Int32 × XM → Prop} {x4 : Int32} {n : Nat} {M : XM}
def ON (κ : Nat → Nat → Nat → Int32 → XM → Int32 × XM) (P : Nat → Nat → Nat → Int32 → XM → Prop) (Q : Int32 × XM → Prop) (x4 : Int32) (n : Nat) (M : XM) : Prop := ∀ n' X, LI n' X → n' ≤ n + 20 → pC X ≤ pC M + 1 → pS X ≤ pS M + 6 → P 100 448 468 (x4 + 6) X ∧ Q (κ 100 448 468 (x4 + 6) X)
theorem fin_an {n' : Nat} {k : Int32} {b : Int64} {Y : XM} (on : ON κ P Q x4 n M) (an : AN n' M k b Y) (le : n' ≤ n + 20) :
    (mT Y 448 = 26 ∧ K_Model_thrown 448 Y ∧ (g_Model_thrown 448 Y = k → ((k = 0 → (mT Y 468 = 104 ∧ vp_in (0 : Int32) (mN Y 468) ∧ (lg_cmp (mL Y 468 (ix (0 : Int32))) b = 0 → P 100 448 468 (x4 + 6) Y))) ∧ (¬ k = 0 → P 100 448 468 (x4 + 6) Y)))) ∧ Q (if g_Model_thrown 448 Y = k then (if k = 0 then (if lg_cmp (mL Y 468 (ix (0 : Int32))) b = 0 then κ 100 448 468 (x4 + 6) Y else (0, Y)) else κ 100 448 468 (x4 + 6) Y) else (0, Y)) := by
  obtain ⟨a1, a2, a3, a4, a5⟩ := an
  have o := on n' Y a3 le a4 a5
  have s := a3.sh
  have v : vp_in (0 : Int32) (mN Y 468) := by rw [s.N468]; exact vpN (a := 0) (by decide) (by decide)
  refine ⟨⟨s.T448, s.T448, fun _ => ⟨fun _ => ⟨s.T468, v, fun _ => o.1⟩, fun _ => o.1⟩⟩, ?_⟩
  have e : g_Model_thrown 448 Y = k := a1
  rw [if_pos e]
  by_cases c : k = 0
  · have e2 : lg_cmp (mL Y 468 (ix (0 : Int32))) b = 0 := cmp_eq.mpr (a2 c)
    rw [if_pos c, if_pos e2]; exact o.2
  · rw [if_neg c]; exact o.2
theorem fin_en {k : Int32} {Y : XM} (on : ON κ P Q x4 n M) (en : EN n M k Y) :
    (mT Y 448 = 26 ∧ K_Model_thrown 448 Y ∧ (g_Model_thrown 448 Y = k → P 100 448 468 (x4 + 6) Y)) ∧ Q (if g_Model_thrown 448 Y = k then κ 100 448 468 (x4 + 6) Y else (0, Y)) := by
  obtain ⟨a1, n', a2, a3, a4, a5⟩ := en
  have o := on n' Y a3 (by omega) a4 a5
  have e : g_Model_thrown 448 Y = k := a1
  rw [if_pos e]
  exact ⟨⟨a3.sh.T448, a3.sh.T448, fun _ => o.1⟩, o.2⟩
theorem s_known (h : LI n M) (on : ON κ P Q x4 n M) (v1 : vp_in (x4 + (1 : Int32)) Γ.n) : K_Law_law_367 Γ κ P 100 448 468 x4 100 (Γ.x (ix (x4 + (1 : Int32)))) 468 M ∧ Q (g_Law_law_367 Γ κ 100 448 468 x4 100 (Γ.x (ix (x4 + (1 : Int32)))) 468 M) := by
  obtain ⟨k1, k2, an⟩ := q_known h (Γ.x (ix (x4 + (1 : Int32))))
  have sR : mT (g_Law_known 100 (Γ.x (ix (x4 + (1 : Int32)))) 468 M).2 448 = 26 := k2.1
  have f := fin_an on an (Nat.le_add_right _ _)
  exact ⟨⟨k1, v1, sR, k2, f.1⟩, f.2⟩
theorem s_sort (h : LI n M) (on : ON κ P Q x4 n M) (v1 : vp_in (x4 + (1 : Int32)) Γ.n) (v2 : vp_in (x4 + (2 : Int32)) Γ.n) : K_Law_law_429 Γ κ P 100 448 468 x4 100 (Γ.x (ix (x4 + (1 : Int32)))) (Γ.x (ix (x4 + (2 : Int32)))) 468 M ∧ Q (g_Law_law_429 Γ κ 100 448 468 x4 100 (Γ.x (ix (x4 + (1 : Int32)))) (Γ.x (ix (x4 + (2 : Int32)))) 468 M) := by
  obtain ⟨k1, k2, an⟩ := q_sort h (Γ.x (ix (x4 + (1 : Int32)))) (Γ.x (ix (x4 + (2 : Int32))))
  have sR : mT (g_Law_sort 100 (Γ.x (ix (x4 + (1 : Int32)))) (Γ.x (ix (x4 + (2 : Int32)))) 468 M).2 448 = 26 := k2.1
  have f := fin_an on an (Nat.le_add_right _ _)
  exact ⟨⟨k1, v1, v2, sR, k2, f.1⟩, f.2⟩
theorem s_detail (h : LI n M) (on : ON κ P Q x4 n M) (v1 : vp_in (x4 + (1 : Int32)) Γ.n) (v2 : vp_in (x4 + (2 : Int32)) Γ.n) : K_Law_law_497 Γ κ P 100 448 468 x4 100 (Γ.x (ix (x4 + (1 : Int32)))) (Γ.x (ix (x4 + (2 : Int32)))) 468 M ∧ Q (g_Law_law_497 Γ κ 100 448 468 x4 100 (Γ.x (ix (x4 + (1 : Int32)))) (Γ.x (ix (x4 + (2 : Int32)))) 468 M) := by
  obtain ⟨k1, k2, an⟩ := q_detail h (Γ.x (ix (x4 + (1 : Int32)))) (Γ.x (ix (x4 + (2 : Int32))))
  have sR : mT (g_Law_detail 100 (Γ.x (ix (x4 + (1 : Int32)))) (Γ.x (ix (x4 + (2 : Int32)))) 468 M).2 448 = 26 := k2.1
  have f := fin_an on an (Nat.le_add_right _ _)
  exact ⟨⟨k1, v1, v2, sR, k2, f.1⟩, f.2⟩
theorem s_origin (h : LI n M) (on : ON κ P Q x4 n M) (v1 : vp_in (x4 + (1 : Int32)) Γ.n) (v2 : vp_in (x4 + (2 : Int32)) Γ.n) : K_Law_law_565 Γ κ P 100 448 468 x4 100 (Γ.x (ix (x4 + (1 : Int32)))) (Γ.x (ix (x4 + (2 : Int32)))) 468 M ∧ Q (g_Law_law_565 Γ κ 100 448 468 x4 100 (Γ.x (ix (x4 + (1 : Int32)))) (Γ.x (ix (x4 + (2 : Int32)))) 468 M) := by
  obtain ⟨k1, k2, an⟩ := q_origin h (Γ.x (ix (x4 + (1 : Int32)))) (Γ.x (ix (x4 + (2 : Int32))))
  have sR : mT (g_Law_origin 100 (Γ.x (ix (x4 + (1 : Int32)))) (Γ.x (ix (x4 + (2 : Int32)))) 468 M).2 448 = 26 := k2.1
  have f := fin_an on an (Nat.le_add_right _ _)
  exact ⟨⟨k1, v1, v2, sR, k2, f.1⟩, f.2⟩
theorem s_unknown (h : LI n M) (on : ON κ P Q x4 n M) (v1 : vp_in (x4 + (1 : Int32)) Γ.n) (v2 : vp_in (x4 + (2 : Int32)) Γ.n) : K_Law_law_823 Γ κ P 100 448 468 x4 100 (Γ.x (ix (x4 + (1 : Int32)))) (Γ.x (ix (x4 + (2 : Int32)))) 468 M ∧ Q (g_Law_law_823 Γ κ 100 448 468 x4 100 (Γ.x (ix (x4 + (1 : Int32)))) (Γ.x (ix (x4 + (2 : Int32)))) 468 M) := by
  obtain ⟨k1, k2, an⟩ := q_unknown h (Γ.x (ix (x4 + (1 : Int32)))) (Γ.x (ix (x4 + (2 : Int32))))
  have sR : mT (g_Law_unknown 100 (Γ.x (ix (x4 + (1 : Int32)))) (Γ.x (ix (x4 + (2 : Int32)))) 468 M).2 448 = 26 := k2.1
  have f := fin_an on an (Nat.le_add_right _ _)
  exact ⟨⟨k1, v1, v2, sR, k2, f.1⟩, f.2⟩
theorem s_least0 (h : LI n M) (on : ON κ P Q x4 n M) (v1 : vp_in (x4 + (1 : Int32)) Γ.n) (v2 : vp_in (x4 + (2 : Int32)) Γ.n) (v3 : vp_in (x4 + (3 : Int32)) Γ.n) (c : Γ.x (ix (x4 + (3 : Int32))) = 0) : K_Law_law_646 Γ κ P 100 448 468 x4 100 (Γ.x (ix (x4 + (1 : Int32)))) (Γ.x (ix (x4 + (2 : Int32)))) 0 M ∧ Q (g_Law_law_646 Γ κ 100 448 468 x4 100 (Γ.x (ix (x4 + (1 : Int32)))) (Γ.x (ix (x4 + (2 : Int32)))) 0 M) := by
  obtain ⟨k1, k2, an⟩ := q_least h (Γ.x (ix (x4 + (1 : Int32)))) (Γ.x (ix (x4 + (2 : Int32)))) 0
  have sR : mT (g_Law_least 100 (Γ.x (ix (x4 + (1 : Int32)))) (Γ.x (ix (x4 + (2 : Int32)))) 0 468 M).2 448 = 26 := k2.1
  have f := fin_an on an (Nat.le_add_right _ _)
  refine ⟨⟨k1, v1, v2, v3, ⟨fun _ => ⟨sR, k2, f.1⟩, fun z => absurd c z⟩⟩, ?_⟩
  unfold g_Law_law_646 g_Law_law_647 g_Law_law_650
  rw [if_pos c]
  exact f.2
theorem s_least1 (h : LI n M) (on : ON κ P Q x4 n M) (v1 : vp_in (x4 + (1 : Int32)) Γ.n) (v2 : vp_in (x4 + (2 : Int32)) Γ.n) (v3 : vp_in (x4 + (3 : Int32)) Γ.n) (c : ¬ Γ.x (ix (x4 + (3 : Int32))) = 0) : K_Law_law_646 Γ κ P 100 448 468 x4 100 (Γ.x (ix (x4 + (1 : Int32)))) (Γ.x (ix (x4 + (2 : Int32)))) 1 M ∧ Q (g_Law_law_646 Γ κ 100 448 468 x4 100 (Γ.x (ix (x4 + (1 : Int32)))) (Γ.x (ix (x4 + (2 : Int32)))) 1 M) := by
  obtain ⟨k1, k2, an⟩ := q_least h (Γ.x (ix (x4 + (1 : Int32)))) (Γ.x (ix (x4 + (2 : Int32)))) 1
  have sR : mT (g_Law_least 100 (Γ.x (ix (x4 + (1 : Int32)))) (Γ.x (ix (x4 + (2 : Int32)))) 1 468 M).2 448 = 26 := k2.1
  have f := fin_an on an (Nat.le_add_right _ _)
  refine ⟨⟨k1, v1, v2, v3, ⟨fun z => absurd z c, fun _ => ⟨sR, k2, f.1⟩⟩⟩, ?_⟩
  unfold g_Law_law_646 g_Law_law_647 g_Law_law_650
  rw [if_neg c]
  exact f.2
theorem s_greatest0 (h : LI n M) (on : ON κ P Q x4 n M) (v1 : vp_in (x4 + (1 : Int32)) Γ.n) (v2 : vp_in (x4 + (2 : Int32)) Γ.n) (v3 : vp_in (x4 + (3 : Int32)) Γ.n) (c : Γ.x (ix (x4 + (3 : Int32))) = 0) : K_Law_law_741 Γ κ P 100 448 468 x4 100 (Γ.x (ix (x4 + (1 : Int32)))) (Γ.x (ix (x4 + (2 : Int32)))) 0 M ∧ Q (g_Law_law_741 Γ κ 100 448 468 x4 100 (Γ.x (ix (x4 + (1 : Int32)))) (Γ.x (ix (x4 + (2 : Int32)))) 0 M) := by
  obtain ⟨k1, k2, an⟩ := q_greatest h (Γ.x (ix (x4 + (1 : Int32)))) (Γ.x (ix (x4 + (2 : Int32)))) 0
  have sR : mT (g_Law_greatest 100 (Γ.x (ix (x4 + (1 : Int32)))) (Γ.x (ix (x4 + (2 : Int32)))) 0 468 M).2 448 = 26 := k2.1
  have f := fin_an on an (Nat.le_add_right _ _)
  refine ⟨⟨k1, v1, v2, v3, ⟨fun _ => ⟨sR, k2, f.1⟩, fun z => absurd c z⟩⟩, ?_⟩
  unfold g_Law_law_741 g_Law_law_742 g_Law_law_745
  rw [if_pos c]
  exact f.2
theorem s_greatest1 (h : LI n M) (on : ON κ P Q x4 n M) (v1 : vp_in (x4 + (1 : Int32)) Γ.n) (v2 : vp_in (x4 + (2 : Int32)) Γ.n) (v3 : vp_in (x4 + (3 : Int32)) Γ.n) (c : ¬ Γ.x (ix (x4 + (3 : Int32))) = 0) : K_Law_law_741 Γ κ P 100 448 468 x4 100 (Γ.x (ix (x4 + (1 : Int32)))) (Γ.x (ix (x4 + (2 : Int32)))) 1 M ∧ Q (g_Law_law_741 Γ κ 100 448 468 x4 100 (Γ.x (ix (x4 + (1 : Int32)))) (Γ.x (ix (x4 + (2 : Int32)))) 1 M) := by
  obtain ⟨k1, k2, an⟩ := q_greatest h (Γ.x (ix (x4 + (1 : Int32)))) (Γ.x (ix (x4 + (2 : Int32)))) 1
  have sR : mT (g_Law_greatest 100 (Γ.x (ix (x4 + (1 : Int32)))) (Γ.x (ix (x4 + (2 : Int32)))) 1 468 M).2 448 = 26 := k2.1
  have f := fin_an on an (Nat.le_add_right _ _)
  refine ⟨⟨k1, v1, v2, v3, ⟨fun z => absurd z c, fun _ => ⟨sR, k2, f.1⟩⟩⟩, ?_⟩
  unfold g_Law_law_741 g_Law_law_742 g_Law_law_745
  rw [if_neg c]
  exact f.2
theorem s_end (h : LI n M) (on : ON κ P Q x4 n M) (v1 : vp_in (x4 + (1 : Int32)) Γ.n) : K_Law_law_219 Γ κ P 100 448 468 x4 100 (Γ.x (ix (x4 + (1 : Int32)))) M ∧ Q (g_Law_law_219 Γ κ 100 448 468 x4 100 (Γ.x (ix (x4 + (1 : Int32)))) M) := by
  obtain ⟨k1, k2, en⟩ := q_end h (Γ.x (ix (x4 + (1 : Int32))))
  have f := fin_en on en
  have sR : mT (g_Law_end 100 (Γ.x (ix (x4 + (1 : Int32)))) M).2 448 = 26 := by
    unfold g_Law_end
    by_cases b : b_end 100 (Γ.x (ix (x4 + (1 : Int32)))) M
    · rw [if_pos b]; exact (h.wn 150).1.sh.T448
    · rw [if_neg b]
      unfold g_LawN_end g_LawN_end_0 g_LawN_end_5 g_PC_end g_PC_end_0 g_PC_end_19 g_PC_end_20 g_PC_end_23 g_PC_proper g_PC_proper_0
      rw [if_neg i1_0, if_pos rfl]
      split
      · exact h.sh.T448
      · split <;> exact h.sh.T448
  exact ⟨⟨k1, v1, sR, k2, f.1⟩, f.2⟩
theorem s_map (h : LI n M) (on : ON κ P Q x4 n M) (v1 : vp_in (x4 + (1 : Int32)) Γ.n) (v2 : vp_in (x4 + (2 : Int32)) Γ.n) (v3 : vp_in (x4 + (3 : Int32)) Γ.n) (v4 : vp_in (x4 + (4 : Int32)) Γ.n) : K_Law_law_273 Γ κ P 100 448 468 x4 100 (Γ.x (ix (x4 + (1 : Int32)))) (Γ.x (ix (x4 + (2 : Int32)))) (Γ.x (ix (x4 + (3 : Int32)))) (Γ.x (ix (x4 + (4 : Int32)))) M ∧ Q (g_Law_law_273 Γ κ 100 448 468 x4 100 (Γ.x (ix (x4 + (1 : Int32)))) (Γ.x (ix (x4 + (2 : Int32)))) (Γ.x (ix (x4 + (3 : Int32)))) (Γ.x (ix (x4 + (4 : Int32)))) M) := by
  obtain ⟨k1, k2, en⟩ := q_map h (Γ.x (ix (x4 + (1 : Int32)))) (Γ.x (ix (x4 + (2 : Int32)))) (Γ.x (ix (x4 + (3 : Int32)))) (Γ.x (ix (x4 + (4 : Int32))))
  have f := fin_en on en
  have sR : mT (g_Law_map 100 (Γ.x (ix (x4 + (1 : Int32)))) (Γ.x (ix (x4 + (2 : Int32)))) (Γ.x (ix (x4 + (3 : Int32)))) (Γ.x (ix (x4 + (4 : Int32)))) M).2 448 = 26 := by
    unfold g_Law_map
    by_cases b : b_map (Γ.x (ix (x4 + (1 : Int32))))
    · rw [if_pos b]; exact (h.wn 151).1.sh.T448
    · rw [if_neg b]
      by_cases c : g_Maps_fits (Γ.x (ix (x4 + (2 : Int32)))) (Γ.x (ix (x4 + (3 : Int32)))) (Γ.x (ix (x4 + (4 : Int32)))) = 0
      · rw [if_pos c]; exact (h.wn 150).1.sh.T448
      · rw [if_neg c]
        unfold g_LawN_map g_LawN_map_0 g_LawN_map_9 g_PC_map g_PC_map_0 g_PC_map_14 g_PC_map_15 g_PC_map_18 g_PC_map_28 g_PC_there g_PC_there_0 g_PC_proper g_PC_proper_0
        rw [if_neg (fun z => b (Or.inl z)), if_neg (fun z => b (Or.inr z)), if_neg i1_0, if_neg c]
        exact h.sh.T448
  exact ⟨⟨k1, v1, v2, v3, v4, sR, k2, f.1⟩, f.2⟩
theorem s_feed (h : LI n M) (hn : n + 20 ≤ 8192) (on : ON κ P Q x4 n M) (v1 : vp_in (x4 + (1 : Int32)) Γ.n) (v2 : vp_in (x4 + (2 : Int32)) Γ.n) (v3 : vp_in (x4 + (3 : Int32)) Γ.n) (v4 : vp_in (x4 + (4 : Int32)) Γ.n) (v5 : vp_in (x4 + (5 : Int32)) Γ.n) : K_Law_law_140 Γ κ P 100 448 468 x4 100 (Γ.x (ix (x4 + (1 : Int32)))) (Γ.x (ix (x4 + (2 : Int32)))) (Γ.x (ix (x4 + (3 : Int32)))) (Γ.x (ix (x4 + (4 : Int32)))) (Γ.x (ix (x4 + (5 : Int32)))) 468 M ∧ Q (g_Law_law_140 Γ κ 100 448 468 x4 100 (Γ.x (ix (x4 + (1 : Int32)))) (Γ.x (ix (x4 + (2 : Int32)))) (Γ.x (ix (x4 + (3 : Int32)))) (Γ.x (ix (x4 + (4 : Int32)))) (Γ.x (ix (x4 + (5 : Int32)))) 468 M) := by
  obtain ⟨k1, k2, an⟩ := q_feed h hn (Γ.x (ix (x4 + (1 : Int32)))) (Γ.x (ix (x4 + (2 : Int32)))) (Γ.x (ix (x4 + (3 : Int32)))) (Γ.x (ix (x4 + (4 : Int32)))) (Γ.x (ix (x4 + (5 : Int32))))
  have sR : mT (g_Law_feed 100 (Γ.x (ix (x4 + (1 : Int32)))) (Γ.x (ix (x4 + (2 : Int32)))) (Γ.x (ix (x4 + (3 : Int32)))) (Γ.x (ix (x4 + (4 : Int32)))) (Γ.x (ix (x4 + (5 : Int32)))) 468 M).2 448 = 26 := k2.1
  have f := fin_an on an (Nat.le_refl _)
  exact ⟨⟨k1, v1, v2, v3, v4, v5, sR, k2, f.1⟩, f.2⟩
theorem s_check (h : LI n M) (on : ON κ P Q x4 n M) : (mT M 100 = 1 ∧ K_PC_check 100 M ∧ K_Law_law_324 Γ κ P 100 448 468 x4 (g_PC_check 100 M).1 (g_PC_check 100 M).2) ∧ Q (g_Law_law_324 Γ κ 100 448 468 x4 (g_PC_check 100 M).1 (g_PC_check 100 M).2) := by
  obtain ⟨b1, b2, b3, b4, b5, b6, b7⟩ := both_check h
  unfold K_PC_check g_PC_check K_PC_check_0 g_PC_check_0 K_Law_law_324 g_Law_law_324 K_Law_law_328 g_Law_law_328 K_Law_law_876 g_Law_law_876
  rw [h.sh.R100_0, h.sh.R100_1]
  have o := on 0 _ b4 (Nat.zero_le _) (by omega) (by omega)
  refine ⟨⟨h.sh.T100, ⟨h.sh.T100, h.sh.T100, h.sh.T101, b1⟩, b7.T448, b2, fun _ => o.1⟩, ?_⟩
  rw [if_pos b3]; exact o.2
theorem s_reason (h : LI n M) (on : ON κ P Q x4 n M) : (mT M 100 = 1 ∧ K_PC_reason 100 M ∧ mT M 448 = 26 ∧ K_Model_reason 448 M ∧ K_Law_law_341 Γ κ P 100 448 468 x4 (g_PC_reason 100 M) (g_Model_reason 448 M).1 (g_Model_reason 448 M).2) ∧ Q (g_Law_law_341 Γ κ 100 448 468 x4 (g_PC_reason 100 M) (g_Model_reason 448 M).1 (g_Model_reason 448 M).2) := by
  obtain ⟨a1, a2, a3⟩ := h.w0 0
  have o := on n _ a1 (Nat.le_add_right _ _) (by omega) (by omega)
  have s := h.sh
  have e : g_PC_reason 100 M = (g_Model_reason 448 M).1 := by
    show mI M (mR M 100 0) 7 = mI (wI M 448 0 0) 448 5
    rw [s.R100_0, mI_wI, if_neg (by omega)]; exact h.2.2.2.2.2.2.2.2.2.2.2.2.1
  unfold K_Law_law_341 g_Law_law_341
  rw [if_pos e]
  exact ⟨⟨s.T100, ⟨s.T100, by rw [s.R100_0]; exact s.T101⟩, s.T448, ⟨s.T448, s.T448⟩, fun _ => o.1⟩, o.2⟩
theorem s_passes (h : LI n M) (on : ON κ P Q x4 n M) : (mT M 100 = 1 ∧ K_PC_passes 100 M ∧ mT M 448 = 26 ∧ K_Model_passes 448 M ∧ K_Law_law_354 Γ κ P 100 448 468 x4 (g_PC_passes 100 M) (g_Model_passes 448 M).1 (g_Model_passes 448 M).2) ∧ Q (g_Law_law_354 Γ κ 100 448 468 x4 (g_PC_passes 100 M) (g_Model_passes 448 M).1 (g_Model_passes 448 M).2) := by
  obtain ⟨a1, a2, a3⟩ := h.w0 0
  have o := on n _ a1 (Nat.le_add_right _ _) (by omega) (by omega)
  have s := h.sh
  have e : g_PC_passes 100 M = (g_Model_passes 448 M).1 := by
    show mI M (mR M 100 0) 8 = mI (wI M 448 0 0) 448 6
    rw [s.R100_0, mI_wI, if_neg (by omega)]; exact h.2.2.2.2.2.2.2.2.2.2.2.2.2
  unfold K_Law_law_354 g_Law_law_354
  rw [if_pos e]
  exact ⟨⟨s.T100, ⟨s.T100, by rw [s.R100_0]; exact s.T101⟩, s.T448, ⟨s.T448, s.T448⟩, fun _ => o.1⟩, o.2⟩
/-- the room that is left -/
def LQ (B C : Nat) (r : Int32 × XM) : Prop := r.1 = 1 ∧ pC r.2 ≤ B ∧ pS r.2 ≤ C
theorem law_loop (hn : Γ.n ≤ 384) {B C : Nat} : ∀ (m j f n : Nat) (M : XM), j + m = 65 → m < f → LI n M → n ≤ 20 * j → pC M + m ≤ B → pS M + 6 * m ≤ C → K_Law_law_23 Γ f 100 448 468 (Int32.ofNat (6 * j)) M ∧ LQ B C (g_Law_law_23 Γ f 100 448 468 (Int32.ofNat (6 * j)) M) := by
  have e6 : ∀ j, j < 100 → (Int32.ofNat Γ.n - 6 < Int32.ofNat (6 * j) ↔ (Γ.n : Int) - 6 < 6 * j) := fun j hj => by
    rw [lt_u3, Int32.toInt_sub, toInt_ofNat32 (by omega), toInt_ofNat32 (by omega)]
    have : (6 : Int32).toInt = 6 := rfl
    rw [this, Int.bmod_eq_of_le (by omega) (by omega)]
    omega
  intro m
  induction m with
  | zero =>
    intro j f n M jm mf h n20 hB hC
    obtain ⟨f, rfl⟩ : ∃ f', f = f' + 1 := ⟨f - 1, by omega⟩
    conv => unfold K_Law_law_23 g_Law_law_23
    have q : Int32.ofNat Γ.n - 6 < Int32.ofNat (6 * j) := (e6 j (by omega)).mpr (by omega)
    rw [if_pos q]
    exact ⟨fun z => absurd q z, rfl, by show pC M ≤ B; omega, by show pS M ≤ C; omega⟩
  | succ m ih =>
    intro j f n M jm mf h n20 hB hC
    obtain ⟨f, rfl⟩ : ∃ f', f = f' + 1 := ⟨f - 1, by omega⟩
    conv => unfold K_Law_law_23 g_Law_law_23
    refine kq_ifn (fun q => ⟨rfl, by show pC M ≤ B; omega, by show pS M ≤ C; omega⟩) (fun q => ?_)
    have lj : 6 * j + 6 ≤ Γ.n := by
      have : ¬ ((Γ.n : Int) - 6 < 6 * j) := fun z => q ((e6 j (by omega)).mpr z)
      omega
    have ad : ∀ i, Int32.ofNat (6 * j) + Int32.ofNat i = Int32.ofNat (6 * j + i) := fun i => by rw [Int32.ofNat_add]
    have on : ON (g_Law_law_23 Γ f) (K_Law_law_23 Γ f) (LQ B C) (Int32.ofNat (6 * j)) n M := by
      intro n' X hX h1 h2 h3
      have := ih (j + 1) f n' X (by omega) (by omega) hX (by omega) (by omega) (by omega)
      rw [show 6 * (j + 1) = 6 * j + 6 by omega, ← ad 6] at this
      exact this
    have vi : ∀ i, i < 6 → vp_in (Int32.ofNat (6 * j) + Int32.ofNat i) Γ.n := fun i hi => by rw [ad]; exact vpN (by omega) (by omega)
    have v0 : vp_in (Int32.ofNat (6 * j)) Γ.n := vpN (by omega) (by omega)
    have v1 : vp_in (Int32.ofNat (6 * j) + 1) Γ.n := vi 1 (by decide)
    have v2 : vp_in (Int32.ofNat (6 * j) + 2) Γ.n := vi 2 (by decide)
    have v3 : vp_in (Int32.ofNat (6 * j) + 3) Γ.n := vi 3 (by decide)
    have v4 : vp_in (Int32.ofNat (6 * j) + 4) Γ.n := vi 4 (by decide)
    have v5 : vp_in (Int32.ofNat (6 * j) + 5) Γ.n := vi 5 (by decide)
    generalize Int32.ofNat (6 * j) = x4 at on v0 v1 v2 v3 v4 v5 ⊢
    refine kq_and v0 ?_
    refine kq_if (fun _ => kq_and v1 (kq_and v2 (kq_and v3 (kq_and v4 (kq_and v5 (s_feed h (by omega) on v1 v2 v3 v4 v5)))))) (fun _ => ?_)
    refine kq_if (fun _ => kq_and v1 (s_end h on v1)) (fun _ => ?_)
    refine kq_if (fun _ => kq_and v1 (kq_and v2 (kq_and v3 (kq_and v4 (s_map h on v1 v2 v3 v4))))) (fun _ => ?_)
    refine kq_if (fun _ => s_check h on) (fun _ => ?_)
    refine kq_if (fun _ => s_reason h on) (fun _ => ?_)
    refine kq_if (fun _ => s_passes h on) (fun _ => ?_)
    refine kq_if (fun _ => kq_and v1 (s_known h on v1)) (fun _ => ?_)
    refine kq_if (fun _ => kq_and v1 (kq_and v2 (s_sort h on v1 v2))) (fun _ => ?_)
    refine kq_if (fun _ => kq_and v1 (kq_and v2 (s_detail h on v1 v2))) (fun _ => ?_)
    refine kq_if (fun _ => kq_and v1 (kq_and v2 (s_origin h on v1 v2))) (fun _ => ?_)
    refine kq_if (fun _ => kq_and v1 (kq_and v2 (kq_and v3 (kq_if (fun c => s_least0 h on v1 v2 v3 c) (fun c => s_least1 h on v1 v2 v3 c))))) (fun _ => ?_)
    refine kq_if (fun _ => kq_and v1 (kq_and v2 (kq_and v3 (kq_if (fun c => s_greatest0 h on v1 v2 v3 c) (fun c => s_greatest1 h on v1 v2 v3 c))))) (fun _ => ?_)
    refine kq_if (fun _ => kq_and v1 (kq_and v2 (s_unknown h on v1 v2))) (fun _ => ?_)
    exact on n M h (Nat.le_add_right _ _) (by omega) (by omega)
end LSt
