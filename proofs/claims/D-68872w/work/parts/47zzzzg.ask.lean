/-! part 47zzzzg: the questions, on both sides (gen/ask.py) -/
section QS
variable {n : Nat} {M : XM}
theorem q_sort (h : LI n M) (x1 x2 : Int32) : K_Law_sort 100 x1 x2 468 M ∧ K_Model_sort 448 x1 x2 (g_Law_sort 100 x1 x2 468 M).2 ∧ AN n M (g_Law_sort 100 x1 x2 468 M).1 ((g_Model_sort 448 x1 x2 (g_Law_sort 100 x1 x2 468 M).2).1.toInt64) (g_Model_sort 448 x1 x2 (g_Law_sort 100 x1 x2 468 M).2).2 := by
  unfold K_Law_sort g_Law_sort
  by_cases b : b_at x1 x2
  · rw [if_pos b]
    have sN : Sh (wN M 151 6) := (h.wn 151).1.sh
    obtain ⟨k1, g1⟩ := t_noThing sN x1 x2
    rw [if_pos b] at g1
    refine ⟨⟨h.sh.T100, fun z => absurd b z⟩, ?_⟩
    unfold K_Model_sort g_Model_sort K_Model_sort_0 g_Model_sort_0 K_Model_sort_6 g_Model_sort_6
    rw [g1, if_neg i1_0]
    exact ⟨⟨sN.T448, k1, fun z => absurd z i1_0⟩, an_bad h 151 1 _ (by decide)⟩
  · rw [if_neg b]
    obtain ⟨k, hk, rfl⟩ := i32lt (m := 1024) (x := x1) (by decide) (fun z => b (Or.inl z)) (fun z => b (Or.inr (Or.inl z)))
    obtain ⟨m, hm, rfl⟩ := i32lt (m := 75) (x := x2) (by decide) (fun z => b (Or.inr (Or.inr (Or.inl z)))) (fun z => b (Or.inr (Or.inr (Or.inr z))))
    obtain ⟨a1, a2, a3⟩ := c_face h.sh h.1 hk hm
    have tw : ∀ v : Int64, K_Model_sort 448 (Int32.ofNat k) (Int32.ofNat m) (wL M 468 0 v) ∧ g_Model_sort 448 (Int32.ofNat k) (Int32.ofNat m) (wL M 468 0 v) = (if mI M 454 k = 0 then (-1) else mI M 457 (75 * k + m), wI (wL M 468 0 v) 448 0 0) := by
      intro v
      have sL : Sh (wL M 468 0 v) := h.sh.kept rfl
      have s0 : Sh (wI (wL M 468 0 v) 448 0 0) := h.sh.kept rfl
      obtain ⟨k1, g1⟩ := t_noThing sL (Int32.ofNat k) (Int32.ofNat m)
      rw [if_neg b] at g1
      unfold K_Model_sort g_Model_sort K_Model_sort_0 g_Model_sort_0 K_Model_sort_6 g_Model_sort_6
      rw [g1]
      have e1 : mI (wI (wL M 468 0 v) 448 0 0) 454 k = mI M 454 k := by rw [mI_wI, if_neg (by omega)]; rfl
      have e2 : mI (wI (wL M 468 0 v) 448 0 0) 457 (75 * k + m) = mI M 457 (75 * k + m) := by rw [mI_wI, if_neg (by omega)]; rfl
      simp only [s0.R448_10, s0.R448_13, thingN, ixN (show k < 2147483648 by omega), ixN (show 75 * k + m < 2147483648 by omega), s0.N454, s0.N457, e1, e2, if_true]
      refine ⟨⟨sL.T448, k1, fun _ => ⟨s0.T448, s0.T454, vpN (by omega) (by omega), fun _ => ⟨s0.T448, s0.T457, vpN (by omega) (by omega)⟩⟩⟩, ?_⟩
      by_cases c : mI M 454 k = 0
      · rw [if_pos c, if_pos c]
      · rw [if_neg c, if_neg c]
    unfold K_LawN_sort g_LawN_sort K_LawN_sort_0 g_LawN_sort_0 K_LawN_sort_8 g_LawN_sort_8 K_PC_sort g_PC_sort K_PC_sort_0 g_PC_sort_0 K_PC_sort_6 g_PC_sort_6
    rw [show ix (0 : Int32) = 0 from rfl]
    have v1 : vp_in (0 : Int32) (mN M 468) := by rw [h.sh.N468]; exact vpN (a := 0) (by decide) (by decide)
    rcases h.see hk with ⟨ni, z⟩ | ⟨is, z, ev, _⟩
    · rw [a3 ni, if_pos rfl]
      obtain ⟨t1, t2⟩ := tw ((-1 : Int32).toInt64)
      rw [if_pos z] at t2
      refine ⟨⟨h.sh.T100, fun _ => ⟨h.sh.T100, ⟨h.sh.T100, a1, fun z => absurd rfl z⟩, h.sh.T468, v1⟩⟩, t1, ?_⟩
      rw [t2]; exact an_ok h _
    · obtain ⟨y1, y2⟩ := a2 is
      rw [y1, if_neg (show ¬ mR M 442 k + 2 + 2 * m = 0 by omega)]
      have q : mI M (mR M 442 k + 2 + 2 * m) 0 = mI M 457 (75 * k + m) := by
        have := congrArg TH.so (congrFun ev m)
        rw [vwC_at hm, vwT_at hm, nrm_so] at this
        exact this
      obtain ⟨t1, t2⟩ := tw (mI M (mR M 442 k + 2 + 2 * m) 0).toInt64
      rw [if_neg z, ← q] at t2
      refine ⟨⟨h.sh.T100, fun _ => ⟨h.sh.T100, ⟨h.sh.T100, a1, fun _ => y2.1⟩, h.sh.T468, v1⟩⟩, t1, ?_⟩
      rw [t2]; exact an_ok h _
theorem q_detail (h : LI n M) (x1 x2 : Int32) : K_Law_detail 100 x1 x2 468 M ∧ K_Model_detail 448 x1 x2 (g_Law_detail 100 x1 x2 468 M).2 ∧ AN n M (g_Law_detail 100 x1 x2 468 M).1 ((g_Model_detail 448 x1 x2 (g_Law_detail 100 x1 x2 468 M).2).1.toInt64) (g_Model_detail 448 x1 x2 (g_Law_detail 100 x1 x2 468 M).2).2 := by
  unfold K_Law_detail g_Law_detail
  by_cases b : b_at x1 x2
  · rw [if_pos b]
    have sN : Sh (wN M 151 6) := (h.wn 151).1.sh
    obtain ⟨k1, g1⟩ := t_noThing sN x1 x2
    rw [if_pos b] at g1
    refine ⟨⟨h.sh.T100, fun z => absurd b z⟩, ?_⟩
    unfold K_Model_detail g_Model_detail K_Model_detail_0 g_Model_detail_0 K_Model_detail_6 g_Model_detail_6 g_Model_detail_18
    rw [g1, if_neg i1_0]
    exact ⟨⟨sN.T448, k1, fun z => absurd z i1_0⟩, an_bad h 151 1 _ (by decide)⟩
  · rw [if_neg b]
    obtain ⟨k, hk, rfl⟩ := i32lt (m := 1024) (x := x1) (by decide) (fun z => b (Or.inl z)) (fun z => b (Or.inr (Or.inl z)))
    obtain ⟨m, hm, rfl⟩ := i32lt (m := 75) (x := x2) (by decide) (fun z => b (Or.inr (Or.inr (Or.inl z)))) (fun z => b (Or.inr (Or.inr (Or.inr z))))
    obtain ⟨a1, a2, a3⟩ := c_face h.sh h.1 hk hm
    have tw : ∀ v : Int64, K_Model_detail 448 (Int32.ofNat k) (Int32.ofNat m) (wL M 468 0 v) ∧ g_Model_detail 448 (Int32.ofNat k) (Int32.ofNat m) (wL M 468 0 v) = (if mI M 454 k = 0 then (0) else mI M 458 (75 * k + m), wI (wL M 468 0 v) 448 0 0) := by
      intro v
      have sL : Sh (wL M 468 0 v) := h.sh.kept rfl
      have s0 : Sh (wI (wL M 468 0 v) 448 0 0) := h.sh.kept rfl
      obtain ⟨k1, g1⟩ := t_noThing sL (Int32.ofNat k) (Int32.ofNat m)
      rw [if_neg b] at g1
      unfold K_Model_detail g_Model_detail K_Model_detail_0 g_Model_detail_0 K_Model_detail_6 g_Model_detail_6 g_Model_detail_18
      rw [g1]
      have e1 : mI (wI (wL M 468 0 v) 448 0 0) 454 k = mI M 454 k := by rw [mI_wI, if_neg (by omega)]; rfl
      have e2 : mI (wI (wL M 468 0 v) 448 0 0) 458 (75 * k + m) = mI M 458 (75 * k + m) := by rw [mI_wI, if_neg (by omega)]; rfl
      simp only [s0.R448_10, s0.R448_14, thingN, ixN (show k < 2147483648 by omega), ixN (show 75 * k + m < 2147483648 by omega), s0.N454, s0.N458, e1, e2, if_true]
      refine ⟨⟨sL.T448, k1, fun _ => ⟨s0.T448, s0.T454, vpN (by omega) (by omega), fun _ => ⟨s0.T448, s0.T458, vpN (by omega) (by omega)⟩⟩⟩, ?_⟩
      by_cases c : mI M 454 k = 0
      · rw [if_pos c, if_pos c]
      · rw [if_neg c, if_neg c]
    unfold K_LawN_detail g_LawN_detail K_LawN_detail_0 g_LawN_detail_0 K_LawN_detail_8 g_LawN_detail_8 K_PC_detail g_PC_detail K_PC_detail_0 g_PC_detail_0 K_PC_detail_6 g_PC_detail_6
    rw [show ix (0 : Int32) = 0 from rfl]
    have v1 : vp_in (0 : Int32) (mN M 468) := by rw [h.sh.N468]; exact vpN (a := 0) (by decide) (by decide)
    rcases h.see hk with ⟨ni, z⟩ | ⟨is, z, ev, _⟩
    · rw [a3 ni, if_pos rfl]
      obtain ⟨t1, t2⟩ := tw ((0 : Int32).toInt64)
      rw [if_pos z] at t2
      refine ⟨⟨h.sh.T100, fun _ => ⟨h.sh.T100, ⟨h.sh.T100, a1, fun z => absurd rfl z⟩, h.sh.T468, v1⟩⟩, t1, ?_⟩
      rw [t2]; exact an_ok h _
    · obtain ⟨y1, y2⟩ := a2 is
      rw [y1, if_neg (show ¬ mR M 442 k + 2 + 2 * m = 0 by omega)]
      have q : mI M (mR M 442 k + 2 + 2 * m) 1 = mI M 458 (75 * k + m) := by
        have := congrArg TH.de (congrFun ev m)
        rw [vwC_at hm, vwT_at hm, nrm_de] at this
        exact this
      obtain ⟨t1, t2⟩ := tw (mI M (mR M 442 k + 2 + 2 * m) 1).toInt64
      rw [if_neg z, ← q] at t2
      refine ⟨⟨h.sh.T100, fun _ => ⟨h.sh.T100, ⟨h.sh.T100, a1, fun _ => y2.1⟩, h.sh.T468, v1⟩⟩, t1, ?_⟩
      rw [t2]; exact an_ok h _
theorem q_origin (h : LI n M) (x1 x2 : Int32) : K_Law_origin 100 x1 x2 468 M ∧ K_Model_origin 448 x1 x2 (g_Law_origin 100 x1 x2 468 M).2 ∧ AN n M (g_Law_origin 100 x1 x2 468 M).1 ((g_Model_origin 448 x1 x2 (g_Law_origin 100 x1 x2 468 M).2).1.toInt64) (g_Model_origin 448 x1 x2 (g_Law_origin 100 x1 x2 468 M).2).2 := by
  unfold K_Law_origin g_Law_origin
  by_cases b : b_at x1 x2
  · rw [if_pos b]
    have sN : Sh (wN M 151 6) := (h.wn 151).1.sh
    obtain ⟨k1, g1⟩ := t_noThing sN x1 x2
    rw [if_pos b] at g1
    refine ⟨⟨h.sh.T100, fun z => absurd b z⟩, ?_⟩
    unfold K_Model_origin g_Model_origin K_Model_origin_0 g_Model_origin_0 K_Model_origin_6 g_Model_origin_6
    rw [g1, if_neg i1_0]
    exact ⟨⟨sN.T448, k1, fun z => absurd z i1_0⟩, an_bad h 151 1 _ (by decide)⟩
  · rw [if_neg b]
    obtain ⟨k, hk, rfl⟩ := i32lt (m := 1024) (x := x1) (by decide) (fun z => b (Or.inl z)) (fun z => b (Or.inr (Or.inl z)))
    obtain ⟨m, hm, rfl⟩ := i32lt (m := 75) (x := x2) (by decide) (fun z => b (Or.inr (Or.inr (Or.inl z)))) (fun z => b (Or.inr (Or.inr (Or.inr z))))
    obtain ⟨a1, a2, a3⟩ := c_face h.sh h.1 hk hm
    have tw : ∀ v : Int64, K_Model_origin 448 (Int32.ofNat k) (Int32.ofNat m) (wL M 468 0 v) ∧ g_Model_origin 448 (Int32.ofNat k) (Int32.ofNat m) (wL M 468 0 v) = (if mI M 454 k = 0 then (-1) else mI M 459 (75 * k + m), wI (wL M 468 0 v) 448 0 0) := by
      intro v
      have sL : Sh (wL M 468 0 v) := h.sh.kept rfl
      have s0 : Sh (wI (wL M 468 0 v) 448 0 0) := h.sh.kept rfl
      obtain ⟨k1, g1⟩ := t_noThing sL (Int32.ofNat k) (Int32.ofNat m)
      rw [if_neg b] at g1
      unfold K_Model_origin g_Model_origin K_Model_origin_0 g_Model_origin_0 K_Model_origin_6 g_Model_origin_6
      rw [g1]
      have e1 : mI (wI (wL M 468 0 v) 448 0 0) 454 k = mI M 454 k := by rw [mI_wI, if_neg (by omega)]; rfl
      have e2 : mI (wI (wL M 468 0 v) 448 0 0) 459 (75 * k + m) = mI M 459 (75 * k + m) := by rw [mI_wI, if_neg (by omega)]; rfl
      simp only [s0.R448_10, s0.R448_15, thingN, ixN (show k < 2147483648 by omega), ixN (show 75 * k + m < 2147483648 by omega), s0.N454, s0.N459, e1, e2, if_true]
      refine ⟨⟨sL.T448, k1, fun _ => ⟨s0.T448, s0.T454, vpN (by omega) (by omega), fun _ => ⟨s0.T448, s0.T459, vpN (by omega) (by omega)⟩⟩⟩, ?_⟩
      by_cases c : mI M 454 k = 0
      · rw [if_pos c, if_pos c]
      · rw [if_neg c, if_neg c]
    unfold K_LawN_origin g_LawN_origin K_LawN_origin_0 g_LawN_origin_0 K_LawN_origin_8 g_LawN_origin_8 K_PC_origin g_PC_origin K_PC_origin_0 g_PC_origin_0 K_PC_origin_6 g_PC_origin_6
    rw [show ix (0 : Int32) = 0 from rfl]
    have v1 : vp_in (0 : Int32) (mN M 468) := by rw [h.sh.N468]; exact vpN (a := 0) (by decide) (by decide)
    rcases h.see hk with ⟨ni, z⟩ | ⟨is, z, ev, _⟩
    · rw [a3 ni, if_pos rfl]
      obtain ⟨t1, t2⟩ := tw ((-1 : Int32).toInt64)
      rw [if_pos z] at t2
      refine ⟨⟨h.sh.T100, fun _ => ⟨h.sh.T100, ⟨h.sh.T100, a1, fun z => absurd rfl z⟩, h.sh.T468, v1⟩⟩, t1, ?_⟩
      rw [t2]; exact an_ok h _
    · obtain ⟨y1, y2⟩ := a2 is
      rw [y1, if_neg (show ¬ mR M 442 k + 2 + 2 * m = 0 by omega)]
      have q : mI M (mR M 442 k + 2 + 2 * m) 2 = mI M 459 (75 * k + m) := by
        have := congrArg TH.og (congrFun ev m)
        rw [vwC_at hm, vwT_at hm, nrm_og] at this
        exact this
      obtain ⟨t1, t2⟩ := tw (mI M (mR M 442 k + 2 + 2 * m) 2).toInt64
      rw [if_neg z, ← q] at t2
      refine ⟨⟨h.sh.T100, fun _ => ⟨h.sh.T100, ⟨h.sh.T100, a1, fun _ => y2.1⟩, h.sh.T468, v1⟩⟩, t1, ?_⟩
      rw [t2]; exact an_ok h _
theorem hv_eq (t : Nat) : g_Thing_hasValue t M = g_Model_hasValue (mI M t 0) := rfl
theorem hv_B {s : Int32} (h : ¬ g_Model_hasValue s = 0) : hvB s = true := by
  unfold g_Model_hasValue g_Model_hasValue_0 g_Model_hasValue_16 at h
  unfold hvB
  by_cases c1 : s = 1
  · simp [c1]
  · by_cases c4 : s = 4
    · simp [c4]
    · by_cases c7 : s = 7
      · simp [c7]
      · rw [if_neg c1, if_neg c4, if_neg c7] at h; exact absurd rfl h
theorem c_value (h : Sh M) (hI : StI M) {k m : Nat} (hk : k < 1024) (hm : m < 75) : K_PC_valueAt 100 (Int32.ofNat k) (Int32.ofNat m) M ∧ (pIs M k ∧ ¬ g_Model_hasValue (mI M (mR M 442 k + 2 + 2 * m) 0) = 0 → g_PC_valueAt 100 (Int32.ofNat k) (Int32.ofNat m) M = (mR M 442 k + 2 + 2 * m + 1, M) ∧ mT M (mR M 442 k + 2 + 2 * m + 1) = 10) ∧ (¬ (pIs M k ∧ ¬ g_Model_hasValue (mI M (mR M 442 k + 2 + 2 * m) 0) = 0) → g_PC_valueAt 100 (Int32.ofNat k) (Int32.ofNat m) M = (0, M)) := by
  obtain ⟨a1, a2, a3⟩ := c_face h hI hk hm
  unfold K_PC_valueAt g_PC_valueAt K_PC_valueAt_0 g_PC_valueAt_0 K_PC_valueAt_6 g_PC_valueAt_6 g_PC_valueAt_18
  by_cases is : pIs M k
  · obtain ⟨y1, y2⟩ := a2 is
    rw [y1, if_neg (show ¬ mR M 442 k + 2 + 2 * m = 0 by omega)]
    have kv : K_Thing_hasValue (mR M 442 k + 2 + 2 * m) M := ⟨y2.1, fun _ => ⟨y2.1, fun _ => y2.1⟩⟩
    have e := hv_eq (M := M) (mR M 442 k + 2 + 2 * m)
    refine ⟨⟨h.T100, a1, fun _ => ⟨y2.1, kv, fun _ => y2.1⟩⟩, fun z => ?_, fun z => ?_⟩
    · rw [e, if_neg z.2, y2.2.1]; exact ⟨rfl, y2.2.2⟩
    · rw [e, if_pos (Decidable.not_not.mp (fun q => z ⟨is, q⟩))]
  · rw [a3 is, if_pos rfl]
    exact ⟨⟨h.T100, a1, fun z => absurd rfl z⟩, fun z => absurd z.1 is, fun _ => rfl⟩
theorem t_noValue {X : XM} (s : Sh X) {k m : Nat} (hk : k < 1024) (hm : m < 75) (b : ¬ b_at (Int32.ofNat k) (Int32.ofNat m)) : K_Model_noValue 448 (Int32.ofNat k) (Int32.ofNat m) X ∧ g_Model_noValue 448 (Int32.ofNat k) (Int32.ofNat m) X = (if mI X 454 k = 0 then 1 else if g_Model_hasValue (mI X 457 (75 * k + m)) = 0 then 1 else 0, wI X 448 0 0) := by
  have s0 : Sh (wI X 448 0 0) := s.kept rfl
  obtain ⟨k1, g1⟩ := t_noThing s (Int32.ofNat k) (Int32.ofNat m)
  rw [if_neg b] at g1
  unfold K_Model_noValue g_Model_noValue K_Model_noValue_0 g_Model_noValue_0 K_Model_noValue_6 g_Model_noValue_6 g_Model_noValue_34
  rw [g1]
  have e1 : mI (wI X 448 0 0) 454 k = mI X 454 k := by rw [mI_wI, if_neg (by omega)]
  have e2 : mI (wI X 448 0 0) 457 (75 * k + m) = mI X 457 (75 * k + m) := by rw [mI_wI, if_neg (by omega)]
  simp only [s0.R448_10, s0.R448_13, thingN, ixN (show k < 2147483648 by omega), ixN (show 75 * k + m < 2147483648 by omega), s0.N454, s0.N457, e1, e2, if_true]
  refine ⟨⟨s.T448, k1, fun _ => ⟨s0.T448, s0.T454, vpN (by omega) (by omega), fun _ => ⟨s0.T448, s0.T457, vpN (by omega) (by omega)⟩⟩⟩, ?_⟩
  by_cases c : mI X 454 k = 0
  · rw [if_pos c, if_pos c]
  · rw [if_neg c, if_neg c]
    by_cases c2 : g_Model_hasValue (mI X 457 (75 * k + m)) = 0
    · rw [if_pos c2, if_pos c2]
    · rw [if_neg c2, if_neg c2]
theorem t_noValueB {X : XM} (s : Sh X) {x1 x2 : Int32} (b : b_at x1 x2) : K_Model_noValue 448 x1 x2 X ∧ g_Model_noValue 448 x1 x2 X = (1, wI X 448 0 1) := by
  obtain ⟨k1, g1⟩ := t_noThing s x1 x2
  rw [if_pos b] at g1
  unfold K_Model_noValue g_Model_noValue K_Model_noValue_0 g_Model_noValue_0 K_Model_noValue_6 g_Model_noValue_6 g_Model_noValue_34
  rw [g1, if_neg i1_0]
  exact ⟨⟨s.T448, k1, fun z => absurd z i1_0⟩, rfl⟩
theorem see_val (h : LI n M) {k m : Nat} (hk : k < 1024) (hm : m < 75) : ((pIs M k ∧ ¬ g_Model_hasValue (mI M (mR M 442 k + 2 + 2 * m) 0) = 0) ∧ (if mI M 454 k = 0 then (1 : Int32) else if g_Model_hasValue (mI M 457 (75 * k + m)) = 0 then 1 else 0) = 0 ∧ gv6 M (mR M 442 k + 2 + 2 * m + 1) = tvk M (8 + (75 * k + m))) ∨ (¬ (pIs M k ∧ ¬ g_Model_hasValue (mI M (mR M 442 k + 2 + 2 * m) 0) = 0) ∧ (if mI M 454 k = 0 then (1 : Int32) else if g_Model_hasValue (mI M 457 (75 * k + m)) = 0 then 1 else 0) = 1) := by
  rcases h.see hk with ⟨ni, z⟩ | ⟨is, z, ev, _⟩
  · right
    exact ⟨fun q => ni q.1, if_pos z⟩
  · have e := congrFun ev m
    rw [vwC_at hm, vwT_at hm] at e
    have q : mI M (mR M 442 k + 2 + 2 * m) 0 = mI M 457 (75 * k + m) := by
      have := congrArg TH.so e
      rw [nrm_so] at this
      exact this
    by_cases c : g_Model_hasValue (mI M 457 (75 * k + m)) = 0
    · right
      exact ⟨fun w => w.2 (by rw [q]; exact c), by rw [if_neg z, if_pos c]⟩
    · left
      refine ⟨⟨is, by rw [q]; exact c⟩, by rw [if_neg z, if_neg c], ?_⟩
      have := congrArg TH.va e
      rw [nrm_va (hv_B c)] at this
      exact this
theorem q_least (h : LI n M) (x1 x2 x3 : Int32) : K_Law_least 100 x1 x2 x3 468 M ∧ K_Model_least 448 x1 x2 x3 (g_Law_least 100 x1 x2 x3 468 M).2 ∧ AN n M (g_Law_least 100 x1 x2 x3 468 M).1 ((g_Model_least 448 x1 x2 x3 (g_Law_least 100 x1 x2 x3 468 M).2).1) (g_Model_least 448 x1 x2 x3 (g_Law_least 100 x1 x2 x3 468 M).2).2 := by
  unfold K_Law_least g_Law_least
  by_cases b : b_at x1 x2
  · rw [if_pos b]
    have sN : Sh (wN M 151 6) := (h.wn 151).1.sh
    obtain ⟨k1, g1⟩ := t_noValueB sN b
    refine ⟨⟨h.sh.T100, fun z => absurd b z⟩, ?_⟩
    unfold K_Model_least g_Model_least K_Model_least_0 g_Model_least_0 K_Model_least_6 g_Model_least_6
    rw [g1, if_neg i1_0]
    exact ⟨⟨sN.T448, k1, fun z => absurd z i1_0⟩, an_bad h 151 1 _ (by decide)⟩
  · rw [if_neg b]
    obtain ⟨k, hk, rfl⟩ := i32lt (m := 1024) (x := x1) (by decide) (fun z => b (Or.inl z)) (fun z => b (Or.inr (Or.inl z)))
    obtain ⟨m, hm, rfl⟩ := i32lt (m := 75) (x := x2) (by decide) (fun z => b (Or.inr (Or.inr (Or.inl z)))) (fun z => b (Or.inr (Or.inr (Or.inr z))))
    obtain ⟨a1, a2, a3⟩ := c_value h.sh h.1 hk hm
    have tw : ∀ v : Int64, K_Model_least 448 (Int32.ofNat k) (Int32.ofNat m) x3 (wL M 468 0 v) ∧ g_Model_least 448 (Int32.ofNat k) (Int32.ofNat m) x3 (wL M 468 0 v) = (if (if mI M 454 k = 0 then (1 : Int32) else if g_Model_hasValue (mI M 457 (75 * k + m)) = 0 then 1 else 0) = 0 then (if x3 = 0 then mL M 465 (8 + (75 * k + m)) else mL M 463 (8 + (75 * k + m))) else 0, wI (wL M 468 0 v) 448 0 0) := by
      intro v
      have sL : Sh (wL M 468 0 v) := h.sh.kept rfl
      have s0 : Sh (wI (wL M 468 0 v) 448 0 0) := h.sh.kept rfl
      obtain ⟨k1, g1⟩ := t_noValue sL hk hm b
      have i1 : mI (wL M 468 0 v) 454 k = mI M 454 k := rfl
      have i2 : mI (wL M 468 0 v) 457 (75 * k + m) = mI M 457 (75 * k + m) := rfl
      rw [i1, i2] at g1
      have lo : ∀ a j, a ≠ 468 → mL (wI (wL M 468 0 v) 448 0 0) a j = mL M a j := fun a j ha => by
        show mL (wL M 468 0 v) a j = mL M a j
        rw [mL_wL, if_neg (fun z => ha z.1)]
      unfold K_Model_least g_Model_least K_Model_least_0 g_Model_least_0 K_Model_least_6 g_Model_least_6
      rw [g1]
      simp only [s0.R448_16, s0.R460_4, s0.R460_2, s0.N465, s0.N463, rowN, ixN (show 8 + (75 * k + m) < 2147483648 by omega), lo 465 _ (by decide), lo 463 _ (by decide)]
      refine ⟨⟨sL.T448, k1, fun _ => ⟨fun _ => ⟨s0.T448, s0.T460, s0.T465, vpN (by omega) (by omega)⟩, fun _ => ⟨s0.T448, s0.T460, s0.T463, vpN (by omega) (by omega)⟩⟩⟩, ?_⟩
      by_cases c : (if mI M 454 k = 0 then (1 : Int32) else if g_Model_hasValue (mI M 457 (75 * k + m)) = 0 then 1 else 0) = 0
      · rw [if_pos c, if_pos c]
        by_cases c3 : x3 = 0
        · rw [if_pos c3, if_pos c3]
        · rw [if_neg c3, if_neg c3]
      · rw [if_neg c, if_neg c]
    unfold K_LawN_least g_LawN_least K_LawN_least_0 g_LawN_least_0 K_LawN_least_10 g_LawN_least_10 K_PC_least g_PC_least K_PC_least_0 g_PC_least_0 K_PC_least_6 g_PC_least_6
    rw [show ix (0 : Int32) = 0 from rfl]
    have v1 : vp_in (0 : Int32) (mN M 468) := by rw [h.sh.N468]; exact vpN (a := 0) (by decide) (by decide)
    rcases see_val h hk hm with ⟨w1, w2, e⟩ | ⟨w1, w2⟩
    · obtain ⟨y1, y2⟩ := a2 w1
      rw [y1, if_neg (show ¬ mR M 442 k + 2 + 2 * m + 1 = 0 by omega)]
      have pv : (if x3 = 0 then (mL M (mR M 442 k + 2 + 2 * m + 1) 4, M) else (mL M (mR M 442 k + 2 + 2 * m + 1) 2, M)) = ((if x3 = 0 then mL M (mR M 442 k + 2 + 2 * m + 1) 4 else mL M (mR M 442 k + 2 + 2 * m + 1) 2), M) := by
        by_cases c3 : x3 = 0
        · rw [if_pos c3, if_pos c3]
        · rw [if_neg c3, if_neg c3]
      rw [pv]
      obtain ⟨t1, t2⟩ := tw (if x3 = 0 then mL M (mR M 442 k + 2 + 2 * m + 1) 4 else mL M (mR M 442 k + 2 + 2 * m + 1) 2)
      have qe : (if x3 = 0 then mL M (mR M 442 k + 2 + 2 * m + 1) 4 else mL M (mR M 442 k + 2 + 2 * m + 1) 2) = (if x3 = 0 then mL M 465 (8 + (75 * k + m)) else mL M 463 (8 + (75 * k + m))) := by
        have q1 : mL M (mR M 442 k + 2 + 2 * m + 1) 4 = mL M 465 (8 + (75 * k + m)) := congrArg AV.le e
        have q2 : mL M (mR M 442 k + 2 + 2 * m + 1) 2 = mL M 463 (8 + (75 * k + m)) := congrArg AV.lo e
        rw [q1, q2]
      rw [w2, if_pos rfl, ← qe] at t2
      refine ⟨⟨h.sh.T100, fun _ => ⟨h.sh.T100, ⟨h.sh.T100, a1, fun _ => ⟨fun _ => y2, fun _ => y2⟩⟩, h.sh.T468, v1⟩⟩, t1, ?_⟩
      rw [t2]; exact an_ok h _
    · rw [a3 w1, if_pos rfl]
      obtain ⟨t1, t2⟩ := tw 0
      rw [w2, if_neg i1_0] at t2
      refine ⟨⟨h.sh.T100, fun _ => ⟨h.sh.T100, ⟨h.sh.T100, a1, fun z => absurd rfl z⟩, h.sh.T468, v1⟩⟩, t1, ?_⟩
      rw [t2]; exact an_ok h _
theorem q_greatest (h : LI n M) (x1 x2 x3 : Int32) : K_Law_greatest 100 x1 x2 x3 468 M ∧ K_Model_greatest 448 x1 x2 x3 (g_Law_greatest 100 x1 x2 x3 468 M).2 ∧ AN n M (g_Law_greatest 100 x1 x2 x3 468 M).1 ((g_Model_greatest 448 x1 x2 x3 (g_Law_greatest 100 x1 x2 x3 468 M).2).1) (g_Model_greatest 448 x1 x2 x3 (g_Law_greatest 100 x1 x2 x3 468 M).2).2 := by
  unfold K_Law_greatest g_Law_greatest
  by_cases b : b_at x1 x2
  · rw [if_pos b]
    have sN : Sh (wN M 151 6) := (h.wn 151).1.sh
    obtain ⟨k1, g1⟩ := t_noValueB sN b
    refine ⟨⟨h.sh.T100, fun z => absurd b z⟩, ?_⟩
    unfold K_Model_greatest g_Model_greatest K_Model_greatest_0 g_Model_greatest_0 K_Model_greatest_6 g_Model_greatest_6
    rw [g1, if_neg i1_0]
    exact ⟨⟨sN.T448, k1, fun z => absurd z i1_0⟩, an_bad h 151 1 _ (by decide)⟩
  · rw [if_neg b]
    obtain ⟨k, hk, rfl⟩ := i32lt (m := 1024) (x := x1) (by decide) (fun z => b (Or.inl z)) (fun z => b (Or.inr (Or.inl z)))
    obtain ⟨m, hm, rfl⟩ := i32lt (m := 75) (x := x2) (by decide) (fun z => b (Or.inr (Or.inr (Or.inl z)))) (fun z => b (Or.inr (Or.inr (Or.inr z))))
    obtain ⟨a1, a2, a3⟩ := c_value h.sh h.1 hk hm
    have tw : ∀ v : Int64, K_Model_greatest 448 (Int32.ofNat k) (Int32.ofNat m) x3 (wL M 468 0 v) ∧ g_Model_greatest 448 (Int32.ofNat k) (Int32.ofNat m) x3 (wL M 468 0 v) = (if (if mI M 454 k = 0 then (1 : Int32) else if g_Model_hasValue (mI M 457 (75 * k + m)) = 0 then 1 else 0) = 0 then (if x3 = 0 then mL M 466 (8 + (75 * k + m)) else mL M 464 (8 + (75 * k + m))) else 0, wI (wL M 468 0 v) 448 0 0) := by
      intro v
      have sL : Sh (wL M 468 0 v) := h.sh.kept rfl
      have s0 : Sh (wI (wL M 468 0 v) 448 0 0) := h.sh.kept rfl
      obtain ⟨k1, g1⟩ := t_noValue sL hk hm b
      have i1 : mI (wL M 468 0 v) 454 k = mI M 454 k := rfl
      have i2 : mI (wL M 468 0 v) 457 (75 * k + m) = mI M 457 (75 * k + m) := rfl
      rw [i1, i2] at g1
      have lo : ∀ a j, a ≠ 468 → mL (wI (wL M 468 0 v) 448 0 0) a j = mL M a j := fun a j ha => by
        show mL (wL M 468 0 v) a j = mL M a j
        rw [mL_wL, if_neg (fun z => ha z.1)]
      unfold K_Model_greatest g_Model_greatest K_Model_greatest_0 g_Model_greatest_0 K_Model_greatest_6 g_Model_greatest_6
      rw [g1]
      simp only [s0.R448_16, s0.R460_5, s0.R460_3, s0.N466, s0.N464, rowN, ixN (show 8 + (75 * k + m) < 2147483648 by omega), lo 466 _ (by decide), lo 464 _ (by decide)]
      refine ⟨⟨sL.T448, k1, fun _ => ⟨fun _ => ⟨s0.T448, s0.T460, s0.T466, vpN (by omega) (by omega)⟩, fun _ => ⟨s0.T448, s0.T460, s0.T464, vpN (by omega) (by omega)⟩⟩⟩, ?_⟩
      by_cases c : (if mI M 454 k = 0 then (1 : Int32) else if g_Model_hasValue (mI M 457 (75 * k + m)) = 0 then 1 else 0) = 0
      · rw [if_pos c, if_pos c]
        by_cases c3 : x3 = 0
        · rw [if_pos c3, if_pos c3]
        · rw [if_neg c3, if_neg c3]
      · rw [if_neg c, if_neg c]
    unfold K_LawN_greatest g_LawN_greatest K_LawN_greatest_0 g_LawN_greatest_0 K_LawN_greatest_10 g_LawN_greatest_10 K_PC_greatest g_PC_greatest K_PC_greatest_0 g_PC_greatest_0 K_PC_greatest_6 g_PC_greatest_6
    rw [show ix (0 : Int32) = 0 from rfl]
    have v1 : vp_in (0 : Int32) (mN M 468) := by rw [h.sh.N468]; exact vpN (a := 0) (by decide) (by decide)
    rcases see_val h hk hm with ⟨w1, w2, e⟩ | ⟨w1, w2⟩
    · obtain ⟨y1, y2⟩ := a2 w1
      rw [y1, if_neg (show ¬ mR M 442 k + 2 + 2 * m + 1 = 0 by omega)]
      have pv : (if x3 = 0 then (mL M (mR M 442 k + 2 + 2 * m + 1) 5, M) else (mL M (mR M 442 k + 2 + 2 * m + 1) 3, M)) = ((if x3 = 0 then mL M (mR M 442 k + 2 + 2 * m + 1) 5 else mL M (mR M 442 k + 2 + 2 * m + 1) 3), M) := by
        by_cases c3 : x3 = 0
        · rw [if_pos c3, if_pos c3]
        · rw [if_neg c3, if_neg c3]
      rw [pv]
      obtain ⟨t1, t2⟩ := tw (if x3 = 0 then mL M (mR M 442 k + 2 + 2 * m + 1) 5 else mL M (mR M 442 k + 2 + 2 * m + 1) 3)
      have qe : (if x3 = 0 then mL M (mR M 442 k + 2 + 2 * m + 1) 5 else mL M (mR M 442 k + 2 + 2 * m + 1) 3) = (if x3 = 0 then mL M 466 (8 + (75 * k + m)) else mL M 464 (8 + (75 * k + m))) := by
        have q1 : mL M (mR M 442 k + 2 + 2 * m + 1) 5 = mL M 466 (8 + (75 * k + m)) := congrArg AV.gr e
        have q2 : mL M (mR M 442 k + 2 + 2 * m + 1) 3 = mL M 464 (8 + (75 * k + m)) := congrArg AV.hi e
        rw [q1, q2]
      rw [w2, if_pos rfl, ← qe] at t2
      refine ⟨⟨h.sh.T100, fun _ => ⟨h.sh.T100, ⟨h.sh.T100, a1, fun _ => ⟨fun _ => y2, fun _ => y2⟩⟩, h.sh.T468, v1⟩⟩, t1, ?_⟩
      rw [t2]; exact an_ok h _
    · rw [a3 w1, if_pos rfl]
      obtain ⟨t1, t2⟩ := tw 0
      rw [w2, if_neg i1_0] at t2
      refine ⟨⟨h.sh.T100, fun _ => ⟨h.sh.T100, ⟨h.sh.T100, a1, fun z => absurd rfl z⟩, h.sh.T468, v1⟩⟩, t1, ?_⟩
      rw [t2]; exact an_ok h _
theorem q_unknown (h : LI n M) (x1 x2 : Int32) : K_Law_unknown 100 x1 x2 468 M ∧ K_Model_unknown 448 x1 x2 (g_Law_unknown 100 x1 x2 468 M).2 ∧ AN n M (g_Law_unknown 100 x1 x2 468 M).1 ((g_Model_unknown 448 x1 x2 (g_Law_unknown 100 x1 x2 468 M).2).1) (g_Model_unknown 448 x1 x2 (g_Law_unknown 100 x1 x2 468 M).2).2 := by
  unfold K_Law_unknown g_Law_unknown
  by_cases b : b_at x1 x2
  · rw [if_pos b]
    have sN : Sh (wN M 151 6) := (h.wn 151).1.sh
    obtain ⟨k1, g1⟩ := t_noValueB sN b
    refine ⟨⟨h.sh.T100, fun z => absurd b z⟩, ?_⟩
    unfold K_Model_unknown g_Model_unknown K_Model_unknown_0 g_Model_unknown_0 K_Model_unknown_6 g_Model_unknown_6
    rw [g1, if_neg i1_0]
    exact ⟨⟨sN.T448, k1, fun z => absurd z i1_0⟩, an_bad h 151 1 _ (by decide)⟩
  · rw [if_neg b]
    obtain ⟨k, hk, rfl⟩ := i32lt (m := 1024) (x := x1) (by decide) (fun z => b (Or.inl z)) (fun z => b (Or.inr (Or.inl z)))
    obtain ⟨m, hm, rfl⟩ := i32lt (m := 75) (x := x2) (by decide) (fun z => b (Or.inr (Or.inr (Or.inl z)))) (fun z => b (Or.inr (Or.inr (Or.inr z))))
    obtain ⟨a1, a2, a3⟩ := c_value h.sh h.1 hk hm
    have tw : ∀ v : Int64, K_Model_unknown 448 (Int32.ofNat k) (Int32.ofNat m) (wL M 468 0 v) ∧ g_Model_unknown 448 (Int32.ofNat k) (Int32.ofNat m) (wL M 468 0 v) = (if (if mI M 454 k = 0 then (1 : Int32) else if g_Model_hasValue (mI M 457 (75 * k + m)) = 0 then 1 else 0) = 0 then (mL M 462 (8 + (75 * k + m))) else 0, wI (wL M 468 0 v) 448 0 0) := by
      intro v
      have sL : Sh (wL M 468 0 v) := h.sh.kept rfl
      have s0 : Sh (wI (wL M 468 0 v) 448 0 0) := h.sh.kept rfl
      obtain ⟨k1, g1⟩ := t_noValue sL hk hm b
      have i1 : mI (wL M 468 0 v) 454 k = mI M 454 k := rfl
      have i2 : mI (wL M 468 0 v) 457 (75 * k + m) = mI M 457 (75 * k + m) := rfl
      rw [i1, i2] at g1
      have lo : ∀ a j, a ≠ 468 → mL (wI (wL M 468 0 v) 448 0 0) a j = mL M a j := fun a j ha => by
        show mL (wL M 468 0 v) a j = mL M a j
        rw [mL_wL, if_neg (fun z => ha z.1)]
      unfold K_Model_unknown g_Model_unknown K_Model_unknown_0 g_Model_unknown_0 K_Model_unknown_6 g_Model_unknown_6
      rw [g1]
      simp only [s0.R448_16, s0.R460_1, s0.N462, rowN, ixN (show 8 + (75 * k + m) < 2147483648 by omega), lo 462 _ (by decide)]
      refine ⟨⟨sL.T448, k1, fun _ => ⟨s0.T448, s0.T460, s0.T462, vpN (by omega) (by omega)⟩⟩, ?_⟩
      by_cases c : (if mI M 454 k = 0 then (1 : Int32) else if g_Model_hasValue (mI M 457 (75 * k + m)) = 0 then 1 else 0) = 0
      · rw [if_pos c, if_pos c]
      · rw [if_neg c, if_neg c]
    unfold K_LawN_unknown g_LawN_unknown K_LawN_unknown_0 g_LawN_unknown_0 K_LawN_unknown_8 g_LawN_unknown_8 K_PC_unknown g_PC_unknown K_PC_unknown_0 g_PC_unknown_0 K_PC_unknown_6 g_PC_unknown_6
    rw [show ix (0 : Int32) = 0 from rfl]
    have v1 : vp_in (0 : Int32) (mN M 468) := by rw [h.sh.N468]; exact vpN (a := 0) (by decide) (by decide)
    rcases see_val h hk hm with ⟨w1, w2, e⟩ | ⟨w1, w2⟩
    · obtain ⟨y1, y2⟩ := a2 w1
      rw [y1, if_neg (show ¬ mR M 442 k + 2 + 2 * m + 1 = 0 by omega)]
      obtain ⟨t1, t2⟩ := tw (mL M (mR M 442 k + 2 + 2 * m + 1) 1)
      have qe : (mL M (mR M 442 k + 2 + 2 * m + 1) 1) = (mL M 462 (8 + (75 * k + m))) := by
        have q1 : mL M (mR M 442 k + 2 + 2 * m + 1) 1 = mL M 462 (8 + (75 * k + m)) := congrArg AV.u e
        rw [q1]
      rw [w2, if_pos rfl, ← qe] at t2
      refine ⟨⟨h.sh.T100, fun _ => ⟨h.sh.T100, ⟨h.sh.T100, a1, fun _ => y2⟩, h.sh.T468, v1⟩⟩, t1, ?_⟩
      rw [t2]; exact an_ok h _
    · rw [a3 w1, if_pos rfl]
      obtain ⟨t1, t2⟩ := tw 0
      rw [w2, if_neg i1_0] at t2
      refine ⟨⟨h.sh.T100, fun _ => ⟨h.sh.T100, ⟨h.sh.T100, a1, fun z => absurd rfl z⟩, h.sh.T468, v1⟩⟩, t1, ?_⟩
      rw [t2]; exact an_ok h _
end QS
