/-! part 47zg: the twin's rows on memory (printed by gen/rowsT.py) -/
def tvk (M : XM) (k : Nat) : AV := (mL M 461 k, mL M 462 k, mL M 463 k, mL M 464 k, mL M 465 k, mL M 466 k)
def tek (M : XM) (k : Nat) : Int32 := mI M 467 k
def sR (M : XM) (k : Nat) (w : AV) (e : Int32) : XM := (fun a j => if a = 467 ∧ j = k then e else M.1 a j, fun a j => if 461 ≤ a ∧ a < 467 ∧ j = k then sel w (a - 461) else M.2.1 a j, M.2.2)
theorem sR_wI {M : XM} {k : Nat} {e : Int32} : wI M 467 k e = sR M k (tvk M k) e := by
  unfold wI sR
  refine Prod.ext rfl (Prod.ext ?_ rfl)
  funext a j
  show M.2.1 a j = if 461 ≤ a ∧ a < 467 ∧ j = k then sel (tvk M k) (a - 461) else M.2.1 a j
  by_cases h : 461 ≤ a ∧ a < 467 ∧ j = k
  · rw [if_pos h, h.2.2]
    have : a = 461 ∨ a = 462 ∨ a = 463 ∨ a = 464 ∨ a = 465 ∨ a = 466 := by omega
    rcases this with rfl | rfl | rfl | rfl | rfl | rfl <;> rfl
  · rw [if_neg h]
theorem sR_one {M : XM} {k i : Nat} {v : Int64} {w : AV} (hi : i < 6) (hw : ∀ j, j < 6 → sel w j = if j = i then v else mL M (461 + j) k) : wL M (461 + i) k v = sR M k w (tek M k) := by
  unfold wL sR
  refine Prod.ext ?_ (Prod.ext ?_ rfl)
  · funext a j
    show M.1 a j = if a = 467 ∧ j = k then tek M k else M.1 a j
    by_cases h : a = 467 ∧ j = k
    · rw [if_pos h, h.1, h.2]; rfl
    · rw [if_neg h]
  · funext a j
    show (if a = 461 + i ∧ j = k then v else M.2.1 a j) = if 461 ≤ a ∧ a < 467 ∧ j = k then sel w (a - 461) else M.2.1 a j
    by_cases h : 461 ≤ a ∧ a < 467 ∧ j = k
    · rw [if_pos h, hw _ (by omega), h.2.2, show 461 + (a - 461) = a by omega]
      by_cases h2 : a = 461 + i
      · rw [if_pos ⟨h2, rfl⟩, if_pos (by omega)]
      · rw [if_neg (fun z => h2 z.1), if_neg (by omega)]; rfl
    · rw [if_neg h, if_neg (by omega)]
theorem sR461 (M : XM) (k : Nat) (v : Int64) : wL M 461 k v = sR M k (v, (tvk M k).u, (tvk M k).lo, (tvk M k).hi, (tvk M k).le, (tvk M k).gr) (tek M k) := sR_one (i := 0) (by decide) (six rfl rfl rfl rfl rfl rfl)
theorem sR462 (M : XM) (k : Nat) (v : Int64) : wL M 462 k v = sR M k ((tvk M k).b, v, (tvk M k).lo, (tvk M k).hi, (tvk M k).le, (tvk M k).gr) (tek M k) := sR_one (i := 1) (by decide) (six rfl rfl rfl rfl rfl rfl)
theorem sR463 (M : XM) (k : Nat) (v : Int64) : wL M 463 k v = sR M k ((tvk M k).b, (tvk M k).u, v, (tvk M k).hi, (tvk M k).le, (tvk M k).gr) (tek M k) := sR_one (i := 2) (by decide) (six rfl rfl rfl rfl rfl rfl)
theorem sR464 (M : XM) (k : Nat) (v : Int64) : wL M 464 k v = sR M k ((tvk M k).b, (tvk M k).u, (tvk M k).lo, v, (tvk M k).le, (tvk M k).gr) (tek M k) := sR_one (i := 3) (by decide) (six rfl rfl rfl rfl rfl rfl)
theorem sR465 (M : XM) (k : Nat) (v : Int64) : wL M 465 k v = sR M k ((tvk M k).b, (tvk M k).u, (tvk M k).lo, (tvk M k).hi, v, (tvk M k).gr) (tek M k) := sR_one (i := 4) (by decide) (six rfl rfl rfl rfl rfl rfl)
theorem sR466 (M : XM) (k : Nat) (v : Int64) : wL M 466 k v = sR M k ((tvk M k).b, (tvk M k).u, (tvk M k).lo, (tvk M k).hi, (tvk M k).le, v) (tek M k) := sR_one (i := 5) (by decide) (six rfl rfl rfl rfl rfl rfl)
section SR
variable (M : XM) (k : Nat) (w w' : AV) (e e' : Int32) (a j : Nat)
theorem tvk_sR : tvk (sR M k w e) k = w := by
  show ((if 461 ≤ 461 ∧ 461 < 467 ∧ k = k then sel w (461 - 461) else mL M 461 k), (if 461 ≤ 462 ∧ 462 < 467 ∧ k = k then sel w (462 - 461) else mL M 462 k), (if 461 ≤ 463 ∧ 463 < 467 ∧ k = k then sel w (463 - 461) else mL M 463 k), (if 461 ≤ 464 ∧ 464 < 467 ∧ k = k then sel w (464 - 461) else mL M 464 k), (if 461 ≤ 465 ∧ 465 < 467 ∧ k = k then sel w (465 - 461) else mL M 465 k), (if 461 ≤ 466 ∧ 466 < 467 ∧ k = k then sel w (466 - 461) else mL M 466 k)) = w
  rw [if_pos ⟨by decide, by decide, rfl⟩, if_pos ⟨by decide, by decide, rfl⟩, if_pos ⟨by decide, by decide, rfl⟩, if_pos ⟨by decide, by decide, rfl⟩, if_pos ⟨by decide, by decide, rfl⟩, if_pos ⟨by decide, by decide, rfl⟩]
  rfl
theorem tek_sR : tek (sR M k w e) k = e := if_pos ⟨rfl, rfl⟩
theorem mL_sRne {a j k : Nat} (h : j ≠ k) : mL (sR M k w e) a j = mL M a j := if_neg (fun z => h z.2.2)
theorem mI_sRne {a j k : Nat} (h : j ≠ k) : mI (sR M k w e) a j = mI M a j := if_neg (fun z => h z.2)
theorem mL_sRa {a j k : Nat} (h : ¬ (461 ≤ a ∧ a < 467)) : mL (sR M k w e) a j = mL M a j := if_neg (fun z => h ⟨z.1, z.2.1⟩)
theorem mI_sRa {a j k : Nat} (h : a ≠ 467) : mI (sR M k w e) a j = mI M a j := if_neg (fun z => h z.1)
theorem tvk_sRne {j k : Nat} (h : j ≠ k) : tvk (sR M k w e) j = tvk M j := by
  unfold tvk
  simp only [mL_sRne M w e h]
theorem tek_sRne {j k : Nat} (h : j ≠ k) : tek (sR M k w e) j = tek M j := mI_sRne M w e h
theorem sR_sR : sR (sR M k w e) k w' e' = sR M k w' e' := by
  unfold sR
  refine Prod.ext ?_ (Prod.ext ?_ rfl)
  · funext a j
    show (if a = 467 ∧ j = k then e' else if a = 467 ∧ j = k then e else M.1 a j) = if a = 467 ∧ j = k then e' else M.1 a j
    by_cases h : a = 467 ∧ j = k
    · rw [if_pos h, if_pos h]
    · rw [if_neg h, if_neg h, if_neg h]
  · funext a j
    show (if 461 ≤ a ∧ a < 467 ∧ j = k then sel w' (a - 461) else if 461 ≤ a ∧ a < 467 ∧ j = k then sel w (a - 461) else M.2.1 a j) = if 461 ≤ a ∧ a < 467 ∧ j = k then sel w' (a - 461) else M.2.1 a j
    by_cases h : 461 ≤ a ∧ a < 467 ∧ j = k
    · rw [if_pos h, if_pos h]
    · rw [if_neg h, if_neg h, if_neg h]
theorem mR_sR : mR (sR M k w e) a j = mR M a j := rfl
theorem mT_sR : mT (sR M k w e) a = mT M a := rfl
theorem mN_sR : mN (sR M k w e) a = mN M a := rfl
end SR
/-- rows that can be read and written -/
def rk (k : Int32) : Prop := vp_in k 77200
theorem Sh.ss {M : XM} (h : Sh M) {k : Int32} (hk : rk k) : SS M 460 k := by
  refine ⟨h.T460, fun i hi => ?_, by rw [h.R460_6]; exact h.T467, by rw [h.R460_6, h.N467]; exact hk⟩
  have : i = 0 ∨ i = 1 ∨ i = 2 ∨ i = 3 ∨ i = 4 ∨ i = 5 := by omega
  rcases this with rfl | rfl | rfl | rfl | rfl | rfl
  · rw [h.R460_0]; exact ⟨h.T461, by rw [h.N461]; exact hk⟩
  · rw [h.R460_1]; exact ⟨h.T462, by rw [h.N462]; exact hk⟩
  · rw [h.R460_2]; exact ⟨h.T463, by rw [h.N463]; exact hk⟩
  · rw [h.R460_3]; exact ⟨h.T464, by rw [h.N464]; exact hk⟩
  · rw [h.R460_4]; exact ⟨h.T465, by rw [h.N465]; exact hk⟩
  · rw [h.R460_5]; exact ⟨h.T466, by rw [h.N466]; exact hk⟩
theorem Sh.sd {M : XM} (h : Sh M) : SD M 460 := by
  have e : ∀ i, i < 7 → mR M 460 i = 461 + i := fun i hi => by
    have : i = 0 ∨ i = 1 ∨ i = 2 ∨ i = 3 ∨ i = 4 ∨ i = 5 ∨ i = 6 := by omega
    rcases this with rfl | rfl | rfl | rfl | rfl | rfl | rfl
    · exact h.R460_0
    · exact h.R460_1
    · exact h.R460_2
    · exact h.R460_3
    · exact h.R460_4
    · exact h.R460_5
    · exact h.R460_6
  intro i j hi hj z
  rw [e i hi, e j hj] at z
  omega
theorem Sh.tv {M : XM} (h : Sh M) (k : Int32) : tv6 M 460 k = tvk M (ix k) := by
  unfold tv6 tvk
  rw [h.R460_0, h.R460_1, h.R460_2, h.R460_3, h.R460_4, h.R460_5]
theorem Sh.te {M : XM} (h : Sh M) (k : Int32) : mI M (mR M 460 6) (ix k) = tek M (ix k) := by rw [h.R460_6]; rfl
theorem RF.eq {M M' : XM} {k : Int32} (h : Sh M) (r : RF 460 k M M') : M' = sR M (ix k) (tvk M' (ix k)) (tek M' (ix k)) := by
  unfold sR
  refine Prod.ext ?_ (Prod.ext ?_ r.1)
  · funext a j
    show M'.1 a j = if a = 467 ∧ j = ix k then tek M' (ix k) else M.1 a j
    by_cases z : a = 467 ∧ j = ix k
    · rw [if_pos z, z.1, z.2]; rfl
    · rw [if_neg z]
      exact r.2.1 a j (by rw [h.R460_6]; exact z)
  · funext a j
    show M'.2.1 a j = if 461 ≤ a ∧ a < 467 ∧ j = ix k then sel (tvk M' (ix k)) (a - 461) else M.2.1 a j
    by_cases z : 461 ≤ a ∧ a < 467 ∧ j = ix k
    · rw [if_pos z, z.2.2]
      have : a = 461 ∨ a = 462 ∨ a = 463 ∨ a = 464 ∨ a = 465 ∨ a = 466 := by omega
      rcases this with rfl | rfl | rfl | rfl | rfl | rfl <;> rfl
    · rw [if_neg z]
      refine r.2.2 a j (fun y => z ?_)
      obtain ⟨⟨q, q1, q2⟩, q3⟩ := y
      have : q = 0 ∨ q = 1 ∨ q = 2 ∨ q = 3 ∨ q = 4 ∨ q = 5 := by omega
      rcases this with rfl | rfl | rfl | rfl | rfl | rfl
      · rw [h.R460_0] at q2; omega
      · rw [h.R460_1] at q2; omega
      · rw [h.R460_2] at q2; omega
      · rw [h.R460_3] at q2; omega
      · rw [h.R460_4] at q2; omega
      · rw [h.R460_5] at q2; omega
/-- tighten of a row that has a number -/
theorem t_tight {M : XM} (h : Sh M) {k : Int32} (hk : rk k) (hb : bu (tvk M (ix k))) (he : tek M (ix k) = 0) {x : Int64} (hx : vin (tvk M (ix k)) x) : K_Sets_tighten 460 k M ∧ g_Sets_tighten 460 k M = sR M (ix k) (tite (tvk M (ix k))) 0 := by
  obtain ⟨k1, k2⟩ := tight_ok (h.ss hk) h.sd (by rw [h.tv]; exact hb) (by rw [h.te]; exact he)
  have o := k2.ok (x := x) (by rw [h.tv]; exact hx)
  refine ⟨k1, (RF.eq h k2.1).trans ?_⟩
  have s' : Sh (g_Sets_tighten 460 k M) := h.kept k2.1.1
  have o1 := o.1
  have o2 := o.2.1
  rw [h.R460_6] at o1
  rw [s'.tv, h.tv] at o2
  rw [o2]
  congr 1
/-- tighten of a row that may have none -/
theorem t_tight2 {M : XM} (h : Sh M) {k : Int32} (hk : rk k) (hb : bu (tvk M (ix k))) (he : tek M (ix k) = 0 ∨ tek M (ix k) = 1) : K_Sets_tighten 460 k M ∧ ∃ e, g_Sets_tighten 460 k M = sR M (ix k) (if e = 0 then tite (tvk M (ix k)) else tvk (g_Sets_tighten 460 k M) (ix k)) e ∧ ((e = 0 ∧ tek M (ix k) = 0 ∧ IsT (vin (tvk M (ix k))) (tite (tvk M (ix k)))) ∨ (e = 1 ∧ (tek M (ix k) = 1 ∨ ∀ x, ¬ vin (tvk M (ix k)) x))) := by
  rcases he with he | he
  · obtain ⟨k1, k2⟩ := tight_ok (h.ss hk) h.sd (by rw [h.tv]; exact hb) (by rw [h.te]; exact he)
    have s' : Sh (g_Sets_tighten 460 k M) := h.kept k2.1.1
    have e0 := RF.eq h k2.1
    have e1 := k2.tte
    rw [s'.tv, h.tv] at e1
    rcases k2.2 with ⟨a1, a2⟩ | ⟨a1, a2, a3⟩
    · rw [h.R460_6] at a1
      have a1' : tek (g_Sets_tighten 460 k M) (ix k) = 0 := a1
      rw [s'.tv, h.tv] at a2
      refine ⟨k1, 0, ?_, Or.inl ⟨rfl, he, by rw [← e1]; exact a2⟩⟩
      rw [if_pos rfl, ← e1]
      rw [a1'] at e0
      exact e0
    · rw [h.R460_6] at a1
      have a1' : tek (g_Sets_tighten 460 k M) (ix k) = 1 := a1
      rw [h.tv] at a2
      refine ⟨k1, 1, ?_, Or.inr ⟨rfl, Or.inr a2⟩⟩
      rw [if_neg (by decide)]
      rw [a1'] at e0
      exact e0
  · obtain ⟨k1, k2, k3⟩ := tight_empty (h.ss hk) (by rw [h.te]; exact he)
    have e0 := RF.eq h k2
    rw [h.R460_6] at k3
    have a1' : tek (g_Sets_tighten 460 k M) (ix k) = 1 := k3
    refine ⟨k1, 1, ?_, Or.inr ⟨rfl, Or.inl he⟩⟩
    rw [if_neg (by decide)]
    rw [a1'] at e0
    exact e0
