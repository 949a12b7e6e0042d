/-! part 47zu: the twin's things on memory (gen/tpl.py) -/
theorem ixN {a : Nat} (h : a < 2147483648) : ix (Int32.ofNat a) = a := by
  show (Int32.ofNat a).toInt.toNat = a
  rw [toInt_ofNat32 h]; rfl
theorem vpN {a n : Nat} (h : a < n) (h2 : a < 2147483648) : vp_in (Int32.ofNat a) n := by
  rintro (z | z)
  · rw [lt_u3, toInt_ofNat32 h2] at z
    have : (0 : Int32).toInt = 0 := rfl
    omega
  · have : n ≤ ix (Int32.ofNat a) := z
    rw [ixN h2] at this
    omega
theorem thingN (k m : Nat) : g_Model_thing (Int32.ofNat k) (Int32.ofNat m) = Int32.ofNat (75 * k + m) := by
  unfold g_Model_thing g_Model_thing_0
  rw [Int32.ofNat_add, Int32.ofNat_mul]; rfl
theorem rowN (k m : Nat) : g_Model_row (Int32.ofNat k) (Int32.ofNat m) = Int32.ofNat (8 + (75 * k + m)) := by
  unfold g_Model_row g_Model_row_0
  rw [Int32.ofNat_add, Int32.ofNat_add, Int32.ofNat_mul, Int32.add_assoc]; rfl
/-- a thing of the twin, with its row; the row's flag -/
def tR (M : XM) (i : Nat) : TH := (mI M 457 i, mI M 458 i, mI M 459 i, tvk M (8 + i))
def tE (M : XM) (i : Nat) : Int32 := tek M (8 + i)
def sX (M : XM) (i : Nat) (t : TH) (e : Int32) : XM := (fun a j => if a = 457 ∧ j = i then t.so else if a = 458 ∧ j = i then t.de else if a = 459 ∧ j = i then t.og else if a = 467 ∧ j = 8 + i then e else M.1 a j, fun a j => if 461 ≤ a ∧ a < 467 ∧ j = 8 + i then sel t.va (a - 461) else M.2.1 a j, M.2.2)
section SX
variable (M : XM) (i : Nat) (t t' : TH) (e e' : Int32)
theorem sX_r (w : AV) : sR M (8 + i) w e = sX M i ((tR M i).so, (tR M i).de, (tR M i).og, w) e := by
  unfold sR sX
  refine Prod.ext ?_ rfl
  funext a j
  show (if a = 467 ∧ j = 8 + i then e else M.1 a j) = if a = 457 ∧ j = i then mI M 457 i else if a = 458 ∧ j = i then mI M 458 i else if a = 459 ∧ j = i then mI M 459 i else if a = 467 ∧ j = 8 + i then e else M.1 a j
  by_cases h1 : a = 457 ∧ j = i
  · rw [if_pos h1, if_neg (by omega), h1.1, h1.2]; rfl
  · rw [if_neg h1]
    by_cases h2 : a = 458 ∧ j = i
    · rw [if_pos h2, if_neg (by omega), h2.1, h2.2]; rfl
    · rw [if_neg h2]
      by_cases h3 : a = 459 ∧ j = i
      · rw [if_pos h3, if_neg (by omega), h3.1, h3.2]; rfl
      · rw [if_neg h3]
theorem sX_i {b : Nat} {v : Int32} (hb : b = 457 ∨ b = 458 ∨ b = 459) : wI M b i v = sX M i (if b = 457 then v else (tR M i).so, if b = 458 then v else (tR M i).de, if b = 459 then v else (tR M i).og, (tR M i).va) (tE M i) := by
  unfold wI sX
  refine Prod.ext ?_ (Prod.ext ?_ rfl)
  · funext a j
    show (if a = b ∧ j = i then v else M.1 a j) = if a = 457 ∧ j = i then (if b = 457 then v else mI M 457 i) else if a = 458 ∧ j = i then (if b = 458 then v else mI M 458 i) else if a = 459 ∧ j = i then (if b = 459 then v else mI M 459 i) else if a = 467 ∧ j = 8 + i then mI M 467 (8 + i) else M.1 a j
    by_cases h1 : a = 457 ∧ j = i
    · rw [if_pos h1, h1.1, h1.2]
      by_cases hb1 : b = 457
      · rw [if_pos hb1, if_pos ⟨hb1.symm, rfl⟩]
      · rw [if_neg hb1, if_neg (fun z => hb1 z.1.symm)]; rfl
    · rw [if_neg h1]
      by_cases h2 : a = 458 ∧ j = i
      · rw [if_pos h2, h2.1, h2.2]
        by_cases hb1 : b = 458
        · rw [if_pos hb1, if_pos ⟨hb1.symm, rfl⟩]
        · rw [if_neg hb1, if_neg (fun z => hb1 z.1.symm)]; rfl
      · rw [if_neg h2]
        by_cases h3 : a = 459 ∧ j = i
        · rw [if_pos h3, h3.1, h3.2]
          by_cases hb1 : b = 459
          · rw [if_pos hb1, if_pos ⟨hb1.symm, rfl⟩]
          · rw [if_neg hb1, if_neg (fun z => hb1 z.1.symm)]; rfl
        · rw [if_neg h3]
          by_cases h4 : a = 467 ∧ j = 8 + i
          · rw [if_pos h4, if_neg (by omega), h4.1, h4.2]; rfl
          · rw [if_neg h4, if_neg (by omega)]
  · funext a j
    show M.2.1 a j = if 461 ≤ a ∧ a < 467 ∧ j = 8 + i then sel (tvk M (8 + i)) (a - 461) else M.2.1 a j
    by_cases h : 461 ≤ a ∧ a < 467 ∧ j = 8 + i
    · rw [if_pos h, h.2.2]
      have : a = 461 ∨ a = 462 ∨ a = 463 ∨ a = 464 ∨ a = 465 ∨ a = 466 := by omega
      rcases this with rfl | rfl | rfl | rfl | rfl | rfl <;> rfl
    · rw [if_neg h]
theorem sX57 (v : Int32) : wI M 457 i v = sX M i (v, (tR M i).de, (tR M i).og, (tR M i).va) (tE M i) := sX_i M i (Or.inl rfl)
theorem sX58 (v : Int32) : wI M 458 i v = sX M i ((tR M i).so, v, (tR M i).og, (tR M i).va) (tE M i) := sX_i M i (Or.inr (Or.inl rfl))
theorem sX59 (v : Int32) : wI M 459 i v = sX M i ((tR M i).so, (tR M i).de, v, (tR M i).va) (tE M i) := sX_i M i (Or.inr (Or.inr rfl))
theorem mI_sXa {a : Nat} (h : ¬ (457 ≤ a ∧ a ≤ 459) ∧ a ≠ 467) (j : Nat) : mI (sX M i t e) a j = mI M a j := by
  show (if a = 457 ∧ j = i then t.so else if a = 458 ∧ j = i then t.de else if a = 459 ∧ j = i then t.og else if a = 467 ∧ j = 8 + i then e else M.1 a j) = M.1 a j
  rw [if_neg (by omega), if_neg (by omega), if_neg (by omega), if_neg (by omega)]
theorem mI_sXj {a j : Nat} (h : 457 ≤ a ∧ a ≤ 459) (hj : j ≠ i) : mI (sX M i t e) a j = mI M a j := by
  show (if a = 457 ∧ j = i then t.so else if a = 458 ∧ j = i then t.de else if a = 459 ∧ j = i then t.og else if a = 467 ∧ j = 8 + i then e else M.1 a j) = M.1 a j
  rw [if_neg (by omega), if_neg (by omega), if_neg (by omega), if_neg (by omega)]
theorem mL_sXa {a : Nat} (h : ¬ (461 ≤ a ∧ a < 467)) (j : Nat) : mL (sX M i t e) a j = mL M a j := if_neg (fun z => h ⟨z.1, z.2.1⟩)
theorem tvk_sX : tvk (sX M i t e) (8 + i) = t.va := tvk_sR M (8 + i) t.va e
theorem tvk_sXne {k : Nat} (h : k ≠ 8 + i) : tvk (sX M i t e) k = tvk M k := tvk_sRne M t.va e h
theorem tek_sX : tek (sX M i t e) (8 + i) = e := by
  show (if 467 = 457 ∧ 8 + i = i then t.so else if 467 = 458 ∧ 8 + i = i then t.de else if 467 = 459 ∧ 8 + i = i then t.og else if 467 = 467 ∧ 8 + i = 8 + i then e else M.1 467 (8 + i)) = e
  rw [if_neg (by omega), if_neg (by omega), if_neg (by omega), if_pos ⟨rfl, rfl⟩]
theorem tek_sXne {k : Nat} (h : k ≠ 8 + i) : tek (sX M i t e) k = tek M k := by
  show (if 467 = 457 ∧ k = i then t.so else if 467 = 458 ∧ k = i then t.de else if 467 = 459 ∧ k = i then t.og else if 467 = 467 ∧ k = 8 + i then e else M.1 467 k) = M.1 467 k
  rw [if_neg (by omega), if_neg (by omega), if_neg (by omega), if_neg (by omega)]
theorem tR_sX : tR (sX M i t e) i = t := by
  unfold tR
  rw [tvk_sX]
  have h0 : mI (sX M i t e) 457 i = t.so := by
    show (if 457 = 457 ∧ i = i then t.so else _) = t.so
    rw [if_pos ⟨rfl, rfl⟩]
  have h1 : mI (sX M i t e) 458 i = t.de := by
    show (if 458 = 457 ∧ i = i then t.so else if 458 = 458 ∧ i = i then t.de else _) = t.de
    rw [if_neg (by omega), if_pos ⟨rfl, rfl⟩]
  have h2 : mI (sX M i t e) 459 i = t.og := by
    show (if 459 = 457 ∧ i = i then t.so else if 459 = 458 ∧ i = i then t.de else if 459 = 459 ∧ i = i then t.og else _) = t.og
    rw [if_neg (by omega), if_neg (by omega), if_pos ⟨rfl, rfl⟩]
  rw [h0, h1, h2]
theorem tE_sX : tE (sX M i t e) i = e := tek_sX M i t e
theorem tR_sXne {j : Nat} (h : j ≠ i) : tR (sX M i t e) j = tR M j := by
  unfold tR
  rw [tvk_sXne M i t e (by omega), mI_sXj M i t e (by decide) h, mI_sXj M i t e (by decide) h, mI_sXj M i t e (by decide) h]
theorem tE_sXne {j : Nat} (h : j ≠ i) : tE (sX M i t e) j = tE M j := tek_sXne M i t e (by omega)
theorem sX_sX : sX (sX M i t e) i t' e' = sX M i t' e' := by
  unfold sX
  refine Prod.ext ?_ (Prod.ext ?_ rfl)
  · funext a j
    show (if a = 457 ∧ j = i then t'.so else if a = 458 ∧ j = i then t'.de else if a = 459 ∧ j = i then t'.og else if a = 467 ∧ j = 8 + i then e' else if a = 457 ∧ j = i then t.so else if a = 458 ∧ j = i then t.de else if a = 459 ∧ j = i then t.og else if a = 467 ∧ j = 8 + i then e else M.1 a j) = if a = 457 ∧ j = i then t'.so else if a = 458 ∧ j = i then t'.de else if a = 459 ∧ j = i then t'.og else if a = 467 ∧ j = 8 + i then e' else M.1 a j
    by_cases h1 : a = 457 ∧ j = i
    · rw [if_pos h1, if_pos h1]
    · by_cases h2 : a = 458 ∧ j = i
      · simp only [if_neg h1, if_pos h2]
      · by_cases h3 : a = 459 ∧ j = i
        · simp only [if_neg h1, if_neg h2, if_pos h3]
        · by_cases h4 : a = 467 ∧ j = 8 + i
          · simp only [if_neg h1, if_neg h2, if_neg h3, if_pos h4]
          · simp only [h1, h2, h3, h4, if_false]
  · funext a j
    show (if 461 ≤ a ∧ a < 467 ∧ j = 8 + i then sel t'.va (a - 461) else if 461 ≤ a ∧ a < 467 ∧ j = 8 + i then sel t.va (a - 461) else M.2.1 a j) = if 461 ≤ a ∧ a < 467 ∧ j = 8 + i then sel t'.va (a - 461) else M.2.1 a j
    by_cases h : 461 ≤ a ∧ a < 467 ∧ j = 8 + i
    · rw [if_pos h, if_pos h]
    · rw [if_neg h, if_neg h, if_neg h]
theorem mR_sX (a k : Nat) : mR (sX M i t e) a k = mR M a k := rfl
theorem mT_sX (a : Nat) : mT (sX M i t e) a = mT M a := rfl
theorem mN_sX (a : Nat) : mN (sX M i t e) a = mN M a := rfl
end SX
section MM
variable {M : XM} (h : Sh M)
theorem m_set (h : Sh M) {k m : Nat} (hk : k < 1028) (hm : m < 75) (w d : Int32) : g_Model_set 448 (Int32.ofNat k) (Int32.ofNat m) w d M = sX M (75 * k + m) (w, d, -1, (tR M (75 * k + m)).va) (tE M (75 * k + m)) ∧ K_Model_set 448 (Int32.ofNat k) (Int32.ofNat m) w d M := by
  have hb : 75 * k + m < 77100 := by omega
  constructor
  · unfold g_Model_set g_Model_set_0
    simp only [thingN, ixN (show 75 * k + m < 2147483648 by omega), mR_wI, h.R448_1, h.R448_3, h.R448_7, h.R448_8, h.R448_9, h.R448_10, h.R448_11, h.R448_12, h.R448_13, h.R448_14, h.R448_15, h.R448_16, sX57, sX58, sX59, tR_sX, tE_sX, sX_sX, mR_sX, tpS, tpD, tpO, tpV]
  · unfold K_Model_set K_Model_set_0
    simp only [thingN, h.R448_1, h.R448_3, h.R448_7, h.R448_8, h.R448_9, h.R448_10, h.R448_11, h.R448_12, h.R448_13, h.R448_14, h.R448_15, h.R448_16, h.T448, h.T449, h.T450, h.T451, h.T452, h.T453, h.T454, h.T455, h.T456, h.T457, h.T458, h.T459, h.T460, h.N449, h.N450, h.N451, h.N452, h.N453, h.N454, h.N455, h.N456, h.N457, h.N458, h.N459, vpN hb (by omega), and_self]
theorem m_copyThing (h : Sh M) {k m k' m' : Nat} (hk : k < 1028) (hm : m < 75) (hk' : k' < 1028) (hm' : m' < 75) : g_Model_copyThing 448 (Int32.ofNat k) (Int32.ofNat m) (Int32.ofNat k') (Int32.ofNat m') M = sX M (75 * k' + m') (tR M (75 * k + m)) (j_z (tE M (75 * k + m))) ∧ K_Model_copyThing 448 (Int32.ofNat k) (Int32.ofNat m) (Int32.ofNat k') (Int32.ofNat m') M := by
  have hb : 75 * k + m < 77100 := by omega
  have hb' : 75 * k' + m' < 77100 := by omega
  have r1 : rk (Int32.ofNat (8 + (75 * k + m))) := vpN (by omega) (by omega)
  have r2 : rk (Int32.ofNat (8 + (75 * k' + m'))) := vpN (by omega) (by omega)
  have cp : ∀ N : XM, N.2.2 = M.2.2 → g_Sets_copy 460 (Int32.ofNat (8 + (75 * k + m))) (Int32.ofNat (8 + (75 * k' + m'))) N = sR N (8 + (75 * k' + m')) (tvk N (8 + (75 * k + m))) (j_z (tek N (8 + (75 * k + m)))) ∧ K_Sets_copy 460 (Int32.ofNat (8 + (75 * k + m))) (Int32.ofNat (8 + (75 * k' + m'))) N := fun N e => by
    have := t_copy (h.kept e) (Int32.ofNat (8 + (75 * k + m))) (Int32.ofNat (8 + (75 * k' + m')))
    rw [ixN (by omega), ixN (by omega)] at this
    exact ⟨this, kt_copy (h.kept e) r1 r2⟩
  constructor
  · unfold g_Model_copyThing g_Model_copyThing_0 g_Model_copyThing_21 g_Model_copyThing_42 g_Model_copyThing_63
    simp only [thingN, rowN, ixN (show 75 * k + m < 2147483648 by omega), ixN (show 75 * k' + m' < 2147483648 by omega), mR_wI, h.R448_1, h.R448_3, h.R448_7, h.R448_8, h.R448_9, h.R448_10, h.R448_11, h.R448_12, h.R448_13, h.R448_14, h.R448_15, h.R448_16]
    refine ((cp _ ?_).1).trans ?_
    · rfl
    by_cases c : 75 * k + m = 75 * k' + m'
    · rw [c]
      have self : ∀ (b : Nat) (v : Int32), v = mI M b (75 * k' + m') → wI M b (75 * k' + m') v = M := fun b v hv => by
        unfold wI
        refine Prod.ext ?_ rfl
        funext a j
        show (if a = b ∧ j = 75 * k' + m' then v else M.1 a j) = M.1 a j
        by_cases h : a = b ∧ j = 75 * k' + m'
        · rw [if_pos h, hv, h.1, h.2]; rfl
        · rw [if_neg h]
      rw [self 457 _ rfl, self 458 _ rfl, self 459 _ rfl, sX_r]
      rfl
    · have e1 : ∀ (N : XM) b (v : Int32) a, mI (wI N b (75 * k' + m') v) a (75 * k + m) = mI N a (75 * k + m) := fun N b v a => by rw [mI_wI, if_neg (fun z => c z.2)]
      have e2 : ∀ (N : XM) b (v : Int32) q, tvk (wI N b (75 * k' + m') v) q = tvk N q := fun N b v q => rfl
      have e3 : ∀ (N : XM) (v : Int32) q, tek (wI N 457 (75 * k' + m') v) q = tek N q := fun N v q => by unfold tek; rw [mI_wI, if_neg (by omega)]
      have e4 : ∀ (N : XM) (v : Int32) q, tek (wI N 458 (75 * k' + m') v) q = tek N q := fun N v q => by unfold tek; rw [mI_wI, if_neg (by omega)]
      have e5 : ∀ (N : XM) (v : Int32) q, tek (wI N 459 (75 * k' + m') v) q = tek N q := fun N v q => by unfold tek; rw [mI_wI, if_neg (by omega)]
      simp only [e1, e2, e3, e4, e5]
      simp only [sX57, sX58, sX59, sX_r, tR_sX, tE_sX, sX_sX, tpS, tpD, tpO, tpV]
      rfl
  · unfold K_Model_copyThing K_Model_copyThing_0 K_Model_copyThing_21 K_Model_copyThing_42 K_Model_copyThing_63
    simp only [thingN, rowN, mR_wI, mT_wI, mN_wI, h.R448_1, h.R448_3, h.R448_7, h.R448_8, h.R448_9, h.R448_10, h.R448_11, h.R448_12, h.R448_13, h.R448_14, h.R448_15, h.R448_16, h.T448, h.T449, h.T450, h.T451, h.T452, h.T453, h.T454, h.T455, h.T456, h.T457, h.T458, h.T459, h.T460, h.N449, h.N450, h.N451, h.N452, h.N453, h.N454, h.N455, h.N456, h.N457, h.N458, h.N459, vpN hb (show 75 * k + m < 2147483648 by omega), vpN hb' (show 75 * k' + m' < 2147483648 by omega), true_and, and_true]
    refine (cp _ ?_).2
    rfl
theorem m_setNumber (h : Sh M) {k m : Nat} (hk : k < 1028) (hm : m < 75) {r : Int32} (hr : rk r) : g_Model_setNumber 448 (Int32.ofNat k) (Int32.ofNat m) r M = sX M (75 * k + m) (1, 0, -1, tvk M (ix r)) (j_z (tek M (ix r))) ∧ K_Model_setNumber 448 (Int32.ofNat k) (Int32.ofNat m) r M := by
  have hb : 75 * k + m < 77100 := by omega
  obtain ⟨s1, s2⟩ := m_set h hk hm 1 0
  have r2 : rk (Int32.ofNat (8 + (75 * k + m))) := vpN (by omega) (by omega)
  have sS : Sh (sX M (75 * k + m) (1, 0, -1, (tR M (75 * k + m)).va) (tE M (75 * k + m))) := h.kept rfl
  have tc := t_copy sS r (Int32.ofNat (8 + (75 * k + m)))
  rw [ixN (show 8 + (75 * k + m) < 2147483648 by omega)] at tc
  have kc := kt_copy sS hr r2
  have ev : tvk (sX M (75 * k + m) (1, 0, -1, (tR M (75 * k + m)).va) (tE M (75 * k + m))) (ix r) = tvk M (ix r) := by
    by_cases c : ix r = 8 + (75 * k + m)
    · rw [c, tvk_sX]; rfl
    · rw [tvk_sXne _ _ _ _ c]
  have ee : tek (sX M (75 * k + m) (1, 0, -1, (tR M (75 * k + m)).va) (tE M (75 * k + m))) (ix r) = tek M (ix r) := by
    by_cases c : ix r = 8 + (75 * k + m)
    · rw [c, tek_sX]; rfl
    · rw [tek_sXne _ _ _ _ c]
  constructor
  · unfold g_Model_setNumber g_Model_setNumber_0 g_Model_setNumber_8
    rw [s1, mR_sX, h.R448_16, rowN, tc, ev, ee, sX_r, tR_sX, sX_sX]
  · unfold K_Model_setNumber K_Model_setNumber_0 K_Model_setNumber_8
    rw [s1, mR_sX, h.R448_16, rowN]
    exact ⟨h.T448, s2, h.T448, h.T460, kc⟩
end MM
