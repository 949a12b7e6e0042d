/-! part 47zv: joining things; the component's goTo behind its first visit (gen/tpl.py) -/
def hvB (s : Int32) : Bool := decide (s = 1) || decide (s = 4) || decide (s = 7)
def wrT (t : TH) : Int32 := if t.so = 9 then t.de else if t.so = 1 then 255 else 0
noncomputable def pJoin (slot wd : Int32) (x y : TH) : TH := if (x.so = y.so ∧ x.de = y.de ∧ x.og = y.og) ∧ ¬ x.so = 9 then (x.so, x.de, x.og, if hvB x.so = true then vJoin wd x.va y.va else x.va) else if slot = 0 then (0, 0, -1, vOne 0) else (9, wrT x &&& wrT y, -1, vOne 0)
section CJ
variable {M : XM}
theorem thS {r : Nat} : (thC M r).so = mI M r 0 := rfl
theorem thD {r : Nat} : (thC M r).de = mI M r 1 := rfl
theorem thO {r : Nat} : (thC M r).og = mI M r 2 := rfl
theorem thV {r : Nat} : (thC M r).va = gv6 M (r + 1) := rfl
theorem Fr.st {J : Nat → Prop} {r : Nat} {t : TH} (h1 : J r) (h2 : J (r + 1)) : Fr J M (sT M r t) := ⟨rfl, fun q hq i => ⟨mI_sTne M r t (fun (e : q = r) => hq (e ▸ h1)) i, mL_sTne M r t (fun (e : q = r + 1) => hq (e ▸ h2)) i⟩⟩
theorem Fr.th {J : Nat → Prop} {M M' : XM} {r : Nat} (h : Fr J M M') (h1 : ¬ J r) (h2 : ¬ J (r + 1)) : thC M' r = thC M r := by
  unfold thC
  rw [(h.2 r h1 0).1, (h.2 r h1 1).1, (h.2 r h1 2).1, h.gv h2]
theorem h_like {a b : Nat} (ha : mT M a = 25) (hb : mT M b = 25) : g_Thing_isLike a b M = (if (thC M a).so = (thC M b).so ∧ (thC M a).de = (thC M b).de ∧ (thC M a).og = (thC M b).og then 1 else 0) ∧ K_Thing_isLike a b M := by
  constructor
  · unfold g_Thing_isLike g_Thing_isLike_0
    simp only [thS, thD, thO]
    by_cases c1 : mI M a 0 = mI M b 0 <;> by_cases c2 : mI M a 1 = mI M b 1 <;> by_cases c3 : mI M a 2 = mI M b 2 <;> simp only [c1, c2, c3, if_true, if_false, and_true, and_false, true_and, false_and]
  · unfold K_Thing_isLike K_Thing_isLike_0
    simp [ha, hb]
theorem hv_if (s : Int32) : (if s = 1 then (1 : Int32) else if s = 4 then 1 else if s = 7 then 1 else 0) = bI (hvB s) := by
  unfold hvB
  by_cases c1 : s = 1
  · rw [c1]; decide
  · by_cases c2 : s = 4
    · rw [c2]; decide
    · by_cases c3 : s = 7
      · rw [c3]; decide
      · rw [if_neg c1, if_neg c2, if_neg c3, decide_eq_false c1, decide_eq_false c2, decide_eq_false c3]; rfl
theorem h_hasValue {a : Nat} (ha : mT M a = 25) : g_Thing_hasValue a M = bI (hvB (thC M a).so) ∧ K_Thing_hasValue a M := by
  constructor
  · exact hv_if (mI M a 0)
  · unfold K_Thing_hasValue K_Thing_hasValue_0
    simp [ha]
theorem h_written {a : Nat} (ha : mT M a = 25) : g_Thing_written a M = wrT (thC M a) ∧ K_Thing_written a M := by
  constructor
  · rfl
  · unfold K_Thing_written K_Thing_written_0
    simp [ha]
theorem h_isSame {a b : Nat} (ha : ShTh M a) (hb : ShTh M b) : (g_Thing_isSame a b M = 1 ∧ thC M a = thC M b ∨ g_Thing_isSame a b M = 0 ∧ ¬ thC M a = thC M b) ∧ K_Thing_isSame a b M := by
  obtain ⟨l1, l2⟩ := h_like ha.1 hb.1
  have i1 : ¬ (1 : Int32) = 0 := by decide
  have i2 : ¬ (0 : Int32) = 1 := by decide
  have e : thC M a = thC M b ↔ (mI M a 0 = mI M b 0 ∧ mI M a 1 = mI M b 1 ∧ mI M a 2 = mI M b 2) ∧ mL M (a + 1) 0 = mL M (b + 1) 0 ∧ mL M (a + 1) 1 = mL M (b + 1) 1 ∧ mL M (a + 1) 2 = mL M (b + 1) 2 ∧ mL M (a + 1) 3 = mL M (b + 1) 3 ∧ mL M (a + 1) 4 = mL M (b + 1) 4 ∧ mL M (a + 1) 5 = mL M (b + 1) 5 := by
    unfold thC gv6
    simp only [Prod.mk.injEq, and_assoc]
  constructor
  · rw [e]
    unfold g_Thing_isSame g_Thing_isSame_0 g_Thing_isSame_5 g_Thing_isSame_69 g_Thing_isSame_70
    by_cases c0 : (thC M a).so = (thC M b).so ∧ (thC M a).de = (thC M b).de ∧ (thC M a).og = (thC M b).og
    · have c0' : mI M a 0 = mI M b 0 ∧ mI M a 1 = mI M b 1 ∧ mI M a 2 = mI M b 2 := c0
      rw [l1, if_pos c0]
      simp only [ha.2.1, hb.2.1, cmp_eq]
      by_cases c1 : mL M (a + 1) 0 = mL M (b + 1) 0 <;> by_cases c2 : mL M (a + 1) 1 = mL M (b + 1) 1 <;> by_cases c3 : mL M (a + 1) 2 = mL M (b + 1) 2 <;> by_cases c4 : mL M (a + 1) 3 = mL M (b + 1) 3 <;> by_cases c5 : mL M (a + 1) 4 = mL M (b + 1) 4 <;> by_cases c6 : mL M (a + 1) 5 = mL M (b + 1) 5 <;> simp only [c0', c1, c2, c3, c4, c5, c6, i1, i2, if_true, if_false, and_self, and_true, and_false, true_and, false_and, not_true, not_false_iff, or_true, true_or, or_false, false_or, eq_self]
    · right
      rw [l1, if_neg c0]
      simp only [ha.2.1, hb.2.1, cmp_eq]
      refine ⟨?_, fun z => c0 z.1⟩
      simp only [if_true]
      split
      · split
        · split
          · split <;> rfl
          · rfl
        · rfl
      · rfl
  · unfold K_Thing_isSame K_Thing_isSame_0 K_Thing_isSame_5 K_Thing_isSame_69 K_Thing_isSame_70
    simp only [ha.2.1, hb.2.1]
    simp [ha.1, ha.2.2, hb.1, hb.2.2, l2]
def JJ (q : Nat) : Prop := q = 443 ∨ q = 444 ∨ q = 112 ∨ q = 113 ∨ q = 132
theorem c_join (h : Sh M) {a b : Nat} (ha : ShTh M a) (hb : ShTh M b) (na : a ≠ 443) (nb : b ≠ 443) (slot wd : Int32) : K_Checker_join 101 a b slot wd M ∧ Fr JJ M (g_Checker_join 101 a b slot wd M) ∧ thC (g_Checker_join 101 a b slot wd M) 443 = pJoin slot wd (thC M a) (thC M b) := by
  obtain ⟨l1, l2⟩ := h_like ha.1 hb.1
  have h3 := h.Th443
  have j3 : JJ 443 := Or.inl rfl
  have j4 : JJ 444 := Or.inr (Or.inl rfl)
  have na2 : a + 1 ≠ 132 := fun e => by
    have : a = 131 := by omega
    rw [this] at ha
    have := h.T131
    rw [ha.1] at this; cases this
  have nb2 : b + 1 ≠ 132 := fun e => by
    have : b = 131 := by omega
    rw [this] at hb
    have := h.T131
    rw [hb.1] at this; cases this
  have na3 : a ≠ 444 := fun e => by
    have := ha.1
    rw [e, h3.2.2] at this; cases this
  have i1 : ¬ (1 : Int32) = 0 := by decide
  have w1 := h_written ha.1
  have w2 := h_written hb.1
  -- the end without likeness
  have p80 : K_Checker_join_80 101 a b slot M ∧ Fr JJ M (g_Checker_join_80 101 a b slot M) ∧ thC (g_Checker_join_80 101 a b slot M) 443 = (if slot = 0 then (0, 0, -1, vOne 0) else (9, wrT (thC M a) &&& wrT (thC M b), -1, vOne 0)) := by
    unfold g_Checker_join_80 K_Checker_join_80 g_Checker_join_100
    rw [h.R101_6]
    obtain ⟨n1, n2⟩ := h_nothing h3
    obtain ⟨b1, b2⟩ := h_bytes h3 (g_Thing_written a M &&& g_Thing_written b M)
    by_cases c : slot = 0
    · rw [if_pos c, if_pos c, n1, thC_sT]
      exact ⟨⟨fun _ => ⟨h.T101, h3.1, n2⟩, fun z => absurd c z⟩, Fr.st j3 j4, rfl⟩
    · rw [if_neg c, if_neg c, b1, thC_sT, w1.1, w2.1]
      refine ⟨⟨fun z => absurd z c, fun _ => ⟨h.T101, ha.1, w1.2, hb.1, w2.2, h3.1, b2⟩⟩, Fr.st j3 j4, rfl⟩
  -- likeness
  have p46 : K_Checker_join_46 101 a b wd (sT M 443 (thC M a)) ∧ Fr JJ M (g_Checker_join_46 101 a b wd (sT M 443 (thC M a))) ∧ thC (g_Checker_join_46 101 a b wd (sT M 443 (thC M a))) 443 = ((thC M a).so, (thC M a).de, (thC M a).og, if hvB (thC M a).so = true then vJoin wd (thC M a).va (thC M b).va else (thC M a).va) := by
    have s1 : Sh (sT M 443 (thC M a)) := h.kept rfl
    have ta : thC (sT M 443 (thC M a)) a = thC M a := thC_sTne _ _ _ na
    obtain ⟨v1, v2⟩ := h_hasValue (M := sT M 443 (thC M a)) (a := a) ha.1
    rw [ta] at v1
    unfold g_Checker_join_46 K_Checker_join_46 g_Checker_join_77
    rw [v1]
    simp only [mR_sT, h.R101_3, h.R101_6, ha.2.1, hb.2.1, h3.2.1]
    obtain ⟨r1, r2, r3⟩ := r_join (M := sT M 443 (thC M a)) s1 (a := a + 1) (b := b + 1) (t := 443 + 1) (wd := wd) ha.2.2 hb.2.2 h3.2.2 na2 nb2
    have ga : gv6 (sT M 443 (thC M a)) (a + 1) = (thC M a).va := by
      rw [gv6_sTne _ _ _ (by omega)]; rfl
    have gb : gv6 (sT M 443 (thC M a)) (b + 1) = (thC M b).va := by
      rw [gv6_sTne _ _ _ (by omega)]; rfl
    rw [ga, gb] at r3
    cases c : hvB (thC M a).so
    · rw [if_pos (show bI false = 0 from rfl), if_neg (by decide), thC_sT]
      exact ⟨⟨ha.1, v2, fun z => absurd rfl z⟩, Fr.st j3 j4, rfl⟩
    · rw [if_neg (show ¬ bI true = 0 from by decide), if_pos rfl]
      refine ⟨⟨ha.1, v2, fun _ => ⟨h.T101, ha.1, hb.1, h.T101, h3.1, h.T110, r1⟩⟩, (Fr.st j3 j4).trans (r2.weak fun q hq => by unfold JJ; unfold J0 at hq; omega), ?_⟩
      have hn : ¬ ((443 : Nat) = 443 + 1 ∨ J0 443) := by unfold J0; omega
      have q0 := (r2.2 443 hn 0).1
      have q1 := (r2.2 443 hn 1).1
      have q2 := (r2.2 443 hn 2).1
      have z0 : mI (sT M 443 (thC M a)) 443 0 = (thC M a).so := congrArg (fun t : TH => t.so) (thC_sT M 443 (thC M a))
      have z1 : mI (sT M 443 (thC M a)) 443 1 = (thC M a).de := congrArg (fun t : TH => t.de) (thC_sT M 443 (thC M a))
      have z2 : mI (sT M 443 (thC M a)) 443 2 = (thC M a).og := congrArg (fun t : TH => t.og) (thC_sT M 443 (thC M a))
      show (mI _ 443 0, mI _ 443 1, mI _ 443 2, gv6 _ (443 + 1)) = _
      rw [q0, q1, q2, r3, z0, z1, z2]
  obtain ⟨cp1, cp2⟩ := h_copy h3 ha
  unfold g_Checker_join K_Checker_join g_Checker_join_0 K_Checker_join_0 g_Checker_join_18 K_Checker_join_18 g_Checker_join_23 K_Checker_join_23 pJoin
  rw [h.R101_6, cp1, l1]
  by_cases c1 : mI M a 0 = 9
  · have n : ¬ (((thC M a).so = (thC M b).so ∧ (thC M a).de = (thC M b).de ∧ (thC M a).og = (thC M b).og) ∧ ¬ (thC M a).so = 9) := fun z => z.2 c1
    rw [if_pos c1, if_neg i1, if_neg n]
    exact ⟨⟨ha.1, fun _ => ⟨fun z => absurd z i1, fun _ => p80.1⟩, fun z => absurd c1 z⟩, p80.2⟩
  · rw [if_neg c1]
    by_cases c2 : mI M b 0 = 9
    · have n : ¬ (((thC M a).so = (thC M b).so ∧ (thC M a).de = (thC M b).de ∧ (thC M a).og = (thC M b).og) ∧ ¬ (thC M a).so = 9) := fun z => z.2 (z.1.1.trans c2)
      rw [if_pos c2, if_neg i1, if_neg n]
      exact ⟨⟨ha.1, fun z => absurd z c1, fun _ => ⟨hb.1, fun _ => ⟨fun z => absurd z i1, fun _ => p80.1⟩, fun z => absurd c2 z⟩⟩, p80.2⟩
    · rw [if_neg c2, if_pos rfl]
      by_cases c3 : (thC M a).so = (thC M b).so ∧ (thC M a).de = (thC M b).de ∧ (thC M a).og = (thC M b).og
      · rw [if_pos c3, if_neg i1, if_pos ⟨c3, c1⟩]
        exact ⟨⟨ha.1, fun z => absurd z c1, fun _ => ⟨hb.1, fun z => absurd z c2, fun _ => ⟨fun _ => ⟨ha.1, l2, fun z => absurd z i1, fun _ => ⟨h.T101, h3.1, cp2, p46.1⟩⟩, fun z => absurd rfl z⟩⟩⟩, p46.2⟩
      · rw [if_neg c3, if_pos rfl, if_neg (fun z => c3 z.1)]
        exact ⟨⟨ha.1, fun z => absurd z c1, fun _ => ⟨hb.1, fun z => absurd z c2, fun _ => ⟨fun _ => ⟨ha.1, l2, fun _ => p80.1, fun z => absurd rfl z⟩, fun z => absurd rfl z⟩⟩⟩, p80.2⟩
end CJ
