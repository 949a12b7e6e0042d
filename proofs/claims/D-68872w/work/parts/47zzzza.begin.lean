/-! part 47zzzza: the twin's begin (gen/tpl.py) -/
section TBG
variable {M : XM}
theorem tb_48 : ∀ (m k f : Nat) (M : XM), k + m = 75 → m < f → TW M → (∀ n, n < k → nrm (tR M (75 * 0 + n)) = clr n) →
    K_Model_begin_48 f 448 (Int32.ofNat k) M ∧ TW (g_Model_begin_48 f 448 (Int32.ofNat k) M) ∧ FK 0 M (g_Model_begin_48 f 448 (Int32.ofNat k) M) ∧ vwT (g_Model_begin_48 f 448 (Int32.ofNat k) M) 0 = sg0 ∧ mI (g_Model_begin_48 f 448 (Int32.ofNat k) M) 454 0 = 1 ∧ mI (g_Model_begin_48 f 448 (Int32.ofNat k) M) 455 0 = 0 := by
  intro m
  induction m with
  | zero =>
    intro k f M hk hf tw e1
    obtain rfl : k = 75 := by omega
    obtain ⟨f, rfl⟩ : ∃ f', f = f' + 1 := ⟨f - 1, by omega⟩
    conv => unfold K_Model_begin_48 g_Model_begin_48
    have i1 : (75 : Int32) ≤ Int32.ofNat 75 := by decide
    rw [if_pos i1]
    unfold g_Model_begin_87 K_Model_begin_87 g_Model_begin_96 K_Model_begin_96
    have c0 : (0 : Int32) = Int32.ofNat 0 := rfl
    have a1 := m_set tw.1 (k := 0) (m := 1) (by decide) (by decide) 2 0
    have e0 : Int32.ofNat 0 = 0 := rfl
    have e1' : Int32.ofNat 1 = 1 := rfl
    have e10 : Int32.ofNat 10 = 10 := rfl
    rw [e0, e1'] at a1
    rw [a1.1]
    have tw1 : TW (sX M (75 * 0 + 1) (2, 0, -1, (tR M (75 * 0 + 1)).va) (tE M (75 * 0 + 1))) := tw.sx (tw.2.1 _ (by decide)).1 (tw.2.1 _ (by decide)).2
    have f1 : FK 0 M (sX M (75 * 0 + 1) (2, 0, -1, (tR M (75 * 0 + 1)).va) (tE M (75 * 0 + 1))) := FK.sx (by decide)
    have v1 : vwT (sX M (75 * 0 + 1) (2, 0, -1, (tR M (75 * 0 + 1)).va) (tE M (75 * 0 + 1))) 0 = up (vwT M 0) 1 (2, 0, -1, vOne 0) := vwT_sX (by decide) _ _
    generalize sX M (75 * 0 + 1) (2, 0, -1, (tR M (75 * 0 + 1)).va) (tE M (75 * 0 + 1)) = M1 at tw1 f1 v1 ⊢
    have a2 := m_set tw1.1 (k := 0) (m := 10) (by decide) (by decide) 3 0
    rw [e0, e10] at a2
    rw [a2.1]
    have tw2 : TW (sX M1 (75 * 0 + 10) (3, 0, -1, (tR M1 (75 * 0 + 10)).va) (tE M1 (75 * 0 + 10))) := tw1.sx (tw1.2.1 _ (by decide)).1 (tw1.2.1 _ (by decide)).2
    have f2 : FK 0 M1 (sX M1 (75 * 0 + 10) (3, 0, -1, (tR M1 (75 * 0 + 10)).va) (tE M1 (75 * 0 + 10))) := FK.sx (by decide)
    have v2 : vwT (sX M1 (75 * 0 + 10) (3, 0, -1, (tR M1 (75 * 0 + 10)).va) (tE M1 (75 * 0 + 10))) 0 = up (vwT M1 0) 10 (3, 0, -1, vOne 0) := vwT_sX (by decide) _ _
    generalize sX M1 (75 * 0 + 10) (3, 0, -1, (tR M1 (75 * 0 + 10)).va) (tE M1 (75 * 0 + 10)) = M2 at tw2 f2 v2 ⊢
    have s2 := tw2.1
    have r54 : mR (wI M2 454 0 1) 448 11 = 455 := s2.R448_11
    rw [s2.R448_10, show ix (0 : Int32) = 0 from rfl, s2.R448_11, s2.N454, s2.N455]
    have vp : vp_in (0 : Int32) 1028 := vpN (a := 0) (by decide) (by decide)
    refine ⟨⟨fun _ => ⟨tw.1.T448, a1.2, tw1.1.T448, a2.2, s2.T448, s2.T454, vp, s2.T448, s2.T455, vp⟩, fun z => absurd i1 z⟩, (tw2.wi (by decide)).wi (by decide), (f1.trans f2).trans ((FK.wi (Or.inl rfl)).trans (FK.wi (Or.inr rfl))), ?_, ?_, ?_⟩
    · rw [vwT_wi (by decide), vwT_wi (by decide), v2, v1]
      funext n
      unfold up sg0
      by_cases c : n < 75
      · rw [if_pos c]
        by_cases c10 : n = 10
        · rw [if_pos c10, if_pos c10]
        · rw [if_neg c10, if_neg c10]
          by_cases c1 : n = 1
          · rw [if_pos c1, if_pos c1]
          · rw [if_neg c1, if_neg c1, vwT_at c]; exact e1 n c
      · rw [if_neg c, if_neg (by omega), if_neg (by omega), vwT_hi c]
    · rw [mI_wI, if_neg (by omega), mI_wI, if_pos ⟨rfl, rfl⟩]
    · rw [mI_wI, if_pos ⟨rfl, rfl⟩]
  | succ m ih =>
    intro k f M hk hf tw e1
    obtain ⟨f, rfl⟩ : ∃ f', f = f' + 1 := ⟨f - 1, by omega⟩
    have hk75 : k < 75 := by omega
    have i1 : ¬ (75 : Int32) ≤ Int32.ofNat k := i32_le75 ⟨k, hk75⟩
    have i11 := i32_le11 ⟨k, by omega⟩
    conv => unfold K_Model_begin_48 g_Model_begin_48
    rw [if_neg i1]
    unfold g_Model_begin_69 K_Model_begin_69 g_Model_begin_73 K_Model_begin_73
    have e0 : Int32.ofNat 0 = 0 := rfl
    have nx : ∀ w : Int32, nrm (w, 0, -1, (tR M (75 * 0 + k)).va) = clr k → K_Model_set 448 0 (Int32.ofNat k) w 0 M ∧ _ := fun w hw => by
      have a1 := m_set tw.1 (k := 0) (m := k) (by decide) hk75 w 0
      rw [e0] at a1
      refine ⟨a1.2, ?_⟩
      exact ih (k + 1) f (g_Model_set 448 0 (Int32.ofNat k) w 0 M) (by omega) (by omega) (by rw [a1.1]; exact tw.sx (tw.2.1 _ (by omega)).1 (tw.2.1 _ (by omega)).2) (fun n hn => by
        rw [a1.1]
        by_cases q : n = k
        · rw [q, tR_sX]; exact hw
        · rw [tR_sXne _ _ _ _ (by omega)]; exact e1 n (by omega))
    have fk : ∀ w : Int32, FK 0 M (g_Model_set 448 0 (Int32.ofNat k) w 0 M) := fun w => by
      have a1 := m_set tw.1 (k := 0) (m := k) (by decide) hk75 w 0
      rw [e0] at a1
      rw [a1.1]; exact FK.sx hk75
    rw [add1_32]
    by_cases c : (11 : Int32) ≤ Int32.ofNat k
    · rw [if_pos c]
      obtain ⟨n1, n2, n3, n4, n5⟩ := nx 9 (by unfold clr; rw [if_neg (i11.mp c)]; exact nrm_no rfl)
      exact ⟨⟨fun z => absurd z i1, fun _ => ⟨fun _ => ⟨tw.1.T448, n1, n2⟩, fun z => absurd c z⟩⟩, n3, (fk 9).trans n4, n5⟩
    · rw [if_neg c]
      obtain ⟨n1, n2, n3, n4, n5⟩ := nx 0 (by unfold clr; rw [if_pos (Decidable.not_not.mp (fun z => c (i11.mpr z)))]; exact nrm_no rfl)
      exact ⟨⟨fun z => absurd z i1, fun _ => ⟨fun z => absurd z c, fun _ => ⟨tw.1.T448, n1, n2⟩⟩⟩, n3, (fk 0).trans n4, n5⟩
theorem TW.s6 (h : TW M) : TW (sR M 6 (vOne 0) 0) := by
  refine ⟨h.1.kept rfl, fun i hi => ?_, tvk_sR M 6 (vOne 0) 0, tek_sR M 6 (vOne 0) 0⟩
  have e1 : tE (sR M 6 (vOne 0) 0) i = tE M i := tek_sRne M (vOne 0) 0 (by omega)
  have e2 : tvk (sR M 6 (vOne 0) 0) (8 + i) = tvk M (8 + i) := tvk_sRne M (vOne 0) 0 (by omega)
  have e3 : (tR (sR M 6 (vOne 0) 0) i).va = (tR M i).va := e2
  rw [e1, e3]
  exact h.2.1 i hi
def TBQ (M X : XM) : Prop := TW X ∧ J10 X ∧ TF M X ∧ (∀ k, k < 1024 → TbT X k = if k = 0 then some (sg0, 0, 0) else none) ∧ ∀ i, mI X 448 i = mI M 448 i
theorem tb_2 : ∀ (m k f : Nat) (M1 : XM), k + m = 1024 → m < f → TW M1 → J10 M1 → TF M M1 → (∀ i, mI M1 448 i = mI M 448 i) → (∀ j, j < k → mI M1 454 j = 0 ∧ mI M1 456 j = 0) →
    K_Model_begin_2 f 448 (Int32.ofNat k) M1 ∧ TBQ M (g_Model_begin_2 f 448 (Int32.ofNat k) M1) := by
  intro m
  induction m with
  | zero =>
    intro k f M1 km mf tw j10 tf e8 no
    obtain ⟨f, rfl⟩ : ∃ f', f = f' + 1 := ⟨f - 1, by omega⟩
    conv => unfold K_Model_begin_2 g_Model_begin_2
    have le : (1024 : Int32) ≤ Int32.ofNat k := (le_ofNat (a := 1024) (by decide) (by omega)).mpr (by omega)
    rw [if_pos le, tw.1.R448_16, t_single tw.1, show ix (6 : Int32) = 6 from rfl]
    unfold K_Model_begin_46 g_Model_begin_46
    have tw1 := tw.s6
    obtain ⟨k1, w1, f1, v1, a1, a2⟩ := tb_48 75 0 xF (sR M1 6 (vOne 0) 0) (by decide) xF_75 tw1 (fun n hn => absurd hn (Nat.not_lt_zero n))
    rw [show Int32.ofNat 0 = 0 from rfl] at k1 w1 f1 v1 a1 a2
    generalize g_Model_begin_48 xF 448 0 (sR M1 6 (vOne 0) 0) = X at w1 f1 v1 a1 a2 ⊢
    have eI : ∀ a i, a ≠ 467 → mI (sR M1 6 (vOne 0) 0) a i = mI M1 a i := fun a i ha => if_neg (fun (q : a = 467 ∧ i = 6) => ha q.1)
    have tf1 : TF M1 (sR M1 6 (vOne 0) 0) := ⟨rfl, fun a j z => if_neg (fun (q : a = 467 ∧ j = 6) => z (by unfold PE PD; omega)), fun a j z => if_neg (fun (q : 461 ≤ a ∧ a < 467 ∧ j = 6) => z ⟨q.1, q.2.1, trivial⟩)⟩
    have tf2 : TF (sR M1 6 (vOne 0) 0) X := FP.weak f1 (fun a i z => by unfold PK QK at z; unfold PE PD; omega) (fun _ _ => trivial)
    refine ⟨⟨fun _ => ⟨tw.1.T448, tw.1.T460, kt_single tw.1 (vpN (a := 6) (by decide) (by decide)), k1⟩, fun z => absurd le z⟩, w1, ?_, (tf.trans tf1).trans tf2, fun q hq => ?_, fun i => ?_⟩
    · refine j10.same ?_
      rw [f1.2.1 457 76885 (by unfold PK QK; omega), eI _ _ (by decide)]
    · unfold TbT
      by_cases c : q = 0
      · rw [if_pos c, c, a1, if_neg i1_0, v1, a2, f1.2.1 456 0 (by unfold PK QK; omega), eI _ _ (by decide), (no 0 (by omega)).2]
      · rw [if_neg c, f1.2.1 454 q (by unfold PK QK; omega), eI _ _ (by decide), (no q (by omega)).1, if_pos rfl]
    · rw [f1.2.1 448 i (by unfold PK QK; omega), eI _ _ (by decide)]; exact e8 i
  | succ m ih =>
    intro k f M1 km mf tw j10 tf e8 no
    obtain ⟨f, rfl⟩ : ∃ f', f = f' + 1 := ⟨f - 1, by omega⟩
    conv => unfold K_Model_begin_2 g_Model_begin_2
    have le : ¬ (1024 : Int32) ≤ Int32.ofNat k := fun z => by have := (le_ofNat (a := 1024) (by decide) (by omega)).mp z; omega
    have s := tw.1
    rw [if_neg le, ixN (by omega), s.R448_10, s.R448_11, s.R448_12, add1_32]
    have st : TF M1 (wI (wI (wI M1 454 k 0) 455 k (-1)) 456 k 0) := ⟨rfl, fun a i z => by
      have : ¬ (454 ≤ a ∧ a ≤ 459) := fun y => z (by unfold PE PD; omega)
      rw [mI_wI, if_neg (by omega), mI_wI, if_neg (by omega), mI_wI, if_neg (by omega)], fun _ _ _ => rfl⟩
    have nx := ih (k + 1) f (wI (wI (wI M1 454 k 0) 455 k (-1)) 456 k 0) (by omega) (by omega) (((tw.wi (by decide)).wi (by decide)).wi (by decide)) (j10.same (by rw [mI_wI, if_neg (by omega), mI_wI, if_neg (by omega), mI_wI, if_neg (by omega)])) (tf.trans st) (fun i => by rw [mI_wI, if_neg (by omega), mI_wI, if_neg (by omega), mI_wI, if_neg (by omega)]; exact e8 i) (fun j hj => by
      rw [mI_wI, if_neg (by omega), mI_wI, if_neg (by omega), mI_wI, mI_wI, mI_wI, mI_wI]
      by_cases q : j = k
      · rw [if_pos ⟨rfl, q⟩, if_pos ⟨rfl, q⟩]; exact ⟨rfl, rfl⟩
      · rw [if_neg (fun z => q z.2), if_neg (fun z => q z.2), if_neg (by omega), if_neg (by omega)]; exact no j (by omega))
    have vk : vp_in (Int32.ofNat k) 1028 := vpN (by omega) (by omega)
    exact ⟨⟨fun z => absurd z le, fun _ => ⟨s.T448, s.T454, by rw [s.N454]; exact vk, s.T448, s.T455, by show vp_in _ (mN M1 455); rw [s.N455]; exact vk, s.T448, s.T456, by show vp_in _ (mN M1 456); rw [s.N456]; exact vk, nx.1⟩⟩, nx.2⟩
theorem t_begin (h : TW M) (j : J10 M) : K_Model_begin 448 M ∧ TBQ M (g_Model_begin 448 M) := by
  have xf := xF_eq
  exact tb_2 1024 0 xF M (by decide) (by omega) h j FP.rf (fun _ => rfl) (fun j hj => absurd hj (Nat.not_lt_zero j))
end TBG
