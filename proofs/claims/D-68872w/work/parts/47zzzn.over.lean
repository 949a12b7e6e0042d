/-! part 47zzzn: all passes, on both sides (gen/tpl.py) -/
section OV
variable {mp : Mp} {B : Nat → Int32} {all : Nat} {S : Nat → Prop}
theorem SR.ch {Mc Mt : XM} (h : SR mp B all S Mc Mt) (v : Int32) : SR mp B all S (wI Mc 101 9 v) (wI Mt 448 17 v) := by
  obtain ⟨a1, a2, a3, a4, a5, a6, a7, a8, a9, a10, a11, a12, a13⟩ := h
  have k : ∀ a j, a ≠ 101 → mI (wI Mc 101 9 v) a j = mI Mc a j := fun a j ha => by rw [mI_wI, if_neg (fun z => ha z.1)]
  have k' : ∀ a j, a ≠ 448 → mI (wI Mt 448 17 v) a j = mI Mt a j := fun a j ha => by rw [mI_wI, if_neg (fun z => ha z.1)]
  have eb : bC (wI Mc 101 9 v) 103 = bC Mc 103 := funext (fun j => by unfold bC; rw [k 103 j (by decide)])
  have e50 : (fun j => mI (wI Mt 448 17 v) 450 j) = fun j => mI Mt 450 j := funext (fun j => k' 450 j (by decide))
  refine ⟨a1.kept rfl, a2.kept rfl, a3.wi (by decide), a4.same (k' 457 _ (by decide)), fun q hq => by rw [TbC.wi a2 hq (by decide), TbT.wi]; exact a5 q hq, fun q hq => by rw [TbT.wi]; exact a6 q hq, ?_, ?_, fun j hj => ?_, by rw [e50]; exact a10, ?_, by rw [k 102 2 (by decide)]; exact a12, by rw [mI_wI, if_neg (by omega)]; exact a13⟩
  · rw [← a7]
    unfold mpC
    simp only [k 107 _ (by decide), k 108 _ (by decide), k 109 _ (by decide)]
  · rw [← a8]
    unfold mpT
    simp only [k' 451 _ (by decide), k' 452 _ (by decide), k' 453 _ (by decide)]
  · rw [eb]; exact a9 j hj
  · rw [mI_wI, if_pos ⟨rfl, rfl⟩, mI_wI, if_pos ⟨rfl, rfl⟩]
theorem INV.wc {Mc Mt : XM} (hI : StI Mc) (h : INV mp B Mc Mt) {i : Nat} {v : Int32} : INV mp B (wI Mc 101 i v) Mt := by
  intro p hp is dn
  have nz : mR Mc 442 p ≠ 0 := is.1
  have big := ((hI.1 p hp).resolve_left nz).1
  have e : mR (wI Mc 101 i v) 442 p = mR Mc 442 p := rfl
  refine h p hp ⟨nz, ?_⟩ ?_
  · have := is.2
    rw [e, mI_wI, if_neg (by omega)] at this
    exact this
  · unfold pDn at dn ⊢
    rw [e, mI_wI, if_neg (by omega)] at dn
    exact dn
theorem INV.wt {Mc Mt : XM} (pf : PF B all S) (ok : TOK S (TbT Mt)) (h : INV mp B Mc Mt) {i : Nat} {v : Int32} : INV mp B Mc (wI Mt 448 i v) :=
  fun p hp is dn => Fx.cg (fun k _ => by rw [TbT.wi]) hp pf ok (h p hp is dn)
theorem eq256 {c : Nat} (h : c ≤ 256) : Int32.ofNat c = 256 ↔ c = 256 := by
  constructor
  · intro z
    have := congrArg Int32.toInt z
    rw [toInt_ofNat32 (by omega)] at this
    have e : (256 : Int32).toInt = 256 := rfl
    omega
  · intro z; rw [z]; rfl
theorem sim_over (pf : PF B all S) (wm : WM mp) : ∀ (m c fc ft : Nat) (Mc Mt : XM), c + m = 256 → m + 1 < fc → m + 1 < ft → SR mp B all S Mc Mt → INV mp B Mc Mt → mI Mc 101 8 = Int32.ofNat c → mI Mt 448 6 = Int32.ofNat c → mI Mc 101 7 = 0 → mI Mt 448 5 = 0 → (mI Mc 101 9 = 0 ∨ c < 256) →
    K_Checker_check_86 fc 101 Mc ∧ K_Model_goOver_9 ft 448 Mt ∧ (g_Checker_check_86 fc 101 Mc).1 = (g_Model_goOver_9 ft 448 Mt).1 ∧ CF Mc (g_Checker_check_86 fc 101 Mc).2 ∧ TF Mt (g_Model_goOver_9 ft 448 Mt).2 ∧ SR mp B all S (g_Checker_check_86 fc 101 Mc).2 (g_Model_goOver_9 ft 448 Mt).2 ∧ mI (g_Checker_check_86 fc 101 Mc).2 101 7 = mI (g_Model_goOver_9 ft 448 Mt).2 448 5 ∧ mI (g_Checker_check_86 fc 101 Mc).2 101 8 = mI (g_Model_goOver_9 ft 448 Mt).2 448 6 := by
  intro m
  induction m with
  | zero =>
    intro c fc ft Mc Mt cm mc mt h inv e8 e6 e7 e5 ch
    obtain ⟨fc, rfl⟩ : ∃ f', fc = f' + 1 := ⟨fc - 1, by omega⟩
    obtain ⟨ft, rfl⟩ : ∃ f', ft = f' + 1 := ⟨ft - 1, by omega⟩
    have z9 : mI Mc 101 9 = 0 := ch.resolve_right (by omega)
    have z17 : mI Mt 448 17 = 0 := by rw [← h.2.2.2.2.2.2.2.2.2.2.1]; exact z9
    conv => unfold K_Checker_check_86 g_Checker_check_86 K_Model_goOver_9 g_Model_goOver_9
    rw [if_pos z9, if_pos z17]
    exact ⟨⟨h.1.T101, fun z => absurd z9 z⟩, ⟨h.2.2.1.1.T448, fun z => absurd z17 z⟩, rfl, CF.rf, FP.rf, h, by rw [e7, e5], by rw [e8, e6]⟩
  | succ m ih =>
    intro c fc ft Mc Mt cm mc mt h inv e8 e6 e7 e5 ch
    obtain ⟨fc, rfl⟩ : ∃ f', fc = f' + 1 := ⟨fc - 1, by omega⟩
    obtain ⟨ft, rfl⟩ : ∃ f', ft = f' + 1 := ⟨ft - 1, by omega⟩
    have ef : mI Mc 101 9 = mI Mt 448 17 := h.2.2.2.2.2.2.2.2.2.2.1
    conv => unfold K_Checker_check_86 g_Checker_check_86 K_Model_goOver_9 g_Model_goOver_9
    by_cases z9 : mI Mc 101 9 = 0
    · have z17 : mI Mt 448 17 = 0 := by rw [← ef]; exact z9
      rw [if_pos z9, if_pos z17]
      exact ⟨⟨h.1.T101, fun z => absurd z9 z⟩, ⟨h.2.2.1.1.T448, fun z => absurd z17 z⟩, rfl, CF.rf, FP.rf, h, by rw [e7, e5], by rw [e8, e6]⟩
    · have z17 : ¬ mI Mt 448 17 = 0 := by rw [← ef]; exact z9
      have n256 : ¬ mI Mt 448 6 = 256 := by
        rw [e6]
        exact fun z => absurd ((eq256 (by omega)).mp z) (by omega)
      rw [if_neg z9, if_neg z17, if_neg n256]
      have s := h.1
      have t4 := h.2.2.1.1.T448
      -- what both begin a pass with
      have h1 : SR mp B all S (wI Mc 101 8 (mI Mc 101 8 + 1)) Mt := h.wc (Or.inr rfl)
      have h2 := h1.ch 0
      have h3 : SR mp B all S (wI (wI Mc 101 8 (mI Mc 101 8 + 1)) 101 9 0) (wI (wI Mt 448 17 0) 448 6 (mI (wI Mt 448 17 0) 448 6 + 1)) := h2.wt (Or.inr rfl)
      have i1 : INV mp B (wI (wI Mc 101 8 (mI Mc 101 8 + 1)) 101 9 0) (wI (wI Mt 448 17 0) 448 6 (mI (wI Mt 448 17 0) 448 6 + 1)) := by
        refine INV.wt pf h2.2.2.2.2.2.1 (INV.wt pf h.2.2.2.2.2.1 (INV.wc h1.2.1 (INV.wc h.2.1 inv)))
      have c8 : mI (wI (wI Mc 101 8 (mI Mc 101 8 + 1)) 101 9 0) 101 8 = Int32.ofNat (c + 1) := by rw [mI_wI, if_neg (by omega), mI_wI, if_pos ⟨rfl, rfl⟩, e8, add1_32]
      have c7 : mI (wI (wI Mc 101 8 (mI Mc 101 8 + 1)) 101 9 0) 101 7 = 0 := by rw [mI_wI, if_neg (by omega), mI_wI, if_neg (by omega)]; exact e7
      have d6 : mI (wI (wI Mt 448 17 0) 448 6 (mI (wI Mt 448 17 0) 448 6 + 1)) 448 6 = Int32.ofNat (c + 1) := by rw [mI_wI, if_pos ⟨rfl, rfl⟩, mI_wI, if_neg (by omega), e6, add1_32]
      have d5 : mI (wI (wI Mt 448 17 0) 448 6 (mI (wI Mt 448 17 0) 448 6 + 1)) 448 5 = 0 := by rw [mI_wI, if_neg (by omega), mI_wI, if_neg (by omega)]; exact e5
      have cf0 : CF Mc (wI (wI Mc 101 8 (mI Mc 101 8 + 1)) 101 9 0) := (CF.wi (by decide)).trans (CF.wi (by decide))
      have tf0 : TF Mt (wI (wI Mt 448 17 0) 448 6 (mI (wI Mt 448 17 0) 448 6 + 1)) := (TF.wi (Or.inr (Or.inr rfl))).trans (TF.wi (Or.inr (Or.inl rfl)))
      have al := pf.1
      have xf := xF_eq
      obtain ⟨k1, k2, k3, Mt', k4, k5, k6, k7⟩ := sim_pass pf wm all 0 xF xF _ _ (by omega) (by omega) (by omega) h3 i1
      rw [show Int32.ofNat 0 = 0 from rfl] at k1 k2 k3 k6 k7
      unfold K_Checker_pass g_Checker_pass K_Checker_pass_0 g_Checker_pass_0 K_Model_goOver_39 g_Model_goOver_39
      generalize g_Checker_pass_17 xF 101 0 (wI (wI Mc 101 8 (mI Mc 101 8 + 1)) 101 9 0) = G at k2 k3 k6 k7 ⊢
      have cf1 := cf0.trans k2
      have tf1 := tf0.trans k4
      have p8 : mI G.2 101 8 = Int32.ofNat (c + 1) := k3.trans c8
      have p6 : mI Mt' 448 6 = Int32.ofNat (c + 1) := k5.trans d6
      rcases k7 with ⟨j1, j2, j3, j4⟩ | ⟨q, jq, j1, j3, j4⟩
      · obtain ⟨r7, r5⟩ := j3 c7 d5
        have ef' : mI G.2 101 9 = mI Mt' 448 17 := k6.2.2.2.2.2.2.2.2.2.2.1
        unfold K_Checker_check_97 g_Checker_check_97 K_Checker_check_130 g_Checker_check_130
        rw [j1, if_pos rfl]
        have jg := (j4 (g_Model_goOver_9 ft) (K_Model_goOver_9 ft)).2
        rw [jg]
        have kK := (j4 (g_Model_goOver_9 ft) (K_Model_goOver_9 ft)).1
        have KT : K_Model_goOver_9 ft 448 Mt' → (mT Mt 448 = 26 ∧ (¬ mI Mt 448 17 = 0 → mT Mt 448 = 26 ∧ ((mI Mt 448 6 = 256 → mT Mt 448 = 26) ∧ (¬ mI Mt 448 6 = 256 → mT Mt 448 = 26 ∧ mT (wI Mt 448 17 0) 448 = 26 ∧ mT (wI Mt 448 17 0) 448 = 26 ∧ K_Model_goOver_51 (g_Model_goOver_9 ft) (K_Model_goOver_9 ft) xF 448 0 (wI (wI Mt 448 17 0) 448 6 (mI (wI Mt 448 17 0) 448 6 + 1)))))) := fun z => ⟨t4, fun _ => ⟨t4, fun _ => t4, fun _ => ⟨t4, t4, t4, kK z⟩⟩⟩
        by_cases y9 : mI G.2 101 9 = 0
        · rw [if_pos y9]
          obtain ⟨b1, b2, b3, b4, b5, b6, b7, b8⟩ := ih (c + 1) fc ft G.2 Mt' (by omega) (by omega) (by omega) k6 j2 p8 p6 r7 r5 (Or.inl y9)
          exact ⟨⟨s.T101, fun _ => ⟨s.T101, ⟨s.T101, s.T101, s.T101, k1⟩, fun _ => ⟨k6.1.T101, fun _ => b1, fun z => absurd y9 z⟩⟩⟩, KT b2, b3, cf1.trans b4, tf1.trans b5, b6, b7, b8⟩
        · rw [if_neg y9]
          by_cases y8 : c + 1 = 256
          · have y8' : mI G.2 101 8 = 256 := by rw [p8]; exact (eq256 (by omega)).mpr y8
            have y6' : mI Mt' 448 6 = 256 := by rw [p6]; exact (eq256 (by omega)).mpr y8
            have y17 : ¬ mI Mt' 448 17 = 0 := by rw [← ef']; exact y9
            obtain ⟨ft', rfl⟩ : ∃ f', ft = f' + 1 := ⟨ft - 1, by omega⟩
            rw [if_pos y8']
            have gT : g_Model_goOver_9 (ft' + 1) 448 Mt' = (0, wI Mt' 448 5 10) := by
              conv => lhs; unfold g_Model_goOver_9
              rw [if_neg y17, if_pos y6']
            have kT : K_Model_goOver_9 (ft' + 1) 448 Mt' := by
              conv => unfold K_Model_goOver_9
              exact ⟨k6.2.2.1.1.T448, fun _ => ⟨k6.2.2.1.1.T448, fun _ => k6.2.2.1.1.T448, fun z => absurd y6' z⟩⟩
            rw [gT]
            refine ⟨⟨s.T101, fun _ => ⟨s.T101, ⟨s.T101, s.T101, s.T101, k1⟩, fun _ => ⟨k6.1.T101, fun z => absurd z y9, fun _ => ⟨k6.1.T101, fun _ => k6.1.T101, fun z => absurd y8' z⟩⟩⟩⟩, KT kT, rfl, cf1.trans (CF.wi (by decide)), tf1.trans (TF.wi (Or.inl rfl)), (k6.wc (Or.inl rfl)).wt (Or.inl rfl), ?_, ?_⟩
            · rw [mI_wI, if_pos ⟨rfl, rfl⟩, mI_wI, if_pos ⟨rfl, rfl⟩]
            · rw [mI_wI, if_neg (by omega), mI_wI, if_neg (by omega), y8', y6']
          · have y8' : ¬ mI G.2 101 8 = 256 := by
              rw [p8]
              exact fun z => y8 ((eq256 (by omega)).mp z)
            rw [if_neg y8']
            obtain ⟨b1, b2, b3, b4, b5, b6, b7, b8⟩ := ih (c + 1) fc ft G.2 Mt' (by omega) (by omega) (by omega) k6 j2 p8 p6 r7 r5 (Or.inr (by omega))
            exact ⟨⟨s.T101, fun _ => ⟨s.T101, ⟨s.T101, s.T101, s.T101, k1⟩, fun _ => ⟨k6.1.T101, fun z => absurd z y9, fun _ => ⟨k6.1.T101, fun z => absurd z y8', fun _ => b1⟩⟩⟩⟩, KT b2, b3, cf1.trans b4, tf1.trans b5, b6, b7, b8⟩
      · have nq : ¬ G.1 = -1 := fun z => by
          rw [j1] at z
          have := congrArg Int32.toInt z
          rw [toInt_ofNat32 (by omega)] at this
          have e : (-1 : Int32).toInt = -1 := rfl
          omega
        unfold K_Checker_check_97 g_Checker_check_97
        have jg := (j4 (g_Model_goOver_9 ft) (K_Model_goOver_9 ft))
        rw [jg.2, if_neg nq]
        exact ⟨⟨s.T101, fun _ => ⟨s.T101, ⟨s.T101, s.T101, s.T101, k1⟩, fun z => absurd z nq⟩⟩, ⟨t4, fun _ => ⟨t4, fun _ => t4, fun _ => ⟨t4, t4, t4, jg.1⟩⟩⟩, j1, cf1, tf1, k6, j3, by rw [p8, p6]⟩
end OV
