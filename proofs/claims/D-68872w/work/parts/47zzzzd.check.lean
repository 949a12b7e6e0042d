/-! part 47zzzzd: check without a fault, on both sides (gen/tpl.py) -/
section CSm
variable {n : Nat} {mp : Mp} {M X Z : XM} {B : Nat → Int32}
/-- what the twin needs -/
def TZ (n : Nat) (mp : Mp) (B : Nat → Int32) (Z : XM) : Prop := TW Z ∧ J10 Z ∧ mI Z 448 2 = Int32.ofNat n ∧ (fun i => mI Z 449 i) = B ∧ BYT (fun i => mI Z 450 i) ∧ mpT Z = mp
/-- what is kept beside -/
def TY (n : Nat) (Z Y : XM) : Prop := TC Z Y ∧ (∀ i, mI Y 449 i = mI Z 449 i) ∧ mI Y 448 2 = 0
abbrev Mg (X : XM) : XM := wI (wI X 101 7 0) 101 9 1
theorem check_sim (ca : CA n M X) (hn : n ≤ 8192) (wm : WM mp) (hB : (fun i => mI M 449 i) = B) (hb : BYT B) (hmp : mpC X = mp) (fr : FR B n (-1)) (tz : TZ n mp B Z) :
    K_Checker_check_86 xF 101 (Mg X) ∧ K_Model_check 448 Z ∧ (g_Checker_check_86 xF 101 (Mg X)).1 = (g_Model_check 448 Z).1 ∧ CF (Mg X) (g_Checker_check_86 xF 101 (Mg X)).2 ∧ TY n Z (g_Model_check 448 Z).2 ∧ SR mp B (n / 8) (Sp B (n / 8)) (g_Checker_check_86 xF 101 (Mg X)).2 (g_Model_check 448 Z).2 ∧ mI (g_Checker_check_86 xF 101 (Mg X)).2 101 7 = mI (g_Model_check 448 Z).2 448 5 ∧ mI (g_Checker_check_86 xF 101 (Mg X)).2 101 8 = mI (g_Model_check 448 Z).2 448 6 := by
  obtain ⟨c1, c2, c3, c4, c5, c6, c7, c8, c9, c10⟩ := ca
  obtain ⟨z1, z2, z3, z4, z5, z6⟩ := tz
  obtain ⟨r, Y, ta, fz, kz, gz⟩ := t_front z1 z2 hn z3 (by rw [z4]; exact hb) z5
  rw [z4] at fz
  have er : r = -1 := fz.one fr
  subst er
  obtain ⟨a1, a2, a3, a4, a5, a6, a7, a8, a9⟩ := ta
  rw [if_pos rfl] at kz gz
  rw [gz]
  have pf := FR_PF hn hb fr
  unfold K_Model_check_84 at kz
  unfold g_Model_check_84 K_Model_check_122 at *
  unfold g_Model_check_122 K_Model_goOver g_Model_goOver K_Model_goOver_0 g_Model_goOver_0 K_Model_goOver_4 g_Model_goOver_4 at *
  rw [if_pos rfl]
  -- reason and places
  have q : ∀ a i, ¬ (a = 448 ∧ (i = 4 ∨ i = 5)) → mI (wI (wI Y 448 5 0) 448 4 (Int32.ofNat (n / 8))) a i = mI Y a i := fun a i z => by rw [mI_wI, if_neg (by omega), mI_wI, if_neg (by omega)]
  have q4 : mI (wI (wI Y 448 5 0) 448 4 (Int32.ofNat (n / 8))) 448 4 = Int32.ofNat (n / 8) := by rw [mI_wI, if_pos ⟨rfl, rfl⟩]
  have q5 : mI (wI (wI Y 448 5 0) 448 4 (Int32.ofNat (n / 8))) 448 5 = 0 := by rw [mI_wI, if_neg (by omega), mI_wI, if_pos ⟨rfl, rfl⟩]
  have qt : TC Y (wI (wI Y 448 5 0) 448 4 (Int32.ofNat (n / 8))) := (TC.wi (by decide)).trans (TC.wi (by decide))
  have qw : TW (wI (wI Y 448 5 0) 448 4 (Int32.ofNat (n / 8))) := (a1.wi (by decide)).wi (by decide)
  have qj : J10 (wI (wI Y 448 5 0) 448 4 (Int32.ofNat (n / 8))) := a2.same (q 457 _ (by omega))
  generalize wI (wI Y 448 5 0) 448 4 (Int32.ofNat (n / 8)) = Y1 at q q4 q5 qt qw qj kz ⊢
  obtain ⟨kb, b1, b2, b3, b4, b5⟩ := t_begin qw qj
  generalize g_Model_begin 448 Y1 = Y2 at b1 b2 b3 b4 b5 kz ⊢
  have y2 : ∀ a i, ¬ PE a i → mI (wI Y2 448 17 1) a i = mI Y1 a i := fun a i z => by
    rw [mI_wI, if_neg (fun w => z (by unfold PE PD; omega))]; exact b3.2.1 a i z
  have y8 : ∀ i, i ≠ 17 → mI (wI Y2 448 17 1) 448 i = mI Y1 448 i := fun i z => by
    rw [mI_wI, if_neg (fun w => z w.2)]; exact b5 i
  have yt : TC Y1 (wI Y2 448 17 1) := b3.tc.trans (TC.wi (by decide))
  have e50 : (fun i => mI (wI Y2 448 17 1) 450 i) = fun i => mI Y 450 i := funext (fun i => by rw [y2 450 i (by unfold PE PD; omega), q 450 i (by omega)])
  have mpY : mpT (wI Y2 448 17 1) = mp := by
    rw [← z6, ← a9]
    have k : ∀ a i, a = 451 ∨ a = 452 ∨ a = 453 → mI (wI Y2 448 17 1) a i = mI Y a i := fun a i ha => by rw [y2 a i (by unfold PE PD; omega), q a i (by omega)]
    unfold mpT
    simp only [fun i => k 451 i (by omega), fun i => k 452 i (by omega), fun i => k 453 i (by omega)]
  have tbY : ∀ k, k < 1024 → TbT (wI Y2 448 17 1) k = if k = 0 then some (sg0, 0, 0) else none := fun k hk => by rw [TbT.wi]; exact b4 k hk
  have twY : TW (wI Y2 448 17 1) := b1.wi (by decide)
  have jY : J10 (wI Y2 448 17 1) := b2.same (by rw [mI_wI, if_neg (by omega)])
  have y17 : mI (wI Y2 448 17 1) 448 17 = 1 := by rw [mI_wI, if_pos ⟨rfl, rfl⟩]
  have kY : mT Y2 448 = 26 := b1.1.T448
  have kY1 : mT Y1 448 = 26 := qw.1.T448
  generalize wI Y2 448 17 1 = Mt at y2 y8 yt e50 mpY tbY twY jY y17 kz ⊢
  -- the component's memory
  have x7 : mI (Mg X) 101 7 = 0 := by rw [mI_wI, if_neg (by omega), mI_wI, if_pos ⟨rfl, rfl⟩]
  have x9 : mI (Mg X) 101 9 = 1 := by rw [mI_wI, if_pos ⟨rfl, rfl⟩]
  have x : ∀ a i, ¬ (a = 101 ∧ (i = 7 ∨ i = 9)) → mI (Mg X) a i = mI X a i := fun a i z => by rw [mI_wI, if_neg (by omega), mI_wI, if_neg (by omega)]
  have tbX : ∀ k, k < 1024 → TbC (Mg X) k = if k = 0 then some (sg0, 0, 0) else none := fun k hk => by
    have e2 : TbC (wI X 101 7 0) k = TbC X k := TbC.wi c2 hk (by decide)
    have i2 : StI (wI X 101 7 0) := c2.kept rfl
    have e1 : TbC (Mg X) k = TbC (wI X 101 7 0) k := TbC.wi i2 hk (by decide)
    rw [e1, e2]; exact c4 k hk
  have big := ((c2.1 0 (by decide)).resolve_left c5).1
  have sr : SR mp B (n / 8) (Sp B (n / 8)) (Mg X) Mt := by
    refine ⟨c1.kept rfl, c2.kept rfl, twY, jY, fun k hk => by rw [tbX k hk, tbY k hk], fun k hk => ?_, ?_, mpY, fun p hp => ?_, ⟨by rw [e50]; exact a5, fun p hp => ?_⟩, by rw [x9, y17], by rw [x 102 2 (by omega)]; exact c8, ?_⟩
    · rw [tbY k hk]
      by_cases k0 : k = 0
      · rw [if_pos k0, k0]
        refine ⟨fun τ kn c e => ?_, fun _ => pf.2.1⟩
        have := Option.some.inj e
        rw [← (Prod.mk.inj this).1]
        exact sg0_wf
      · rw [if_neg k0]
        exact ⟨fun τ kn c e => absurd e (by simp), fun z => absurd rfl z⟩
    · rw [← hmp]
      unfold mpC
      simp only [fun i => x 107 i (by omega), fun i => x 108 i (by omega), fun i => x 109 i (by omega)]
    · refine FR_IQ hn fr (fun i hi => ?_) hp
      unfold bC
      rw [x 103 i (by omega), ← hB]
      exact c7 i (by omega)
    · refine FR_IQ hn fr (fun i hi => ?_) hp
      have : mI Mt 450 i = mI Y 450 i := congrFun e50 i
      rw [this, a4 i hi]
      exact congrFun z4 i
    · rw [y8 4 (by decide)]; exact q4
  have inv : INV mp B (Mg X) Mt := by
    intro p hp is dn
    by_cases p0 : p = 0
    · subst p0
      exfalso
      apply dn
      have e : mR (Mg X) 442 0 = mR X 442 0 := rfl
      unfold pDn at c6 ⊢
      rw [e, x _ 4 (by omega)]; exact c6
    · have := tbX p hp
      rw [if_neg p0, TbC.is is] at this
      exact absurd this (by simp)
  have xf := xF_eq
  obtain ⟨o1, o2, o3, o4, o5, o6, o7, o8⟩ := sim_over pf wm 256 0 xF xF (Mg X) Mt (by decide) (by omega) (by omega) sr inv (by rw [x 101 8 (by omega)]; exact c9) (by rw [y8 6 (by decide), q 448 6 (by omega)]; exact a7) x7 (by rw [y8 5 (by decide)]; exact q5) (Or.inr (by decide))
  refine ⟨o1, kz ⟨a1.1.T448, a1.1.T448, fun _ => ⟨kY1, kY1, kb, kY, o2⟩, fun z => absurd rfl z⟩, o3, o4, ⟨((a3.trans qt).trans yt).trans o5.tc, fun i => ?_, ?_⟩, o6, o7, o8⟩
  · rw [o5.2.1 449 i (by unfold PE PD; omega), y2 449 i (by unfold PE PD; omega), q 449 i (by omega)]; exact a8 i
  · rw [o5.2.1 448 2 (by unfold PE PD; omega), y8 2 (by decide), q 448 2 (by omega)]; exact a6
end CSm
