/-! part 47zzzm: a pass, on both sides (gen/tpl.py) -/
theorem pVi_cg {I : In} {p : Nat} {T T' : Tb} {R : Rs} (hT : ∀ k, k < 1024 → T k = T' k) (h1 : R.1 = 0 → R.2.1 ≠ none → nxN I p < 1024) (h2 : R.1 = 0 → R.2.2 ≠ none → ix (glI I p) < 1024) : (pVi I p T R).1 = (pVi I p T' R).1 ∧ (∀ k, k < 1024 → (pVi I p T R).2.1 k = (pVi I p T' R).2.1 k) ∧ (pVi I p T R).2.2 = (pVi I p T' R).2.2 := by
  unfold pVi
  by_cases c : R.1 = 0
  · rw [if_pos c, if_pos c]
    obtain ⟨a1, a2⟩ := pTo_congr (p := p) (q := nxN I p) (o := R.2.1) hT (h1 c)
    obtain ⟨b1, b2⟩ := pTo_congr (p := p) (q := ix (glI I p)) (o := R.2.2) a1 (h2 c)
    refine ⟨rfl, b1, ?_⟩
    show orC _ _ = orC _ _
    rw [a2, b2]
  · rw [if_neg c, if_neg c]
    exact ⟨rfl, hT, rfl⟩
theorem Fx.cg {mp : Mp} {B : Nat → Int32} {T T' : Tb} {p : Nat} (hT : ∀ k, k < 1024 → T k = T' k) (hp : p < 1024) {all : Nat} {S : Nat → Prop} (h : PF B all S) (ok : TOK S T) (f : Fx mp B T p) : Fx mp B T' p := by
  intro e he
  rw [← hT p hp] at he
  obtain ⟨a0, a1, a2⟩ := f e he
  have hS : S p := (ok p hp).2 (by rw [he]; simp)
  have we : WF e.1 := (ok p hp).1 e.1 e.2.1 e.2.2 he
  obtain ⟨g1, g2⟩ := st_go h hS we a0
  exact ⟨a0, fun s z => by rw [← hT _ (h.lt (g1 s z).2)]; exact a1 s z, fun s z => by rw [← hT _ (h.lt (g2 s z).2)]; exact a2 s z⟩
/-- the same instruction, but for what is not read -/
def IQ (B B' : Nat → Int32) (p : Nat) : Prop := ∃ c d s o i j j', IB B p = (c, d, s, o, i, j) ∧ IB B' p = (c, d, s, o, i, j') ∧ (kd c = 0 → j = j')
theorem IQ.tr {B B' : Nat → Int32} {p : Nat} (h : IQ B B' p) (w : WI (IB B' p)) (wj : WJ (IB B' p)) (wg : WG (IB B' p) p) : WI (IB B p) ∧ WJ (IB B p) ∧ WG (IB B p) p ∧ (∀ T R, pVi (IB B p) p T R = pVi (IB B' p) p T R) ∧ ∀ mp q σ kn, stp mp (IB B p) q σ kn = stp mp (IB B' p) q σ kn := by
  obtain ⟨c, d, s, o, i, j, j', e1, e2, e3⟩ := h
  rw [e1]
  rw [e2] at w wj wg ⊢
  refine ⟨w, wj, wg, fun _ _ => rfl, fun mp q σ kn => ?_⟩
  by_cases k : kd c = 0
  · rw [e3 k]
  · unfold stp
    have k1 : ¬ kd (In.c (c, d, s, o, i, j)) = 0 := k
    have k2 : ¬ kd (In.c (c, d, s, o, i, j')) = 0 := k
    rw [if_neg k1, if_neg k2]
    rfl
def SR (mp : Mp) (B : Nat → Int32) (all : Nat) (S : Nat → Prop) (Mc Mt : XM) : Prop := Sh Mc ∧ StI Mc ∧ TW Mt ∧ J10 Mt ∧ (∀ k, k < 1024 → TbC Mc k = TbT Mt k) ∧ TOK S (TbT Mt) ∧ mpC Mc = mp ∧ mpT Mt = mp ∧ (∀ p, S p → IQ (bC Mc 103) B p) ∧ (BYT (fun i => mI Mt 450 i) ∧ ∀ p, S p → IQ (fun i => mI Mt 450 i) B p) ∧ mI Mc 101 9 = mI Mt 448 17 ∧ mI Mc 102 2 = Int32.ofNat all ∧ mI Mt 448 4 = Int32.ofNat all
def INV (mp : Mp) (B : Nat → Int32) (Mc Mt : XM) : Prop := ∀ p, p < 1024 → pIs Mc p → pDn Mc p ≠ 0 → Fx mp B (TbT Mt) p
/-- frames of a whole check -/
def CF (M X : XM) : Prop := Kp M X ∧ (∀ a i, a < 469 → ¬ TJ a → ¬ JJ a → ¬ (a = 101 ∧ 7 ≤ i ∧ i ≤ 9) → mI X a i = mI M a i) ∧ (∀ a i, a < 469 → ¬ TJ a → ¬ JJ a → mL X a i = mL M a i) ∧ pC X = pC M ∧ pS X = pS M
def PE (a i : Nat) : Prop := PD a i ∨ (a = 448 ∧ (i = 5 ∨ i = 6))
def TF (M X : XM) : Prop := FP PE (fun _ => True) M X
theorem CF.rf {M : XM} : CF M M := ⟨VF.rf.1, fun _ _ _ _ _ _ => rfl, fun _ _ _ _ _ => rfl, rfl, rfl⟩
theorem CF.trans {M M1 M2 : XM} (h : CF M M1) (h' : CF M1 M2) : CF M M2 :=
  ⟨⟨fun a ha => ⟨(h'.1.1 a ha).1.trans (h.1.1 a ha).1, (h'.1.1 a ha).2.trans (h.1.1 a ha).2⟩, fun a i ha hn => (h'.1.2.1 a i ha hn).trans (h.1.2.1 a i ha hn), Nat.le_trans h.1.2.2 h'.1.2.2⟩,
   fun a i h1 h2 h3 h4 => (h'.2.1 a i h1 h2 h3 h4).trans (h.2.1 a i h1 h2 h3 h4), fun a i h1 h2 h3 => (h'.2.2.1 a i h1 h2 h3).trans (h.2.2.1 a i h1 h2 h3), h'.2.2.2.1.trans h.2.2.2.1, h'.2.2.2.2.trans h.2.2.2.2⟩
theorem VF.cf {M X : XM} (h : VF M X) (c : pC X = pC M) (s : pS X = pS M) : CF M X := ⟨h.1, fun a i h1 h2 h3 h4 => h.2.1 a i h1 h2 h3 (fun z => h4 (by omega)), h.2.2, c, s⟩
theorem CF.wi {M : XM} {i : Nat} {v : Int32} (hi : 7 ≤ i ∧ i ≤ 9) : CF M (wI M 101 i v) := ⟨⟨fun _ _ => ⟨rfl, rfl⟩, fun _ _ _ _ => rfl, Nat.le_refl _⟩, fun a j _ _ _ z => by rw [mI_wI, if_neg (fun q => z ⟨q.1, by omega, by omega⟩)], fun _ _ _ _ _ => rfl, rfl, rfl⟩
theorem FD.tf {M X : XM} (h : FD M X) : TF M X := FP.weak h (fun _ _ z => Or.inl z) (fun _ z => z)
theorem TF.trans {M M1 M2 : XM} (h : TF M M1) (h' : TF M1 M2) : TF M M2 := FP.trans h h'
theorem TF.wi {M : XM} {i : Nat} {v : Int32} (hi : i = 5 ∨ i = 6 ∨ i = 17) : TF M (wI M 448 i v) := ⟨rfl, fun a j z => by rw [mI_wI, if_neg (fun q => z (by unfold PE PD; omega))], fun _ _ _ => rfl⟩
section SM
variable {mp : Mp} {B : Nat → Int32} {all : Nat} {S : Nat → Prop}
theorem TbC.wi {M : XM} {i : Nat} {v : Int32} (hI : StI M) {k : Nat} (hk : k < 1024) (hi : 3 ≤ i) : TbC (wI M 101 i v) k = TbC M k := by
  by_cases z : mR M 442 k = 0
  · rw [TbC.no (M := M) (fun q => q.1 z), TbC.no (M := wI M 101 i v) (fun q => q.1 z)]
  · have := ((hI.1 k hk).resolve_left z).1
    exact TbC.eq rfl (vwC_wi hi) (fun j _ => by rw [mI_wI, if_neg (by omega)])
theorem TbT.wi {M : XM} {i k : Nat} {v : Int32} : TbT (wI M 448 i v) k = TbT M k := TbT.eq (vwT_wi (by decide)) (by rw [mI_wI, if_neg (by omega)]) (by rw [mI_wI, if_neg (by omega)]) (by rw [mI_wI, if_neg (by omega)])
/-- fields that are kept aside -/
theorem SR.wc {Mc Mt : XM} (h : SR mp B all S Mc Mt) {i : Nat} {v : Int32} (hi : i = 7 ∨ i = 8) : SR mp B all S (wI Mc 101 i v) Mt := by
  obtain ⟨a1, a2, a3, a4, a5, a6, a7, a8, a9, a10, a11, a12, a13⟩ := h
  have k : ∀ a j, a ≠ 101 → mI (wI Mc 101 i v) a j = mI Mc a j := fun a j ha => by rw [mI_wI, if_neg (fun z => ha z.1)]
  have eb : bC (wI Mc 101 i v) 103 = bC Mc 103 := funext (fun j => by unfold bC; rw [k 103 j (by decide)])
  refine ⟨a1.kept rfl, a2.kept rfl, a3, a4, fun q hq => by rw [TbC.wi a2 hq (by omega)]; exact a5 q hq, a6, ?_, a8, fun j hj => ?_, a10, ?_, by rw [k 102 2 (by decide)]; exact a12, a13⟩
  · rw [← a7]
    unfold mpC
    simp only [k 107 _ (by decide), k 108 _ (by decide), k 109 _ (by decide)]
  · rw [eb]; exact a9 j hj
  · rw [mI_wI, if_neg (by omega)]; exact a11
theorem SR.wt {Mc Mt : XM} (h : SR mp B all S Mc Mt) {i : Nat} {v : Int32} (hi : i = 5 ∨ i = 6) : SR mp B all S Mc (wI Mt 448 i v) := by
  obtain ⟨a1, a2, a3, a4, a5, a6, a7, a8, a9, a10, a11, a12, a13⟩ := h
  have k : ∀ a j, a ≠ 448 → mI (wI Mt 448 i v) a j = mI Mt a j := fun a j ha => by rw [mI_wI, if_neg (fun z => ha z.1)]
  have e50 : (fun j => mI (wI Mt 448 i v) 450 j) = fun j => mI Mt 450 j := funext (fun j => k 450 j (by decide))
  refine ⟨a1, a2, a3.wi (by decide), a4.same (k 457 _ (by decide)), fun q hq => by rw [TbT.wi]; exact a5 q hq, fun q hq => by rw [TbT.wi]; exact a6 q hq, a7, ?_, a9, by rw [e50]; exact a10, ?_, a12, ?_⟩
  · rw [← a8]
    unfold mpT
    simp only [k 451 _ (by decide), k 452 _ (by decide), k 453 _ (by decide)]
  · rw [mI_wI, if_neg (by omega)]; exact a11
  · rw [mI_wI, if_neg (by omega)]; exact a13
theorem SR.bytes {Mc Mt : XM} (h : SR mp B all S Mc Mt) : BYT (fun i => mI Mt 450 i) := h.2.2.2.2.2.2.2.2.2.1.1
/-- the twin visits -/
theorem sim_t {Mc Mt : XM} (pf : PF B all S) (wm : WM mp) (h : SR mp B all S Mc Mt) {p : Nat} (hp : p < 1024) {e : Ent} (he : TbT Mt p = some e) :
    K_Model_does 448 (Int32.ofNat p) Mt ∧ DQ Mt (pVi (IB B p) p (TbT Mt) (stB mp B p e)) (g_Model_does 448 (Int32.ofNat p) Mt) := by
  obtain ⟨a1, a2, a3, a4, a5, a6, a7, a8, a9, a10, a11, a12, a13⟩ := h
  have h4 : mI Mt 454 p ≠ 0 := fun z => by
    have : TbT Mt p = none := if_pos z
    rw [this] at he; exact absurd he (by simp)
  have ee : e = (vwT Mt p, mI Mt 455 p, mI Mt 456 p) := by
    have : TbT Mt p = some (vwT Mt p, mI Mt 455 p, mI Mt 456 p) := if_neg h4
    rw [this] at he
    exact (Option.some.inj he).symm
  have hS : S p := (a6 p hp).2 (by rw [he]; simp)
  have we : WF e.1 := (a6 p hp).1 e.1 e.2.1 e.2.2 he
  obtain ⟨_, w, wj, _, _⟩ := pf.2.2 p hS
  obtain ⟨w', wj', wg', ev, es⟩ := (a10.2 p hS).tr w wj (pf.wg hS)
  have r := m_does (I := IB (fun i => mI Mt 450 i) p) a3 a4 hp a10.1 rfl w' wj' wg' (by rw [ee] at we; exact we.1) (by rw [ee] at we; exact congrArg TH.so we.2.1) (by rw [a8]; exact wm)
  rw [a8, ev, es] at r
  rw [ee]
  exact r
theorem sim_c {Mc Mt : XM} (pf : PF B all S) (wm : WM mp) (h : SR mp B all S Mc Mt) {p : Nat} (hp : p < 1024) (is : pIs Mc p) {e : Ent} (he : TbT Mt p = some e) :
    K_Checker_visit 101 (Int32.ofNat p) Mc ∧ VQ p Mc (pVi (IB B p) p (TbC Mc) (stB mp B p e)) (g_Checker_visit 101 (Int32.ofNat p) Mc) := by
  obtain ⟨a1, a2, a3, a4, a5, a6, a7, a8, a9, a10, a11, a12, a13⟩ := h
  have ee : e = (vwC Mc (mR Mc 442 p), pKn Mc p, pCh Mc p) := by
    rw [← a5 p hp, TbC.is is] at he
    exact (Option.some.inj he).symm
  have hS : S p := (a6 p hp).2 (by rw [he]; simp)
  have we : WF e.1 := (a6 p hp).1 e.1 e.2.1 e.2.2 he
  obtain ⟨_, w, wj, _, _⟩ := pf.2.2 p hS
  obtain ⟨w', wj', wg', ev, es⟩ := (a9 p hS).tr w wj (pf.wg hS)
  have r := c_visit (I := IB (bC Mc 103) p) a1 a2 hp is rfl w' wj' wg' (by rw [ee] at we; exact we.1) (by rw [a7]; exact wm)
  rw [a7, ev, es] at r
  rw [ee]
  exact r
/-- a pass from a place on -/
theorem sim_pass (pf : PF B all S) (wm : WM mp) : ∀ (m k fc ft : Nat) (Mc Mt : XM), k + m = all → m < fc → m < ft → SR mp B all S Mc Mt → INV mp B Mc Mt →
    K_Checker_pass_17 fc 101 (Int32.ofNat k) Mc ∧ CF Mc (g_Checker_pass_17 fc 101 (Int32.ofNat k) Mc).2 ∧ mI (g_Checker_pass_17 fc 101 (Int32.ofNat k) Mc).2 101 8 = mI Mc 101 8 ∧
    ∃ Mt', TF Mt Mt' ∧ mI Mt' 448 6 = mI Mt 448 6 ∧ SR mp B all S (g_Checker_pass_17 fc 101 (Int32.ofNat k) Mc).2 Mt' ∧
      (((g_Checker_pass_17 fc 101 (Int32.ofNat k) Mc).1 = -1 ∧ INV mp B (g_Checker_pass_17 fc 101 (Int32.ofNat k) Mc).2 Mt' ∧ (mI Mc 101 7 = 0 → mI Mt 448 5 = 0 → mI (g_Checker_pass_17 fc 101 (Int32.ofNat k) Mc).2 101 7 = 0 ∧ mI Mt' 448 5 = 0) ∧ ∀ κ P, (P 448 Mt' → K_Model_goOver_51 κ P ft 448 (Int32.ofNat k) Mt) ∧ g_Model_goOver_51 κ ft 448 (Int32.ofNat k) Mt = κ 448 Mt') ∨
       (∃ q, q < 1024 ∧ (g_Checker_pass_17 fc 101 (Int32.ofNat k) Mc).1 = Int32.ofNat q ∧ mI (g_Checker_pass_17 fc 101 (Int32.ofNat k) Mc).2 101 7 = mI Mt' 448 5 ∧ ∀ κ P, K_Model_goOver_51 κ P ft 448 (Int32.ofNat k) Mt ∧ g_Model_goOver_51 κ ft 448 (Int32.ofNat k) Mt = (Int32.ofNat q, Mt'))) := by
  intro m
  induction m with
  | zero =>
    intro k fc ft Mc Mt km mc mt h inv
    obtain ⟨fc, rfl⟩ : ∃ f', fc = f' + 1 := ⟨fc - 1, by omega⟩
    obtain ⟨ft, rfl⟩ : ∃ f', ft = f' + 1 := ⟨ft - 1, by omega⟩
    have hk : k = all := by omega
    subst hk
    obtain ⟨a1, a2, a3, a4, a5, a6, a7, a8, a9, a10, a11, a12, a13⟩ := id h
    have le : Int32.ofNat k ≤ Int32.ofNat k := by rw [Int32.le_iff_toInt_le]; exact Int.le_refl _
    conv => unfold K_Checker_pass_17 g_Checker_pass_17 K_Model_goOver_51 g_Model_goOver_51
    rw [a1.R101_0, a12, if_pos le, a13]
    exact ⟨⟨a1.T101, a1.T102, fun z => absurd le z⟩, CF.rf, rfl, Mt, FP.rf, rfl, h, Or.inl ⟨rfl, inv, fun x y => ⟨x, y⟩, fun κ P => ⟨fun z => ⟨a3.1.T448, fun _ => z, fun z => absurd le z⟩, if_pos le⟩⟩⟩
  | succ m ih =>
    intro k fc ft Mc Mt km mc mt h inv
    obtain ⟨fc, rfl⟩ : ∃ f', fc = f' + 1 := ⟨fc - 1, by omega⟩
    obtain ⟨ft, rfl⟩ : ∃ f', ft = f' + 1 := ⟨ft - 1, by omega⟩
    have al := pf.1
    have hk : k < 1024 := by omega
    obtain ⟨a1, a2, a3, a4, a5, a6, a7, a8, a9, a10, a11, a12, a13⟩ := id h
    have nle : ¬ Int32.ofNat all ≤ Int32.ofNat k := by
      rw [Int32.le_iff_toInt_le, toInt_ofNat32 (by omega), toInt_ofNat32 (by omega)]; omega
    conv => unfold K_Checker_pass_17 g_Checker_pass_17 K_Model_goOver_51 g_Model_goOver_51
    rw [a1.R101_0, a12, if_neg nle, a13, a1.R101_5, ixN (by omega), a1.N442, a3.1.R448_10, a3.1.N454]
    have vk : vp_in (Int32.ofNat k) 1024 := vpN hk (by omega)
    have vk8 : vp_in (Int32.ofNat k) 1028 := vpN (by omega) (by omega)
    unfold K_Checker_pass_35 g_Checker_pass_35 K_Checker_pass_71 g_Checker_pass_71 K_Model_goOver_86 g_Model_goOver_86
    rw [add1_32]
    by_cases is : pIs Mc k
    · have z1 := is.1
      have z2 := is.2
      have st := (a2.1 k hk).resolve_left z1
      have t24 : mT Mc (mR Mc 442 k) = 24 := st.2.2.1
      have he : ∃ e, TbT Mt k = some e := ⟨_, by rw [← a5 k hk]; exact TbC.is is⟩
      obtain ⟨e, he⟩ := he
      have h4 : mI Mt 454 k ≠ 0 := fun z => by
        have : TbT Mt k = none := if_pos z
        rw [this] at he; exact absurd he (by simp)
      have hS : S k := (a6 k hk).2 (by rw [he]; simp)
      have we : WF e.1 := (a6 k hk).1 e.1 e.2.1 e.2.2 he
      obtain ⟨kt, dt1, dt2, dt3, dt4, dt5, dt6⟩ := sim_t pf wm h hk he
      have lt1 : (stB mp B k e).1 = 0 → (stB mp B k e).2.1 ≠ none → nxN (IB B k) k < 1024 := fun q n => by
        obtain ⟨s, es⟩ := Option.ne_none_iff_exists'.mp n
        exact pf.lt ((st_go pf hS we q).1 s es).2
      have lt2 : (stB mp B k e).1 = 0 → (stB mp B k e).2.2 ≠ none → ix (glI (IB B k) k) < 1024 := fun q n => by
        obtain ⟨s, es⟩ := Option.ne_none_iff_exists'.mp n
        exact pf.lt ((st_go pf hS we q).2 s es).2
      have f50 : (fun i => mI (g_Model_does 448 (Int32.ofNat k) Mt).2 450 i) = fun i => mI Mt 450 i := funext (fun i => dt3.2.1 450 i (by unfold PD; omega))
      have f44 : mI (g_Model_does 448 (Int32.ofNat k) Mt).2 448 4 = mI Mt 448 4 := dt3.2.1 448 4 (by unfold PD; omega)
      have f46 : mI (g_Model_does 448 (Int32.ofNat k) Mt).2 448 6 = mI Mt 448 6 := dt3.2.1 448 6 (by unfold PD; omega)
      rw [if_neg z1, if_neg z2]
      have okT : TOK S (TbT (g_Model_does 448 (Int32.ofNat k) Mt).2) := fun q hq => by rw [dt5 q hq]; exact pVi_ok pf a6 hk he q hq
      by_cases dn : mI Mc (mR Mc 442 k) 4 = 0
      · -- both visit
        obtain ⟨kc, c1, c2, c3, c4, c5, c6, c7, c8, c9⟩ := sim_c pf wm h hk is he
        obtain ⟨p1, p2, p3⟩ := pVi_cg (I := IB B k) (p := k) (T := TbC Mc) (T' := TbT Mt) (R := stB mp B k e) a5 lt1 lt2
        rw [if_pos dn]
        generalize g_Checker_visit 101 (Int32.ofNat k) Mc = G at kc c1 c2 c3 c4 c5 c6 c7 c8 c9 ⊢
        generalize g_Model_does 448 (Int32.ofNat k) Mt = H at kt dt1 dt2 dt3 dt4 dt5 dt6 f50 f44 f46 okT ⊢
        have eq1 : G.1 = H.1 := by rw [c6, dt4, p1]
        have cf := c3.cf c4 c5
        have sr : SR mp B all S G.2 H.2 := by
          refine ⟨c1, c2, dt1, dt2, fun q hq => by rw [c7 q hq, dt5 q hq]; exact p2 q hq, okT, ?_, ?_, fun i hi => by rw [bC_vf c3]; exact a9 i hi, by rw [f50]; exact a10, ?_, ?_, by rw [f44]; exact a13⟩
          · rw [← a7]
            have : ∀ a i, a = 107 ∨ a = 108 ∨ a = 109 → mI G.2 a i = mI Mc a i := fun a i ha => c3.2.1 a i (by omega) (by unfold TJ JX; omega) (by unfold JJ; omega) (by omega)
            unfold mpC
            simp only [this 107 _ (by omega), this 108 _ (by omega), this 109 _ (by omega)]
          · rw [← a8]; exact dt3.mp
          · rw [c8, dt6, p3, a11]
          · rw [c3.2.1 102 2 (by decide) (by unfold TJ JX; omega) (by unfold JJ; omega) (by omega)]; exact a12
        have f18 : mI G.2 101 8 = mI Mc 101 8 := c3.2.1 101 8 (by decide) (by unfold TJ JX; omega) (by unfold JJ; omega) (by omega)
        unfold K_Checker_pass_59 g_Checker_pass_59 K_Checker_pass_62 g_Checker_pass_62 K_Checker_pass_71 g_Checker_pass_71 K_Model_goOver_74 g_Model_goOver_74 K_Model_goOver_77 g_Model_goOver_77 K_Model_goOver_86 g_Model_goOver_86
        have sr2 : SR mp B all S (wI G.2 101 7 G.1) (wI H.2 448 5 H.1) := (sr.wc (Or.inl rfl)).wt (Or.inl rfl)
        have g7 : mI (wI G.2 101 7 G.1) 101 7 = G.1 := by rw [mI_wI, if_pos ⟨rfl, rfl⟩]
        have h5 : mI (wI H.2 448 5 H.1) 448 5 = H.1 := by rw [mI_wI, if_pos ⟨rfl, rfl⟩]
        have g8 : mI (wI G.2 101 7 G.1) 101 8 = mI Mc 101 8 := by rw [mI_wI, if_neg (by omega)]; exact f18
        have h6 : mI (wI H.2 448 5 H.1) 448 6 = mI Mt 448 6 := by rw [mI_wI, if_neg (by omega)]; exact f46
        have cf2 : CF Mc (wI G.2 101 7 G.1) := cf.trans (CF.wi (by decide))
        have tf2 : TF Mt (wI H.2 448 5 H.1) := dt3.tf.trans (TF.wi (Or.inl rfl))
        have wnn : 0 ≤ G.1 := by
          rw [c6]
          unfold pVi
          by_cases q : (stB mp B k e).1 = 0
          · rw [if_pos q]; exact nn0
          · rw [if_neg q]; exact stp_nn
        rw [g7, h5, add1_32]
        by_cases w0 : G.1 = 0
        · have r0 : (stB mp B k e).1 = 0 := by
            by_cases q : (stB mp B k e).1 = 0
            · exact q
            · rw [c6] at w0; unfold pVi at w0; rw [if_neg q] at w0; exact absurd w0 q
          have le0 := (nn_le0 wnn).mpr w0
          have leH : H.1 ≤ 0 := by rw [← eq1]; exact le0
          rw [if_pos le0]
          have inv2 : INV mp B (wI G.2 101 7 G.1) (wI H.2 448 5 H.1) := by
            intro q hq isq dq
            have nz : mR G.2 442 q ≠ 0 := isq.1
            have big := ((c2.1 q hq).resolve_left nz).1
            have dq' : pDn G.2 q ≠ 0 := by
              unfold pDn at dq ⊢
              have e' : mR (wI G.2 101 7 G.1) 442 q = mR G.2 442 q := rfl
              rw [e', mI_wI, if_neg (by omega)] at dq
              exact dq
            obtain ⟨b1, b2, b3⟩ := c9 q hq nz dq'
            have fx : Fx mp B (pVi (IB B k) k (TbT Mt) (stB mp B k e)).2.1 q := by
              refine pVi_inv pf a6 hk he r0 hq ?_ ?_
              · rw [← dt5 q hq, ← sr.2.2.2.2.1 q hq, b1]; exact a5 q hq
              · rcases b3 with b3 | b3
                · exact Or.inl b3
                · right
                  have isM : pIs Mc q := by
                    have t1 : TbC G.2 q ≠ none := by
                      have : pIs G.2 q := by
                        refine ⟨nz, ?_⟩
                        have := isq.2
                        have e' : mR (wI G.2 101 7 G.1) 442 q = mR G.2 442 q := rfl
                        rw [e', mI_wI, if_neg (by omega)] at this
                        exact this
                      rw [TbC.is this]; simp
                    rw [b1] at t1
                    exact Classical.not_not.mp (fun z => t1 (TbC.no z))
                  exact inv q hq isM b3
            refine Fx.cg (fun k' hk' => ?_) hq pf (pVi_ok pf a6 hk he) fx
            rw [TbT.wi]; exact (dt5 k' hk').symm
          obtain ⟨i1, i2, i3, Mt', i4, i5, i6, i7⟩ := ih (k + 1) fc ft _ _ (by omega) (by omega) (by omega) sr2 inv2
          refine ⟨⟨a1.T101, a1.T102, fun _ => ⟨a1.T101, a1.T442, vk, fun z => absurd z z1, fun _ => ⟨t24, fun z => absurd z z2, fun _ => ⟨t24, fun _ => ⟨a1.T101, kc, c1.T101, c1.T101, fun _ => i1⟩, fun z => absurd dn z⟩⟩⟩⟩, cf2.trans i2, i3.trans g8, Mt', tf2.trans i4, i5.trans h6, i6, ?_⟩
          rcases i7 with ⟨j1, j2, j3, j4⟩ | ⟨q, j1, j2, j3, j4⟩
          · refine Or.inl ⟨j1, j2, fun _ _ => j3 (by rw [g7]; exact w0) (by rw [h5, ← eq1]; exact w0), fun κ P => ⟨fun z => ?_, ?_⟩⟩
            · exact ⟨a3.1.T448, fun z => absurd z nle, fun _ => ⟨a3.1.T448, a3.1.T454, vk8, fun z => absurd z h4, fun _ => ⟨a3.1.T448, kt, dt1.1.T448, dt1.1.T448, fun _ => (j4 κ P).1 z⟩⟩⟩
            · rw [if_neg nle, if_neg h4, if_pos leH]; exact (j4 κ P).2
          · refine Or.inr ⟨q, j1, j2, j3, fun κ P => ⟨?_, ?_⟩⟩
            · exact ⟨a3.1.T448, fun z => absurd z nle, fun _ => ⟨a3.1.T448, a3.1.T454, vk8, fun z => absurd z h4, fun _ => ⟨a3.1.T448, kt, dt1.1.T448, dt1.1.T448, fun _ => (j4 κ P).1⟩⟩⟩
            · rw [if_neg nle, if_neg h4, if_pos leH]; exact (j4 κ P).2
        · have nl : ¬ G.1 ≤ 0 := fun z => w0 ((nn_le0 wnn).mp z)
          have nlH : ¬ H.1 ≤ 0 := by rw [← eq1]; exact nl
          rw [if_neg nl]
          refine ⟨⟨a1.T101, a1.T102, fun _ => ⟨a1.T101, a1.T442, vk, fun z => absurd z z1, fun _ => ⟨t24, fun z => absurd z z2, fun _ => ⟨t24, fun _ => ⟨a1.T101, kc, c1.T101, c1.T101, fun z => absurd z nl⟩, fun z => absurd dn z⟩⟩⟩⟩, cf2, g8, _, tf2, h6, sr2, Or.inr ⟨k, hk, rfl, by rw [g7, h5, eq1], fun κ P => ⟨?_, ?_⟩⟩⟩
          · exact ⟨a3.1.T448, fun z => absurd z nle, fun _ => ⟨a3.1.T448, a3.1.T454, vk8, fun z => absurd z h4, fun _ => ⟨a3.1.T448, kt, dt1.1.T448, dt1.1.T448, fun z => absurd z nlH⟩⟩⟩
          · rw [if_neg nle, if_neg h4, if_neg nlH]
      · -- it is done: the twin's visit changes nothing
        have fx := inv k hk is dn
        have pv := pVi_fix pf a6 hk he fx
        rw [pv] at dt4 dt5 dt6
        rw [if_neg dn]
        generalize g_Model_does 448 (Int32.ofNat k) Mt = H at kt dt1 dt2 dt3 dt4 dt5 dt6 f50 f44 f46 okT ⊢
        have h0 : H.1 = 0 := dt4
        unfold K_Model_goOver_74 g_Model_goOver_74 K_Model_goOver_77 g_Model_goOver_77 K_Model_goOver_86 g_Model_goOver_86
        have sr : SR mp B all S Mc H.2 := by
          refine ⟨a1, a2, dt1, dt2, fun q hq => by rw [dt5 q hq]; exact a5 q hq, okT, a7, by rw [← a8]; exact dt3.mp, a9, by rw [f50]; exact a10, ?_, a12, by rw [f44]; exact a13⟩
          rw [dt6, if_pos rfl]; exact a11
        have sr2 : SR mp B all S Mc (wI H.2 448 5 H.1) := sr.wt (Or.inl rfl)
        have h5 : mI (wI H.2 448 5 H.1) 448 5 = H.1 := by rw [mI_wI, if_pos ⟨rfl, rfl⟩]
        have h6 : mI (wI H.2 448 5 H.1) 448 6 = mI Mt 448 6 := by rw [mI_wI, if_neg (by omega)]; exact f46
        have tf2 : TF Mt (wI H.2 448 5 H.1) := dt3.tf.trans (TF.wi (Or.inl rfl))
        have inv2 : INV mp B Mc (wI H.2 448 5 H.1) := fun q hq isq dq => Fx.cg (fun k' hk' => by rw [TbT.wi]; exact (dt5 k' hk').symm) hq pf a6 (inv q hq isq dq)
        obtain ⟨i1, i2, i3, Mt', i4, i5, i6, i7⟩ := ih (k + 1) fc ft _ _ (by omega) (by omega) (by omega) sr2 inv2
        have le0 : H.1 ≤ 0 := by rw [h0]; decide
        rw [h5, add1_32]
        refine ⟨⟨a1.T101, a1.T102, fun _ => ⟨a1.T101, a1.T442, vk, fun z => absurd z z1, fun _ => ⟨t24, fun z => absurd z z2, fun _ => ⟨t24, fun z => absurd z dn, fun _ => i1⟩⟩⟩⟩, i2, i3, Mt', tf2.trans i4, i5.trans h6, i6, ?_⟩
        rcases i7 with ⟨j1, j2, j3, j4⟩ | ⟨q, j1, j2, j3, j4⟩
        · refine Or.inl ⟨j1, j2, fun x _ => j3 x (by rw [h5]; exact h0), fun κ P => ⟨fun z => ?_, ?_⟩⟩
          · exact ⟨a3.1.T448, fun z => absurd z nle, fun _ => ⟨a3.1.T448, a3.1.T454, vk8, fun z => absurd z h4, fun _ => ⟨a3.1.T448, kt, dt1.1.T448, dt1.1.T448, fun _ => (j4 κ P).1 z⟩⟩⟩
          · rw [if_neg nle, if_neg h4, if_pos le0]; exact (j4 κ P).2
        · refine Or.inr ⟨q, j1, j2, j3, fun κ P => ⟨?_, ?_⟩⟩
          · exact ⟨a3.1.T448, fun z => absurd z nle, fun _ => ⟨a3.1.T448, a3.1.T454, vk8, fun z => absurd z h4, fun _ => ⟨a3.1.T448, kt, dt1.1.T448, dt1.1.T448, fun _ => (j4 κ P).1⟩⟩⟩
          · rw [if_neg nle, if_neg h4, if_pos le0]; exact (j4 κ P).2
    · -- no state here
      have tn : TbT Mt k = none := by rw [← a5 k hk]; exact TbC.no is
      have h4 : mI Mt 454 k = 0 := Decidable.not_not.mp (fun z => by
        have : TbT Mt k = some (vwT Mt k, mI Mt 455 k, mI Mt 456 k) := if_neg z
        rw [this] at tn; exact absurd tn (by simp))
      obtain ⟨i1, i2, i3, Mt', i4, i5, i6, i7⟩ := ih (k + 1) fc ft Mc Mt (by omega) (by omega) (by omega) h inv
      have fin : ∀ {R : Int32 × XM} {K : Prop}, K → R = g_Checker_pass_17 fc 101 (Int32.ofNat (k + 1)) Mc → K ∧ CF Mc R.2 ∧ mI R.2 101 8 = mI Mc 101 8 ∧ ∃ Mt', TF Mt Mt' ∧ mI Mt' 448 6 = mI Mt 448 6 ∧ SR mp B all S R.2 Mt' ∧
          ((R.1 = -1 ∧ INV mp B R.2 Mt' ∧ (mI Mc 101 7 = 0 → mI Mt 448 5 = 0 → mI R.2 101 7 = 0 ∧ mI Mt' 448 5 = 0) ∧ ∀ κ P, (P 448 Mt' → mT Mt 448 = 26 ∧ ((Int32.ofNat all ≤ Int32.ofNat k → P 448 Mt) ∧ (¬ Int32.ofNat all ≤ Int32.ofNat k → mT Mt 448 = 26 ∧ mT Mt 454 = 101 ∧ vp_in (Int32.ofNat k) 1028 ∧ ((mI Mt 454 k = 0 → K_Model_goOver_51 κ P ft 448 (Int32.ofNat (k + 1)) Mt) ∧ (¬ mI Mt 454 k = 0 → mT Mt 448 = 26 ∧ K_Model_does 448 (Int32.ofNat k) Mt ∧ K_Model_goOver_74 κ P (g_Model_goOver_51 κ ft) (K_Model_goOver_51 κ P ft) 448 (Int32.ofNat k) 448 (g_Model_does 448 (Int32.ofNat k) Mt).1 (g_Model_does 448 (Int32.ofNat k) Mt).2))))) ∧ (if Int32.ofNat all ≤ Int32.ofNat k then κ 448 Mt else if mI Mt 454 k = 0 then g_Model_goOver_51 κ ft 448 (Int32.ofNat (k + 1)) Mt else g_Model_goOver_74 κ (g_Model_goOver_51 κ ft) 448 (Int32.ofNat k) 448 (g_Model_does 448 (Int32.ofNat k) Mt).1 (g_Model_does 448 (Int32.ofNat k) Mt).2) = κ 448 Mt') ∨
           (∃ q, q < 1024 ∧ R.1 = Int32.ofNat q ∧ mI R.2 101 7 = mI Mt' 448 5 ∧ ∀ κ P, (mT Mt 448 = 26 ∧ ((Int32.ofNat all ≤ Int32.ofNat k → P 448 Mt) ∧ (¬ Int32.ofNat all ≤ Int32.ofNat k → mT Mt 448 = 26 ∧ mT Mt 454 = 101 ∧ vp_in (Int32.ofNat k) 1028 ∧ ((mI Mt 454 k = 0 → K_Model_goOver_51 κ P ft 448 (Int32.ofNat (k + 1)) Mt) ∧ (¬ mI Mt 454 k = 0 → mT Mt 448 = 26 ∧ K_Model_does 448 (Int32.ofNat k) Mt ∧ K_Model_goOver_74 κ P (g_Model_goOver_51 κ ft) (K_Model_goOver_51 κ P ft) 448 (Int32.ofNat k) 448 (g_Model_does 448 (Int32.ofNat k) Mt).1 (g_Model_does 448 (Int32.ofNat k) Mt).2))))) ∧ (if Int32.ofNat all ≤ Int32.ofNat k then κ 448 Mt else if mI Mt 454 k = 0 then g_Model_goOver_51 κ ft 448 (Int32.ofNat (k + 1)) Mt else g_Model_goOver_74 κ (g_Model_goOver_51 κ ft) 448 (Int32.ofNat k) 448 (g_Model_does 448 (Int32.ofNat k) Mt).1 (g_Model_does 448 (Int32.ofNat k) Mt).2) = (Int32.ofNat q, Mt'))) := by
        intro R K hK eR
        rw [eR]
        refine ⟨hK, i2, i3, Mt', i4, i5, i6, ?_⟩
        rcases i7 with ⟨j1, j2, j3, j4⟩ | ⟨q, j1, j2, j3, j4⟩
        · refine Or.inl ⟨j1, j2, j3, fun κ P => ⟨fun z => ?_, ?_⟩⟩
          · exact ⟨a3.1.T448, fun z => absurd z nle, fun _ => ⟨a3.1.T448, a3.1.T454, vk8, fun _ => (j4 κ P).1 z, fun z => absurd h4 z⟩⟩
          · rw [if_neg nle, if_pos h4]; exact (j4 κ P).2
        · refine Or.inr ⟨q, j1, j2, j3, fun κ P => ⟨?_, ?_⟩⟩
          · exact ⟨a3.1.T448, fun z => absurd z nle, fun _ => ⟨a3.1.T448, a3.1.T454, vk8, fun _ => (j4 κ P).1, fun z => absurd h4 z⟩⟩
          · rw [if_neg nle, if_pos h4]; exact (j4 κ P).2
      by_cases z1 : mR Mc 442 k = 0
      · rw [if_pos z1]
        exact fin ⟨a1.T101, a1.T102, fun _ => ⟨a1.T101, a1.T442, vk, fun _ => i1, fun z => absurd z1 z⟩⟩ rfl
      · have z2 : mI Mc (mR Mc 442 k) 2 = 0 := Decidable.not_not.mp (fun z => is ⟨z1, z⟩)
        have t24 : mT Mc (mR Mc 442 k) = 24 := ((a2.1 k hk).resolve_left z1).2.2.1
        rw [if_neg z1, if_pos z2]
        exact fin ⟨a1.T101, a1.T102, fun _ => ⟨a1.T101, a1.T442, vk, fun z => absurd z z1, fun _ => ⟨t24, fun _ => i1, fun z => absurd z2 z⟩⟩⟩ rfl
end SM
