/-! part 47zzx: the twin: a call (gen/tpl.py) -/
def dr1 (what frm : Int32) (σ : Sg) : Sg := fun n => if (σ n).so = what ∧ (frm = -1 ∨ (σ n).og = frm) then clr n else σ n
theorem MX.eq {M X : XM} {σ σ' : Sg} (h : MX M σ X) (e : σ = σ') : MX M σ' X := e ▸ h
section DR
variable {M : XM}
theorem le11 : ∀ k : Fin 75, ((11 : Int32) ≤ Int32.ofNat k.val) ↔ ¬ k.val < 11 := by decide +kernel
theorem add1_32 (k : Nat) : Int32.ofNat k + 1 = Int32.ofNat (k + 1) := by rw [Int32.ofNat_add]; rfl
theorem drop_loop (h : TW M) {what frm : Int32} : ∀ (m k f : Nat) (M1 : XM), k + m = 75 → m < f → MX M (fun n => if n < k then dr1 what frm (vwT M 1024) n else vwT M 1024 n) M1 →
    K_Model_drop_2 f 448 what frm (Int32.ofNat k) M1 ∧ MX M (fun n => if n < 75 then dr1 what frm (vwT M 1024) n else vwT M 1024 n) (g_Model_drop_2 f 448 what frm (Int32.ofNat k) M1) := by
  intro m
  induction m with
  | zero =>
    intro k f M1 km mf i
    obtain ⟨f, rfl⟩ : ∃ f', f = f' + 1 := ⟨f - 1, by omega⟩
    have hk : k = 75 := by omega
    subst hk
    conv => unfold K_Model_drop_2 g_Model_drop_2
    rw [if_pos (by decide)]
    exact ⟨fun z => absurd (by decide) z, i⟩
  | succ m ih =>
    intro k f M1 km mf i
    obtain ⟨f, rfl⟩ : ∃ f', f = f' + 1 := ⟨f - 1, by omega⟩
    have hk : k < 75 := by omega
    conv => unfold K_Model_drop_2 g_Model_drop_2
    have s := i.1.1
    obtain ⟨a1, a2⟩ := m_sortOf s hk
    have vk : vwT M1 1024 k = vwT M 1024 k := by rw [i.2.2.1]; simp
    have og : mI M1 459 (76800 + k) = (vwT M 1024 k).og := by rw [tw_og hk, vk]
    rw [a1, vk, s.R448_15, thN, ixN (show 76800 + k < 2147483648 by omega), og]
    have n75 := i32_le75 ⟨k, hk⟩
    simp only at n75
    have nx : ∀ {M2 : XM}, MX M (fun n => if n < k + 1 then dr1 what frm (vwT M 1024) n else vwT M 1024 n) M2 → K_Model_drop_71 (g_Model_drop_2 f) (K_Model_drop_2 f) 448 what frm (Int32.ofNat k) M2 ∧ MX M (fun n => if n < 75 then dr1 what frm (vwT M 1024) n else vwT M 1024 n) (g_Model_drop_71 (g_Model_drop_2 f) 448 what frm (Int32.ofNat k) M2) := by
      intro M2 i2
      unfold K_Model_drop_71 g_Model_drop_71
      rw [add1_32]
      exact ih (k + 1) f M2 (by omega) (by omega) i2
    have no : ¬ ((vwT M 1024 k).so = what ∧ (frm = -1 ∨ (vwT M 1024 k).og = frm)) → K_Model_drop_42 (g_Model_drop_2 f) (K_Model_drop_2 f) 448 what frm (Int32.ofNat k) M1 ∧ MX M (fun n => if n < 75 then dr1 what frm (vwT M 1024) n else vwT M 1024 n) (g_Model_drop_42 (g_Model_drop_2 f) 448 what frm (Int32.ofNat k) M1) := by
      intro c
      unfold K_Model_drop_42 g_Model_drop_42 K_Model_drop_43 g_Model_drop_43
      refine kq_if (fun _ => nx (i.eq ?_)) (fun z => absurd rfl z)
      funext n
      by_cases q : n = k
      · have e : dr1 what frm (vwT M 1024) k = vwT M 1024 k := if_neg c
        rw [q, if_neg (Nat.lt_irrefl k), if_pos (Nat.lt_succ_self k), e]
      · by_cases q2 : n < k
        · rw [if_pos q2, if_pos (by omega)]
        · rw [if_neg q2, if_neg (by omega)]
    have yes : ((vwT M 1024 k).so = what ∧ (frm = -1 ∨ (vwT M 1024 k).og = frm)) → K_Model_drop_38 (g_Model_drop_2 f) (K_Model_drop_2 f) 448 what frm (Int32.ofNat k) M1 ∧ MX M (fun n => if n < 75 then dr1 what frm (vwT M 1024) n else vwT M 1024 n) (g_Model_drop_38 (g_Model_drop_2 f) 448 what frm (Int32.ofNat k) M1) := by
      intro c
      unfold K_Model_drop_38 g_Model_drop_38 K_Model_drop_43 g_Model_drop_43 K_Model_drop_67 g_Model_drop_67
      have st : ∀ w : Int32, hvB w = false → clr k = (w, 0, -1, vOne 0) → (mT M1 448 = 26 ∧ K_Model_set 448 1024 (Int32.ofNat k) w 0 M1 ∧ K_Model_drop_71 (g_Model_drop_2 f) (K_Model_drop_2 f) 448 what frm (Int32.ofNat k) (g_Model_set 448 1024 (Int32.ofNat k) w 0 M1)) ∧ MX M (fun n => if n < 75 then dr1 what frm (vwT M 1024) n else vwT M 1024 n) (g_Model_drop_71 (g_Model_drop_2 f) 448 what frm (Int32.ofNat k) (g_Model_set 448 1024 (Int32.ofNat k) w 0 M1)) := by
        intro w hw ec
        obtain ⟨k1, k2⟩ := m_put i.1 hk w 0 hw
        refine kq_and s.T448 (kq_and k1 (nx ((i.trans k2).eq ?_)))
        rw [i.2.2.1]
        funext n
        by_cases q : n = k
        · have e : dr1 what frm (vwT M 1024) k = clr k := if_pos c
          rw [q, up_same, if_pos (Nat.lt_succ_self k), e, ec]
        · rw [up_ne _ _ q]
          by_cases q2 : n < k
          · rw [if_pos q2, if_pos (by omega)]
          · rw [if_neg q2, if_neg (by omega)]
      refine kq_if (fun z => absurd z i1_0) (fun _ => kq_if (fun c11 => ?_) (fun c11 => ?_))
      · exact st 9 (by decide) (by unfold clr; rw [if_neg ((le11 ⟨k, hk⟩).mp c11)])
      · exact st 0 (by decide) (by unfold clr; rw [if_pos (Decidable.not_not.mp (fun z => c11 ((le11 ⟨k, hk⟩).mpr z)))])
    refine kq_ifn (fun z => absurd z n75) (fun _ => kq_and s.T448 (kq_and a2 (kq_if (fun c1 => kq_if (fun c2 => yes ⟨c1, Or.inl c2⟩) (fun c2 => kq_and s.T448 (kq_and s.T459 (kq_and ?_ (kq_if (fun c3 => yes ⟨c1, Or.inr c3⟩) (fun c3 => no (fun z => z.2.elim c2 c3))))))) (fun c1 => no (fun z => c1 z.1)))))
    rw [s.N459]
    exact vpN (by omega) (by omega)
theorem m_drop (h : TW M) {what frm : Int32} (hw : ¬ what = 0) : K_Model_drop 448 what frm M ∧ MX M (dr1 what frm (vwT M 1024)) (g_Model_drop 448 what frm M) := by
  have r := drop_loop h (what := what) (frm := frm) 75 0 xF M (by omega) (by have := xF_600; omega) ((MX.rf h).eq (by funext n; rw [if_neg (Nat.not_lt_zero n)]))
  refine ⟨r.1, r.2.eq ?_⟩
  funext n
  by_cases q : n < 75
  · rw [if_pos q]
  · rw [if_neg q]
    unfold dr1
    rw [vwT_hi q, if_neg (fun (z : TH.so tNo = what ∧ _) => hw z.1.symm)]
theorem callT_loop (h : TW M) {I : In} (hI : InT M I) {p x3 : Int32} : ∀ (m k f : Nat) (M1 : XM), k + m = 6 → m < f → 1 ≤ k → MX M (fun n => if 1 ≤ n ∧ n < k then tNo else vwT M 1024 n) M1 →
    K_Model_call_76 f 448 p x3 (Int32.ofNat k) M1 ∧ ZQ M (0, fun n => if n = 0 then (if I.i = 1 then (8, x3, p, vOne 0) else tNu vFree) else if n < 6 then tNo else vwT M 1024 n, mI M 455 1024) (g_Model_call_76 f 448 p x3 (Int32.ofNat k) M1) := by
  intro m
  induction m with
  | zero =>
    intro k f M1 km mf k1 i
    obtain ⟨f, rfl⟩ : ∃ f', f = f' + 1 := ⟨f - 1, by omega⟩
    have hk : k = 6 := by omega
    subst hk
    conv => unfold K_Model_call_76 g_Model_call_76
    have s := i.1.1
    have hI1 := hI.fx i.2.1
    rw [hI1.2.2.2.2]
    refine kq_if (fun _ => kq_and s.T448 (kq_if (fun c1 => ?_) (fun c1 => ?_))) (fun z => absurd (by decide) z)
    · rw [if_pos c1]
      obtain ⟨a1, a2⟩ := m_set s (k := 1024) (m := 0) (by decide) (by decide) 8 x3
      rw [show Int32.ofNat 0 = 0 from rfl, ← i1024] at a1 a2
      rw [a1]
      unfold g_Model_call_119 K_Model_call_119 g_Model_call_142
      have s1 : Sh (sX M1 (75 * 1024 + 0) (8, x3, -1, (tR M1 (75 * 1024 + 0)).va) (tE M1 (75 * 1024 + 0))) := s.kept rfl
      have th0 : g_Model_thing 1024 0 = Int32.ofNat (75 * 1024 + 0) := thN 0
      rw [s1.R448_15, th0, ixN (show 75 * 1024 + 0 < 2147483648 by omega), s1.N459, sX59, tR_sX, tE_sX, sX_sX]
      have x := MX.sx i.1 (n := 0) (by decide) (t := (8, x3, p, (tR M1 (75 * 1024 + 0)).va)) (e := tE M1 (75 * 1024 + 0)) (i.1.2.1 _ (by omega)).1 (i.1.2.1 _ (by omega)).2
      rw [nrm_no (show hvB (TH.so (8, x3, p, (tR M1 (75 * 1024 + 0)).va)) = false from rfl)] at x
      refine ⟨⟨s.T448, a2, s1.T448, s1.T459, vpN (by omega) (by omega)⟩, ZQ.ok ((i.trans x).eq ?_)⟩
      rw [i.2.2.1]
      funext n
      by_cases q : n = 0
      · rw [q, up_same, if_pos rfl]
      · rw [up_ne _ _ q, if_neg q]
        by_cases q6 : n < 6
        · rw [if_pos ⟨by omega, q6⟩, if_pos q6]
        · rw [if_neg (fun z => q6 z.2), if_neg q6]
    · rw [if_neg c1]
      unfold g_Model_call_142
      obtain ⟨b1, b2⟩ := m_setAny i.1 (n := 0) (b := 8) (by decide) (by decide)
      rw [show vCut (8 * 8) vFree = vFree from cut_64 free_T] at b2
      refine ⟨⟨s.T448, b1⟩, ZQ.ok ((i.trans b2).eq ?_)⟩
      rw [i.2.2.1]
      funext n
      by_cases q : n = 0
      · rw [q, up_same, if_pos rfl]
      · rw [up_ne _ _ q, if_neg q]
        by_cases q6 : n < 6
        · rw [if_pos ⟨by omega, q6⟩, if_pos q6]
        · rw [if_neg (fun z => q6 z.2), if_neg q6]
  | succ m ih =>
    intro k f M1 km mf k1 i
    obtain ⟨f, rfl⟩ : ∃ f', f = f' + 1 := ⟨f - 1, by omega⟩
    conv => unfold K_Model_call_76 g_Model_call_76
    have s := i.1.1
    have n6 : ¬ (6 : Int32) ≤ Int32.ofNat k := by
      have : k = 1 ∨ k = 2 ∨ k = 3 ∨ k = 4 ∨ k = 5 := by omega
      rcases this with e | e | e | e | e <;> rw [e] <;> decide
    obtain ⟨b1, b2⟩ := m_put i.1 (n := k) (by omega) 0 0 (by decide)
    refine kq_if (fun z => absurd z n6) (fun _ => kq_and s.T448 (kq_and b1 ?_))
    unfold K_Model_call_94 g_Model_call_94
    rw [add1_32]
    refine ih (k + 1) f _ (by omega) (by omega) (by omega) ((i.trans b2).eq ?_)
    rw [i.2.2.1]
    funext n
    by_cases q : n = k
    · rw [q, up_same, if_pos ⟨k1, Nat.lt_succ_self k⟩]
    · rw [up_ne _ _ q]
      by_cases q2 : 1 ≤ n ∧ n < k
      · rw [if_pos q2, if_pos ⟨q2.1, by omega⟩]
      · rw [if_neg q2, if_neg (by omega)]
theorem call_58 (h : TW M) {I : In} (hI : InT M I) {p x3 : Int32} (hp : ¬ p = -1) : K_Model_call_58 448 p x3 M ∧ ZQ M (0, fun n => if n = 0 then (if I.i = 1 then (8, x3, p, vOne 0) else tNu vFree) else if n < 6 then tNo else (if I.i = 1 then dr1 8 p (vwT M 1024) n else vwT M 1024 n), mI M 455 1024) (g_Model_call_58 448 p x3 M) := by
  have s := h.1
  unfold K_Model_call_58 g_Model_call_58 K_Model_call_73 g_Model_call_73
  rw [hI.2.2.2.2]
  refine kq_and s.T448 (kq_if (fun c1 => ?_) (fun c1 => ?_))
  · obtain ⟨d1, d2⟩ := m_drop h (what := 8) (frm := p) (by decide)
    have r := callT_loop d2.1 (hI.fx d2.2.1) (p := p) (x3 := x3) 5 1 xF _ (by omega) (by have := xF_600; omega) (by omega) ((MX.rf d2.1).eq (by funext n; rw [if_neg (by omega)]))
    rw [d2.2.2.1, d2.2.2.2] at r
    refine ⟨⟨s.T448, d1, r.1⟩, ?_⟩
    simp only [c1, if_true] at r ⊢
    exact r.2.mv d2
  · have r := callT_loop h hI (p := p) (x3 := x3) 5 1 xF _ (by omega) (by have := xF_600; omega) (by omega) ((MX.rf h).eq (by funext n; rw [if_neg (by omega)]))
    simp only [c1, if_false] at r ⊢
    exact r
theorem FX.wk {J : Nat → Prop} {v : Int32} : FX J M (wI M 455 1024 v) := ⟨rfl, fun a i z => by rw [mI_wI, if_neg (fun q => z (Or.inr (Or.inr ⟨Or.inr q.1, by omega⟩)))], fun _ _ _ => rfl⟩
theorem m_call (h : TW M) {I : In} (hI : InT M I) (j10 : J10 M) (wt : WS (vwT M 1024)) (wm : WM (mpT M)) {p : Int32} (hp : ¬ p = -1) : K_Model_call 448 p M ∧ ZQ M (args (mpT M) I.i (vwT M 1024) (mI M 455 1024), cls I.i p (vwT M 1024), if I.i = 6 then 0 else mI M 455 1024) (g_Model_call 448 p M) := by
  have s := h.1
  obtain ⟨a1, a2⟩ := m_args s j10 wt wm I.i
  have de : mI M 458 (76800 + 1) = (vwT M 1024 1).de := tw_de (by decide)
  have th1 : g_Model_thing 1024 1 = Int32.ofNat (76800 + 1) := thN 1
  unfold K_Model_call g_Model_call K_Model_call_0 g_Model_call_0 K_Model_call_9 g_Model_call_9
  rw [hI.2.2.2.2, a2]
  refine kq_and s.T448 (kq_and s.T448 (kq_and a1 (kq_ifp (fun c => ?_) (fun c => ?_))))
  · have a0 : args (mpT M) I.i (vwT M 1024) (mI M 455 1024) = 0 := by
      have nn : (0 : Int32) ≤ args (mpT M) I.i (vwT M 1024) (mI M 455 1024) := by
        have tn : ∀ x y, 0 ≤ x → 0 ≤ y → (0 : Int32) ≤ thn x y := fun x y a b => by unfold thn; split; exact b; exact a
        unfold args
        split
        · exact tn _ _ mpk_v tel_v
        · split
          · exact tn _ _ mpk_v (tn _ _ tel_v (tn _ _ tel_v numb_v))
          · split
            · exact tn _ _ mpk_v tel_v
            · split
              · refine tn _ _ mpk_v (tn _ _ numb_v ?_)
                split
                · decide
                · exact tel_v
              · split
                · decide
                · split
                  · split
                    · decide
                    · split
                      · decide
                      · exact numb_v
                  · decide
      apply Int32.toInt_inj.mp
      have x1 := Int32.le_iff_toInt_le.mp nn
      have x2 := Int32.le_iff_toInt_le.mp c
      omega
    rw [a0, s.R448_14, th1, ixN (show 76800 + 1 < 2147483648 by omega), de]
    refine kq_and s.T448 (kq_and s.T458 (kq_and (by rw [s.N458]; exact vpN (by omega) (by omega)) ?_))
    unfold K_Model_call_28 g_Model_call_28
    rw [hI.2.2.2.2]
    refine kq_and s.T448 (kq_if (fun c6 => ?_) (fun c6 => ?_))
    · rw [if_pos c6]
      unfold K_Model_call_43 g_Model_call_43 K_Model_call_49 g_Model_call_49
      obtain ⟨d1, d2⟩ := m_drop h (what := 4) (frm := -1) (by decide)
      obtain ⟨e1, e2⟩ := m_drop d2.1 (what := 5) (frm := -1) (by decide)
      rw [d2.2.2.1] at e2
      have m2 := d2.trans e2
      have ix24 : ix (1024 : Int32) = 1024 := by decide
      generalize g_Model_drop 448 5 (-1) (g_Model_drop 448 4 (-1) M) = X at e2 m2 ⊢
      have s2 := m2.1.1
      rw [s2.R448_11, ix24]
      have fk : ∀ {J : Nat → Prop}, FX J X (wI X 455 1024 0) := FX.wk
      have t3 : TW (wI X 455 1024 0) := m2.1.fx (J := fun _ => False) fk (fun _ _ z => z.elim)
      have r := call_58 t3 ((hI.fx m2.2.1).fx (J := JN) fk) (p := p) (x3 := (vwT M 1024 1).de) hp
      have v3 : vwT (wI X 455 1024 0) 1024 = dr1 5 (-1) (dr1 4 (-1) (vwT M 1024)) := by rw [FX.vw (J := fun _ => False) fk (fun _ _ z => z)]; exact m2.2.2.1
      have k3 : mI (wI X 455 1024 0) 455 1024 = 0 := by rw [mI_wI, if_pos ⟨rfl, rfl⟩]
      rw [v3, k3] at r
      refine ⟨⟨s.T448, d1, d2.1.1.T448, e1, s2.T448, s2.T455, by rw [s2.N455]; exact vpN (a := 1024) (by decide) (by decide), r.1⟩, ?_⟩
      have r2 := r.2
      have e : (fun n => if n = 0 then (if I.i = 1 then (8, (vwT M 1024 1).de, p, vOne 0) else tNu vFree) else if n < 6 then tNo else (if I.i = 1 then dr1 8 p (dr1 5 (-1) (dr1 4 (-1) (vwT M 1024))) n else dr1 5 (-1) (dr1 4 (-1) (vwT M 1024)) n)) = cls I.i p (vwT M 1024) := by
        funext n
        unfold cls drp
        have n1 : ¬ I.i = 1 := by rw [c6]; decide
        rw [if_neg n1, if_neg n1]
        by_cases q : n = 0
        · rw [if_pos q, if_pos q]
        · rw [if_neg q, if_neg q]
          by_cases q6 : n < 6
          · rw [if_pos q6, if_pos q6]
          · rw [if_neg q6, if_neg q6]
            have D : ∀ (u : Int32) (τ : Sg), dr1 u (-1) τ n = if (τ n).so = u then clr n else τ n := fun u τ => by
              unfold dr1
              by_cases c : (τ n).so = u
              · have cc : (τ n).so = u ∧ ((-1 : Int32) = -1 ∨ (τ n).og = -1) := ⟨c, Or.inl rfl⟩
                rw [if_pos cc, if_pos c]
              · have cc : ¬ ((τ n).so = u ∧ ((-1 : Int32) = -1 ∨ (τ n).og = -1)) := fun z => c z.1
                rw [if_neg cc, if_neg c]
            rw [D, D]
            by_cases s4 : (vwT M 1024 n).so = 4
            · have qb : ¬ (clr n).so = 5 := fun this => by
                unfold clr at this
                split at this
                · exact absurd this (by decide)
                · exact absurd this (by decide)
              have qc : (I.i = 6 ∧ ((vwT M 1024 n).so = 4 ∨ (vwT M 1024 n).so = 5)) ∨ (I.i = 1 ∧ (vwT M 1024 n).so = 8 ∧ (vwT M 1024 n).og = p) := Or.inl ⟨c6, Or.inl s4⟩
              rw [if_pos s4, if_neg qb, if_pos qc]
            · rw [if_neg s4]
              by_cases s5 : (vwT M 1024 n).so = 5
              · have qc : (I.i = 6 ∧ ((vwT M 1024 n).so = 4 ∨ (vwT M 1024 n).so = 5)) ∨ (I.i = 1 ∧ (vwT M 1024 n).so = 8 ∧ (vwT M 1024 n).og = p) := Or.inl ⟨c6, Or.inr s5⟩
                rw [if_pos s5, if_pos qc]
              · have qc : ¬ ((I.i = 6 ∧ ((vwT M 1024 n).so = 4 ∨ (vwT M 1024 n).so = 5)) ∨ (I.i = 1 ∧ (vwT M 1024 n).so = 8 ∧ (vwT M 1024 n).og = p)) := fun z => z.elim (fun z => z.2.elim s4 s5) (fun z => n1 z.1)
                rw [if_neg s5, if_neg qc]
      rw [e] at r2
      exact ⟨r2.1, (m2.2.1.trans fk).trans r2.2.1, r2.2.2⟩
    · rw [if_neg c6]
      have r := call_58 h hI (p := p) (x3 := (vwT M 1024 1).de) hp
      have e : (fun n => if n = 0 then (if I.i = 1 then (8, (vwT M 1024 1).de, p, vOne 0) else tNu vFree) else if n < 6 then tNo else (if I.i = 1 then dr1 8 p (vwT M 1024) n else vwT M 1024 n)) = cls I.i p (vwT M 1024) := by
        funext n
        unfold cls drp
        by_cases q : n = 0
        · rw [if_pos q, if_pos q]
        · rw [if_neg q, if_neg q]
          by_cases q6 : n < 6
          · rw [if_pos q6, if_pos q6]
          · rw [if_neg q6, if_neg q6]
            by_cases n1 : I.i = 1
            · rw [if_pos n1]
              unfold dr1
              by_cases qa : (vwT M 1024 n).so = 8 ∧ (p = -1 ∨ (vwT M 1024 n).og = p)
              · rw [if_pos qa, if_pos (Or.inr ⟨n1, qa.1, qa.2.resolve_left hp⟩)]
              · rw [if_neg qa, if_neg (fun z => z.elim (fun z => c6 z.1) (fun z => qa ⟨z.2.1, Or.inr z.2.2⟩))]
            · rw [if_neg n1, if_neg (fun z => z.elim (fun z => c6 z.1) (fun z => n1 z.1))]
      rw [e] at r
      exact r
  · have n0 : args (mpT M) I.i (vwT M 1024) (mI M 455 1024) ≠ 0 := fun z => by rw [z] at c; exact absurd (by decide) c
    exact ZQ.bad h n0
end DR
