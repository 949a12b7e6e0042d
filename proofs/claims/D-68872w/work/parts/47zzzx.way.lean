/-! part 47zzzx: the twin's first wrong way (gen/tpl.py) -/
section TWy
variable {n all : Nat} {B : Nat → Int32} {M X : XM}
theorem ok_jm {p : Nat} (ok : okI B all p) : ((kd (IB B p).c = 5 ∨ kd (IB B p).c = 6) ∧ nm (IB B p).c ≠ 8 ∧ nm (IB B p).c ≠ 9) ↔ jmI (IB B p) := by
  unfold okI at ok
  unfold jmI
  generalize IB B p = I at ok ⊢
  have hq : (kd I.c = 5 ∨ kd I.c = 6) → ((nm I.c ≠ 8 ∧ nm I.c ≠ 9) ↔ (I.c ≠ 133 ∧ I.c ≠ 149)) := by
    intro hk
    have oj : okJ I := by
      rcases ok with z | z | z | z
      · rcases hk with e | e <;> rw [e] at z <;> exact absurd z.1 (by decide)
      · rcases hk with e | e <;> rw [e] at z <;> exact absurd z.1 (by decide)
      · exact z.2
      · rcases hk with e | e <;> rw [e] at z <;> exact absurd z.1 (by decide)
    rcases oj with z | z | z | z | z
    · rw [z.1]; decide
    · rw [z.1]; decide
    · rw [z.1]; decide
    · rw [z.1]; decide
    · exact ⟨fun _ => ⟨z.2.2.1, z.2.2.2.1⟩, fun _ => ⟨z.2.2.2.2.2.2.1, z.2.2.2.2.2.2.2.1⟩⟩
  exact ⟨fun z => ⟨z.1, (hq z.1).mp z.2⟩, fun z => ⟨z.1, (hq z.1).mpr z.2⟩⟩
theorem gW_iff {p : Nat} (al : all ≤ 1024) (hp : p < all) (sp : sB B p = true) (x : Int64) (hx : x.toInt = (p : Int) + 1 + (if (IB B p).c = 6 then (IB B p).i.toInt else (IB B p).o.toInt)) :
    gW B all p ↔ ((lvI (IB B p) ∨ nxC (IB B p) p < all) ∧ (jmI (IB B p) → ∃ g, g < all ∧ x.toInt = (g : Int) ∧ sB B g = true)) := by
  have ec : (IB B p).c = B (8 * p) := by rw [IB_at (by omega)]
  have sn : sB B (nxC (IB B p) p) = true := by
    obtain ⟨n1, n2⟩ := sB_next sp
    unfold nxC
    rw [ec]
    by_cases c : B (8 * p) = 24
    · rw [if_pos c]; exact (n2 c).2
    · rw [if_neg c]; exact n1 c
  have gg : ∀ g, g < all → (glI (IB B p) p = Int32.ofNat g ↔ x.toInt = (g : Int)) := by
    intro g hg
    unfold glI
    rw [hx]
    by_cases c : (IB B p).c = 6
    · rw [if_pos c, if_pos c]; exact goal32 (by omega) (by omega) _
    · rw [if_neg c, if_neg c]; exact goal32 (by omega) (by omega) _
  unfold gW
  constructor
  · rintro ⟨a, b⟩
    refine ⟨a.imp id (fun z => z.1), fun z => ?_⟩
    obtain ⟨g, g1, g2, g3⟩ := b z
    exact ⟨g, g1, (gg g g1).mp g2, g3⟩
  · rintro ⟨a, b⟩
    refine ⟨a.imp id (fun z => ⟨z, sn⟩), fun z => ?_⟩
    obtain ⟨g, g1, g2, g3⟩ := b z
    exact ⟨g, g1, (gg g g1).mpr g2, g3⟩
theorem t_way (al : all ≤ 1024) (hb : BYT B) (okA : ∀ j, j < all → sB B j = true → okI B all j) : ∀ (m p f : Nat) (M : XM), all ≤ p + m → p ≤ all + 1 → m < f → TSt B n M → sB B p = true → (∀ j, j < p → j < all → sB B j = true → gW B all j) →
    K_Model_wrongWay_2 f 448 (Int32.ofNat all) (Int32.ofNat p) M ∧ FT M (g_Model_wrongWay_2 f 448 (Int32.ofNat all) (Int32.ofNat p) M).2 ∧ FR2 B all (g_Model_wrongWay_2 f 448 (Int32.ofNat all) (Int32.ofNat p) M).1 := by
  intro m
  induction m using Nat.strongRecOn with
  | ind m ih =>
    intro p f M pm pl mf h sp gd
    obtain ⟨s, eb, h2⟩ := id h
    obtain ⟨f, rfl⟩ : ∃ f', f = f' + 1 := ⟨f - 1, by omega⟩
    conv => unfold K_Model_wrongWay_2 g_Model_wrongWay_2
    rw [s.R448_1]
    by_cases c : Int32.ofNat all ≤ Int32.ofNat p
    · have ep : all ≤ p := (le_ofNat (by omega) (by omega)).mp c
      rw [if_pos c]
      exact ⟨fun z => absurd c z, FT.rf, Or.inr ⟨fun j hj => gd j (by omega) hj, rfl⟩⟩
    · have hp : p < all := by
        rw [le_ofNat (by omega) (by omega)] at c
        omega
      rw [if_neg c]
      obtain ⟨k1, f1, hI⟩ := m_take s.T448 s.T449 s.N449 (by decide) (by rw [eb]; exact hb) (p := p) (by omega)
      rw [eb] at hI
      have h' : TSt B n (g_Model_take 448 449 (Int32.ofNat p) M) := h.ft f1
      suffices H : K_Model_wrongWay_16 (g_Model_wrongWay_2 f) (K_Model_wrongWay_2 f) 448 (Int32.ofNat all) (Int32.ofNat p) (g_Model_take 448 449 (Int32.ofNat p) M) ∧ FT (g_Model_take 448 449 (Int32.ofNat p) M) (g_Model_wrongWay_16 (g_Model_wrongWay_2 f) 448 (Int32.ofNat all) (Int32.ofNat p) (g_Model_take 448 449 (Int32.ofNat p) M)).2 ∧ FR2 B all (g_Model_wrongWay_16 (g_Model_wrongWay_2 f) 448 (Int32.ofNat all) (Int32.ofNat p) (g_Model_take 448 449 (Int32.ofNat p) M)).1 from
        ⟨fun _ => ⟨s.T448, s.T448, k1, H.1⟩, f1.trans H.2.1, H.2.2⟩
      generalize g_Model_take 448 449 (Int32.ofNat p) M = X at f1 hI h' ⊢
      have s1 := h'.1
      obtain ⟨w1, w2⟩ := t_wide s1 hI
      obtain ⟨d1, d2⟩ := hI.kind s1
      obtain ⟨o1, o2⟩ := hI.num s1
      have ec : (IB B p).c = B (8 * p) := by rw [IB_at (by omega)]
      have okp := okA p hp sp
      obtain ⟨n1, n2⟩ := sB_next sp
      have jmi := ok_jm okp
      -- the way out with this place, and the way on
      have nxv : nxC (IB B p) p = p + 1 ∨ nxC (IB B p) p = p + 2 := by
        unfold nxC
        by_cases q : (IB B p).c = 24
        · rw [if_pos q]; exact Or.inr rfl
        · rw [if_neg q]; exact Or.inl rfl
      have bad : ¬ gW B all p → FT X (g_Model_wrongWay_168 (Int32.ofNat p) X).2 ∧ FR2 B all (g_Model_wrongWay_168 (Int32.ofNat p) X).1 := fun z => ⟨FT.rf, Or.inl ⟨p, hp, sp, z, fun j hj => gd j hj (by omega), rfl⟩⟩
      have on : gW B all p → K_Model_wrongWay_170 (g_Model_wrongWay_2 f) (K_Model_wrongWay_2 f) 448 (Int32.ofNat all) (Int32.ofNat (nxC (IB B p) p)) X ∧ FT X (g_Model_wrongWay_170 (g_Model_wrongWay_2 f) 448 (Int32.ofNat all) (Int32.ofNat (nxC (IB B p) p)) X).2 ∧ FR2 B all (g_Model_wrongWay_170 (g_Model_wrongWay_2 f) 448 (Int32.ofNat all) (Int32.ofNat (nxC (IB B p) p)) X).1 := by
        intro z
        unfold K_Model_wrongWay_170 g_Model_wrongWay_170
        have gd' : ∀ j, j < p + 1 → j < all → sB B j = true → gW B all j := fun j hj ja sj => by
          by_cases q : j = p
          · rw [q]; exact z
          · exact gd j (by omega) ja sj
        unfold nxC
        rw [ec]
        by_cases q : B (8 * p) = 24
        · rw [if_pos q]
          obtain ⟨n3, n4⟩ := n2 q
          exact ih (m - 2) (by omega) (p + 2) f X (by omega) (by omega) (by omega) h' n4 (fun j hj ja sj => by
            by_cases q : j = p + 1
            · rw [q, n3] at sj; exact absurd sj (by decide)
            · exact gd' j (by omega) ja sj)
        · rw [if_neg q]
          exact ih (m - 1) (by omega) (p + 1) f X (by omega) (by omega) (by omega) h' (n1 q) gd'
      have T32 : K_Model_wrongWay_32 (g_Model_wrongWay_2 f) (K_Model_wrongWay_2 f) 448 (Int32.ofNat all) (Int32.ofNat p) (Int32.ofNat (nxC (IB B p) p)) X ∧ FT X (g_Model_wrongWay_32 (g_Model_wrongWay_2 f) 448 (Int32.ofNat all) (Int32.ofNat p) (Int32.ofNat (nxC (IB B p) p)) X).2 ∧ FR2 B all (g_Model_wrongWay_32 (g_Model_wrongWay_2 f) 448 (Int32.ofNat all) (Int32.ofNat p) (Int32.ofNat (nxC (IB B p) p)) X).1 := by
        have nlt : Int32.ofNat (nxC (IB B p) p) < Int32.ofNat all ↔ nxC (IB B p) p < all := lt_ofNat (by omega) (by omega)
        -- the goal
        obtain ⟨go, hgo, eg⟩ : ∃ go : Int64, (if (IB B p).c = 6 then (Int32.ofNat p).toInt64 + 1 + (IB B p).i.toInt64 else (Int32.ofNat p).toInt64 + 1 + (IB B p).o.toInt64) = go ∧ go.toInt = (p : Int) + 1 + (if (IB B p).c = 6 then (IB B p).i.toInt else (IB B p).o.toInt) := by
          refine ⟨_, rfl, ?_⟩
          by_cases q : (IB B p).c = 6
          · rw [if_pos q, if_pos q]; exact goal64 (by omega) _
          · rw [if_neg q, if_neg q]; exact goal64 (by omega) _
        have gi := gW_iff al hp sp go eg
        obtain ⟨g1, g2⟩ := t_isGoal s1 h'.2.1 al go
        have T148 : ∀ x5 : Int32, FL x5 ((IB B p).c = 5 ∨ (IB B p).c = 6) → (jmI (IB B p) → ∃ g, g < all ∧ go.toInt = (g : Int) ∧ sB B g = true) → K_Model_wrongWay_148 (g_Model_wrongWay_2 f) (K_Model_wrongWay_2 f) 448 (Int32.ofNat all) (Int32.ofNat p) (Int32.ofNat (nxC (IB B p) p)) x5 X ∧ FT X (g_Model_wrongWay_148 (g_Model_wrongWay_2 f) 448 (Int32.ofNat all) (Int32.ofNat p) (Int32.ofNat (nxC (IB B p) p)) x5 X).2 ∧ FR2 B all (g_Model_wrongWay_148 (g_Model_wrongWay_2 f) 448 (Int32.ofNat all) (Int32.ofNat p) (Int32.ofNat (nxC (IB B p) p)) x5 X).1 := by
          intro x5 h5 hj
          unfold K_Model_wrongWay_148 g_Model_wrongWay_148
          rw [hI.1]
          by_cases c5 : x5 = 0
          · rw [if_pos c5]
            have nl := h5.z.mp c5
            by_cases c9 : (IB B p).c = 149
            · rw [if_pos c9]
              have y := on (gi.mpr ⟨Or.inl (Or.inr (Or.inr c9)), hj⟩)
              exact ⟨⟨fun _ => ⟨s1.T448, fun _ => y.1, fun z => absurd c9 z⟩, fun z => absurd c5 z⟩, y.2⟩
            · rw [if_neg c9]
              by_cases cl : Int32.ofNat (nxC (IB B p) p) < Int32.ofNat all
              · rw [if_pos cl]
                have y := on (gi.mpr ⟨Or.inr (nlt.mp cl), hj⟩)
                exact ⟨⟨fun _ => ⟨s1.T448, fun z => absurd z c9, fun _ _ => y.1⟩, fun z => absurd c5 z⟩, y.2⟩
              · rw [if_neg cl]
                have y := bad (fun z => (gi.mp z).1.elim (fun z => z.elim (fun z => nl (Or.inl z)) (fun z => z.elim (fun z => nl (Or.inr z)) c9)) (fun z => cl (nlt.mpr z)))
                exact ⟨⟨fun _ => ⟨s1.T448, fun z => absurd z c9, fun _ z => absurd z cl⟩, fun z => absurd c5 z⟩, y⟩
          · rw [if_neg c5]
            have y := on (gi.mpr ⟨Or.inl ((h5.zn.mp c5).imp id (fun z => Or.inl z)), hj⟩)
            exact ⟨⟨fun z => absurd z c5, fun _ => y.1⟩, y.2⟩
        have T131 : ∀ x4 x5 : Int32, FL x4 (jmI (IB B p)) → FL x5 ((IB B p).c = 5 ∨ (IB B p).c = 6) → K_Model_wrongWay_131 (g_Model_wrongWay_2 f) (K_Model_wrongWay_2 f) 448 (Int32.ofNat all) (Int32.ofNat p) (Int32.ofNat (nxC (IB B p) p)) x4 x5 go X ∧ FT X (g_Model_wrongWay_131 (g_Model_wrongWay_2 f) 448 (Int32.ofNat all) (Int32.ofNat p) (Int32.ofNat (nxC (IB B p) p)) x4 x5 go X).2 ∧ FR2 B all (g_Model_wrongWay_131 (g_Model_wrongWay_2 f) 448 (Int32.ofNat all) (Int32.ofNat p) (Int32.ofNat (nxC (IB B p) p)) x4 x5 go X).1 := by
          intro x4 x5 h4 h5
          unfold K_Model_wrongWay_131 g_Model_wrongWay_131
          by_cases c4 : x4 = 0
          · rw [if_pos c4]
            have y := T148 x5 h5 (fun z => absurd z (h4.z.mp c4))
            exact ⟨⟨fun _ => y.1, fun z => absurd c4 z⟩, y.2⟩
          · rw [if_neg c4]
            by_cases cg : g_Model_isGoal 448 go (Int32.ofNat all) X = 0
            · rw [if_pos cg]
              have y := bad (fun z => g2.z.mp cg ((gi.mp z).2 (h4.zn.mp c4)))
              exact ⟨⟨fun z => absurd z c4, fun _ => ⟨s1.T448, g1, fun z => absurd cg z⟩⟩, y⟩
            · rw [if_neg cg]
              have y := T148 x5 h5 (fun _ => g2.zn.mp cg)
              exact ⟨⟨fun z => absurd z c4, fun _ => ⟨s1.T448, g1, fun _ => y.1⟩⟩, y.2⟩
        have T97 : ∀ x4 x5 : Int32, FL x4 (jmI (IB B p)) → FL x5 ((IB B p).c = 5 ∨ (IB B p).c = 6) → K_Model_wrongWay_97 (g_Model_wrongWay_2 f) (K_Model_wrongWay_2 f) 448 (Int32.ofNat all) (Int32.ofNat p) (Int32.ofNat (nxC (IB B p) p)) x4 x5 X ∧ FT X (g_Model_wrongWay_97 (g_Model_wrongWay_2 f) 448 (Int32.ofNat all) (Int32.ofNat p) (Int32.ofNat (nxC (IB B p) p)) x4 x5 X).2 ∧ FR2 B all (g_Model_wrongWay_97 (g_Model_wrongWay_2 f) 448 (Int32.ofNat all) (Int32.ofNat p) (Int32.ofNat (nxC (IB B p) p)) x4 x5 X).1 := by
          intro x4 x5 h4 h5
          have y := T131 x4 x5 h4 h5
          unfold K_Model_wrongWay_97 g_Model_wrongWay_97
          rw [hI.1, hI.2.2.2.1, hI.2.2.2.2]
          by_cases c6 : (IB B p).c = 6
          · rw [if_pos c6] at hgo ⊢
            rw [hgo]
            exact ⟨⟨s1.T448, fun _ => ⟨s1.T448, y.1⟩, fun z => absurd c6 z⟩, y.2⟩
          · rw [if_neg c6] at hgo ⊢
            rw [hgo]
            exact ⟨⟨s1.T448, fun z => absurd z c6, fun _ => ⟨s1.T448, y.1⟩⟩, y.2⟩
        have T73 : ∀ x4 : Int32, FL x4 (jmI (IB B p)) → K_Model_wrongWay_73 (g_Model_wrongWay_2 f) (K_Model_wrongWay_2 f) 448 (Int32.ofNat all) (Int32.ofNat p) (Int32.ofNat (nxC (IB B p) p)) x4 X ∧ FT X (g_Model_wrongWay_73 (g_Model_wrongWay_2 f) 448 (Int32.ofNat all) (Int32.ofNat p) (Int32.ofNat (nxC (IB B p) p)) x4 X).2 ∧ FR2 B all (g_Model_wrongWay_73 (g_Model_wrongWay_2 f) 448 (Int32.ofNat all) (Int32.ofNat p) (Int32.ofNat (nxC (IB B p) p)) x4 X).1 := by
          intro x4 h4
          unfold K_Model_wrongWay_73 g_Model_wrongWay_73 K_Model_wrongWay_92 g_Model_wrongWay_92
          rw [hI.1]
          by_cases c5 : (IB B p).c = 5
          · rw [if_pos c5]
            have y := T97 x4 1 h4 (FL.tt (Or.inl c5))
            exact ⟨⟨s1.T448, fun _ => y.1, fun z => absurd c5 z⟩, y.2⟩
          · rw [if_neg c5]
            by_cases c6 : (IB B p).c = 6
            · rw [if_pos c6]
              have y := T97 x4 1 h4 (FL.tt (Or.inr c6))
              exact ⟨⟨s1.T448, fun z => absurd z c5, fun _ => ⟨s1.T448, fun _ => y.1, fun z => absurd c6 z⟩⟩, y.2⟩
            · rw [if_neg c6]
              have y := T97 x4 0 h4 (FL.ff (fun z => z.elim c5 c6))
              exact ⟨⟨s1.T448, fun z => absurd z c5, fun _ => ⟨s1.T448, fun z => absurd z c6, fun _ => y.1⟩⟩, y.2⟩
        have T50 : (kd (IB B p).c = 5 ∨ kd (IB B p).c = 6) → K_Model_wrongWay_50 (g_Model_wrongWay_2 f) (K_Model_wrongWay_2 f) 448 (Int32.ofNat all) (Int32.ofNat p) (Int32.ofNat (nxC (IB B p) p)) X ∧ FT X (g_Model_wrongWay_50 (g_Model_wrongWay_2 f) 448 (Int32.ofNat all) (Int32.ofNat p) (Int32.ofNat (nxC (IB B p) p)) X).2 ∧ FR2 B all (g_Model_wrongWay_50 (g_Model_wrongWay_2 f) 448 (Int32.ofNat all) (Int32.ofNat p) (Int32.ofNat (nxC (IB B p) p)) X).1 := by
          intro hk
          unfold K_Model_wrongWay_50 g_Model_wrongWay_50 K_Model_wrongWay_72 g_Model_wrongWay_72
          rw [o1]
          by_cases c8 : nm (IB B p).c = 8
          · rw [if_pos c8]
            have y := T73 0 (FL.ff (fun z => (jmi.mpr z).2.1 c8))
            exact ⟨⟨s1.T448, o2, fun _ => y.1, fun z => absurd c8 z⟩, y.2⟩
          · rw [if_neg c8]
            by_cases c9 : nm (IB B p).c = 9
            · rw [if_pos c9]
              have y := T73 0 (FL.ff (fun z => (jmi.mpr z).2.2 c9))
              exact ⟨⟨s1.T448, o2, fun z => absurd z c8, fun _ => ⟨s1.T448, o2, fun _ => y.1, fun z => absurd c9 z⟩⟩, y.2⟩
            · rw [if_neg c9]
              have y := T73 1 (FL.tt (jmi.mp ⟨hk, c8, c9⟩))
              exact ⟨⟨s1.T448, o2, fun z => absurd z c8, fun _ => ⟨s1.T448, o2, fun z => absurd z c9, fun _ => y.1⟩⟩, y.2⟩
        unfold K_Model_wrongWay_32 g_Model_wrongWay_32 K_Model_wrongWay_72 g_Model_wrongWay_72
        rw [d1]
        by_cases c5 : kd (IB B p).c = 5
        · rw [if_pos c5]
          have y := T50 (Or.inl c5)
          exact ⟨⟨s1.T448, d2, fun _ => y.1, fun z => absurd c5 z⟩, y.2⟩
        · rw [if_neg c5]
          by_cases c6 : kd (IB B p).c = 6
          · rw [if_pos c6]
            have y := T50 (Or.inr c6)
            exact ⟨⟨s1.T448, d2, fun z => absurd z c5, fun _ => ⟨s1.T448, d2, fun _ => y.1, fun z => absurd c6 z⟩⟩, y.2⟩
          · rw [if_neg c6]
            have y := T73 0 (FL.ff (fun z => (jmi.mpr z).1.elim c5 c6))
            exact ⟨⟨s1.T448, d2, fun z => absurd z c5, fun _ => ⟨s1.T448, d2, fun z => absurd z c6, fun _ => y.1⟩⟩, y.2⟩
      unfold K_Model_wrongWay_16 g_Model_wrongWay_16
      unfold nxC at T32
      rw [add1_32, show Int32.ofNat p + 2 = Int32.ofNat (p + 2) by rw [Int32.ofNat_add]; rfl]
      by_cases cw : g_Model_isWide 448 X = 0
      · rw [if_pos cw]
        rw [if_neg (w1.z.mp cw)] at T32
        exact ⟨⟨s1.T448, w2, fun _ => T32.1, fun z => absurd cw z⟩, T32.2⟩
      · rw [if_neg cw]
        rw [if_pos (w1.zn.mp cw)] at T32
        exact ⟨⟨s1.T448, w2, fun z => absurd z cw, fun _ => T32.1⟩, T32.2⟩
end TWy
