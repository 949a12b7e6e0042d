/-! part 47zr: refining: the twin's refines (gen/tpl.py) -/
theorem sR_self {M : XM} {k : Nat} : sR M k (tvk M k) (tek M k) = M := by
  rw [← sR_wI]
  unfold wI
  refine Prod.ext ?_ rfl
  funext a j
  show (if a = 467 ∧ j = k then M.1 467 k else M.1 a j) = M.1 a j
  by_cases h : a = 467 ∧ j = k
  · rw [if_pos h, h.1, h.2]
  · rw [if_neg h]
def Out (N : XM) (c : Nat) (A B : AV) (N' : XM) : Prop := ∃ X Y ex ey, N' = sR (sR N 0 X ex) 1 Y ey ∧ bu X ∧ bu Y ∧ (ex = 0 ∨ ex = 1) ∧ (ey = 0 ∨ ey = 1) ∧ (rfOk c A B = true → X = rfX c A B ∧ Y = rfY c A B ∧ ex = 0 ∧ ey = 0) ∧ (rfOk c A B = false → ex = 1 ∨ ey = 1)
theorem bI_01 (b : Bool) : bI b = 0 ∨ bI b = 1 := by cases b <;> decide
theorem fin511 {N N' : XM} {c : Nat} {A B : AV} (h : Sh N) (o : Out N c A B N') : K_Sets_refine_511 460 N' ∧ FrT (fun q => q ≤ 4) N (g_Sets_refine_511 460 N') ∧
    ((tek (g_Sets_refine_511 460 N') 0 = 0 ∧ tek (g_Sets_refine_511 460 N') 1 = 0 ∧ rfOk c A B = true ∧ IsT (vin (rfX c A B)) (tite (rfX c A B)) ∧ IsT (vin (rfY c A B)) (tite (rfY c A B)) ∧ tvk (g_Sets_refine_511 460 N') 0 = tite (rfX c A B) ∧ tvk (g_Sets_refine_511 460 N') 1 = tite (rfY c A B)) ∨
     ((tek (g_Sets_refine_511 460 N') 0 = 1 ∧ True ∨ tek (g_Sets_refine_511 460 N') 0 = 0 ∧ tek (g_Sets_refine_511 460 N') 1 = 1) ∧ ¬ (rfOk c A B = true ∧ (∃ z, vin (rfX c A B) z) ∧ ∃ z, vin (rfY c A B) z))) := by
  obtain ⟨X, Y, ex, ey, rfl, bX, bY, hex, hey, ok, no⟩ := o
  have s0 : Sh (sR (sR N 0 X ex) 1 Y ey) := h.kept rfl
  have v0 : tvk (sR (sR N 0 X ex) 1 Y ey) 0 = X := by rw [tvk_sRne _ _ _ (by decide), tvk_sR]
  have w0 : tek (sR (sR N 0 X ex) 1 Y ey) 0 = ex := by rw [tek_sRne _ _ _ (by decide), tek_sR]
  obtain ⟨k1, e, t1, c1⟩ := t_tight2 s0 (k := 0) rk0 (by rw [i32_0, v0]; exact bX) (by rw [i32_0, w0]; exact hex)
  rw [i32_0, v0, w0] at c1
  rw [i32_0, v0] at t1
  have f0 : FrT (fun q => q ≤ 4) N (sR (sR N 0 X ex) 1 Y ey) := (FrT.sr (by decide)).trans (FrT.sr (by decide))
  have f1 : FrT (fun q => q ≤ 4) N (g_Sets_tighten 460 0 (sR (sR N 0 X ex) 1 Y ey)) := by
    rw [t1]; exact f0.trans (FrT.sr (by decide))
  have s1 := f1.sh h
  have v1 : tvk (g_Sets_tighten 460 0 (sR (sR N 0 X ex) 1 Y ey)) 1 = Y := by
    rw [t1, tvk_sRne _ _ _ (by decide), tvk_sR]
  have w1 : tek (g_Sets_tighten 460 0 (sR (sR N 0 X ex) 1 Y ey)) 1 = ey := by
    rw [t1, tek_sRne _ _ _ (by decide), tek_sR]
  have x0 : tek (g_Sets_tighten 460 0 (sR (sR N 0 X ex) 1 Y ey)) 0 = e := by rw [t1, tek_sR]
  have y0 : e = 0 → tvk (g_Sets_tighten 460 0 (sR (sR N 0 X ex) 1 Y ey)) 0 = tite X := fun z => by rw [t1, tvk_sR, if_pos z]
  unfold g_Sets_refine_511 K_Sets_refine_511 g_Sets_refine_516 K_Sets_refine_516
  generalize g_Sets_tighten 460 0 (sR (sR N 0 X ex) 1 Y ey) = M1 at f1 s1 v1 w1 x0 y0 ⊢
  obtain ⟨k2, e', t2, c2⟩ := t_tight2 s1 (k := 1) rk1 (by rw [i32_1, v1]; exact bY) (by rw [i32_1, w1]; exact hey)
  rw [i32_1, v1, w1] at c2
  rw [i32_1, v1] at t2
  have f2 : FrT (fun q => q ≤ 4) N (g_Sets_tighten 460 1 M1) := by
    rw [t2]; exact f1.trans (FrT.sr (by decide))
  have a0 : tek (g_Sets_tighten 460 1 M1) 0 = e := by rw [t2, tek_sRne _ _ _ (by decide), x0]
  have a1 : tek (g_Sets_tighten 460 1 M1) 1 = e' := by rw [t2, tek_sR]
  have b0 : e = 0 → tvk (g_Sets_tighten 460 1 M1) 0 = tite X := fun z => by rw [t2, tvk_sRne _ _ _ (by decide), y0 z]
  have b1 : e' = 0 → tvk (g_Sets_tighten 460 1 M1) 1 = tite Y := fun z => by rw [t2, tvk_sR, if_pos z]
  refine ⟨⟨s0.T460, k1, s1.T460, k2⟩, f2, ?_⟩
  rw [a0, a1]
  have bad : (ex = 1 ∨ ey = 1 ∨ (∀ z, ¬ vin X z) ∨ ∀ z, ¬ vin Y z) → ¬ (rfOk c A B = true ∧ (∃ z, vin (rfX c A B) z) ∧ ∃ z, vin (rfY c A B) z) := by
    rintro q ⟨r1, ⟨z1, r2⟩, z2, r3⟩
    obtain ⟨o1, o2, o3, o4⟩ := ok r1
    rw [← o1] at r2
    rw [← o2] at r3
    rcases q with q | q | q | q
    · rw [o3] at q; exact absurd q (by decide)
    · rw [o4] at q; exact absurd q (by decide)
    · exact q _ r2
    · exact q _ r3
  rcases c1 with ⟨p1, p2, p3⟩ | ⟨p1, p2⟩
  · rcases c2 with ⟨q1, q2, q3⟩ | ⟨q1, q2⟩
    · have hok : rfOk c A B = true := by
        cases z : rfOk c A B with
        | true => rfl
        | false =>
          rcases no z with w | w
          · rw [p2] at w; exact absurd w (by decide)
          · rw [q2] at w; exact absurd w (by decide)
      obtain ⟨o1, o2, -⟩ := ok hok
      rw [b0 p1, b1 q1, ← o1, ← o2]
      exact Or.inl ⟨p1, q1, hok, p3, q3, rfl, rfl⟩
    · exact Or.inr ⟨Or.inr ⟨p1, q1⟩, bad (q2.elim (fun w => Or.inr (Or.inl w)) (fun w => Or.inr (Or.inr (Or.inr w))))⟩
  · exact Or.inr ⟨Or.inl ⟨p1, trivial⟩, bad (p2.elim (fun w => Or.inl w) (fun w => Or.inr (Or.inr (Or.inl w))))⟩
/-- losing a number, in both ways -/
theorem lose_eq {A B : AV} (hA : Tt A) (hB : Tt B) : (if lg_cmp B.lo B.hi = 0 then (if lg_cmp A.lo A.hi = 0 ∧ lg_cmp A.lo B.lo = 0 then (A, (1 : Int32)) else (lsV A B.lo, 0)) else (A, 0)) = (lvV A B, bI (!lvOk A B)) := by
  have sA := hA.single
  have sB := hB.single
  unfold lvV lvOk
  by_cases c1 : lg_cmp B.u 0 = 0
  · have u1 := cmp_eq.mp c1
    have l1 : lg_cmp B.lo B.hi = 0 := cmp_eq.mpr (sB.mp u1)
    have b1 : B.lo = B.b := vin_known u1 _ hB.1.1
    rw [if_pos l1, if_pos c1, b1]
    by_cases c2 : lg_cmp A.u 0 = 0
    · have u2 := cmp_eq.mp c2
      have l2 : lg_cmp A.lo A.hi = 0 := cmp_eq.mpr (sA.mp u2)
      have a1 : A.lo = A.b := vin_known u2 _ hA.1.1
      have a2 : A.hi = A.b := vin_known u2 _ hA.2.1.1
      have a3 : A.le = A.b := vin_known u2 _ hA.2.2.1.1
      have a4 : A.gr = A.b := vin_known u2 _ hA.2.2.2.1.1
      rw [if_pos c2]
      by_cases c3 : lg_cmp A.b B.b = 0
      · rw [if_pos ⟨l2, by rw [a1]; exact c3⟩]
        simp only [c1, c2, c3, decide_true, Bool.and_self, Bool.not_true, Bool.not_false]; rfl
      · rw [if_neg (fun z => c3 (by rw [← a1]; exact z.2))]
        have e : lsV A B.b = A := by
          unfold lsV
          rw [if_neg (by rw [a1]; exact c3), if_neg (by rw [a2]; exact c3), if_neg (by rw [a3]; exact c3), if_neg (by rw [a4]; exact c3)]
        rw [e]
        simp only [c1, c2, c3, decide_true, decide_false, Bool.and_false, Bool.not_false, Bool.not_true]; rfl
    · have l2 : ¬ lg_cmp A.lo A.hi = 0 := fun z => c2 (cmp_eq.mpr (sA.mpr (cmp_eq.mp z)))
      rw [if_neg (fun z => l2 z.1), if_neg c2]
      simp only [c1, c2, decide_true, decide_false, Bool.and_false, Bool.false_and, Bool.not_false, Bool.not_true]
      rfl
  · have l1 : ¬ lg_cmp B.lo B.hi = 0 := fun z => c1 (cmp_eq.mpr (sB.mpr (cmp_eq.mp z)))
    rw [if_neg l1, if_neg c1]
    simp only [c1, decide_false, Bool.false_and, Bool.not_false, Bool.not_true]
    rfl
theorem and_assoc64 (a b c : Int64) : a &&& (b &&& c) = (a &&& b) &&& c := tb_ext fun j _ => by simp only [tb_and, Bool.and_assoc]
theorem xor_comm64 (a b : Int64) : a ^^^ b = b ^^^ a := tb_ext fun j _ => by simp only [tb_xor, Bool.xor_comm]
theorem and_comm64 (a b : Int64) : a &&& b = b &&& a := tb_ext fun j _ => by simp only [tb_and, Bool.and_comm]
theorem or_comm64 (a b : Int64) : a ||| b = b ||| a := tb_ext fun j _ => by simp only [tb_or, Bool.or_comm]
theorem rk3 : rk 3 := by unfold rk vp_in; decide
theorem rk4 : rk 4 := by unfold rk vp_in; decide
theorem rk3' : vp_in 3 77200 := rk3
theorem rk4' : vp_in 4 77200 := rk4
theorem i32_3 : ix (3 : Int32) = 3 := by decide
theorem i32_4 : ix (4 : Int32) = 4 := by decide
/-- the only bit of the other is 1, in both ways -/
theorem one_eq {A B : AV} (hA : bu A) (hB : Tt B) : let on := (if lg_cmp B.lo B.hi = 0 then (if g_Sets_isOneBit B.lo = 0 then 0 else B.lo) else 0); ((A.b ||| on, A.u &&& ((on ||| 0) ^^^ (-1)), A.lo, A.hi, A.le, A.gr) : AV) = stV A B ∧ (¬ lg_cmp (((A.b ||| A.u) ^^^ (-1)) &&& on) 0 = 0 → lg_cmp ((A.b ||| A.u) &&& (B.b ||| B.u)) 0 = 0) := by
  have z0 : ((A.b ||| 0, A.u &&& ((0 ||| 0) ^^^ (-1)), A.lo, A.hi, A.le, A.gr) : AV) = A := by
    have e1 : A.b ||| 0 = A.b := or_zero _
    have e2 : A.u &&& ((0 ||| 0) ^^^ (-1)) = A.u := tb_ext fun j hj => by rw [tb_and, tb_cpl, tb_or, tb_zero]; simp [hj]
    rw [e1, e2]
  have z1 : lg_cmp (((A.b ||| A.u) ^^^ (-1)) &&& 0) 0 = 0 := cmp_eq.mpr (tb_ext fun j _ => by rw [tb_and, tb_zero]; simp)
  have sB := hB.single
  unfold stV
  by_cases c1 : lg_cmp B.u 0 = 0
  · have u1 := cmp_eq.mp c1
    have l1 : lg_cmp B.lo B.hi = 0 := cmp_eq.mpr (sB.mp u1)
    have b1 : B.lo = B.b := vin_known u1 _ hB.1.1
    rw [if_pos l1, b1]
    have o1 : g_Sets_isOneBit B.b = 0 ∨ g_Sets_isOneBit B.b = 1 := by
      unfold g_Sets_isOneBit g_Sets_isOneBit_0
      split
      · exact Or.inl rfl
      · split
        · exact Or.inr rfl
        · exact Or.inl rfl
    by_cases c2 : g_Sets_isOneBit B.b = 0
    · have c3 : ¬ g_Long_bitCount B.b = 1 := fun z => by
        have := (count_one B.b).mp z
        rw [c2] at this; exact absurd this (by decide)
      rw [if_pos c2, if_neg (fun z => c3 z.2)]
      exact ⟨z0, fun z => absurd z1 z⟩
    · have c3 : g_Long_bitCount B.b = 1 := (count_one B.b).mpr (o1.resolve_left c2)
      rw [if_neg c2, if_pos ⟨c1, c3⟩]
      refine ⟨?_, fun z => ?_⟩
      · unfold AV.say
        have e1 : (A.b ||| B.b) &&& ((A.u &&& (B.b ^^^ (-1))) ^^^ (-1)) = A.b ||| B.b := clr_of fun j hj => by
          have := vb_f hA j
          rw [tb_or, tb_and, tb_cpl]
          cases q1 : tb A.b j <;> cases q2 : tb A.u j <;> cases q3 : tb B.b j <;> simp_all
        have e2 : A.u &&& ((B.b ||| 0) ^^^ (-1)) = A.u &&& (B.b ^^^ (-1)) := by rw [or_zero]
        rw [e1, e2]
      · -- the bit is known to be 0 in A
        have hob' : ∃ k, k < 64 ∧ ∀ j, tb B.b j = decide (j = k) := by
          have h1 := o1.resolve_left c2
          have hv : B.b ≠ 0 := fun q => by rw [q] at c2; exact c2 (by decide)
          have ct := count_un B.b
          obtain ⟨k, k1, k2⟩ : ∃ k, k < 64 ∧ B.b = j_lshl 1 (Int32.ofNat k) := one_pow h1
          exact ⟨k, k1, fun j => by rw [k2, tb_bit k1]⟩
        obtain ⟨k, k1, k2⟩ := hob'
        rw [u1, or_zero]
        rw [cmp_eq]
        refine tb_ext fun j hj => ?_
        rw [tb_and, tb_or, k2, tb_zero]
        by_cases hk : j = k
        · rw [hk]
          have q0 : ¬ ((A.b ||| A.u) ^^^ (-1)) &&& B.b = 0 := fun q => z (cmp_eq.mpr q)
          obtain ⟨i, qi⟩ := ex_bit q0
          rw [tb_and, tb_cpl, tb_or, k2, Bool.and_eq_true] at qi
          have : i = k := of_decide_eq_true qi.2
          rw [this] at qi
          have q3 := qi.1
          rw [Bool.and_eq_true] at q3
          have q4 := q3.2
          cases r1 : tb A.b k <;> cases r2 : tb A.u k <;> simp_all
        · simp [hk]
  · have l1 : ¬ lg_cmp B.lo B.hi = 0 := fun z => c1 (cmp_eq.mpr (sB.mpr (cmp_eq.mp z)))
    rw [if_neg l1, if_neg (fun z => c1 z.1)]
    exact ⟨z0, fun z => absurd z1 z⟩
/-- the bits of the other are 0, in both ways -/
theorem zer_eq {A B : AV} (hA : bu A) (hB : Tt B) : let ze := (if lg_cmp B.lo B.hi = 0 then B.lo else 0); ((A.b ||| 0, A.u &&& ((0 ||| ze) ^^^ (-1)), A.lo, A.hi, A.le, A.gr) : AV) = clV A B ∧ (¬ lg_cmp (A.b &&& ze) 0 = 0 → ¬ lg_cmp (A.b &&& B.b) 0 = 0) := by
  have sB := hB.single
  have e0 : A.b ||| 0 = A.b := or_zero _
  unfold clV
  by_cases c1 : lg_cmp B.u 0 = 0
  · have u1 := cmp_eq.mp c1
    have l1 : lg_cmp B.lo B.hi = 0 := cmp_eq.mpr (sB.mp u1)
    have b1 : B.lo = B.b := vin_known u1 _ hB.1.1
    rw [if_pos l1, b1, if_pos c1]
    refine ⟨?_, fun z => z⟩
    unfold AV.say
    have e1 : A.b &&& ((A.u &&& (B.b ^^^ (-1))) ^^^ (-1)) = A.b := clr_of fun j hj => by
      have := vb_f hA j
      rw [tb_and, tb_cpl]
      cases q1 : tb A.b j <;> cases q2 : tb A.u j <;> cases q3 : tb B.b j <;> simp_all
    rw [e0, e1, zero_or]
  · have l1 : ¬ lg_cmp B.lo B.hi = 0 := fun z => c1 (cmp_eq.mpr (sB.mpr (cmp_eq.mp z)))
    rw [if_neg l1, if_neg c1]
    have e2 : A.u &&& ((0 ||| 0) ^^^ (-1)) = A.u := tb_ext fun j hj => by rw [tb_and, tb_cpl, tb_or, tb_zero]; simp [hj]
    show ((A.b ||| 0, A.u &&& ((0 ||| 0) ^^^ (-1)), A.lo, A.hi, A.le, A.gr) : AV) = A ∧ (¬ lg_cmp (A.b &&& 0) 0 = 0 → ¬ lg_cmp (A.b &&& B.b) 0 = 0)
    rw [e0, e2]
    exact ⟨rfl, fun z => absurd (cmp_eq.mpr (tb_ext fun j _ => by rw [tb_and, tb_zero]; simp)) z⟩
