/-! part 47zzzb: the twin: jumps, whole (gen/tpl.py) -/
theorem stl_congr {og : Int32} {z z' : Prop} [Decidable z] [Decidable z'] {σ : Sg} (h : z ↔ z') : stl og z σ = stl og z' σ := by
  funext n
  unfold stl
  by_cases c : z
  · simp only [if_pos c, if_pos (h.mp c)]
  · simp only [if_neg c, if_neg (fun q => c (h.mpr q))]
theorem OB.so {o : Option St} {kk : Nat} {X : XM} {σ : Sg} {kn : Int32} (e : o = some (σ, kn)) (h2 : vwT X kk = σ) (h3 : mI X 455 kk = kn) : OB o kk 1 X := Or.inr ⟨_, e, rfl, h2, h3⟩
theorem JB.mv {M M1 X : XM} {R : Rs} {f g : Int32} (h : JB M1 R f g X) (b : FB M M1) : JB M R f g X := ⟨h.1, b.trans h.2.1, h.2.2⟩
section JW
variable {M : XM} {I : In} {hf x3 p : Int32} {Q : Int32 × XM → Prop}
theorem m_jp (h : TW M) (hI : InT M I) (w : WI I) (wt : WS (vwT M 1024)) (h10 : (vwT M 1024 10).so = 3) (hk : kd I.c = 5 ∨ kd I.c = 6) (hn : (nm I.c = 1 ∨ nm I.c = 2 ∨ nm I.c = 3 ∨ nm I.c = 4 ∨ nm I.c = 5 ∨ nm I.c = 6 ∨ nm I.c = 7 ∨ nm I.c = 10 ∨ nm I.c = 11 ∨ nm I.c = 12 ∨ nm I.c = 13)) (ehf : hf = if kd I.c = 6 then 1 else 0)
    (e5 : tvk M 5 = vOne (if hf = 0 then I.i.toInt64 else I.i.toInt64 &&& 4294967295)) (f5 : tek M 5 = 0) (hx3 : x3 = if rg I.c = 0 then 5 else Int32.ofNat (8 + (76800 + I.s)))
    (nr : ¬ ((vwT M 1024 I.d).so = 0 ∨ (rg I.c ≠ 0 ∧ (vwT M 1024 I.s).so = 0)))
    (fin : ∀ x11 x12 X, JB M (bra I hf (vwT M 1024) (mI M 455 1024)) x11 x12 X → K_Model_jump_564 448 p x11 x12 X ∧ Q (g_Model_jump_564 448 p x11 x12 X))
    (err : bra I hf (vwT M 1024) (mI M 455 1024) = (2, none, none) → Q (2, M)) : K_Model_jump_91 448 p x3 M ∧ Q (g_Model_jump_91 448 p x3 M) := by
  have s := h.1
  have hd : I.d < 75 := by have := w.2.1; omega
  have hs : I.s < 75 := by have := w.2.2.1; omega
  obtain ⟨n1, n2⟩ := hI.num s
  obtain ⟨d1, d2⟩ := hI.kind s
  obtain ⟨b1, b2⟩ := hI.bit s w
  obtain ⟨sd1, sd2⟩ := m_sortOf s hd
  obtain ⟨ss1, ss2⟩ := m_sortOf s hs
  have hfz : hf = 0 ↔ kd I.c = 5 := by
    rw [ehf]
    rcases hk with e | e <;> rw [e] <;> decide
  have ixd : ix (Int32.ofNat (8 + (76800 + I.d))) = 8 + (76800 + I.d) := ixN (by omega)
  have ixs : ix (Int32.ofNat (8 + (76800 + I.s))) = 8 + (76800 + I.s) := ixN (by omega)
  have o0 : rg I.c = 0 → opd I hf (vwT M 1024) = tNu (vOne (if hf = 0 then I.i.toInt64 else I.i.toInt64 &&& 4294967295)) := fun z => by
    unfold opd; rw [if_pos z]
  have o1 : ¬ rg I.c = 0 → opd I hf (vwT M 1024) = vwT M 1024 I.s := fun z => by
    unfold opd; rw [if_neg z]
  have os1 : (opd I hf (vwT M 1024)).so = 1 ↔ rg I.c = 0 ∨ (vwT M 1024 I.s).so = 1 := by
    by_cases c : rg I.c = 0
    · rw [o0 c]; exact ⟨fun _ => Or.inl c, fun _ => rfl⟩
    · rw [o1 c]; exact ⟨Or.inr, fun z => z.resolve_left c⟩
  have rx : rk x3 := by
    rw [hx3]; split
    · exact rk5
    · exact rkN (by omega)
  have ox : 4 < ix x3 ∧ (ix x3 = 5 ∨ (8 + 76800 ≤ ix x3 ∧ ix x3 < 8 + 76800 + 75)) := by
    rw [hx3]; split
    · rw [ix5]; omega
    · rw [ixs]; omega
  have nq5 : ¬ QK 1025 (ix x3) := by unfold QK; omega
  have nq7 : ¬ QK 1027 (ix x3) := by unfold QK; omega
  have vx : (opd I hf (vwT M 1024)).so = 1 → tvk M (ix x3) = (opd I hf (vwT M 1024)).va ∧ tek M (ix x3) = 0 ∧ Tt (opd I hf (vwT M 1024)).va := by
    intro z
    by_cases c : rg I.c = 0
    · rw [hx3, if_pos c, ix5, o0 c, e5]
      exact ⟨rfl, f5, one_T _⟩
    · rw [o1 c] at z ⊢
      rw [hx3, if_neg c, ixs]
      exact ⟨tw_va hs (by rw [z]; decide), (tw_tt h hs).2, (wt I.s).2.1⟩
  have eb0 : bra I hf (vwT M 1024) (mI M 455 1024) = (if (vwT M 1024 I.d).so = 1 ∧ (opd I hf (vwT M 1024)).so = 1 then
    (if (rg I.c ≠ 0 ∧ I.d = I.s) ∨ (hf ≠ 0 ∧ ¬ (hlf (vwT M 1024 I.d).va ∧ hlf (opd I hf (vwT M 1024)).va)) then (0, some (vwT M 1024, mI M 455 1024), some (vwT M 1024, mI M 455 1024))
     else (0, nar I (oppN (cmpN (nm I.c))) (vwT M 1024) (mI M 455 1024) (vwT M 1024 I.d).va (opd I hf (vwT M 1024)).va, nar I (cmpN (nm I.c)) (vwT M 1024) (mI M 455 1024) (vwT M 1024 I.d).va (opd I hf (vwT M 1024)).va))
  else if hf = 0 ∧ (vwT M 1024 I.d).so = 8 ∧ ((opd I hf (vwT M 1024)).so = 1 ∧ (opd I hf (vwT M 1024)).va.u = 0 ∧ (opd I hf (vwT M 1024)).va.b = 0) ∧ (nm I.c = 1 ∨ nm I.c = 5) then
    (0, some (stl (vwT M 1024 I.d).og (nm I.c = 5) (vwT M 1024), mI M 455 1024), some (stl (vwT M 1024 I.d).og (nm I.c = 1) (vwT M 1024), mI M 455 1024))
  else if hf = 0 ∧ (nm I.c = 2 ∨ nm I.c = 3 ∨ nm I.c = 10 ∨ nm I.c = 11) ∧ (vwT M 1024 I.d).so = 4 ∧ (opd I hf (vwT M 1024)).so = 5 then mea (nm I.c) (vwT M 1024 I.d).va (vwT M 1024) (mI M 455 1024)
  else if hf = 0 ∧ (nm I.c = 2 ∨ nm I.c = 3 ∨ nm I.c = 10 ∨ nm I.c = 11) ∧ (vwT M 1024 I.d).so = 5 ∧ (opd I hf (vwT M 1024)).so = 4 then mea (trn (nm I.c)) (opd I hf (vwT M 1024)).va (vwT M 1024) (mI M 455 1024)
  else (2, none, none)) := by
    unfold bra
    rw [if_neg nr]
  -- the end, without settling or learning
  have E0 : ∀ (x7 x9 x11 x12 : Int32) (X : XM), x7 = 0 → x9 = 0 → JB M (bra I hf (vwT M 1024) (mI M 455 1024)) x11 x12 X → K_Model_jump_510 448 p x7 x9 x11 x12 X ∧ Q (g_Model_jump_510 448 p x7 x9 x11 x12 X) := by
    intro x7 x9 x11 x12 X z7 z9 jb
    unfold K_Model_jump_510 g_Model_jump_510 K_Model_jump_555 g_Model_jump_555
    refine kq_if (fun _ => kq_if (fun _ => fin _ _ _ jb) (fun z => absurd z9 z)) (fun z => absurd z7 z)
  obtain ⟨kb1, kb2, tb, fb, vb4, vb5, vb7, nb5, nb7⟩ := m_both h
  have hIb : InT (g_Model_copyState 448 1024 1027 (g_Model_copyState 448 1024 1025 M)) I := by
    have : ∀ i, mI (g_Model_copyState 448 1024 1027 (g_Model_copyState 448 1024 1025 M)) 448 i = mI M 448 i := fun i => fb.2.1 448 i (by unfold PB PK; omega)
    unfold InT; rw [this, this, this, this, this]; exact hI
  -- copies
  have C485 : ∀ (x7 x9 : Int32), (K_Model_jump_510 448 p x7 x9 1 1 (g_Model_copyState 448 1024 1027 (g_Model_copyState 448 1024 1025 M)) ∧ Q (g_Model_jump_510 448 p x7 x9 1 1 (g_Model_copyState 448 1024 1027 (g_Model_copyState 448 1024 1025 M)))) → K_Model_jump_485 448 p x7 x9 1 1 1 M ∧ Q (g_Model_jump_485 448 p x7 x9 1 1 1 M) := by
    intro x7 x9 r
    unfold K_Model_jump_485 g_Model_jump_485 K_Model_jump_500 g_Model_jump_500
    have s5 : mT (g_Model_copyState 448 1024 1025 M) 448 = 26 := by
      obtain ⟨_, k2, _⟩ := m_copyState h (k := 1024) (kk := 1025) (by decide) (by decide) (by decide)
      exact k2.1.1.T448
    exact kq_if (fun z => absurd z i1_0) (fun _ => kq_and s.T448 (kq_and kb1 (kq_and s5 (kq_and kb2 r))))
  -- 387 on: by the flags
  have J387 : ∀ (x4 x5 x7 x9 : Int32), (x4 = 0 ↔ ¬ ((vwT M 1024 I.d).so = 1 ∧ (opd I hf (vwT M 1024)).so = 1)) → (x5 = 0 ↔ ¬ hf = 0) → (x7 = 0 ↔ ¬ (hf = 0 ∧ (vwT M 1024 I.d).so = 8 ∧ ((opd I hf (vwT M 1024)).so = 1 ∧ (opd I hf (vwT M 1024)).va.u = 0 ∧ (opd I hf (vwT M 1024)).va.b = 0) ∧ (nm I.c = 1 ∨ nm I.c = 5))) →
      (x9 = 0 ↔ ¬ (hf = 0 ∧ (nm I.c = 2 ∨ nm I.c = 3 ∨ nm I.c = 10 ∨ nm I.c = 11) ∧ rg I.c ≠ 0 ∧ (((vwT M 1024 I.d).so = 4 ∧ (vwT M 1024 I.s).so = 5) ∨ ((vwT M 1024 I.d).so = 5 ∧ (vwT M 1024 I.s).so = 4)))) → ¬ (x4 = 0 ∧ x7 = 0 ∧ x9 = 0) → K_Model_jump_387 448 p x3 x4 x5 x7 x9 M ∧ Q (g_Model_jump_387 448 p x3 x4 x5 x7 x9 M) := by
    intro x4 x5 x7 x9 i4 i5 i7 i9 nz
    unfold K_Model_jump_387 g_Model_jump_387
    rw [b1, hI.2.1, hI.2.2.1]
    refine kq_if (fun c4 => ?_) (fun c4 => ?_)
    · -- maybe, or the packet
      have nA := i4.mp c4
      rw [if_neg nA] at eb0
      refine C485 x7 x9 ?_
      by_cases c7 : x7 = 0
      · have c9 : ¬ x9 = 0 := fun z => nz ⟨c4, c7, z⟩
        have q9 := Decidable.not_not.mp (fun z => c9 (i9.mpr z))
        obtain ⟨q1, q2, q3, q4⟩ := q9
        rw [if_neg (i7.mp c7)] at eb0
        have eo := o1 q3
        have hm : nm I.c = 2 ∨ nm I.c = 3 ∨ nm I.c = 10 ∨ nm I.c = 11 := q2
        unfold K_Model_jump_510 g_Model_jump_510 K_Model_jump_555 g_Model_jump_555
        refine kq_if (fun _ => kq_if (fun z => absurd z c9) (fun _ => ?_)) (fun z => absurd c7 z)
        have lb : ∃ n : Nat, n = (if (vwT M 1024 I.d).so = 4 then I.d else I.s) ∧ (vwT M 1024 n).so = 4 := by
          rcases q4 with ⟨y1, y2⟩ | ⟨y1, y2⟩
          · exact ⟨I.d, by rw [if_pos y1], y1⟩
          · exact ⟨I.s, by rw [if_neg (by rw [y1]; decide)], y2⟩
        obtain ⟨n, hnn, hn4⟩ := lb
        obtain ⟨l1, l2⟩ := m_learnBoth tb hIb w (by rw [vb4]; exact wt) (n := n) (by rw [vb4]; exact hnn) (by rw [vb4]; exact hn4) hm h10 vb5 vb7 nb5 nb7
        rw [vb4] at l2
        have er : bra I hf (vwT M 1024) (mI M 455 1024) = mea (if (vwT M 1024 I.d).so = 4 then nm I.c else trn (nm I.c)) (vwT M 1024 n).va (vwT M 1024) (mI M 455 1024) := by
          rw [eb0, eo]
          rcases q4 with ⟨y1, y2⟩ | ⟨y1, y2⟩
          · have qq : hf = 0 ∧ (nm I.c = 2 ∨ nm I.c = 3 ∨ nm I.c = 10 ∨ nm I.c = 11) ∧ (vwT M 1024 I.d).so = 4 ∧ (vwT M 1024 I.s).so = 5 := ⟨q1, hm, y1, y2⟩
            rw [if_pos y1] at hnn
            rw [if_pos qq, if_pos y1, hnn]
          · have n4 : ¬ (vwT M 1024 I.d).so = 4 := by rw [y1]; decide
            have qq : hf = 0 ∧ (nm I.c = 2 ∨ nm I.c = 3 ∨ nm I.c = 10 ∨ nm I.c = 11) ∧ (vwT M 1024 I.d).so = 5 ∧ (vwT M 1024 I.s).so = 4 := ⟨q1, hm, y1, y2⟩
            rw [if_neg n4] at hnn
            rw [if_neg (fun (z : hf = 0 ∧ _ ∧ (vwT M 1024 I.d).so = 4 ∧ _) => n4 z.2.2.1), if_pos qq, if_neg n4, hnn]
        rw [← er] at l2
        exact kq_and tb.1.T448 (kq_and l1 (fin _ _ _ (l2.mv fb)))
      · have q7 := Decidable.not_not.mp (fun z => c7 (i7.mpr z))
        rw [if_pos q7] at eb0
        obtain ⟨q1, q2, q3, q4⟩ := q7
        have c9 : x9 = 0 := i9.mpr (fun z => by
          rcases z.2.2.2 with y | y
          · rw [y.1] at q2; exact absurd q2 (by decide)
          · rw [y.1] at q2; exact absurd q2 (by decide))
        obtain ⟨m1, m2⟩ := hIb.num tb.1
        unfold K_Model_jump_510 g_Model_jump_510
        rw [m1]
        -- two settlings
        have S : ∀ a b : Int32, (¬ a = 0 ↔ nm I.c = 1) → (¬ b = 0 ↔ nm I.c = 5) → (∀ Y : XM, mI Y 448 19 = I.c → Sh Y → (nm I.c = 5 → b = 1) ∧ (¬ nm I.c = 5 → b = 0)) → K_Model_jump_532 448 p x9 1 1 448 1025 a (g_Model_copyState 448 1024 1027 (g_Model_copyState 448 1024 1025 M)) ∧ Q (g_Model_jump_532 448 p x9 1 1 448 1025 a (g_Model_copyState 448 1024 1027 (g_Model_copyState 448 1024 1025 M))) := by
          intro a b ha hb hb2
          unfold K_Model_jump_532 g_Model_jump_532
          obtain ⟨g1, g2⟩ := m_settle tb hIb hd (kk := 1025) (by decide) (x2 := a)
          rw [← i32_1025] at g1 g2
          rw [vb4, vb5, nb5] at g2
          refine kq_and tb.1.T448 (kq_and g1 ?_)
          generalize g_Model_settle 448 1025 a (g_Model_copyState 448 1024 1027 (g_Model_copyState 448 1024 1025 M)) = Y at g2 ⊢
          obtain ⟨ty, fy, vy, ny⟩ := g2
          have hIy := fy.inT hIb
          obtain ⟨y1, y2⟩ := hIy.num ty.1
          have vy4 : vwT Y 1024 = vwT M 1024 := by rw [fy.vw (by decide)]; exact vb4
          have vy7 : vwT Y 1027 = vwT M 1024 := by rw [fy.vw (by decide)]; exact vb7
          have ny7 : mI Y 455 1027 = mI M 455 1024 := by rw [fy.hk (Or.inr rfl) (by decide)]; exact nb7
          obtain ⟨j1, j2⟩ := hb2 Y hIy.1 ty.1
          have T : K_Model_jump_552 448 p x9 1 1 448 1027 b Y ∧ Q (g_Model_jump_552 448 p x9 1 1 448 1027 b Y) := by
            unfold K_Model_jump_552 g_Model_jump_552
            obtain ⟨e1, e2⟩ := m_settle ty hIy hd (kk := 1027) (by decide) (x2 := b)
            rw [← i32_1027] at e1 e2
            rw [vy4, vy7, ny7] at e2
            refine kq_and ty.1.T448 (kq_and e1 ?_)
            generalize g_Model_settle 448 1027 b Y = Z at e2 ⊢
            obtain ⟨tz, fz, vz, nz'⟩ := e2
            unfold K_Model_jump_555 g_Model_jump_555
            refine kq_if (fun _ => fin _ _ _ ?_) (fun z => absurd c9 z)
            refine ⟨tz, (fb.trans fy.fb5).trans fz.fb7, by rw [eb0], OB.so (by rw [eb0]) ?_ nz', OB.so (by rw [eb0]) ?_ (by rw [fz.hk (Or.inr rfl) (by decide)]; exact ny), ?_⟩
            · rw [vz]; exact stl_congr hb
            · rw [fz.vw (by decide), vy]; exact stl_congr ha
            · rw [fz.vw (by decide), vy]
              unfold stl
              rw [if_neg (fun z => by rw [h10] at z; exact absurd z.1 (by decide))]
              exact h10
          unfold K_Model_jump_535 g_Model_jump_535
          rw [y1]
          refine kq_and ty.1.T448 (kq_and y2 (kq_if (fun c => ?_) (fun c => ?_)))
          · rw [j1 c] at T; exact T
          · rw [j2 c] at T; exact T
        refine kq_if (fun z => absurd z c7) (fun _ => kq_and tb.1.T448 (kq_and m2 (kq_if (fun c1 => ?_) (fun c1 => ?_))))
        · have n5 : ¬ nm I.c = 5 := by rw [c1]; decide
          exact S 1 0 ⟨fun _ => c1, fun _ => i1_0⟩ ⟨fun z => absurd rfl z, fun z => absurd z n5⟩ (fun _ _ _ => ⟨fun z => absurd z n5, fun _ => rfl⟩)
        · have n5 : nm I.c = 5 := q4.resolve_left c1
          exact S 0 1 ⟨fun z => absurd rfl z, fun z => absurd z c1⟩ ⟨fun _ => n5, fun _ => i1_0⟩ (fun _ _ _ => ⟨fun _ => rfl, fun z => absurd n5 z⟩)
    · -- two numbers
      have cA := Decidable.not_not.mp (fun z => c4 (i4.mpr z))
      obtain ⟨cA1, cA2⟩ := cA
      rw [if_pos ⟨cA1, cA2⟩] at eb0
      have c7 : x7 = 0 := i7.mpr (fun z => by rw [cA1] at z; exact absurd z.2.1 (by decide))
      have c9 : x9 = 0 := i9.mpr (fun z => by
        rcases z.2.2.2 with y | y
        · rw [cA1] at y; exact absurd y.1 (by decide)
        · rw [cA1] at y; exact absurd y.1 (by decide))
      obtain ⟨vx1, vx2, vx3⟩ := vx cA2
      have both : ((rg I.c ≠ 0 ∧ I.d = I.s) ∨ (hf ≠ 0 ∧ ¬ (hlf (vwT M 1024 I.d).va ∧ hlf (opd I hf (vwT M 1024)).va))) → K_Model_jump_485 448 p x7 x9 1 1 1 M ∧ Q (g_Model_jump_485 448 p x7 x9 1 1 1 M) := by
        intro q
        rw [if_pos q] at eb0
        exact C485 x7 x9 (E0 x7 x9 1 1 _ c7 c9 ⟨tb, fb, by rw [eb0], OB.so (by rw [eb0]) vb7 nb7, OB.so (by rw [eb0]) vb5 nb5, by rw [vb5]; exact h10⟩)
      have A449 : ¬ ((rg I.c ≠ 0 ∧ I.d = I.s) ∨ (hf ≠ 0 ∧ ¬ (hlf (vwT M 1024 I.d).va ∧ hlf (opd I hf (vwT M 1024)).va))) → K_Model_jump_449 448 p x3 x7 x9 M ∧ Q (g_Model_jump_449 448 p x3 x7 x9 M) := by
        intro q
        rw [if_neg q] at eb0
        obtain ⟨g1, g2, g3⟩ := m_comp s hI w hn
        unfold K_Model_jump_449 g_Model_jump_449 K_Model_jump_455 g_Model_jump_455
        rw [g2]
        have hs' : rg I.c ≠ 0 → (vwT M 1024 I.s).so = 1 ∧ I.d ≠ I.s := fun z => ⟨(os1.mp cA2).resolve_left z, fun y => q (Or.inl ⟨z, y⟩)⟩
        obtain ⟨p1, p2⟩ := m_way h hI w wt h10 (kk := 1025) (Or.inl rfl) g3 cA1 hs' rx ox.1 nq5 vx1 vx2 vx3
        rw [← i32_1025] at p1 p2
        refine kq_and s.T448 (kq_and g1 (kq_and s.T448 (kq_and p1 ?_)))
        generalize g_Model_way 448 1025 (Int32.ofNat (cmpN (nm I.c))) x3 M = G at p2 ⊢
        obtain ⟨tg, fg, g10, og⟩ := p2
        have vg : vwT G.2 1024 = vwT M 1024 := fg.vw (by decide)
        have ng : mI G.2 455 1024 = mI M 455 1024 := fg.hk (Or.inr rfl) (by decide)
        have rg5 := fg.row nq5
        obtain ⟨z1, z2⟩ := opps ⟨cmpN (nm I.c), g3⟩
        have z1' : g_Sets_opposite (Int32.ofNat (cmpN (nm I.c))) = Int32.ofNat (oppN (cmpN (nm I.c))) := z1
        unfold K_Model_jump_465 g_Model_jump_465
        rw [z1']
        obtain ⟨r1, r2⟩ := m_way tg (fg.inT hI) w (by rw [vg]; exact wt) (by rw [vg]; exact h10) (kk := 1027) (Or.inr rfl) z2 (by rw [vg]; exact cA1) (by rw [vg]; exact hs') rx ox.1 nq7 (y := (opd I hf (vwT M 1024)).va) (by rw [rg5.1]; exact vx1) (by rw [rg5.2]; exact vx2) vx3
        rw [← i32_1027] at r1 r2
        rw [vg, ng] at r2
        refine kq_and tg.1.T448 (kq_and r1 ?_)
        generalize g_Model_way 448 1027 (Int32.ofNat (oppN (cmpN (nm I.c)))) x3 G.2 = H at r2 ⊢
        obtain ⟨th, fh, h10', oh⟩ := r2
        unfold K_Model_jump_480 g_Model_jump_480 K_Model_jump_485 g_Model_jump_485
        refine kq_if (fun _ => E0 x7 x9 H.1 G.1 H.2 c7 c9 ?_) (fun z => absurd rfl z)
        refine ⟨th, fg.fb5.trans fh.fb7, by rw [eb0], ?_, ?_, by rw [fh.vw (by decide)]; exact g10⟩
        · rw [eb0]
          rcases oh with ⟨y1, y2⟩ | ⟨st, y1, y2, y3⟩
          · exact Or.inl ⟨y1, y2⟩
          · exact Or.inr ⟨st, y1, y2, y3⟩
        · rw [eb0]
          rcases og with ⟨y1, y2⟩ | ⟨st, y1, y2, y3, y4⟩
          · exact Or.inl ⟨y1, y2⟩
          · exact Or.inr ⟨st, y1, y2, by rw [fh.vw (by decide)]; exact y3, by rw [fh.hk (Or.inr rfl) (by decide)]; exact y4⟩
      have A419 : ¬ (rg I.c ≠ 0 ∧ I.d = I.s) → K_Model_jump_419 448 p x3 x5 x7 x9 1 1 1 M ∧ Q (g_Model_jump_419 448 p x3 x5 x7 x9 1 1 1 M) := by
        intro q
        unfold K_Model_jump_419 g_Model_jump_419
        obtain ⟨g1, g2⟩ := m_areInts s (r := Int32.ofNat (8 + (76800 + I.d))) (rkN (by omega)) (v := (vwT M 1024 I.d).va) (by rw [ixd]; exact tw_va hd (by rw [cA1]; decide))
        obtain ⟨g3, g4⟩ := m_areInts s rx vx1
        rw [hI.2.1, roN, g2, g4]
        simp only [f10]
        refine kq_if (fun c5 => kq_and s.T448 (kq_and s.T448 (kq_and g1 (kq_if (fun y => both (Or.inr ⟨i5.mp c5, fun z => y z.1⟩)) (fun y => kq_and s.T448 (kq_and g3 (kq_if (fun y2 => both (Or.inr ⟨i5.mp c5, fun z => y2 z.2⟩)) (fun y2 => A449 (fun z => z.elim q (fun z => z.2 ⟨Decidable.not_not.mp y, Decidable.not_not.mp y2⟩)))))))))) (fun c5 => A449 (fun z => z.elim q (fun z => c5 (i5.mpr z.1))))
      refine kq_and s.T448 (kq_and b2 (kq_if (fun c0 => A419 (fun z => z.1 c0)) (fun c0 => kq_and s.T448 (kq_and s.T448 (kq_if (fun ce => both (Or.inl ⟨c0, ?_⟩)) (fun ce => A419 (fun z => ce (by rw [z.2]))))))))
      have := congrArg ix ce
      rw [ixN (by omega), ixN (by omega)] at this
      exact this
  -- 368
  have J368 : ∀ (x4 x5 x7 x9 : Int32), (x4 = 0 ↔ ¬ ((vwT M 1024 I.d).so = 1 ∧ (opd I hf (vwT M 1024)).so = 1)) → (x5 = 0 ↔ ¬ hf = 0) → (x7 = 0 ↔ ¬ (hf = 0 ∧ (vwT M 1024 I.d).so = 8 ∧ ((opd I hf (vwT M 1024)).so = 1 ∧ (opd I hf (vwT M 1024)).va.u = 0 ∧ (opd I hf (vwT M 1024)).va.b = 0) ∧ (nm I.c = 1 ∨ nm I.c = 5))) →
      (x9 = 0 ↔ ¬ (hf = 0 ∧ (nm I.c = 2 ∨ nm I.c = 3 ∨ nm I.c = 10 ∨ nm I.c = 11) ∧ rg I.c ≠ 0 ∧ (((vwT M 1024 I.d).so = 4 ∧ (vwT M 1024 I.s).so = 5) ∨ ((vwT M 1024 I.d).so = 5 ∧ (vwT M 1024 I.s).so = 4)))) → K_Model_jump_368 448 p x3 x4 x5 x7 x9 M ∧ Q (g_Model_jump_368 448 p x3 x4 x5 x7 x9 M) := by
    intro x4 x5 x7 x9 i4 i5 i7 i9
    unfold K_Model_jump_368 g_Model_jump_368
    refine kq_if (fun c4 => kq_if (fun c7 => kq_ifn (fun c9 => err ?_) (fun c9 => J387 _ _ _ _ i4 i5 i7 i9 (fun z => c9 z.2.2))) (fun c7 => J387 _ _ _ _ i4 i5 i7 i9 (fun z => c7 z.2.1))) (fun c4 => J387 _ _ _ _ i4 i5 i7 i9 (fun z => c4 z.1))
    have q9 := i9.mp c9
    rw [eb0, if_neg (i4.mp c4), if_neg (i7.mp c7)]
    by_cases c0 : rg I.c = 0
    · rw [o0 c0]
      rw [if_neg (fun (z : hf = 0 ∧ _ ∧ _ ∧ TH.so (tNu _) = 5) => absurd z.2.2.2 (show ¬ (1 : Int32) = 5 by decide)), if_neg (fun (z : hf = 0 ∧ _ ∧ _ ∧ TH.so (tNu _) = 4) => absurd z.2.2.2 (show ¬ (1 : Int32) = 4 by decide))]
    · rw [o1 c0]
      have y1 : ¬ (hf = 0 ∧ (nm I.c = 2 ∨ nm I.c = 3 ∨ nm I.c = 10 ∨ nm I.c = 11) ∧ (vwT M 1024 I.d).so = 4 ∧ (vwT M 1024 I.s).so = 5) := fun z => q9 ⟨z.1, z.2.1, c0, Or.inl z.2.2⟩
      have y2 : ¬ (hf = 0 ∧ (nm I.c = 2 ∨ nm I.c = 3 ∨ nm I.c = 10 ∨ nm I.c = 11) ∧ (vwT M 1024 I.d).so = 5 ∧ (vwT M 1024 I.s).so = 4) := fun z => q9 ⟨z.1, z.2.1, c0, Or.inr z.2.2⟩
      rw [if_neg y1, if_neg y2]
  have J317 : ∀ (x4 x5 x7 s0 : Int32), (x4 = 0 ↔ ¬ ((vwT M 1024 I.d).so = 1 ∧ (opd I hf (vwT M 1024)).so = 1)) → (x5 = 0 ↔ ¬ hf = 0) → (x7 = 0 ↔ ¬ (hf = 0 ∧ (vwT M 1024 I.d).so = 8 ∧ ((opd I hf (vwT M 1024)).so = 1 ∧ (opd I hf (vwT M 1024)).va.u = 0 ∧ (opd I hf (vwT M 1024)).va.b = 0) ∧ (nm I.c = 1 ∨ nm I.c = 5))) →
      (s0 = 0 ↔ ¬ (rg I.c ≠ 0 ∧ (((vwT M 1024 I.d).so = 4 ∧ (vwT M 1024 I.s).so = 5) ∨ ((vwT M 1024 I.d).so = 5 ∧ (vwT M 1024 I.s).so = 4)))) → K_Model_jump_317 448 p x3 x4 x5 x7 s0 M ∧ Q (g_Model_jump_317 448 p x3 x4 x5 x7 s0 M) := by
    intro x4 x5 x7 s0 i4 i5 i7 i0
    unfold K_Model_jump_317 g_Model_jump_317 K_Model_jump_363 g_Model_jump_363 K_Model_jump_367 g_Model_jump_367
    rw [n1]
    have no : ¬ (hf = 0 ∧ (nm I.c = 2 ∨ nm I.c = 3 ∨ nm I.c = 10 ∨ nm I.c = 11) ∧ rg I.c ≠ 0 ∧ (((vwT M 1024 I.d).so = 4 ∧ (vwT M 1024 I.s).so = 5) ∨ ((vwT M 1024 I.d).so = 5 ∧ (vwT M 1024 I.s).so = 4))) → K_Model_jump_368 448 p x3 x4 x5 x7 0 M ∧ Q (g_Model_jump_368 448 p x3 x4 x5 x7 0 M) := fun z => J368 x4 x5 x7 0 i4 i5 i7 ⟨fun _ => z, fun _ => rfl⟩
    have yes : (nm I.c = 2 ∨ nm I.c = 3 ∨ nm I.c = 10 ∨ nm I.c = 11) → ¬ x5 = 0 → ¬ s0 = 0 → K_Model_jump_368 448 p x3 x4 x5 x7 1 M ∧ Q (g_Model_jump_368 448 p x3 x4 x5 x7 1 M) := fun z z5 z0 => J368 x4 x5 x7 1 i4 i5 i7 ⟨fun q => absurd q i1_0, fun q => absurd ⟨Decidable.not_not.mp (fun y => z5 (i5.mpr y)), z, Decidable.not_not.mp (fun y => z0 (i0.mpr y))⟩ q⟩
    exact kq_if (fun c5 => no (fun z => i5.mp c5 z.1)) (fun c5 => kq_if (fun c0 => no (fun z => i0.mp c0 z.2.2)) (fun c0 => kq_and s.T448 (kq_and n2 (kq_if (fun e => yes (Or.inl e) c5 c0) (fun e2 => kq_and s.T448 (kq_and n2 (kq_if (fun e => yes (Or.inr (Or.inl e)) c5 c0) (fun e3 => kq_and s.T448 (kq_and n2 (kq_if (fun e => yes (Or.inr (Or.inr (Or.inl e))) c5 c0) (fun e10 => kq_and s.T448 (kq_and n2 (kq_if (fun e => yes (Or.inr (Or.inr (Or.inr e))) c5 c0) (fun e11 => no (fun z => z.2.1.elim e2 (fun z => z.elim e3 (fun z => z.elim e10 e11)))))))))))))))))
  have J255 : ∀ (x4 x5 x7 : Int32), (x4 = 0 ↔ ¬ ((vwT M 1024 I.d).so = 1 ∧ (opd I hf (vwT M 1024)).so = 1)) → (x5 = 0 ↔ ¬ hf = 0) → (x7 = 0 ↔ ¬ (hf = 0 ∧ (vwT M 1024 I.d).so = 8 ∧ ((opd I hf (vwT M 1024)).so = 1 ∧ (opd I hf (vwT M 1024)).va.u = 0 ∧ (opd I hf (vwT M 1024)).va.b = 0) ∧ (nm I.c = 1 ∨ nm I.c = 5))) → K_Model_jump_255 448 p x3 x4 x5 x7 M ∧ Q (g_Model_jump_255 448 p x3 x4 x5 x7 M) := by
    intro x4 x5 x7 i4 i5 i7
    unfold K_Model_jump_255 g_Model_jump_255 K_Model_jump_288 g_Model_jump_288 K_Model_jump_312 g_Model_jump_312 K_Model_jump_316 g_Model_jump_316
    rw [b1, hI.2.1, hI.2.2.1, sd1, ss1]
    have no : ¬ (rg I.c ≠ 0 ∧ (((vwT M 1024 I.d).so = 4 ∧ (vwT M 1024 I.s).so = 5) ∨ ((vwT M 1024 I.d).so = 5 ∧ (vwT M 1024 I.s).so = 4))) → _ := fun z => J317 x4 x5 x7 0 i4 i5 i7 ⟨fun _ => z, fun _ => rfl⟩
    have yes : (rg I.c ≠ 0 ∧ (((vwT M 1024 I.d).so = 4 ∧ (vwT M 1024 I.s).so = 5) ∨ ((vwT M 1024 I.d).so = 5 ∧ (vwT M 1024 I.s).so = 4))) → _ := fun z => J317 x4 x5 x7 1 i4 i5 i7 ⟨fun q => absurd q i1_0, fun q => absurd z q⟩
    refine kq_and s.T448 (kq_and b2 (kq_if (fun c0 => no (fun z => z.1 c0)) (fun c0 => kq_and s.T448 (kq_and s.T448 (kq_and sd2 (kq_if (fun c4 => kq_and s.T448 (kq_and s.T448 (kq_and ss2 (kq_if (fun c5 => yes ⟨c0, Or.inl ⟨c4, c5⟩⟩) (fun c5 => ?_))))) (fun c4 => ?_)))))))
    · exact kq_and s.T448 (kq_and s.T448 (kq_and sd2 (kq_if (fun e5' => absurd (c4.symm.trans e5') (by decide)) (fun e5' => no (fun z => z.2.elim (fun z => c5 z.2) (fun z => e5' z.1))))))
    · exact kq_and s.T448 (kq_and s.T448 (kq_and sd2 (kq_if (fun e5' => kq_and s.T448 (kq_and s.T448 (kq_and ss2 (kq_if (fun e4' => yes ⟨c0, Or.inr ⟨e5', e4'⟩⟩) (fun e4' => no (fun z => z.2.elim (fun z => c4 z.1) (fun z => e4' z.2))))))) (fun e5' => no (fun z => z.2.elim (fun z => c4 z.1) (fun z => e5' z.1))))))
  have J209 : ∀ (x4 x5 x6 : Int32), (x4 = 0 ↔ ¬ ((vwT M 1024 I.d).so = 1 ∧ (opd I hf (vwT M 1024)).so = 1)) → (x5 = 0 ↔ ¬ hf = 0) → (hf = 0 → (x6 = 0 ↔ ¬ ((opd I hf (vwT M 1024)).so = 1 ∧ (opd I hf (vwT M 1024)).va.u = 0 ∧ (opd I hf (vwT M 1024)).va.b = 0))) → K_Model_jump_209 448 p x3 x4 x5 x6 M ∧ Q (g_Model_jump_209 448 p x3 x4 x5 x6 M) := by
    intro x4 x5 x6 i4 i5 i6
    unfold K_Model_jump_209 g_Model_jump_209 K_Model_jump_232 g_Model_jump_232 K_Model_jump_254 g_Model_jump_254
    rw [n1, hI.2.1, sd1]
    have no : ¬ (hf = 0 ∧ (vwT M 1024 I.d).so = 8 ∧ ((opd I hf (vwT M 1024)).so = 1 ∧ (opd I hf (vwT M 1024)).va.u = 0 ∧ (opd I hf (vwT M 1024)).va.b = 0) ∧ (nm I.c = 1 ∨ nm I.c = 5)) → _ := fun z => J255 x4 x5 0 i4 i5 ⟨fun _ => z, fun _ => rfl⟩
    have J232 : (nm I.c = 1 ∨ nm I.c = 5) → hf = 0 → (mT M 448 = 26 ∧ mT M 448 = 26 ∧ K_Model_sortOf 448 (Int32.ofNat I.d) M ∧ (((vwT M 1024 I.d).so = 8 → ((x6 = 0 → K_Model_jump_255 448 p x3 x4 x5 0 M) ∧ (¬ x6 = 0 → K_Model_jump_255 448 p x3 x4 x5 1 M))) ∧ (¬ (vwT M 1024 I.d).so = 8 → K_Model_jump_255 448 p x3 x4 x5 0 M))) ∧ Q (if (vwT M 1024 I.d).so = 8 then (if x6 = 0 then g_Model_jump_255 448 p x3 x4 x5 0 M else g_Model_jump_255 448 p x3 x4 x5 1 M) else g_Model_jump_255 448 p x3 x4 x5 0 M) := by
      intro q1 q2
      have i6' := i6 q2
      exact kq_and s.T448 (kq_and s.T448 (kq_and sd2 (kq_if (fun c8 => kq_if (fun c6 => no (fun z => i6'.mp c6 z.2.2.1)) (fun c6 => J255 x4 x5 1 i4 i5 ⟨fun q => absurd q i1_0, fun q => absurd ⟨q2, c8, Decidable.not_not.mp (fun y => c6 (i6'.mpr y)), q1⟩ q⟩)) (fun c8 => no (fun z => c8 z.2.1)))))
    exact kq_if (fun c5 => no (fun z => i5.mp c5 z.1)) (fun c5 => kq_and s.T448 (kq_and n2 (kq_if (fun c1 => J232 (Or.inl c1) (Decidable.not_not.mp (fun y => c5 (i5.mpr y)))) (fun c1 => kq_and s.T448 (kq_and n2 (kq_if (fun e5' => J232 (Or.inr e5') (Decidable.not_not.mp (fun y => c5 (i5.mpr y)))) (fun e5' => no (fun z => z.2.2.2.elim c1 e5'))))))))
  have J143 : ∀ (x4 x5 : Int32), (x4 = 0 ↔ ¬ ((vwT M 1024 I.d).so = 1 ∧ (opd I hf (vwT M 1024)).so = 1)) → (x5 = 0 ↔ ¬ hf = 0) → K_Model_jump_143 448 p x3 x4 x5 M ∧ Q (g_Model_jump_143 448 p x3 x4 x5 M) := by
    intro x4 x5 i4 i5
    unfold K_Model_jump_143 g_Model_jump_143 K_Model_jump_208 g_Model_jump_208
    rw [b1, hI.2.2.2.2, hI.2.2.1, ss1, s.R448_16, s.R460_2]
    refine kq_and s.T448 (kq_and b2 (kq_if (fun c0 => kq_and s.T448 (kq_if (fun ci => ?_) (fun ci => ?_))) (fun c0 => kq_and s.T448 (kq_and s.T448 (kq_and ss2 (kq_if (fun c1 => ?_) (fun c1 => ?_)))))))
    · refine J209 x4 x5 1 i4 i5 (fun z => ⟨fun q => absurd q i1_0, fun q => absurd ?_ q⟩)
      rw [o0 c0, if_pos z, ci]
      exact ⟨rfl, rfl, rfl⟩
    · refine J209 x4 x5 0 i4 i5 (fun z => ⟨fun _ q => ci ?_, fun _ => rfl⟩)
      rw [o0 c0, if_pos z] at q
      have q2 : I.i.toInt64 = 0 := q.2.2
      have := congrArg Int64.toInt q2
      rw [Int32.toInt_toInt64] at this
      exact Int32.toInt_inj.mp this
    · have so1 : (opd I hf (vwT M 1024)).so = 1 := by rw [o1 c0]; exact c1
      obtain ⟨vx1, vx2, vx3⟩ := vx so1
      obtain ⟨g1, g2⟩ := t_isSingle s rx vx1 vx3
      have lo : mL M 463 (ix x3) = (opd I hf (vwT M 1024)).va.lo := by rw [← vx1]; rfl
      rw [g1, lo]
      simp only [f10]
      refine kq_and s.T448 (kq_and s.T460 (kq_and g2 (kq_if (fun cu => ?_) (fun cu => kq_and s.T448 (kq_and s.T460 (kq_and s.T463 (kq_and (by rw [s.N463]; exact rx) (kq_if (fun cl => ?_) (fun cl => ?_)))))))))
      · exact J209 x4 x5 0 i4 i5 (fun _ => ⟨fun _ q => cu q.2.1, fun _ => rfl⟩)
      · have cu' := Decidable.not_not.mp cu
        have e := vx3.one_of cu'
        have lb : (opd I hf (vwT M 1024)).va.lo = (opd I hf (vwT M 1024)).va.b := by rw [e]
        exact J209 x4 x5 1 i4 i5 (fun _ => ⟨fun q => absurd q i1_0, fun q => absurd ⟨so1, cu', by rw [← lb]; exact cmp_eq.mp cl⟩ q⟩)
      · have cu' := Decidable.not_not.mp cu
        have e := vx3.one_of cu'
        have lb : (opd I hf (vwT M 1024)).va.lo = (opd I hf (vwT M 1024)).va.b := by rw [e]
        exact J209 x4 x5 0 i4 i5 (fun _ => ⟨fun _ q => cl (cmp_eq.mpr (by rw [lb]; exact q.2.2)), fun _ => rfl⟩)
    · exact J209 x4 x5 0 i4 i5 (fun _ => ⟨fun _ q => by rw [o1 c0] at q; exact c1 q.1, fun _ => rfl⟩)
  have J128 : ∀ x4 : Int32, (x4 = 0 ↔ ¬ ((vwT M 1024 I.d).so = 1 ∧ (opd I hf (vwT M 1024)).so = 1)) → K_Model_jump_128 448 p x3 x4 M ∧ Q (g_Model_jump_128 448 p x3 x4 M) := by
    intro x4 i4
    unfold K_Model_jump_128 g_Model_jump_128
    rw [d1]
    exact kq_and s.T448 (kq_and d2 (kq_if (fun c => J143 x4 1 i4 ⟨fun q => absurd q i1_0, fun q => absurd (hfz.mpr c) q⟩) (fun c => J143 x4 0 i4 ⟨fun _ q => c (hfz.mp q), fun _ => rfl⟩)))
  unfold K_Model_jump_91 g_Model_jump_91 K_Model_jump_123 g_Model_jump_123 K_Model_jump_127 g_Model_jump_127
  rw [hI.2.1, hI.2.2.1, sd1, ss1, b1]
  refine kq_and s.T448 (kq_and s.T448 (kq_and sd2 (kq_if (fun c1 => kq_and s.T448 (kq_and b2 (kq_if (fun c0 => ?_) (fun c0 => kq_and s.T448 (kq_and s.T448 (kq_and ss2 (kq_if (fun cs => ?_) (fun cs => ?_)))))))) (fun c1 => ?_))))
  · exact J128 1 ⟨fun q => absurd q i1_0, fun q => absurd ⟨c1, os1.mpr (Or.inl c0)⟩ q⟩
  · exact J128 1 ⟨fun q => absurd q i1_0, fun q => absurd ⟨c1, os1.mpr (Or.inr cs)⟩ q⟩
  · exact J128 0 ⟨fun _ q => (os1.mp q.2).elim c0 cs, fun _ => rfl⟩
  · exact J128 0 ⟨fun _ q => c1 q.1, fun _ => rfl⟩
theorem m_jump (h : TW M) (hI : InT M I) (w : WI I) (j10 : J10 M) (wt : WS (vwT M 1024)) (h10 : (vwT M 1024 10).so = 3) (hk : kd I.c = 5 ∨ kd I.c = 6) (hn : (nm I.c = 1 ∨ nm I.c = 2 ∨ nm I.c = 3 ∨ nm I.c = 4 ∨ nm I.c = 5 ∨ nm I.c = 6 ∨ nm I.c = 7 ∨ nm I.c = 10 ∨ nm I.c = 11 ∨ nm I.c = 12 ∨ nm I.c = 13))
    (fin : ∀ x11 x12 X, JB M (bra I (if kd I.c = 6 then 1 else 0) (vwT M 1024) (mI M 455 1024)) x11 x12 X → K_Model_jump_564 448 p x11 x12 X ∧ Q (g_Model_jump_564 448 p x11 x12 X))
    (err : ∀ X, TW X → FB M X → J10 X → (bra I (if kd I.c = 6 then 1 else 0) (vwT M 1024) (mI M 455 1024)).1 ≠ 0 → Q ((bra I (if kd I.c = 6 then 1 else 0) (vwT M 1024) (mI M 455 1024)).1, X)) : K_Model_jump 448 p M ∧ Q (g_Model_jump 448 p M) := by
  have s := h.1
  have hd : I.d < 75 := by have := w.2.1; omega
  have hs : I.s < 75 := by have := w.2.2.1; omega
  obtain ⟨b1, b2⟩ := hI.bit s w
  obtain ⟨rd1, rd2⟩ := m_reads s hd
  obtain ⟨rs1, rs2⟩ := m_reads s hs
  have e6 : ∀ J : Nat → Prop, True := fun _ => trivial
  have A31 : ∀ x2 : Int32, x2 = (if (vwT M 1024 I.d).so = 0 ∨ (rg I.c ≠ 0 ∧ (vwT M 1024 I.s).so = 0) then 1 else 0) → K_Model_jump_31 448 p x2 M ∧ Q (g_Model_jump_31 448 p x2 M) := by
    intro x2 hx2
    unfold K_Model_jump_31 g_Model_jump_31
    by_cases nr : (vwT M 1024 I.d).so = 0 ∨ (rg I.c ≠ 0 ∧ (vwT M 1024 I.s).so = 0)
    · rw [if_pos nr] at hx2
      rw [hx2]
      refine kq_ifp (fun z => absurd z (by decide)) (fun _ => ?_)
      have eb : bra I (if kd I.c = 6 then 1 else 0) (vwT M 1024) (mI M 455 1024) = (1, none, none) := by
        unfold bra; rw [if_pos nr]
      have := err M h FP.rf j10 (by rw [eb]; decide)
      rw [eb] at this
      exact this
    · rw [if_neg nr] at hx2
      rw [hx2]
      refine kq_ifp (fun _ => ?_) (fun z => absurd (by decide) z)
      rw [s.R448_16, hI.2.2.2.2, t_single s, ix5]
      have m1 : MX M (vwT M 1024) (sR M 5 (vOne I.i.toInt64) 0) := MX.sr h (by decide) (by decide)
      have g1 : FB M (sR M 5 (vOne I.i.toInt64) 0) := FB.sr (by decide)
      have v5 : tvk (sR M 5 (vOne I.i.toInt64) 0) 5 = vOne I.i.toInt64 := tvk_sR _ _ _ _
      have g5 : tek (sR M 5 (vOne I.i.toInt64) 0) 5 = 0 := tek_sR _ _ _ _
      have ks : K_Sets_single 460 5 I.i.toInt64 M := kt_single s rk5
      generalize sR M 5 (vOne I.i.toInt64) 0 = M1 at m1 g1 v5 g5 ⊢
      have s1 := m1.1.1
      have hI1 := hI.fx m1.2.1
      obtain ⟨d3, d4⟩ := hI1.kind s1
      have go : ∀ {M2 : XM}, MX M (vwT M 1024) M2 → FB M M2 → tvk M2 5 = vOne (if (if kd I.c = 6 then (1 : Int32) else 0) = 0 then I.i.toInt64 else I.i.toInt64 &&& 4294967295) → tek M2 5 = 0 → K_Model_jump_70 448 p M2 ∧ Q (g_Model_jump_70 448 p M2) := by
        intro M2 m2 fb2 v2 f2
        have s2 := m2.1.1
        have hI2 := hI.fx m2.2.1
        obtain ⟨c1, c2⟩ := hI2.bit s2 w
        have fin2 : ∀ x11 x12 X, JB M2 (bra I (if kd I.c = 6 then 1 else 0) (vwT M2 1024) (mI M2 455 1024)) x11 x12 X → K_Model_jump_564 448 p x11 x12 X ∧ Q (g_Model_jump_564 448 p x11 x12 X) := by
          intro x11 x12 X jb
          rw [m2.2.2.1, m2.2.2.2] at jb
          exact fin _ _ _ (jb.mv fb2)
        have err2 : bra I (if kd I.c = 6 then 1 else 0) (vwT M2 1024) (mI M2 455 1024) = (2, none, none) → Q (2, M2) := by
          intro e
          rw [m2.2.2.1, m2.2.2.2] at e
          have := err M2 m2.1 fb2 (j10.fx m2.2.1) (by rw [e]; decide)
          rw [e] at this
          exact this
        have run : ∀ x3, x3 = (if rg I.c = 0 then 5 else Int32.ofNat (8 + (76800 + I.s))) → K_Model_jump_91 448 p x3 M2 ∧ Q (g_Model_jump_91 448 p x3 M2) := fun x3 e3 => m_jp m2.1 hI2 w (by rw [m2.2.2.1]; exact wt) (by rw [m2.2.2.1]; exact h10) hk hn rfl v2 f2 e3 (by rw [m2.2.2.1]; exact nr) fin2 err2
        unfold K_Model_jump_70 g_Model_jump_70
        rw [c1, hI2.2.2.1, roN]
        refine kq_and s2.T448 (kq_and c2 (kq_if (fun c0 => run 5 (by rw [if_pos c0])) (fun c0 => kq_and s2.T448 (run _ (by rw [if_neg c0])))))
      unfold K_Model_jump_50 g_Model_jump_50
      rw [d3, s1.R448_16]
      refine kq_and s.T448 (kq_and s.T448 (kq_and s.T460 (kq_and ks (kq_and s1.T448 (kq_and d4 (kq_if (fun c6 => ?_) (fun c6 => ?_)))))))
      · have e32 : (32 : Int32) = Int32.ofNat 32 := rfl
        obtain ⟨k1, k2⟩ := t_cut s1 rk5 rk5 (by rw [ix5]; decide) (n := 32) (by decide) (by rw [ix5, v5]; exact one_T _)
        rw [ix5, v5, g5, jz0, ← e32, cut_one32] at k2
        rw [← e32] at k1
        rw [k2]
        have m2 := MX.sr m1.1 (k := 3) (w := vOne I.i.toInt64) (e := 0) (by decide) (by decide)
        have m3 := MX.sr m2.1 (k := 5) (w := vOne (I.i.toInt64 &&& 4294967295)) (e := 0) (by decide) (by decide)
        have m4 := m1.trans (m2.trans m3)
        rw [m2.2.2.1, m1.2.2.1] at m4
        obtain ⟨q1, q2⟩ := go m4 ((g1.trans (FB.sr (by decide))).trans (FB.sr (by decide))) (by rw [tvk_sR, if_pos c6, if_neg i1_0]) (tek_sR _ _ _ _)
        exact ⟨⟨s1.T448, s1.T460, k1, q1⟩, q2⟩
      · exact go m1 g1 (by rw [v5, if_neg c6, if_pos rfl]) g5
  unfold K_Model_jump g_Model_jump K_Model_jump_0 g_Model_jump_0 K_Model_jump_27 g_Model_jump_27
  rw [hI.2.1, hI.2.2.1, rd1, rs1, b1]
  refine kq_and s.T448 (kq_and s.T448 (kq_and rd2 (kq_and s.T448 (kq_and b2 (kq_if (fun c0 => A31 _ ?_) (fun c0 => kq_and s.T448 (kq_and s.T448 (kq_and rs2 (A31 _ ?_)))))))))
  · rw [fst_0]
    simp only [c0, ne_eq, not_true, false_and, or_false]
  · rw [fst_1 (Or.inl rfl)]
    simp only [c0, ne_eq, not_false_iff, true_and]
end JW
