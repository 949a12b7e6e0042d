/-! part 47zzt: the twin's arithmetic (gen/tpl.py) -/
abbrev MVB (s : Int32) : Prop := s = 2 ∨ s = 3 ∨ s = 4 ∨ s = 7
theorem mvb_if (s : Int32) : (if s < 2 then (if s = 7 then (1 : Int32) else 0) else if s ≤ 4 then 1 else if s = 7 then 1 else 0) = if MVB s then 1 else 0 := by
  have e : ∀ c : Int32, s = c ↔ s.toInt = c.toInt := fun c => Int32.toInt_inj.symm
  have h2 : (2 : Int32).toInt = 2 := rfl
  have h3 : (3 : Int32).toInt = 3 := rfl
  have h4 : (4 : Int32).toInt = 4 := rfl
  have h7 : (7 : Int32).toInt = 7 := rfl
  simp only [MVB, e, lt_u3, Int32.le_iff_toInt_le, h2, h3, h4, h7]
  generalize s.toInt = z
  by_cases c7 : z = 7
  · rw [c7]; decide
  · simp only [c7, if_false, or_false]
    by_cases c2 : z < 2
    · rw [if_pos c2, if_neg (by omega)]
    · rw [if_neg c2]
      by_cases c4 : z ≤ 4
      · rw [if_pos c4, if_pos (by omega)]
      · rw [if_neg c4, if_neg (by omega)]
theorem m_isMov {M : XM} (h : Sh M) {n : Nat} (hn : n < 75) : g_Model_isMovable 448 (Int32.ofNat n) M = (if MVB (vwT M 1024 n).so then 1 else 0) ∧ K_Model_isMovable 448 (Int32.ofNat n) M := by
  obtain ⟨a, b⟩ := m_sortOf h hn
  unfold g_Model_isMovable K_Model_isMovable g_Model_isMovable_0 K_Model_isMovable_0 g_Model_isMovable_6 g_Model_isMovable_16 g_Model_isMovable_22
  rw [a]; exact ⟨mvb_if _, h.T448, b⟩
theorem ptr1_no {n : Int32} {b : TH} {v : AV} (h : ¬ MVB b.so) : ptr1 n b v = (2, b) := by
  unfold ptr1
  rw [if_neg (fun (z : b.so = 4 ∨ b.so = 7) => h (by rcases z with z | z; exact Or.inr (Or.inr (Or.inl z)); exact Or.inr (Or.inr (Or.inr z)))), if_neg (fun (z : (b.so = 2 ∨ b.so = 3) ∧ _) => h (by rcases z.1 with z | z; exact Or.inl z; exact Or.inr (Or.inl z)))]
theorem ptr_two {n : Int32} {t y : TH} (hn : ¬ 1 < n) (h1 : ¬ (MVB t.so ∧ y.so = 1)) (h2 : t.so = 1 → n = 1 ∨ ¬ MVB y.so) : (ptr n t y).1 = 2 := by
  unfold ptr
  rw [if_neg hn]
  by_cases c : t.so = 1
  · rw [if_pos c]
    by_cases c1 : n = 1
    · rw [if_pos c1]
    · rw [if_neg c1, ptr1_no ((h2 c).resolve_left c1)]
  · rw [if_neg c]
    by_cases c1 : y.so = 1
    · rw [if_pos c1, ptr1_no (fun z => h1 ⟨z, c1⟩)]
    · rw [if_neg c1]
theorem mvb_1 {s : Int32} (h : MVB s) : ¬ s = 1 := by rcases h with e | e | e | e <;> rw [e] <;> decide
theorem nm01 : ∀ m : Fin 256, nm (Int32.ofNat m.val) ≤ 1 → nm (Int32.ofNat m.val) = 0 ∨ nm (Int32.ofNat m.val) = 1 := by decide +kernel
theorem nn_ofNat {n : Nat} (h : n < 2147483648) : (0 : Int32) ≤ Int32.ofNat n := by
  rw [Int32.le_iff_toInt_le, toInt_ofNat32 h]
  have : (0 : Int32).toInt = 0 := rfl
  omega
theorem rkV_y {I : In} {hf : Int32} {x : AV} (y y' : AV) (h : nm I.c = 8 ∨ nm I.c = 13) : rkV I hf x y = rkV I hf x y' := by
  unfold rkV
  by_cases c : nm I.c = 8
  · rw [if_pos c, if_pos c]
  · rw [if_neg c, if_neg c, if_pos (h.resolve_left c), if_pos (h.resolve_left c)]
section AR
variable {M : XM} {I : In} {x1 x3 hf : Int32}
theorem m_ar167 (h : TW M) (hI : InT M I) (w : WI I) (hk : kd I.c = 4 ∨ kd I.c = 7) (wt : WS (vwT M 1024)) (hx1 : x1 = 0 ↔ nm I.c ≠ 11) (hx3 : x3 = 0 ↔ (rg I.c = 0 ∨ nm I.c = 13)) (ehf : hf = if kd I.c = 4 then 1 else 0)
    (e5 : tvk M 5 = vOne (if hf = 0 then I.i.toInt64 else I.i.toInt64 &&& 4294967295)) (f5 : tek M 5 = 0) (nc : ¬ (nm I.c = 11 ∧ hf = 0 ∧ I.o = 0 ∧ ¬ x3 = 0)) :
    K_Model_arithmetic_167 448 x1 x3 M ∧ ZQ M ((rck1 I hf (vwT M 1024) (if nm I.c = 8 ∨ nm I.c = 13 then vwT M 1024 I.d else opd I hf (vwT M 1024))).1, (rck1 I hf (vwT M 1024) (if nm I.c = 8 ∨ nm I.c = 13 then vwT M 1024 I.d else opd I hf (vwT M 1024))).2, mI M 455 1024) (g_Model_arithmetic_167 448 x1 x3 M) := by
  have s := h.1
  have hd : I.d < 75 := by have := w.2.1; omega
  have hs : I.s < 75 := by have := w.2.2.1; omega
  obtain ⟨n1, n2⟩ := hI.num s
  obtain ⟨d1, d2⟩ := hI.kind s
  obtain ⟨sd1, sd2⟩ := m_sortOf s hd
  obtain ⟨ss1, ss2⟩ := m_sortOf s hs
  obtain ⟨md1, md2⟩ := m_isMov s hd
  obtain ⟨ms1, ms2⟩ := m_isMov s hs
  obtain ⟨w1, w2, w3, w4, w5⟩ := w.2.2.2.2.1 hk
  have hfz : hf = 0 ↔ kd I.c = 7 := by
    rw [ehf]
    rcases hk with e | e <;> rw [e] <;> decide
  have x30 : nm I.c = 8 ∨ nm I.c = 13 → x3 = 0 := fun z => hx3.mpr (z.elim (fun e => Or.inl (w3 e).1) Or.inr)
  have o0 : x3 = 0 → ¬ (nm I.c = 8 ∨ nm I.c = 13) → opd I hf (vwT M 1024) = tNu (vOne (if hf = 0 then I.i.toInt64 else I.i.toInt64 &&& 4294967295)) := fun z q => by
    unfold opd
    rw [if_pos ((hx3.mp z).resolve_right (fun e => q (Or.inr e)))]
  have o1 : ¬ x3 = 0 → opd I hf (vwT M 1024) = vwT M 1024 I.s := fun z => by
    unfold opd
    rw [if_neg (fun e => z (hx3.mpr (Or.inl e)))]
  have ixd : ix (Int32.ofNat (8 + (76800 + I.d))) = 8 + (76800 + I.d) := ixN (by omega)
  have ixs : ix (Int32.ofNat (8 + (76800 + I.s))) = 8 + (76800 + I.s) := ixN (by omega)
  obtain ⟨ud1, ud2⟩ := tw_tt h hd
  obtain ⟨us1, us2⟩ := tw_tt h hs
  -- the operand's row
  have ROW : x3 = 0 ∨ (vwT M 1024 I.s).so = 1 → ∃ r v, (x3 = 0 → r = 5) ∧ (¬ x3 = 0 → r = Int32.ofNat (8 + (76800 + I.s))) ∧ rk r ∧ 4 < ix r ∧ tvk M (ix r) = v ∧ tek M (ix r) = 0 ∧ Tt v ∧ (¬ (nm I.c = 8 ∨ nm I.c = 13) → (opd I hf (vwT M 1024)).so = 1 ∧ (opd I hf (vwT M 1024)).va = v ∧ (x3 = 0 → opd I hf (vwT M 1024) = tNu v)) := by
    intro hc
    by_cases c : x3 = 0
    · refine ⟨5, _, fun _ => rfl, fun z => absurd c z, rk5, by rw [ix5]; decide, by rw [ix5]; exact e5, by rw [ix5]; exact f5, one_T _, fun q => ?_⟩
      rw [o0 c q]
      exact ⟨rfl, rfl, fun _ => rfl⟩
    · have c1 := hc.resolve_left c
      refine ⟨_, (vwT M 1024 I.s).va, fun z => absurd z c, fun _ => rfl, rkN (by omega), by rw [ixs]; omega, by rw [ixs]; exact tw_va hs (by rw [c1]; decide), by rw [ixs]; exact us2, (wt I.s).2.1, fun q => ?_⟩
      rw [o1 c]
      exact ⟨c1, rfl, fun z => absurd z c⟩
  have A199 : (nm I.c = 11 ∨ (vwT M 1024 I.d).so = 1) → (x3 = 0 ∨ (vwT M 1024 I.s).so = 1) → K_Model_arithmetic_199 448 x3 M ∧ ZQ M ((rck1 I hf (vwT M 1024) (if nm I.c = 8 ∨ nm I.c = 13 then vwT M 1024 I.d else opd I hf (vwT M 1024))).1, (rck1 I hf (vwT M 1024) (if nm I.c = 8 ∨ nm I.c = 13 then vwT M 1024 I.d else opd I hf (vwT M 1024))).2, mI M 455 1024) (g_Model_arithmetic_199 448 x3 M) := by
    intro hc hc2
    obtain ⟨r, v, r1, r2, r3, r4, r5, r6, r7, r8⟩ := ROW hc2
    obtain ⟨k1, k2⟩ := m_reckon h hI w hk (x := Int32.ofNat (8 + (76800 + I.d))) (y := r) (rkN (by omega)) r3 (by rw [ixd]; omega) r4 (by rw [ixd]) r5 (by rw [ixd]; exact ud2) r6 ud1 r7
    have er : rck1 I hf (vwT M 1024) (if nm I.c = 8 ∨ nm I.c = 13 then vwT M 1024 I.d else opd I hf (vwT M 1024)) = (0, up (vwT M 1024) I.d (tNu (rkV I (if kd I.c = 4 then 1 else 0) (if nm I.c = 11 then v else tvk M (8 + (76800 + I.d))) v))) := by
      rw [← ehf]
      unfold rck1
      by_cases c11 : nm I.c = 11 ∧ hf = 0 ∧ I.o = 0
      · have c3 : x3 = 0 := Decidable.not_not.mp (fun z => nc ⟨c11.1, c11.2.1, c11.2.2, z⟩)
        have q : ¬ (nm I.c = 8 ∨ nm I.c = 13) := by rw [c11.1]; decide
        have q8 : ¬ nm I.c = 8 := fun z => q (Or.inl z)
        have q13 : ¬ nm I.c = 13 := fun z => q (Or.inr z)
        have b64 : bw hf = 64 := by unfold bw; rw [if_pos c11.2.1]
        rw [if_pos c11, if_neg q, (r8 q).2.2 c3, if_pos c11.1]
        unfold rkV
        rw [if_neg q8, if_neg q13, if_neg (by rw [c11.2.2]; decide), if_pos (by rw [c11.2.2]; decide), b64, c11.1, show opN 11 = 11 from rfl, op_11_64 r7]
      · rw [if_neg c11]
        by_cases q : nm I.c = 8 ∨ nm I.c = 13
        · have n11 : ¬ nm I.c = 11 := by rcases q with e | e <;> rw [e] <;> decide
          have sd := hc.resolve_left n11
          have q2 : (nm I.c = 11 ∨ (vwT M 1024 I.d).so = 1) ∧ (vwT M 1024 I.d).so = 1 := ⟨hc, sd⟩
          rw [if_pos q, if_pos q2, if_neg n11, if_neg n11, tw_va hd (by rw [sd]; decide), rkV_y _ v q]
        · obtain ⟨y1, y2, y3⟩ := r8 q
          have q2 : (nm I.c = 11 ∨ (vwT M 1024 I.d).so = 1) ∧ (opd I hf (vwT M 1024)).so = 1 := ⟨hc, y1⟩
          rw [if_neg q, if_pos q2, y2]
          by_cases n11 : nm I.c = 11
          · rw [if_pos n11, if_pos n11]
          · rw [if_neg n11, if_neg n11, tw_va hd (by rw [hc.resolve_left n11]; decide)]
    rw [er]
    unfold g_Model_arithmetic_199 K_Model_arithmetic_199 g_Model_arithmetic_204 K_Model_arithmetic_204 g_Model_arithmetic_240 K_Model_arithmetic_240 g_Model_arithmetic_243
    rw [hI.2.1, hI.2.2.1, roN, roN]
    refine kq_if (fun z => absurd z i1_0) (fun _ => kq_and s.T448 (kq_if (fun c => ?_) (fun c => ?_)))
    · rw [r1 c] at k1 k2
      exact ⟨⟨s.T448, k1⟩, ZQ.ok k2⟩
    · rw [r2 c] at k1 k2
      exact kq_and s.T448 ⟨⟨s.T448, k1⟩, ZQ.ok k2⟩
  have A203 : ¬ ((nm I.c = 11 ∨ (vwT M 1024 I.d).so = 1) ∧ (x3 = 0 ∨ (vwT M 1024 I.s).so = 1)) → K_Model_arithmetic_203 448 x3 M ∧ ZQ M ((rck1 I hf (vwT M 1024) (if nm I.c = 8 ∨ nm I.c = 13 then vwT M 1024 I.d else opd I hf (vwT M 1024))).1, (rck1 I hf (vwT M 1024) (if nm I.c = 8 ∨ nm I.c = 13 then vwT M 1024 I.d else opd I hf (vwT M 1024))).2, mI M 455 1024) (g_Model_arithmetic_203 448 x3 M) := by
    intro hc
    have er : rck1 I hf (vwT M 1024) (if nm I.c = 8 ∨ nm I.c = 13 then vwT M 1024 I.d else opd I hf (vwT M 1024)) = if hf = 0 then ((ptr (nm I.c) (vwT M 1024 I.d) (if nm I.c = 8 ∨ nm I.c = 13 then vwT M 1024 I.d else opd I hf (vwT M 1024))).1, up (vwT M 1024) I.d (ptr (nm I.c) (vwT M 1024 I.d) (if nm I.c = 8 ∨ nm I.c = 13 then vwT M 1024 I.d else opd I hf (vwT M 1024))).2) else (2, vwT M 1024) := by
      unfold rck1
      rw [if_neg (fun (z : nm I.c = 11 ∧ hf = 0 ∧ I.o = 0) => hc ⟨Or.inl z.1, Or.inl (Decidable.not_not.mp (fun q => nc ⟨z.1, z.2.1, z.2.2, q⟩))⟩)]
      have q2 : ¬ ((nm I.c = 11 ∨ (vwT M 1024 I.d).so = 1) ∧ (if nm I.c = 8 ∨ nm I.c = 13 then vwT M 1024 I.d else opd I hf (vwT M 1024)).so = 1) := by
        intro z
        by_cases q : nm I.c = 8 ∨ nm I.c = 13
        · exact hc ⟨z.1, Or.inl (x30 q)⟩
        · rw [if_neg q] at z
          by_cases c : x3 = 0
          · exact hc ⟨z.1, Or.inl c⟩
          · rw [o1 c] at z
            exact hc ⟨z.1, Or.inr z.2⟩
      rw [if_neg q2]
    rw [er]
    unfold g_Model_arithmetic_203 K_Model_arithmetic_203 g_Model_arithmetic_204 K_Model_arithmetic_204
    rw [hI.2.1, hI.2.2.1, d1, n1, md1, ss1]
    refine kq_if (fun _ => kq_and s.T448 (kq_and d2 (kq_ifn (fun c4 => ?_) (fun c4 => kq_and s.T448 (kq_and n2 (kq_ifp (fun c1 => ?_) (fun c1 => ?_))))))) (fun z => absurd rfl z)
    · have hf1 : ¬ hf = 0 := fun z => by rw [hfz.mp z] at c4; exact absurd c4 (by decide)
      rw [if_neg hf1]
      exact ZQ.bad (w := 2) h (by decide)
    · have hf0 := hfz.mpr (hk.resolve_left c4)
      have n01 : nm I.c = 0 ∨ nm I.c = 1 := by
        obtain ⟨m, hm, e⟩ := w.1
        rw [e] at c1 ⊢
        exact nm01 ⟨m, hm⟩ c1
      have q : ¬ (nm I.c = 8 ∨ nm I.c = 13) := by rcases n01 with e | e <;> rw [e] <;> decide
      have l1 : ¬ 1 < nm I.c := by rcases n01 with e | e <;> rw [e] <;> decide
      have n11 : ¬ nm I.c = 11 := by rcases n01 with e | e <;> rw [e] <;> decide
      rw [if_pos hf0, if_neg q]
      have L335 : ∀ x5 : Int32, x5 = 0 → (ptr (nm I.c) (vwT M 1024 I.d) (opd I hf (vwT M 1024))).1 = 2 → K_Model_arithmetic_335 448 x3 x5 M ∧ ZQ M ((ptr (nm I.c) (vwT M 1024 I.d) (opd I hf (vwT M 1024))).1, up (vwT M 1024) I.d (ptr (nm I.c) (vwT M 1024 I.d) (opd I hf (vwT M 1024))).2, mI M 455 1024) (g_Model_arithmetic_335 448 x3 x5 M) := by
        intro x5 e5 e2
        rw [e5, e2]
        unfold g_Model_arithmetic_335 K_Model_arithmetic_335 g_Model_arithmetic_336 K_Model_arithmetic_336
        exact ⟨⟨fun _ z => absurd rfl z, fun z => absurd rfl z⟩, by rw [if_pos rfl, if_pos rfl]; exact ZQ.bad (w := 2) h (by decide)⟩
      have A294 : ¬ (MVB (vwT M 1024 I.d).so ∧ (x3 = 0 ∨ (vwT M 1024 I.s).so = 1)) → K_Model_arithmetic_294 448 x3 M ∧ ZQ M ((ptr (nm I.c) (vwT M 1024 I.d) (opd I hf (vwT M 1024))).1, up (vwT M 1024) I.d (ptr (nm I.c) (vwT M 1024 I.d) (opd I hf (vwT M 1024))).2, mI M 455 1024) (g_Model_arithmetic_294 448 x3 M) := by
        intro hm
        have h1 : ¬ (MVB (vwT M 1024 I.d).so ∧ (opd I hf (vwT M 1024)).so = 1) := by
          intro z
          by_cases c : x3 = 0
          · exact hm ⟨z.1, Or.inl c⟩
          · rw [o1 c] at z
            exact hm ⟨z.1, Or.inr z.2⟩
        have no3 : x3 = 0 → ¬ (vwT M 1024 I.d).so = 1 := fun c z => hc ⟨Or.inr z, Or.inl c⟩
        unfold g_Model_arithmetic_294 K_Model_arithmetic_294 g_Model_arithmetic_295 K_Model_arithmetic_295
        rw [hI.2.1, hI.2.2.1, n1, sd1, ms1]
        refine kq_and s.T448 (kq_and n2 (kq_if (fun c0 => kq_if (fun c3 => ?_) (fun c3 => kq_and s.T448 (kq_and s.T448 (kq_and sd2 (kq_if (fun cd => kq_and s.T448 (kq_and s.T448 (kq_and ms2 (kq_if (fun cm => ?_) (fun cm => ?_))))) (fun cd => ?_)))))) (fun c0 => ?_)))
        · exact L335 0 rfl (ptr_two l1 h1 (fun z => absurd z (no3 c3)))
        · refine L335 0 rfl (ptr_two l1 h1 (fun _ => Or.inr ?_))
          rw [o1 c3]
          rw [f10] at cm
          exact cm
        · have mS : MVB (vwT M 1024 I.s).so := by
            rw [f10] at cm
            exact Decidable.not_not.mp cm
          have ep : ptr (nm I.c) (vwT M 1024 I.d) (opd I hf (vwT M 1024)) = ptr1 (nm I.c) (vwT M 1024 I.s) (vwT M 1024 I.d).va := by
            unfold ptr
            rw [if_neg l1, if_pos cd, if_neg (by rw [c0]; decide), o1 c3]
          rw [ep]
          unfold g_Model_arithmetic_336 K_Model_arithmetic_336 g_Model_arithmetic_383
          rw [hI.2.1, hI.2.2.1]
          obtain ⟨k1, k2⟩ := m_move h hI hd wt n01 hs (x2 := Int32.ofNat I.d) (r := Int32.ofNat (8 + (76800 + I.d))) (by rw [if_pos (nn_ofNat (by omega)), roN]) (rkN (by omega)) (by rw [ixd]; omega) (v := (vwT M 1024 I.d).va) (by rw [ixd]; exact tw_va hd (by rw [cd]; decide)) (by rw [ixd]; exact ud2) (wt I.d).2.1 mS
          exact kq_if (fun _ => kq_ifn (fun z => absurd z i1_0) (fun _ => ⟨⟨s.T448, s.T448, s.T448, k1⟩, k2⟩)) (fun z => absurd rfl z)
        · exact L335 0 rfl (ptr_two l1 h1 (fun z => absurd z cd))
        · exact L335 0 rfl (ptr_two l1 h1 (fun _ => Or.inl (n01.resolve_left c0)))
      have A290 : MVB (vwT M 1024 I.d).so → (x3 = 0 ∨ (vwT M 1024 I.s).so = 1) → K_Model_arithmetic_290 448 x3 M ∧ ZQ M ((ptr (nm I.c) (vwT M 1024 I.d) (opd I hf (vwT M 1024))).1, up (vwT M 1024) I.d (ptr (nm I.c) (vwT M 1024 I.d) (opd I hf (vwT M 1024))).2, mI M 455 1024) (g_Model_arithmetic_290 448 x3 M) := by
        intro hm hc2
        obtain ⟨r, v, r1, r2, r3, r4, r5, r6, r7, r8⟩ := ROW hc2
        obtain ⟨y1, y2, y3⟩ := r8 q
        have ep : ptr (nm I.c) (vwT M 1024 I.d) (opd I hf (vwT M 1024)) = ptr1 (nm I.c) (vwT M 1024 I.d) v := by
          unfold ptr
          rw [if_neg l1, if_neg (mvb_1 hm), if_pos y1, y2]
        rw [ep]
        have L336 : ∀ s0 : Int32, K_Model_arithmetic_336 448 x3 1 s0 M ∧ ZQ M ((ptr1 (nm I.c) (vwT M 1024 I.d) v).1, up (vwT M 1024) I.d (ptr1 (nm I.c) (vwT M 1024 I.d) v).2, mI M 455 1024) (g_Model_arithmetic_336 448 x3 1 s0 M) := by
          intro s0
          unfold g_Model_arithmetic_336 K_Model_arithmetic_336 g_Model_arithmetic_360 K_Model_arithmetic_360 g_Model_arithmetic_363
          rw [hI.2.1, hI.2.2.1]
          refine kq_if (fun z => absurd z i1_0) (fun _ => kq_and s.T448 (kq_if (fun c3 => ?_) (fun c3 => kq_and s.T448 ?_)))
          · obtain ⟨k1, k2⟩ := m_move h hI hd wt n01 hd (x2 := -1) (r := r) (by rw [if_neg (by decide), r1 c3]) r3 r4 r5 r6 r7 hm
            exact ⟨⟨s.T448, k1⟩, k2⟩
          · obtain ⟨k1, k2⟩ := m_move h hI hd wt n01 hd (x2 := Int32.ofNat I.s) (r := r) (by rw [if_pos (nn_ofNat (by omega)), roN, r2 c3]) r3 r4 r5 r6 r7 hm
            exact ⟨⟨s.T448, k1⟩, k2⟩
        unfold g_Model_arithmetic_290 K_Model_arithmetic_290 g_Model_arithmetic_295 K_Model_arithmetic_295 g_Model_arithmetic_335 K_Model_arithmetic_335
        rw [hI.2.1, hI.2.2.1, n1, sd1]
        exact kq_and s.T448 (kq_and n2 (kq_if (fun c0 => kq_if (fun c3 => L336 0) (fun c3 => kq_and s.T448 (kq_and s.T448 (kq_and sd2 (kq_if (fun cd => absurd cd (mvb_1 hm)) (fun cd => L336 0)))))) (fun c0 => L336 0)))
      refine kq_and s.T448 (kq_and s.T448 (kq_and md2 (kq_if (fun cm => ?_) (fun cm => ?_))))
      · rw [f10] at cm
        exact A294 (fun z => cm z.1)
      · rw [f10] at cm
        have cm' := Decidable.not_not.mp cm
        exact kq_if (fun c3 => A290 cm' (Or.inl c3)) (fun c3 => kq_and s.T448 (kq_and s.T448 (kq_and ss2 (kq_if (fun cs => A290 cm' (Or.inr cs)) (fun cs => A294 (fun z => z.2.elim c3 cs))))))
    · have l1 : 1 < nm I.c := Int32.not_le.mp c1
      by_cases hf0 : hf = 0
      · rw [if_pos hf0]
        have ep : ∀ Y, ptr (nm I.c) (vwT M 1024 I.d) Y = (2, vwT M 1024 I.d) := fun Y => by
          unfold ptr
          rw [if_pos l1]
        rw [ep]
        exact ZQ.bad (w := 2) h (by decide)
      · rw [if_neg hf0]
        exact ZQ.bad (w := 2) h (by decide)
  have A183 : (nm I.c = 11 ∨ (vwT M 1024 I.d).so = 1) → K_Model_arithmetic_183 448 x3 M ∧ ZQ M ((rck1 I hf (vwT M 1024) (if nm I.c = 8 ∨ nm I.c = 13 then vwT M 1024 I.d else opd I hf (vwT M 1024))).1, (rck1 I hf (vwT M 1024) (if nm I.c = 8 ∨ nm I.c = 13 then vwT M 1024 I.d else opd I hf (vwT M 1024))).2, mI M 455 1024) (g_Model_arithmetic_183 448 x3 M) := by
    intro hc
    unfold g_Model_arithmetic_183 K_Model_arithmetic_183
    rw [hI.2.2.1, ss1]
    exact kq_if (fun c => A199 hc (Or.inl c)) (fun c => kq_and s.T448 (kq_and s.T448 (kq_and ss2 (kq_if (fun cs => A199 hc (Or.inr cs)) (fun cs => A203 (fun z => z.2.elim c cs))))))
  unfold g_Model_arithmetic_167 K_Model_arithmetic_167
  rw [hI.2.1, sd1]
  exact kq_if (fun c => kq_and s.T448 (kq_and s.T448 (kq_and sd2 (kq_if (fun cd => A183 (Or.inr cd)) (fun cd => A203 (fun z => z.1.elim (hx1.mp c) cd)))))) (fun c => A183 (Or.inl (Decidable.not_not.mp (fun z => c (hx1.mpr z)))))
theorem m_arith (h : TW M) (hI : InT M I) (w : WI I) (hk : kd I.c = 4 ∨ kd I.c = 7) (wt : WS (vwT M 1024)) :
    K_Model_arithmetic 448 M ∧ ZQ M ((rck I (if kd I.c = 4 then 1 else 0) (vwT M 1024)).1, (rck I (if kd I.c = 4 then 1 else 0) (vwT M 1024)).2, mI M 455 1024) (g_Model_arithmetic 448 M) := by
  have s := h.1
  have hd : I.d < 75 := by have := w.2.1; omega
  have hs : I.s < 75 := by have := w.2.2.1; omega
  obtain ⟨n1, n2⟩ := hI.num s
  obtain ⟨d1, d2⟩ := hI.kind s
  obtain ⟨b1, b2⟩ := hI.bit s w
  obtain ⟨rd1, rd2⟩ := m_reads s hd
  obtain ⟨rs1, rs2⟩ := m_reads s hs
  obtain ⟨w1, w2, w3, w4, w5⟩ := w.2.2.2.2.1 hk
  have A135 : ∀ x1 x3 : Int32, (x1 = 0 ↔ nm I.c ≠ 11) → (x3 = 0 ↔ (rg I.c = 0 ∨ nm I.c = 13)) → ¬ (nm I.c = 11 ∧ (if kd I.c = 4 then (1 : Int32) else 0) = 0 ∧ I.o = 0 ∧ ¬ x3 = 0) → K_Model_arithmetic_135 448 x1 x3 M ∧ ZQ M ((rck1 I (if kd I.c = 4 then 1 else 0) (vwT M 1024) (if nm I.c = 8 ∨ nm I.c = 13 then vwT M 1024 I.d else opd I (if kd I.c = 4 then 1 else 0) (vwT M 1024))).1, (rck1 I (if kd I.c = 4 then 1 else 0) (vwT M 1024) (if nm I.c = 8 ∨ nm I.c = 13 then vwT M 1024 I.d else opd I (if kd I.c = 4 then 1 else 0) (vwT M 1024))).2, mI M 455 1024) (g_Model_arithmetic_135 448 x1 x3 M) := by
    intro x1 x3 hx1 hx3 nc
    unfold g_Model_arithmetic_135 K_Model_arithmetic_135 g_Model_arithmetic_148 K_Model_arithmetic_148
    rw [s.R448_16, hI.2.2.2.2, t_single s, ix5]
    have m1 : MX M (vwT M 1024) (sR M 5 (vOne I.i.toInt64) 0) := MX.sr h (by decide) (by decide)
    have v5 : tvk (sR M 5 (vOne I.i.toInt64) 0) 5 = vOne I.i.toInt64 := tvk_sR _ _ _ _
    have g5 : tek (sR M 5 (vOne I.i.toInt64) 0) 5 = 0 := tek_sR _ _ _ _
    have ks : K_Sets_single 460 5 I.i.toInt64 M := kt_single s rk5
    generalize sR M 5 (vOne I.i.toInt64) 0 = M1 at m1 v5 g5 ⊢
    have s1 := m1.1.1
    have hI1 := hI.fx m1.2.1
    obtain ⟨d3, d4⟩ := hI1.kind s1
    rw [d3, s1.R448_16]
    have go : ∀ {M2 : XM}, MX M (vwT M 1024) M2 → tvk M2 5 = vOne (if (if kd I.c = 4 then (1 : Int32) else 0) = 0 then I.i.toInt64 else I.i.toInt64 &&& 4294967295) → tek M2 5 = 0 → K_Model_arithmetic_167 448 x1 x3 M2 ∧ ZQ M ((rck1 I (if kd I.c = 4 then 1 else 0) (vwT M 1024) (if nm I.c = 8 ∨ nm I.c = 13 then vwT M 1024 I.d else opd I (if kd I.c = 4 then 1 else 0) (vwT M 1024))).1, (rck1 I (if kd I.c = 4 then 1 else 0) (vwT M 1024) (if nm I.c = 8 ∨ nm I.c = 13 then vwT M 1024 I.d else opd I (if kd I.c = 4 then 1 else 0) (vwT M 1024))).2, mI M 455 1024) (g_Model_arithmetic_167 448 x1 x3 M2) := by
      intro M2 m2 v2 f2
      have r := m_ar167 (hf := if kd I.c = 4 then 1 else 0) m2.1 (hI.fx m2.2.1) w hk (by rw [m2.2.2.1]; exact wt) hx1 hx3 rfl v2 f2 nc
      rw [m2.2.2.1, m2.2.2.2] at r
      exact ⟨r.1, r.2.mv m2⟩
    refine kq_and s.T448 (kq_and s.T448 (kq_and s.T460 (kq_and ks (kq_and s1.T448 (kq_and d4 (kq_if (fun c4 => ?_) (fun c4 => ?_)))))))
    · have e32 : (32 : Int32) = Int32.ofNat 32 := rfl
      obtain ⟨k1, k2⟩ := t_cut s1 rk5 rk5 (by rw [ix5]; decide) (n := 32) (by decide) (by rw [ix5, v5]; exact one_T _)
      rw [ix5, v5, g5, jz0, ← e32, cut_one32] at k2
      rw [← e32] at k1
      rw [k2]
      have m2 := MX.sr m1.1 (k := 3) (w := vOne I.i.toInt64) (e := 0) (by decide) (by decide)
      have m3 := MX.sr m2.1 (k := 5) (w := vOne (I.i.toInt64 &&& 4294967295)) (e := 0) (by decide) (by decide)
      have m4 := m1.trans (m2.trans m3)
      rw [m2.2.2.1, m1.2.2.1] at m4
      obtain ⟨q1, q2⟩ := go m4 (by rw [tvk_sR, if_pos c4, if_neg i1_0]) (tek_sR _ _ _ _)
      exact ⟨⟨s1.T448, s1.T460, k1, q1⟩, q2⟩
    · exact go m1 (by rw [v5, if_neg c4, if_pos rfl]) g5
  have A90 : ∀ x1 x3 : Int32, (x1 = 0 ↔ nm I.c ≠ 11) → (x3 = 0 ↔ (rg I.c = 0 ∨ nm I.c = 13)) → K_Model_arithmetic_90 448 x1 x3 M ∧ ZQ M ((rck1 I (if kd I.c = 4 then 1 else 0) (vwT M 1024) (if nm I.c = 8 ∨ nm I.c = 13 then vwT M 1024 I.d else opd I (if kd I.c = 4 then 1 else 0) (vwT M 1024))).1, (rck1 I (if kd I.c = 4 then 1 else 0) (vwT M 1024) (if nm I.c = 8 ∨ nm I.c = 13 then vwT M 1024 I.d else opd I (if kd I.c = 4 then 1 else 0) (vwT M 1024))).2, mI M 455 1024) (g_Model_arithmetic_90 448 x1 x3 M) := by
    intro x1 x3 hx1 hx3
    unfold g_Model_arithmetic_90 K_Model_arithmetic_90 g_Model_arithmetic_133
    rw [hI.2.1, hI.2.2.1, hI.2.2.2.1, d1]
    refine kq_if (fun c1 => A135 x1 x3 hx1 hx3 (fun z => hx1.mp c1 z.1)) (fun c1 => kq_and s.T448 (kq_if (fun co => kq_and s.T448 (kq_and d2 (kq_if (fun c7 => kq_if (fun c3 => A135 x1 x3 hx1 hx3 (fun z => z.2.2.2 c3)) (fun c3 => ?_)) (fun c7 => A135 x1 x3 hx1 hx3 (fun z => ?_))))) (fun co => A135 x1 x3 hx1 hx3 (fun z => co z.2.2.1))))
    · have n11 : nm I.c = 11 := Decidable.not_not.mp (fun z => c1 (hx1.mpr z))
      have c4 : ¬ kd I.c = 4 := by rw [c7]; decide
      obtain ⟨k1, k2⟩ := m_copyThing s (k := 1024) (m := I.s) (k' := 1024) (m' := I.d) (by decide) hs (by decide) hd
      have er : rck1 I (if kd I.c = 4 then 1 else 0) (vwT M 1024) (if nm I.c = 8 ∨ nm I.c = 13 then vwT M 1024 I.d else opd I (if kd I.c = 4 then 1 else 0) (vwT M 1024)) = (0, up (vwT M 1024) I.d (vwT M 1024 I.s)) := by
        unfold rck1 opd
        have q2 : nm I.c = 11 ∧ (if kd I.c = 4 then (1 : Int32) else 0) = 0 ∧ I.o = 0 := ⟨n11, if_neg c4, co⟩
        rw [if_pos q2, if_neg (by rw [n11]; decide), if_neg (fun z => c3 (hx3.mpr (Or.inl z)))]
      rw [er, i1024, k1]
      have x := MX.sx h hd (t := tR M (75 * 1024 + I.s)) (e := j_z (tE M (75 * 1024 + I.s))) (by rw [(h.2.1 (75 * 1024 + I.s) (by omega)).1, jz0]) (h.2.1 (75 * 1024 + I.s) (by omega)).2
      rw [← vwT_at (k := 1024) hs] at x
      exact ⟨⟨s.T448, s.T448, s.T448, k2⟩, ZQ.ok x⟩
    · have z1 := z.2.1
      rw [f10] at z1
      exact c7 (hk.resolve_left z1)
  have A63 : ∀ x1 x2 : Int32, (x1 = 0 ↔ nm I.c ≠ 11) → x2 = (if (nm I.c ≠ 11 ∧ (vwT M 1024 I.d).so = 0) ∨ (nm I.c ≠ 8 ∧ nm I.c ≠ 13 ∧ rg I.c ≠ 0 ∧ (vwT M 1024 I.s).so = 0) then 1 else 0) → K_Model_arithmetic_63 448 x1 x2 M ∧ ZQ M ((rck I (if kd I.c = 4 then 1 else 0) (vwT M 1024)).1, (rck I (if kd I.c = 4 then 1 else 0) (vwT M 1024)).2, mI M 455 1024) (g_Model_arithmetic_63 448 x1 x2 M) := by
    intro x1 x2 hx1 hx2
    unfold g_Model_arithmetic_63 K_Model_arithmetic_63 rck g_Model_arithmetic_89 K_Model_arithmetic_89
    rw [b1, n1]
    by_cases c : (nm I.c ≠ 11 ∧ (vwT M 1024 I.d).so = 0) ∨ (nm I.c ≠ 8 ∧ nm I.c ≠ 13 ∧ rg I.c ≠ 0 ∧ (vwT M 1024 I.s).so = 0)
    · rw [if_pos c] at hx2
      rw [hx2, if_pos c, if_neg (by decide)]
      exact ⟨fun z => absurd z (by decide), ZQ.bad (w := 1) h (by decide)⟩
    · rw [if_neg c] at hx2
      rw [hx2, if_neg c]
      refine kq_ifp (fun _ => ?_) (fun z => absurd (by decide) z)
      exact kq_and s.T448 (kq_and b2 (kq_if (fun cr => A90 x1 0 hx1 ⟨fun _ => Or.inl cr, fun _ => rfl⟩) (fun cr => kq_and s.T448 (kq_and n2 (kq_if (fun c13 => A90 x1 0 hx1 ⟨fun _ => Or.inr c13, fun _ => rfl⟩) (fun c13 => A90 x1 1 hx1 ⟨fun z => absurd z i1_0, fun z => (z.elim cr c13).elim⟩))))))
  have A31 : ∀ x1 s0 : Int32, (x1 = 0 ↔ nm I.c ≠ 11) → s0 = (if nm I.c ≠ 11 ∧ (vwT M 1024 I.d).so = 0 then 1 else 0) → K_Model_arithmetic_31 448 x1 s0 M ∧ ZQ M ((rck I (if kd I.c = 4 then 1 else 0) (vwT M 1024)).1, (rck I (if kd I.c = 4 then 1 else 0) (vwT M 1024)).2, mI M 455 1024) (g_Model_arithmetic_31 448 x1 s0 M) := by
    intro x1 s0 hx1 hs0
    unfold g_Model_arithmetic_31 K_Model_arithmetic_31 g_Model_arithmetic_58 K_Model_arithmetic_58 g_Model_arithmetic_59 K_Model_arithmetic_59 g_Model_first g_Model_first_0
    rw [b1, n1, hI.2.2.1, rs1, hs0]
    refine kq_and s.T448 (kq_and b2 (kq_if (fun cr => ?_) (fun cr => kq_and s.T448 (kq_and n2 (kq_if (fun c13 => ?_) (fun c13 => kq_and s.T448 (kq_and s.T448 (kq_and rs2 ?_))))))))
    · refine A63 _ _ hx1 ?_
      have c2 : ¬ (nm I.c ≠ 8 ∧ nm I.c ≠ 13 ∧ rg I.c ≠ 0 ∧ (vwT M 1024 I.s).so = 0) := fun z => z.2.2.1 cr
      by_cases c1 : nm I.c ≠ 11 ∧ (vwT M 1024 I.d).so = 0
      · rw [if_pos c1, if_pos (Or.inl c1)]; decide
      · have cc : ¬ ((nm I.c ≠ 11 ∧ (vwT M 1024 I.d).so = 0) ∨ (nm I.c ≠ 8 ∧ nm I.c ≠ 13 ∧ rg I.c ≠ 0 ∧ (vwT M 1024 I.s).so = 0)) := fun z => z.elim c1 c2
        rw [if_neg c1, if_neg cc]; decide
    · refine A63 _ _ hx1 ?_
      have c2 : ¬ (nm I.c ≠ 8 ∧ nm I.c ≠ 13 ∧ rg I.c ≠ 0 ∧ (vwT M 1024 I.s).so = 0) := fun z => z.2.1 c13
      by_cases c1 : nm I.c ≠ 11 ∧ (vwT M 1024 I.d).so = 0
      · rw [if_pos c1, if_pos (Or.inl c1)]; decide
      · have cc : ¬ ((nm I.c ≠ 11 ∧ (vwT M 1024 I.d).so = 0) ∨ (nm I.c ≠ 8 ∧ nm I.c ≠ 13 ∧ rg I.c ≠ 0 ∧ (vwT M 1024 I.s).so = 0)) := fun z => z.elim c1 c2
        rw [if_neg c1, if_neg cc]; decide
    · refine A63 _ _ hx1 ?_
      have c8 : nm I.c ≠ 8 := fun z => cr (w3 z).1
      by_cases c1 : nm I.c ≠ 11 ∧ (vwT M 1024 I.d).so = 0
      · rw [if_pos c1, if_pos (Or.inl c1)]
        by_cases c2 : (vwT M 1024 I.s).so = 0
        · rw [if_pos c2]; decide
        · rw [if_neg c2]; decide
      · rw [if_neg c1]
        by_cases c2 : (vwT M 1024 I.s).so = 0
        · rw [if_pos c2, if_pos (Or.inr ⟨c8, c13, cr, c2⟩)]; decide
        · have cc : ¬ ((nm I.c ≠ 11 ∧ (vwT M 1024 I.d).so = 0) ∨ (nm I.c ≠ 8 ∧ nm I.c ≠ 13 ∧ rg I.c ≠ 0 ∧ (vwT M 1024 I.s).so = 0)) := fun z => z.elim c1 (fun q => c2 q.2.2.2)
          rw [if_neg c2, if_neg cc]; decide
  unfold g_Model_arithmetic K_Model_arithmetic g_Model_arithmetic_0 K_Model_arithmetic_0 g_Model_arithmetic_14 K_Model_arithmetic_14
  rw [n1, hI.2.1, rd1]
  refine kq_and s.T448 (kq_and n2 (kq_if (fun c11 => kq_if (fun z => absurd z i1_0) (fun _ => ?_)) (fun c11 => kq_if (fun _ => kq_and s.T448 (kq_and s.T448 (kq_and rd2 ?_))) (fun z => absurd rfl z))))
  · exact A31 1 0 ⟨fun z => absurd z i1_0, fun z => absurd c11 z⟩ (by rw [if_neg (fun z => z.1 c11)])
  · refine A31 0 _ ⟨fun _ => c11, fun _ => rfl⟩ ?_
    by_cases c2 : (vwT M 1024 I.d).so = 0
    · rw [if_pos c2, if_pos ⟨c11, c2⟩]
    · rw [if_neg c2, if_neg (fun z => c2 z.2)]
end AR
