/-! part 47zzzt: the twin's form of a place (gen/tpl.py) -/
theorem nm16 : ∀ m : Fin 256, nm (Int32.ofNat m.val) = 0 ∨ nm (Int32.ofNat m.val) = 1 ∨ nm (Int32.ofNat m.val) = 2 ∨ nm (Int32.ofNat m.val) = 3 ∨ nm (Int32.ofNat m.val) = 4 ∨ nm (Int32.ofNat m.val) = 5 ∨ nm (Int32.ofNat m.val) = 6 ∨ nm (Int32.ofNat m.val) = 7 ∨ nm (Int32.ofNat m.val) = 8 ∨ nm (Int32.ofNat m.val) = 9 ∨ nm (Int32.ofNat m.val) = 10 ∨ nm (Int32.ofNat m.val) = 11 ∨ nm (Int32.ofNat m.val) = 12 ∨ nm (Int32.ofNat m.val) = 13 ∨ nm (Int32.ofNat m.val) = 14 ∨ nm (Int32.ofNat m.val) = 15 := by decide +kernel
theorem reg_le2 : ∀ d : Fin 16, ((11 : Int32) ≤ Int32.ofNat d.val ↔ ¬ d.val < 11) ∧ (Int32.ofNat d.val ≤ 9 ↔ d.val < 10) := by decide +kernel
section TFo
variable {M : XM} {I : In}
theorem InT.bt (h : InT M I) (s : Sh M) (w : ∃ m, m < 256 ∧ I.c = Int32.ofNat m) : g_Model_bit3 448 M = rg I.c ∧ K_Model_bit3 448 M := by
  refine ⟨?_, s.T448⟩
  unfold g_Model_bit3 g_Model_bit3_0
  rw [h.1]
  obtain ⟨m, hm, e⟩ := w
  rw [e]; exact rg_bit ⟨m, hm⟩
theorem t_source (s : Sh M) (h : InT M I) (w : ∃ m, m < 256 ∧ I.c = Int32.ofNat m) (hs : I.s < 16) : FL (g_Model_hasSource 448 M) (hsS I) ∧ K_Model_hasSource 448 M := by
  have zs := (reg_le ⟨I.s, hs⟩).2.2.2.1
  have l11 := (reg_le2 ⟨I.s, hs⟩).1
  obtain ⟨r1, r2⟩ := h.bt s w
  unfold g_Model_hasSource K_Model_hasSource g_Model_hasSource_0 K_Model_hasSource_0 g_Model_hasSource_27
  rw [r1, h.2.2.1, h.2.2.2.2]
  constructor
  · unfold hsS
    exact FL.ite (fun c => FL.ite (fun c' => FL.tt (Or.inl ⟨c, zs.mp c'⟩)) (fun c' => FL.ff (fun z => z.elim (fun z => c' (zs.mpr z.2)) (fun z => z.1 c)))) (fun c => FL.ite (fun c' => FL.ff (fun z => z.elim (fun z => c z.1) (fun z => l11.mp c' z.2.1))) (fun c' => FL.ite (fun ci => FL.tt (Or.inr ⟨c, Decidable.not_not.mp (fun z => c' (l11.mpr z)), ci⟩)) (fun ci => FL.ff (fun z => z.elim (fun z => c z.1) (fun z => ci z.2.2)))))
  · repeat' (first | exact s.T448 | exact r2 | refine ⟨?_, ?_⟩ | intro _)
theorem t_arith (s : Sh M) (h : InT M I) (w : ∃ m, m < 256 ∧ I.c = Int32.ofNat m) (hk : kd I.c = 4 ∨ kd I.c = 7) (hd : I.d < 16) (hs : I.s < 16) : FL (g_Model_isArithmetic 448 M) (okA I) ∧ K_Model_isArithmetic 448 M := by
  have zs := (reg_le ⟨I.s, hs⟩).2.2.2.1
  have l9 := (reg_le2 ⟨I.d, hd⟩).2
  obtain ⟨r1, r2⟩ := h.bt s w
  obtain ⟨n1, n2⟩ := h.num s
  obtain ⟨k1, k2⟩ := h.kind s
  obtain ⟨so1, so2⟩ := t_source s h w hs
  unfold g_Model_isArithmetic K_Model_isArithmetic g_Model_isArithmetic_0 K_Model_isArithmetic_0 g_Model_isArithmetic_14 K_Model_isArithmetic_14 g_Model_isArithmetic_67 K_Model_isArithmetic_67 g_Model_isArithmetic_71 K_Model_isArithmetic_71 g_Model_isArithmetic_72 K_Model_isArithmetic_72 g_Model_isArithmetic_191 K_Model_isArithmetic_191 g_Model_isArithmetic_277 K_Model_isArithmetic_277 g_Model_isArithmetic_185 g_Model_isArithmetic_271 g_Model_isArithmetic_213
  rw [r1, n1, k1, h.2.1, h.2.2.1, h.2.2.2.1, h.2.2.2.2]
  constructor
  · have zs' : (Int32.ofNat I.s = 0) = (I.s = 0) := propext zs
    have l9' : (Int32.ofNat I.d ≤ 9) = (I.d < 10) := propext l9
    simp only [zs', l9', i1_0, if_true, if_false]
    have n16 : nm I.c = 0 ∨ nm I.c = 1 ∨ nm I.c = 2 ∨ nm I.c = 3 ∨ nm I.c = 4 ∨ nm I.c = 5 ∨ nm I.c = 6 ∨ nm I.c = 7 ∨ nm I.c = 8 ∨ nm I.c = 9 ∨ nm I.c = 10 ∨ nm I.c = 11 ∨ nm I.c = 12 ∨ nm I.c = 13 ∨ nm I.c = 14 ∨ nm I.c = 15 := by
      obtain ⟨m, hm, e⟩ := w
      rw [e]; exact nm16 ⟨m, hm⟩
    generalize g_Model_hasSource 448 M = g at so1 ⊢
    have alt : (hsS I ∧ g = 1) ∨ (¬ hsS I ∧ g = 0) := (Classical.em _).imp (fun z => ⟨z, so1.1 z⟩) (fun z => ⟨z, so1.2 z⟩)
    clear so1 so2 zs l9 zs' l9' r1 r2 n1 n2 k1 k2 h hd hs s w
    have k47 : (kd I.c = 4 ∧ ¬ kd I.c = 7) ∨ (kd I.c = 7 ∧ ¬ kd I.c = 4) := by
      rcases hk with e | e
      · left; rw [e]; decide
      · right; rw [e]; decide
    clear hk
    unfold okA okTu wdI
    rcases alt with ⟨hq, e⟩ | ⟨hq, e⟩
    all_goals subst e
    all_goals rcases k47 with ⟨e4, e7⟩ | ⟨e7, e4⟩
    all_goals rcases n16 with e | e | e | e | e | e | e | e | e | e | e | e | e | e | e | e
    all_goals
      simp (decide := true) only [e, e4, e7, hq, if_true, if_false, true_and, false_and, and_true, and_false, or_false, false_or, true_or, or_true, not_true, not_false_iff]
      repeat' (refine FL.ite (fun _ => ?_) (fun _ => ?_))
    all_goals first | (refine FL.tt ?_; simp_all only [ne_eq, not_true, not_false_iff, true_and, and_true, false_and, and_false, or_true, true_or, or_false, false_or, Classical.not_not, and_self, or_self, not_and, not_or, false_imp_iff, true_imp_iff, imp_false, eq_self, i1_0]; done) | (refine FL.ff ?_; simp_all only [ne_eq, not_true, not_false_iff, true_and, and_true, false_and, and_false, or_true, true_or, or_false, false_or, Classical.not_not, and_self, or_self, not_and, not_or, false_imp_iff, true_imp_iff, imp_false, eq_self, i1_0]; done)
  · repeat' (first | exact s.T448 | exact r2 | exact n2 | exact k2 | exact so2 | refine ⟨?_, ?_⟩ | intro _)
theorem t_jmp (s : Sh M) (h : InT M I) (w : ∃ m, m < 256 ∧ I.c = Int32.ofNat m) (hk : kd I.c = 5 ∨ kd I.c = 6) (hd : I.d < 16) (hs : I.s < 16) : FL (g_Model_isJump 448 M) (okJ I) ∧ K_Model_isJump 448 M := by
  have zs := (reg_le ⟨I.s, hs⟩).2.2.2.1
  have zd := (reg_le ⟨I.d, hd⟩).2.2.2.1
  have l11 := (reg_le2 ⟨I.d, hd⟩).1
  obtain ⟨r1, r2⟩ := h.bt s w
  obtain ⟨n1, n2⟩ := h.num s
  obtain ⟨k1, k2⟩ := h.kind s
  obtain ⟨so1, so2⟩ := t_source s h w hs
  unfold g_Model_isJump K_Model_isJump g_Model_isJump_0 K_Model_isJump_0 g_Model_isJump_14 K_Model_isJump_14 g_Model_isJump_94
  rw [r1, n1, k1, h.1, h.2.1, h.2.2.1, h.2.2.2.1, h.2.2.2.2]
  constructor
  · have zs' : (Int32.ofNat I.s = 0) = (I.s = 0) := propext zs
    have zd' : (Int32.ofNat I.d = 0) = (I.d = 0) := propext zd
    have l11' : ((11 : Int32) ≤ Int32.ofNat I.d) = ¬ I.d < 11 := propext l11
    simp only [zs', zd', l11', i1_0, if_true, if_false]
    -- what the code tells
    have tab : (nm I.c = 0 ∧ rg I.c = 0 ∧ kd I.c = 5 ∧ I.c = 5) ∨ (nm I.c = 0 ∧ rg I.c = 0 ∧ kd I.c = 6 ∧ I.c = 6) ∨ (nm I.c = 0 ∧ rg I.c = 1 ∧ I.c ≠ 5 ∧ I.c ≠ 6 ∧ I.c ≠ 133 ∧ I.c ≠ 149) ∨ (nm I.c = 8 ∧ kd I.c = 5 ∧ I.c = 133) ∨ (nm I.c = 8 ∧ I.c ≠ 5 ∧ I.c ≠ 6 ∧ I.c ≠ 133 ∧ I.c ≠ 149) ∨ (nm I.c = 9 ∧ kd I.c = 5 ∧ I.c = 149) ∨ (nm I.c = 9 ∧ I.c ≠ 5 ∧ I.c ≠ 6 ∧ I.c ≠ 133 ∧ I.c ≠ 149) ∨ (0 < nm I.c ∧ ¬ nm I.c = 0 ∧ nm I.c ≠ 8 ∧ nm I.c ≠ 9 ∧ I.c ≠ 5 ∧ I.c ≠ 6 ∧ I.c ≠ 133 ∧ I.c ≠ 149) := by
      obtain ⟨m, hm, e⟩ := w
      rw [e] at hk ⊢
      have T : ∀ m : Fin 256, (kd (Int32.ofNat m.val) = 5 ∨ kd (Int32.ofNat m.val) = 6) → (nm (Int32.ofNat m.val) = 0 ∧ rg (Int32.ofNat m.val) = 0 ∧ kd (Int32.ofNat m.val) = 5 ∧ Int32.ofNat m.val = 5) ∨ (nm (Int32.ofNat m.val) = 0 ∧ rg (Int32.ofNat m.val) = 0 ∧ kd (Int32.ofNat m.val) = 6 ∧ Int32.ofNat m.val = 6) ∨ (nm (Int32.ofNat m.val) = 0 ∧ rg (Int32.ofNat m.val) = 1 ∧ Int32.ofNat m.val ≠ 5 ∧ Int32.ofNat m.val ≠ 6 ∧ Int32.ofNat m.val ≠ 133 ∧ Int32.ofNat m.val ≠ 149) ∨ (nm (Int32.ofNat m.val) = 8 ∧ kd (Int32.ofNat m.val) = 5 ∧ Int32.ofNat m.val = 133) ∨ (nm (Int32.ofNat m.val) = 8 ∧ Int32.ofNat m.val ≠ 5 ∧ Int32.ofNat m.val ≠ 6 ∧ Int32.ofNat m.val ≠ 133 ∧ Int32.ofNat m.val ≠ 149) ∨ (nm (Int32.ofNat m.val) = 9 ∧ kd (Int32.ofNat m.val) = 5 ∧ Int32.ofNat m.val = 149) ∨ (nm (Int32.ofNat m.val) = 9 ∧ Int32.ofNat m.val ≠ 5 ∧ Int32.ofNat m.val ≠ 6 ∧ Int32.ofNat m.val ≠ 133 ∧ Int32.ofNat m.val ≠ 149) ∨ (0 < nm (Int32.ofNat m.val) ∧ ¬ nm (Int32.ofNat m.val) = 0 ∧ nm (Int32.ofNat m.val) ≠ 8 ∧ nm (Int32.ofNat m.val) ≠ 9 ∧ Int32.ofNat m.val ≠ 5 ∧ Int32.ofNat m.val ≠ 6 ∧ Int32.ofNat m.val ≠ 133 ∧ Int32.ofNat m.val ≠ 149) := by decide +kernel
      exact T ⟨m, hm⟩ hk
    generalize g_Model_hasSource 448 M = g at so1 ⊢
    have alt : (hsS I ∧ g = 1) ∨ (¬ hsS I ∧ g = 0) := (Classical.em _).imp (fun z => ⟨z, so1.1 z⟩) (fun z => ⟨z, so1.2 z⟩)
    clear so1 so2 zs zd l11 zs' zd' l11' r1 r2 n1 n2 k1 k2 h hd hs s w
    unfold okJ
    simp only [← Int32.not_lt]
    rcases alt with ⟨hq, e⟩ | ⟨hq, e⟩
    all_goals subst e
    all_goals rcases tab with ⟨t1, t2, t3, t4⟩ | ⟨t1, t2, t3, t4⟩ | ⟨t1, t2, t3, t4, t5, t6⟩ | ⟨t1, t2, t3⟩ | ⟨t1, t2, t3, t4, t5⟩ | ⟨t1, t2, t3⟩ | ⟨t1, t2, t3, t4, t5⟩ | ⟨t1, t2, t3, t4, t5, t6, t7, t8⟩
    all_goals
      simp (decide := true) only [*, ne_eq, if_true, if_false, true_and, false_and, and_true, and_false, or_false, false_or, true_or, or_true, not_true, not_false_iff]
      repeat' (refine FL.ite (fun _ => ?_) (fun _ => ?_))
    all_goals first | (refine FL.tt ?_; simp_all (decide := true) only [ne_eq, not_true, not_false_iff, true_and, and_true, false_and, and_false, or_true, true_or, or_false, false_or, Classical.not_not, and_self, or_self, not_and, not_or, false_imp_iff, true_imp_iff, imp_false, eq_self, i1_0]; done) | (refine FL.ff ?_; simp_all (decide := true) only [ne_eq, not_true, not_false_iff, true_and, and_true, false_and, and_false, or_true, true_or, or_false, false_or, Classical.not_not, and_self, or_self, not_and, not_or, false_imp_iff, true_imp_iff, imp_false, eq_self, i1_0]; done)
  · repeat' (first | exact s.T448 | exact r2 | exact n2 | exact k2 | exact so2 | refine ⟨?_, ?_⟩ | intro _)
end TFo
