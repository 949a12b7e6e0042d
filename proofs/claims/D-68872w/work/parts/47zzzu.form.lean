/-! part 47zzzu: the twin's form: instructions (gen/tpl.py) -/
theorem sz_cmp (c : Int32) : (sz c ≤ 2 ↔ ¬ 4 ≤ sz c) ∧ ((8 : Int32) ≤ sz c ↔ ¬ sz c < 8) := by
  rcases sz_cases c with e | e | e | e <;> rw [e] <;> decide
section TFu
variable {M : XM} {I : In}
theorem t_atom (s : Sh M) (h : InT M I) (hd : I.d < 16) (hs : I.s < 16) : FL (g_Model_isAtomic 448 M) (I.d < 11 ∧ I.s < 11 ∧ okT I) ∧ K_Model_isAtomic 448 M := by
  have ls10 := (reg_le ⟨I.s, hs⟩).2.2.2.2.2.1
  have ld := (reg_le2 ⟨I.d, hd⟩).1
  have ls := (reg_le2 ⟨I.s, hs⟩).1
  obtain ⟨z1, z2⟩ := h.size s
  have zc := (sz_cmp I.c).1
  unfold g_Model_isAtomic K_Model_isAtomic g_Model_isAtomic_0 K_Model_isAtomic_0 g_Model_isAtomic_46 K_Model_isAtomic_46 g_Model_isAtomic_51 K_Model_isAtomic_51 g_Model_isAtomic_97 K_Model_isAtomic_97 g_Model_isAtomic_102 K_Model_isAtomic_102 g_Model_isAtomic_133 K_Model_isAtomic_133 g_Model_isAtomic_146
  rw [z1, h.2.1, h.2.2.1, h.2.2.2.2]
  constructor
  · have ls10' : (Int32.ofNat I.s < 10) = (I.s < 10) := propext ls10
    have ld' : ((11 : Int32) ≤ Int32.ofNat I.d) = ¬ I.d < 11 := propext ld
    have ls' : ((11 : Int32) ≤ Int32.ofNat I.s) = ¬ I.s < 11 := propext ls
    have zc' : (sz I.c ≤ 2) = ¬ 4 ≤ sz I.c := propext zc
    simp only [ls10', ld', ls', zc', i1_0, if_true, if_false]
    have sx : I.s < 10 → I.s < 11 := fun z => by omega
    unfold okT
    have cs : I.i = 0 ∨ I.i = 1 ∨ I.i = 64 ∨ I.i = 65 ∨ I.i = 80 ∨ I.i = 81 ∨ I.i = 160 ∨ I.i = 161 ∨ I.i = 225 ∨ I.i = 241 ∨ ¬ (I.i = 0 ∨ I.i = 1 ∨ I.i = 64 ∨ I.i = 65 ∨ I.i = 80 ∨ I.i = 81 ∨ I.i = 160 ∨ I.i = 161 ∨ I.i = 225 ∨ I.i = 241) := by
      by_cases q : I.i = 0 ∨ I.i = 1 ∨ I.i = 64 ∨ I.i = 65 ∨ I.i = 80 ∨ I.i = 81 ∨ I.i = 160 ∨ I.i = 161 ∨ I.i = 225 ∨ I.i = 241
      · rcases q with q | q | q | q | q | q | q | q | q | q <;> simp [q]
      · simp only [q, not_false_iff, or_true]
    clear ls10 ld ls ls10' ld' ls' zc zc' z1 z2 h hd hs s
    rcases cs with e | e | e | e | e | e | e | e | e | e | e
    · simp (decide := true) only [e, if_true, if_false, true_and, false_and, and_true, and_false, or_false, false_or, true_or, or_true, not_true, not_false_iff]
      repeat' (refine FL.ite (fun _ => ?_) (fun _ => ?_))
      all_goals first | (refine FL.tt ?_; simp_all only [ne_eq, not_true, not_false_iff, true_and, and_true, false_and, and_false, or_true, true_or, or_false, false_or, Classical.not_not, and_self, or_self, not_and, not_or, false_imp_iff, true_imp_iff, imp_false, eq_self, i1_0]; done) | (refine FL.ff ?_; simp_all only [ne_eq, not_true, not_false_iff, true_and, and_true, false_and, and_false, or_true, true_or, or_false, false_or, Classical.not_not, and_self, or_self, not_and, not_or, false_imp_iff, true_imp_iff, imp_false, eq_self, i1_0]; done)
    · simp (decide := true) only [e, if_true, if_false, true_and, false_and, and_true, and_false, or_false, false_or, true_or, or_true, not_true, not_false_iff]
      repeat' (refine FL.ite (fun _ => ?_) (fun _ => ?_))
      all_goals first | (refine FL.tt ?_; simp_all only [ne_eq, not_true, not_false_iff, true_and, and_true, false_and, and_false, or_true, true_or, or_false, false_or, Classical.not_not, and_self, or_self, not_and, not_or, false_imp_iff, true_imp_iff, imp_false, eq_self, i1_0]; done) | (refine FL.ff ?_; simp_all only [ne_eq, not_true, not_false_iff, true_and, and_true, false_and, and_false, or_true, true_or, or_false, false_or, Classical.not_not, and_self, or_self, not_and, not_or, false_imp_iff, true_imp_iff, imp_false, eq_self, i1_0]; done)
    · simp (decide := true) only [e, if_true, if_false, true_and, false_and, and_true, and_false, or_false, false_or, true_or, or_true, not_true, not_false_iff]
      repeat' (refine FL.ite (fun _ => ?_) (fun _ => ?_))
      all_goals first | (refine FL.tt ?_; simp_all only [ne_eq, not_true, not_false_iff, true_and, and_true, false_and, and_false, or_true, true_or, or_false, false_or, Classical.not_not, and_self, or_self, not_and, not_or, false_imp_iff, true_imp_iff, imp_false, eq_self, i1_0]; done) | (refine FL.ff ?_; simp_all only [ne_eq, not_true, not_false_iff, true_and, and_true, false_and, and_false, or_true, true_or, or_false, false_or, Classical.not_not, and_self, or_self, not_and, not_or, false_imp_iff, true_imp_iff, imp_false, eq_self, i1_0]; done)
    · simp (decide := true) only [e, if_true, if_false, true_and, false_and, and_true, and_false, or_false, false_or, true_or, or_true, not_true, not_false_iff]
      repeat' (refine FL.ite (fun _ => ?_) (fun _ => ?_))
      all_goals first | (refine FL.tt ?_; simp_all only [ne_eq, not_true, not_false_iff, true_and, and_true, false_and, and_false, or_true, true_or, or_false, false_or, Classical.not_not, and_self, or_self, not_and, not_or, false_imp_iff, true_imp_iff, imp_false, eq_self, i1_0]; done) | (refine FL.ff ?_; simp_all only [ne_eq, not_true, not_false_iff, true_and, and_true, false_and, and_false, or_true, true_or, or_false, false_or, Classical.not_not, and_self, or_self, not_and, not_or, false_imp_iff, true_imp_iff, imp_false, eq_self, i1_0]; done)
    · simp (decide := true) only [e, if_true, if_false, true_and, false_and, and_true, and_false, or_false, false_or, true_or, or_true, not_true, not_false_iff]
      repeat' (refine FL.ite (fun _ => ?_) (fun _ => ?_))
      all_goals first | (refine FL.tt ?_; simp_all only [ne_eq, not_true, not_false_iff, true_and, and_true, false_and, and_false, or_true, true_or, or_false, false_or, Classical.not_not, and_self, or_self, not_and, not_or, false_imp_iff, true_imp_iff, imp_false, eq_self, i1_0]; done) | (refine FL.ff ?_; simp_all only [ne_eq, not_true, not_false_iff, true_and, and_true, false_and, and_false, or_true, true_or, or_false, false_or, Classical.not_not, and_self, or_self, not_and, not_or, false_imp_iff, true_imp_iff, imp_false, eq_self, i1_0]; done)
    · simp (decide := true) only [e, if_true, if_false, true_and, false_and, and_true, and_false, or_false, false_or, true_or, or_true, not_true, not_false_iff]
      repeat' (refine FL.ite (fun _ => ?_) (fun _ => ?_))
      all_goals first | (refine FL.tt ?_; simp_all only [ne_eq, not_true, not_false_iff, true_and, and_true, false_and, and_false, or_true, true_or, or_false, false_or, Classical.not_not, and_self, or_self, not_and, not_or, false_imp_iff, true_imp_iff, imp_false, eq_self, i1_0]; done) | (refine FL.ff ?_; simp_all only [ne_eq, not_true, not_false_iff, true_and, and_true, false_and, and_false, or_true, true_or, or_false, false_or, Classical.not_not, and_self, or_self, not_and, not_or, false_imp_iff, true_imp_iff, imp_false, eq_self, i1_0]; done)
    · simp (decide := true) only [e, if_true, if_false, true_and, false_and, and_true, and_false, or_false, false_or, true_or, or_true, not_true, not_false_iff]
      repeat' (refine FL.ite (fun _ => ?_) (fun _ => ?_))
      all_goals first | (refine FL.tt ?_; simp_all only [ne_eq, not_true, not_false_iff, true_and, and_true, false_and, and_false, or_true, true_or, or_false, false_or, Classical.not_not, and_self, or_self, not_and, not_or, false_imp_iff, true_imp_iff, imp_false, eq_self, i1_0]; done) | (refine FL.ff ?_; simp_all only [ne_eq, not_true, not_false_iff, true_and, and_true, false_and, and_false, or_true, true_or, or_false, false_or, Classical.not_not, and_self, or_self, not_and, not_or, false_imp_iff, true_imp_iff, imp_false, eq_self, i1_0]; done)
    · simp (decide := true) only [e, if_true, if_false, true_and, false_and, and_true, and_false, or_false, false_or, true_or, or_true, not_true, not_false_iff]
      repeat' (refine FL.ite (fun _ => ?_) (fun _ => ?_))
      all_goals first | (refine FL.tt ?_; simp_all only [ne_eq, not_true, not_false_iff, true_and, and_true, false_and, and_false, or_true, true_or, or_false, false_or, Classical.not_not, and_self, or_self, not_and, not_or, false_imp_iff, true_imp_iff, imp_false, eq_self, i1_0]; done) | (refine FL.ff ?_; simp_all only [ne_eq, not_true, not_false_iff, true_and, and_true, false_and, and_false, or_true, true_or, or_false, false_or, Classical.not_not, and_self, or_self, not_and, not_or, false_imp_iff, true_imp_iff, imp_false, eq_self, i1_0]; done)
    · simp (decide := true) only [e, if_true, if_false, true_and, false_and, and_true, and_false, or_false, false_or, true_or, or_true, not_true, not_false_iff]
      repeat' (refine FL.ite (fun _ => ?_) (fun _ => ?_))
      all_goals first | (refine FL.tt ?_; simp_all only [ne_eq, not_true, not_false_iff, true_and, and_true, false_and, and_false, or_true, true_or, or_false, false_or, Classical.not_not, and_self, or_self, not_and, not_or, false_imp_iff, true_imp_iff, imp_false, eq_self, i1_0]; done) | (refine FL.ff ?_; simp_all only [ne_eq, not_true, not_false_iff, true_and, and_true, false_and, and_false, or_true, true_or, or_false, false_or, Classical.not_not, and_self, or_self, not_and, not_or, false_imp_iff, true_imp_iff, imp_false, eq_self, i1_0]; done)
    · simp (decide := true) only [e, if_true, if_false, true_and, false_and, and_true, and_false, or_false, false_or, true_or, or_true, not_true, not_false_iff]
      repeat' (refine FL.ite (fun _ => ?_) (fun _ => ?_))
      all_goals first | (refine FL.tt ?_; simp_all only [ne_eq, not_true, not_false_iff, true_and, and_true, false_and, and_false, or_true, true_or, or_false, false_or, Classical.not_not, and_self, or_self, not_and, not_or, false_imp_iff, true_imp_iff, imp_false, eq_self, i1_0]; done) | (refine FL.ff ?_; simp_all only [ne_eq, not_true, not_false_iff, true_and, and_true, false_and, and_false, or_true, true_or, or_false, false_or, Classical.not_not, and_self, or_self, not_and, not_or, false_imp_iff, true_imp_iff, imp_false, eq_self, i1_0]; done)
    · have ne : ¬ (I.d < 11 ∧ I.s < 11 ∧ (I.i = 0 ∨ I.i = 1 ∨ I.i = 64 ∨ I.i = 65 ∨ I.i = 80 ∨ I.i = 81 ∨ I.i = 160 ∨ I.i = 161 ∨ I.i = 225 ∨ I.i = 241) ∧ 4 ≤ sz I.c ∧ (¬ I.i &&& 1 = 1 ∨ I.i = 241 ∨ I.s < 10)) := fun z => e z.2.2.1
      simp only [not_or] at e
      obtain ⟨e0, e1, e2, e3, e4, e5, e6, e7, e8, e9⟩ := e
      simp only [e0, e1, e2, e3, e4, e5, e6, e7, e8, e9, if_false]
      simp only [e0, e1, e2, e3, e4, e5, e6, e7, e8, e9, or_self, false_and, and_false] at ne ⊢
      repeat' (refine FL.ite (fun _ => ?_) (fun _ => ?_))
      all_goals exact FL.ff ne
  · repeat' (first | exact s.T448 | exact z2 | refine ⟨?_, ?_⟩ | intro _)
end TFu
