/-! part 47zzzp: the component's form of a place (gen/tpl.py) -/
theorem or_0 (a b : Int32) : a ||| b = 0 ↔ a = 0 ∧ b = 0 := by
  constructor
  · intro h
    have h' := congrArg Int32.toBitVec h
    rw [Int32.toBitVec_or] at h'
    have z : (0 : Int32).toBitVec = 0#32 := rfl
    rw [z] at h'
    constructor
    · apply Int32.toBitVec_inj.mp
      rw [z]
      apply BitVec.eq_of_getLsbD_eq
      intro j hj
      have := congrArg (fun x => BitVec.getLsbD x j) h'
      simp only [BitVec.getLsbD_or, BitVec.getLsbD_zero, Bool.or_eq_false_iff] at this ⊢
      exact this.1
    · apply Int32.toBitVec_inj.mp
      rw [z]
      apply BitVec.eq_of_getLsbD_eq
      intro j hj
      have := congrArg (fun x => BitVec.getLsbD x j) h'
      simp only [BitVec.getLsbD_or, BitVec.getLsbD_zero, Bool.or_eq_false_iff] at this ⊢
      exact this.2
  · intro h
    rw [h.1, h.2]; decide
theorem shl_0 : ∀ m : Fin 256, (j_ishl (Int32.ofNat m.val) 8 = 0 ↔ Int32.ofNat m.val = 0) ∧ (j_ishl (Int32.ofNat m.val) 16 = 0 ↔ Int32.ofNat m.val = 0) ∧ (j_ishl (Int32.ofNat m.val) 24 = 0 ↔ Int32.ofNat m.val = 0) := by decide +kernel
theorem i2s_0 {a b : Nat} (ha : a < 256) (hb : b < 256) : j_i2s (Int32.ofNat a ||| j_ishl (Int32.ofNat b) 8) = 0 ↔ Int32.ofNat a = 0 ∧ Int32.ofNat b = 0 := by
  have key : ∀ x : Int32, (∃ n, n < 65536 ∧ x = Int32.ofNat n) → (j_i2s x = 0 ↔ x = 0) := by
    rintro x ⟨n, hn, e⟩
    rw [e]
    unfold j_i2s
    constructor
    · intro h
      have h1 := congrArg Int32.toInt h
      rw [Int16.toInt_toInt32, Int32.toInt_toInt16, toInt_ofNat32 (by omega)] at h1
      have z : (0 : Int32).toInt = 0 := rfl
      rw [z] at h1
      have : n = 0 := by
        have h2 := Int.emod_emod_of_dvd (n : Int) (Int.dvd_refl ((2 ^ 16 : Nat) : Int))
        have h3 : ((n : Int).bmod (2 ^ 16)) % ((2 ^ 16 : Nat) : Int) = (n : Int) % ((2 ^ 16 : Nat) : Int) := Int.bmod_emod
        rw [h1] at h3
        have e : ((2 ^ 16 : Nat) : Int) = 65536 := rfl
        rw [e] at h3
        omega
      rw [this]; rfl
    · intro h
      rw [h]; rfl
  have sh : ∃ n, n < 65536 ∧ (Int32.ofNat a ||| j_ishl (Int32.ofNat b) 8) = Int32.ofNat n := by
    refine ⟨(Int32.ofNat a ||| j_ishl (Int32.ofNat b) 8).toBitVec.toNat, ?_, ?_⟩
    · rw [Int32.toBitVec_or, bv_shl8]
      show ((BitVec.ofNat 32 a) ||| (BitVec.ofNat 32 b) <<< 8).toNat < 65536
      rw [BitVec.toNat_or, BitVec.toNat_shiftLeft, BitVec.toNat_ofNat, BitVec.toNat_ofNat]
      have e1 : a % 2 ^ 32 = a := Nat.mod_eq_of_lt (by omega)
      have e2 : b % 2 ^ 32 = b := Nat.mod_eq_of_lt (by omega)
      rw [e1, e2, Nat.shiftLeft_eq]
      have e3 : b * 2 ^ 8 % 2 ^ 32 = b * 2 ^ 8 := Nat.mod_eq_of_lt (by omega)
      rw [e3]
      exact Nat.or_lt_two_pow (n := 16) (by omega) (by omega)
    · apply Int32.toBitVec_inj.mp
      show _ = BitVec.ofNat 32 _
      rw [BitVec.ofNat_toNat, BitVec.setWidth_eq]
  rw [key _ sh, or_0, (shl_0 ⟨b, hb⟩).1]
theorem im_0 {B : Nat → Int32} (hb : BYT B) {a : Nat} (ha : a + 4 ≤ 8192) : imB B a = 0 ↔ B a = 0 ∧ B (a + 1) = 0 ∧ B (a + 2) = 0 ∧ B (a + 3) = 0 := by
  obtain ⟨m1, h1, e1⟩ := hb (a + 1) (by omega)
  obtain ⟨m2, h2, e2⟩ := hb (a + 2) (by omega)
  obtain ⟨m3, h3, e3⟩ := hb (a + 3) (by omega)
  unfold imB
  rw [or_0, or_0, or_0, e1, e2, e3, (shl_0 ⟨m1, h1⟩).1, (shl_0 ⟨m2, h2⟩).2.1, (shl_0 ⟨m3, h3⟩).2.2]
  exact ⟨fun z => ⟨z.1.1.1, z.1.1.2, z.1.2, z.2⟩, fun z => ⟨⟨⟨z.1, z.2.1⟩, z.2.2.1⟩, z.2.2.2⟩⟩
section CFp
variable {M : XM} {p : Nat} {I : In}
theorem f_jump (s : Sh M) (h : InC M (Int32.ofNat p) I) (hd : I.d < 16) (hs : I.s < 16) : FL (g_FormCheck_isJump 105 (Int32.ofNat p) M) (okJ I) ∧ K_FormCheck_isJump 105 (Int32.ofNat p) M := by
  have zs := (reg_le ⟨I.s, hs⟩).2.2.2.1
  have zd := (reg_le ⟨I.d, hd⟩).2.2.2.1
  obtain ⟨n1, n2⟩ := h.num s
  obtain ⟨so1, so2⟩ := f_source s h hs
  unfold g_FormCheck_isJump K_FormCheck_isJump g_FormCheck_isJump_0 K_FormCheck_isJump_0 g_FormCheck_isJump_9 K_FormCheck_isJump_9
  rw [s.R105_0, n1, h.1.1, h.2.1.1, h.2.2.1.1, h.2.2.2.1.1, h.2.2.2.2.1.1]
  constructor
  · have q2 : (g_FormCheck_isRegister (Int32.ofNat I.d) = 0) = ¬ I.d < 11 := propext (f_reg hd).z
    simp only [q2]
    have zs' : (Int32.ofNat I.s = 0) = (I.s = 0) := propext zs
    have zd' : (Int32.ofNat I.d = 0) = (I.d = 0) := propext zd
    simp only [zs', zd', ← Int32.not_lt]
    clear zs zd zs' zd' so2 n1 n2 q2 h hd hs
    generalize g_FormCheck_isSource 105 (Int32.ofNat p) M = g at so1 ⊢
    have alt : (hsS I ∧ g = 1) ∨ (¬ hsS I ∧ g = 0) := (Classical.em _).imp (fun z => ⟨z, so1.1 z⟩) (fun z => ⟨z, so1.2 z⟩)
    clear so1
    rcases alt with ⟨hq, e⟩ | ⟨hq, e⟩
    all_goals subst e
    all_goals
      unfold okJ
      by_cases c5 : I.c = 5
      · have c6 : ¬ (5 : Int32) = 6 := by decide
        have c133 : ¬ (5 : Int32) = 133 := by decide
        have c149 : ¬ (5 : Int32) = 149 := by decide
        simp only [c5, c6, c133, c149, if_true, ne_eq, not_true, false_and, or_false, true_and]
        repeat' (refine FL.ite (fun _ => ?_) (fun _ => ?_))
        all_goals first | (refine FL.tt ?_; simp_all only [ne_eq, not_true, not_false_iff, true_and, and_true, false_and, and_false, or_true, true_or, or_false, false_or, Classical.not_not, and_self, or_self, not_and, not_or, false_imp_iff, true_imp_iff, imp_false, eq_self, i1_0]; done) | (refine FL.ff ?_; simp_all only [ne_eq, not_true, not_false_iff, true_and, and_true, false_and, and_false, or_true, true_or, or_false, false_or, Classical.not_not, and_self, or_self, not_and, not_or, false_imp_iff, true_imp_iff, imp_false, eq_self, i1_0]; done)
      by_cases c6 : I.c = 6
      · have c133 : ¬ (6 : Int32) = 133 := by decide
        have c149 : ¬ (6 : Int32) = 149 := by decide
        have c5' : ¬ (6 : Int32) = 5 := by decide
        simp only [c6, c5', c133, c149, if_true, if_false, ne_eq, not_true, false_and, and_false, false_or, or_false, true_and]
        repeat' (refine FL.ite (fun _ => ?_) (fun _ => ?_))
        all_goals first | (refine FL.tt ?_; simp_all only [ne_eq, not_true, not_false_iff, true_and, and_true, false_and, and_false, or_true, true_or, or_false, false_or, Classical.not_not, and_self, or_self, not_and, not_or, false_imp_iff, true_imp_iff, imp_false, eq_self, i1_0]; done) | (refine FL.ff ?_; simp_all only [ne_eq, not_true, not_false_iff, true_and, and_true, false_and, and_false, or_true, true_or, or_false, false_or, Classical.not_not, and_self, or_self, not_and, not_or, false_imp_iff, true_imp_iff, imp_false, eq_self, i1_0]; done)
      by_cases c133 : I.c = 133
      · have c149 : ¬ (133 : Int32) = 149 := by decide
        have c5' : ¬ (133 : Int32) = 5 := by decide
        have c6' : ¬ (133 : Int32) = 6 := by decide
        simp only [c133, c5', c6', c149, if_true, if_false, ne_eq, not_true, false_and, and_false, false_or, or_false, true_and]
        repeat' (refine FL.ite (fun _ => ?_) (fun _ => ?_))
        all_goals first | (refine FL.tt ?_; simp_all only [ne_eq, not_true, not_false_iff, true_and, and_true, false_and, and_false, or_true, true_or, or_false, false_or, Classical.not_not, and_self, or_self, not_and, not_or, false_imp_iff, true_imp_iff, imp_false, eq_self, i1_0]; done) | (refine FL.ff ?_; simp_all only [ne_eq, not_true, not_false_iff, true_and, and_true, false_and, and_false, or_true, true_or, or_false, false_or, Classical.not_not, and_self, or_self, not_and, not_or, false_imp_iff, true_imp_iff, imp_false, eq_self, i1_0]; done)
      by_cases c149 : I.c = 149
      · have c133' : ¬ (149 : Int32) = 133 := by decide
        have c5' : ¬ (149 : Int32) = 5 := by decide
        have c6' : ¬ (149 : Int32) = 6 := by decide
        simp only [c149, c5', c6', c133', if_true, if_false, ne_eq, not_true, false_and, and_false, false_or, or_false, true_and]
        repeat' (refine FL.ite (fun _ => ?_) (fun _ => ?_))
        all_goals first | (refine FL.tt ?_; simp_all only [ne_eq, not_true, not_false_iff, true_and, and_true, false_and, and_false, or_true, true_or, or_false, false_or, Classical.not_not, and_self, or_self, not_and, not_or, false_imp_iff, true_imp_iff, imp_false, eq_self, i1_0]; done) | (refine FL.ff ?_; simp_all only [ne_eq, not_true, not_false_iff, true_and, and_true, false_and, and_false, or_true, true_or, or_false, false_or, Classical.not_not, and_self, or_self, not_and, not_or, false_imp_iff, true_imp_iff, imp_false, eq_self, i1_0]; done)
      simp only [c5, c6, c133, c149, if_false, ne_eq, not_false_iff, false_and, false_or, true_and]
      repeat' (refine FL.ite (fun _ => ?_) (fun _ => ?_))
      all_goals first | (refine FL.tt ?_; simp_all only [ne_eq, not_true, not_false_iff, true_and, and_true, false_and, and_false, or_true, true_or, or_false, false_or, Classical.not_not, and_self, or_self, not_and, not_or, false_imp_iff, true_imp_iff, imp_false, eq_self, i1_0]; done) | (refine FL.ff ?_; simp_all only [ne_eq, not_true, not_false_iff, true_and, and_true, false_and, and_false, or_true, true_or, or_false, false_or, Classical.not_not, and_self, or_self, not_and, not_or, false_imp_iff, true_imp_iff, imp_false, eq_self, i1_0]; done)
  · repeat' (first | exact s.T105 | exact s.T102 | exact n2 | exact so2 | exact h.1.2 | exact h.2.1.2 | exact h.2.2.1.2 | exact h.2.2.2.1.2 | exact h.2.2.2.2.1.2 | refine ⟨?_, ?_⟩ | intro _)
theorem f_access (s : Sh M) (h : InC M (Int32.ofNat p) I) (hd : I.d < 16) (hs : I.s < 16) : FL (g_FormCheck_isAccess 105 (Int32.ofNat p) M) (okC I) ∧ K_FormCheck_isAccess 105 (Int32.ofNat p) M := by
  have zs := (reg_le ⟨I.s, hs⟩).2.2.2.1
  obtain ⟨k1, k2⟩ := h.kind s
  obtain ⟨m1, m2⟩ := h.mode s
  obtain ⟨b1, b2⟩ := h.size s
  obtain ⟨at1, at2⟩ := f_atomic s h hs
  unfold g_FormCheck_isAccess K_FormCheck_isAccess g_FormCheck_isAccess_0 K_FormCheck_isAccess_0 g_FormCheck_isAccess_9 K_FormCheck_isAccess_9 g_FormCheck_isAccess_164 K_FormCheck_isAccess_164 g_FormCheck_isAccess_178 g_FormCheck_isAccess_120
  rw [s.R105_0, k1, m1, b1, h.2.1.1, h.2.2.1.1, h.2.2.2.2.1.1]
  constructor
  · have zs' : (Int32.ofNat I.s = 0) = (I.s = 0) := propext zs
    have q2 : (g_FormCheck_isRegister (Int32.ofNat I.d) = 0) = ¬ I.d < 11 := propext (f_reg hd).z
    have q3 : (g_FormCheck_isRegister (Int32.ofNat I.s) = 0) = ¬ I.s < 11 := propext (f_reg hs).z
    have q4 : (g_FormCheck_isTaker (Int32.ofNat I.d) = 0) = ¬ I.d < 10 := propext (f_taker hd).z
    simp only [q2, q3, q4, zs', ← Int32.not_lt]
    clear q2 q3 q4 zs zs' k1 k2 m1 m2 b1 b2 at2 h hd hs
    generalize g_FormCheck_isAtomic 105 (Int32.ofNat p) M = g at at1 ⊢
    have alt : (okT I ∧ g = 1) ∨ (¬ okT I ∧ g = 0) := (Classical.em _).imp (fun z => ⟨z, at1.1 z⟩) (fun z => ⟨z, at1.2 z⟩)
    clear at1
    rcases alt with ⟨hq, e⟩ | ⟨hq, e⟩
    all_goals subst e
    all_goals
      unfold okC
      by_cases c1 : kd I.c = 1
      · have c2 : ¬ (1 : Int32) = 2 := by decide
        simp only [c1, c2, if_true, true_and, false_and, or_false, not_true]
        repeat' (refine FL.ite (fun _ => ?_) (fun _ => ?_))
        all_goals first | (refine FL.tt ?_; simp_all only [ne_eq, not_true, not_false_iff, true_and, and_true, false_and, and_false, or_true, true_or, or_false, false_or, Classical.not_not, and_self, or_self, not_and, not_or, false_imp_iff, true_imp_iff, imp_false, eq_self, i1_0]; done) | (refine FL.ff ?_; simp_all only [ne_eq, not_true, not_false_iff, true_and, and_true, false_and, and_false, or_true, true_or, or_false, false_or, Classical.not_not, and_self, or_self, not_and, not_or, false_imp_iff, true_imp_iff, imp_false, eq_self, i1_0]; done)
      by_cases c2 : kd I.c = 2
      · have c1' : ¬ (2 : Int32) = 1 := by decide
        simp only [c2, c1', if_true, if_false, true_and, false_and, and_false, or_false, false_or, not_true]
        repeat' (refine FL.ite (fun _ => ?_) (fun _ => ?_))
        all_goals first | (refine FL.tt ?_; simp_all only [ne_eq, not_true, not_false_iff, true_and, and_true, false_and, and_false, or_true, true_or, or_false, false_or, Classical.not_not, and_self, or_self, not_and, not_or, false_imp_iff, true_imp_iff, imp_false, eq_self, i1_0]; done) | (refine FL.ff ?_; simp_all only [ne_eq, not_true, not_false_iff, true_and, and_true, false_and, and_false, or_true, true_or, or_false, false_or, Classical.not_not, and_self, or_self, not_and, not_or, false_imp_iff, true_imp_iff, imp_false, eq_self, i1_0]; done)
      simp only [c1, c2, if_false, true_and, false_and, false_or, not_false_iff]
      repeat' (refine FL.ite (fun _ => ?_) (fun _ => ?_))
      all_goals first | (refine FL.tt ?_; simp_all only [ne_eq, not_true, not_false_iff, true_and, and_true, false_and, and_false, or_true, true_or, or_false, false_or, Classical.not_not, and_self, or_self, not_and, not_or, false_imp_iff, true_imp_iff, imp_false, eq_self, i1_0]; done) | (refine FL.ff ?_; simp_all only [ne_eq, not_true, not_false_iff, true_and, and_true, false_and, and_false, or_true, true_or, or_false, false_or, Classical.not_not, and_self, or_self, not_and, not_or, false_imp_iff, true_imp_iff, imp_false, eq_self, i1_0]; done)
  · repeat' (first | exact s.T105 | exact s.T102 | exact k2 | exact m2 | exact b2 | exact at2 | exact h.1.2 | exact h.2.1.2 | exact h.2.2.1.2 | exact h.2.2.2.1.2 | exact h.2.2.2.2.1.2 | refine ⟨?_, ?_⟩ | intro _)
theorem f_reck (s : Sh M) (h : InC M (Int32.ofNat p) I) (hd : I.d < 16) (hs : I.s < 16) : FL (g_FormCheck_isReckoning 105 (Int32.ofNat p) M) (okA I) ∧ K_FormCheck_isReckoning 105 (Int32.ofNat p) M := by
  have zs := (reg_le ⟨I.s, hs⟩).2.2.2.1
  obtain ⟨k1, k2⟩ := h.kind s
  obtain ⟨n1, n2⟩ := h.num s
  obtain ⟨r1, r2⟩ := h.reg s
  obtain ⟨t1, t2⟩ := f_turn s h hs
  obtain ⟨so1, so2⟩ := f_source s h hs
  unfold g_FormCheck_isReckoning K_FormCheck_isReckoning g_FormCheck_isReckoning_0 K_FormCheck_isReckoning_0 g_FormCheck_isReckoning_9 K_FormCheck_isReckoning_9 g_FormCheck_isReckoning_18 K_FormCheck_isReckoning_18 g_FormCheck_isReckoning_112 K_FormCheck_isReckoning_112 g_FormCheck_isReckoning_121 K_FormCheck_isReckoning_121 g_FormCheck_isReckoning_122 K_FormCheck_isReckoning_122 g_FormCheck_isReckoning_172 K_FormCheck_isReckoning_172 g_FormCheck_isReckoning_176 K_FormCheck_isReckoning_176 g_FormCheck_isReckoning_177 K_FormCheck_isReckoning_177 g_FormCheck_isReckoning_201
  rw [s.R105_0, k1, n1, r1, h.2.1.1, h.2.2.1.1, h.2.2.2.1.1, h.2.2.2.2.1.1]
  constructor
  · have zs' : (Int32.ofNat I.s = 0) = (I.s = 0) := propext zs
    have q4 : (g_FormCheck_isTaker (Int32.ofNat I.d) = 0) = ¬ I.d < 10 := propext (f_taker hd).z
    simp only [q4, zs', i1_0, if_true, if_false]
    have t1' := t1.jz
    clear q4 zs zs' so2 k1 k2 n1 n2 r1 r2 t1 t2 h hd hs
    generalize g_FormCheck_isSource 105 (Int32.ofNat p) M = g at so1 ⊢
    have alt : (hsS I ∧ g = 1) ∨ (¬ hsS I ∧ g = 0) := (Classical.em _).imp (fun z => ⟨z, so1.1 z⟩) (fun z => ⟨z, so1.2 z⟩)
    clear so1
    rcases alt with ⟨hq, e⟩ | ⟨hq, e⟩
    all_goals subst e
    all_goals
      unfold okA
      by_cases d10 : I.d < 10
      · by_cases n13 : nm I.c ≤ 13
        · simp only [d10, n13, not_true, if_true, if_false, true_and]
          by_cases c13 : nm I.c = 13
          · have e : (13 : Int32) = 13 := rfl
            simp only [c13, if_true, true_and, not_true, false_and, or_false, show ¬ (13 : Int32) = 8 from by decide]
            exact t1'
          · by_cases c8 : nm I.c = 8
            · simp only [c8, if_true, if_false, true_and, not_true, false_and, or_false, false_or, and_false, show ¬ (8 : Int32) = 13 from by decide]
              repeat' (refine FL.ite (fun _ => ?_) (fun _ => ?_))
              all_goals first | (refine FL.tt ?_; simp_all only [ne_eq, not_true, not_false_iff, true_and, and_true, false_and, and_false, or_true, true_or, or_false, false_or, Classical.not_not, and_self, or_self, not_and, not_or, false_imp_iff, true_imp_iff, imp_false, eq_self, i1_0]; done) | (refine FL.ff ?_; simp_all only [ne_eq, not_true, not_false_iff, true_and, and_true, false_and, and_false, or_true, true_or, or_false, false_or, Classical.not_not, and_self, or_self, not_and, not_or, false_imp_iff, true_imp_iff, imp_false, eq_self, i1_0]; done)
            · simp only [c13, c8, if_false, false_and, false_or, not_false_iff, true_and]
              by_cases c3 : nm I.c = 3
              · simp only [c3, if_true, true_or, true_and, false_and, or_false, show ¬ (3 : Int32) = 11 from by decide, if_false]
                repeat' (refine FL.ite (fun _ => ?_) (fun _ => ?_))
                all_goals first | (refine FL.tt ?_; simp_all only [ne_eq, not_true, not_false_iff, true_and, and_true, false_and, and_false, or_true, true_or, or_false, false_or, Classical.not_not, and_self, or_self, not_and, not_or, false_imp_iff, true_imp_iff, imp_false, eq_self, i1_0]; done) | (refine FL.ff ?_; simp_all only [ne_eq, not_true, not_false_iff, true_and, and_true, false_and, and_false, or_true, true_or, or_false, false_or, Classical.not_not, and_self, or_self, not_and, not_or, false_imp_iff, true_imp_iff, imp_false, eq_self, i1_0]; done)
              · by_cases c9 : nm I.c = 9
                · simp only [c9, if_true, or_true, true_and, false_and, or_false, show ¬ (9 : Int32) = 11 from by decide, show ¬ (9 : Int32) = 3 from by decide, if_false]
                  repeat' (refine FL.ite (fun _ => ?_) (fun _ => ?_))
                  all_goals first | (refine FL.tt ?_; simp_all only [ne_eq, not_true, not_false_iff, true_and, and_true, false_and, and_false, or_true, true_or, or_false, false_or, Classical.not_not, and_self, or_self, not_and, not_or, false_imp_iff, true_imp_iff, imp_false, eq_self, i1_0]; done) | (refine FL.ff ?_; simp_all only [ne_eq, not_true, not_false_iff, true_and, and_true, false_and, and_false, or_true, true_or, or_false, false_or, Classical.not_not, and_self, or_self, not_and, not_or, false_imp_iff, true_imp_iff, imp_false, eq_self, i1_0]; done)
                · by_cases c11 : nm I.c = 11
                  · simp only [c11, if_true, true_and, false_and, false_or, show ¬ (11 : Int32) = 3 from by decide, show ¬ (11 : Int32) = 9 from by decide, if_false, or_false]
                    repeat' (refine FL.ite (fun _ => ?_) (fun _ => ?_))
                    all_goals first | (refine FL.tt ?_; simp_all only [ne_eq, not_true, not_false_iff, true_and, and_true, false_and, and_false, or_true, true_or, or_false, false_or, Classical.not_not, and_self, or_self, not_and, not_or, false_imp_iff, true_imp_iff, imp_false, eq_self, i1_0]; done) | (refine FL.ff ?_; simp_all only [ne_eq, not_true, not_false_iff, true_and, and_true, false_and, and_false, or_true, true_or, or_false, false_or, Classical.not_not, and_self, or_self, not_and, not_or, false_imp_iff, true_imp_iff, imp_false, eq_self, i1_0]; done)
                  · simp only [c3, c9, c11, if_false, false_and, or_false, or_self]
                    repeat' (refine FL.ite (fun _ => ?_) (fun _ => ?_))
                    all_goals first | (refine FL.tt ?_; simp_all only [ne_eq, not_true, not_false_iff, true_and, and_true, false_and, and_false, or_true, true_or, or_false, false_or, Classical.not_not, and_self, or_self, not_and, not_or, false_imp_iff, true_imp_iff, imp_false, eq_self, i1_0]; done) | (refine FL.ff ?_; simp_all only [ne_eq, not_true, not_false_iff, true_and, and_true, false_and, and_false, or_true, true_or, or_false, false_or, Classical.not_not, and_self, or_self, not_and, not_or, false_imp_iff, true_imp_iff, imp_false, eq_self, i1_0]; done)
        · simp only [d10, n13, not_true, if_false, true_and, false_and]
          exact FL.ff (fun z => z)
      · simp only [d10, not_false_iff, if_true, false_and]
        exact FL.ff (fun z => z)
  · repeat' (first | exact s.T105 | exact s.T102 | exact k2 | exact n2 | exact r2 | exact t2 | exact so2 | exact h.1.2 | exact h.2.1.2 | exact h.2.2.1.2 | exact h.2.2.2.1.2 | exact h.2.2.2.2.1.2 | refine ⟨?_, ?_⟩ | intro _)
end CFp
