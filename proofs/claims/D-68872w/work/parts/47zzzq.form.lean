/-! part 47zzzq: the component's form: instructions (gen/tpl.py) -/
def In5 (M : XM) (k : Int32) (I : In) : Prop := (g_Program_code 102 k M = I.c ∧ K_Program_code 102 k M) ∧ (g_Program_d 102 k M = Int32.ofNat I.d ∧ K_Program_d 102 k M) ∧ (g_Program_s 102 k M = Int32.ofNat I.s ∧ K_Program_s 102 k M) ∧ (g_Program_offset 102 k M = I.o ∧ K_Program_offset 102 k M) ∧ (g_Program_immediate 102 k M = I.i ∧ K_Program_immediate 102 k M)
theorem c_in5 {M : XM} (h : Sh M) {p : Nat} (hp : p < 1024) : In5 M (Int32.ofNat p) (IB (bC M 103) p) := by
  have e0 : (8 : Int32) * Int32.ofNat p = Int32.ofNat (8 * p) := mul8 p
  have e1 : (8 : Int32) * Int32.ofNat p + 1 = Int32.ofNat (8 * p + 1) := mul8N p 1
  have e2 : (8 : Int32) * Int32.ofNat p + 2 = Int32.ofNat (8 * p + 2) := mul8N p 2
  have e3 : (8 : Int32) * Int32.ofNat p + 3 = Int32.ofNat (8 * p + 3) := mul8N p 3
  obtain ⟨m, hm, eb⟩ := BYT.c M 103 (8 * p + 1) (by omega)
  obtain ⟨q1, q2⟩ := by_d ⟨m, hm⟩
  have g0 := c_get h (i := 8 * p) (by omega)
  have g1 := c_get h (i := 8 * p + 1) (by omega)
  have g2 := c_get h (i := 8 * p + 2) (by omega)
  have g3 := c_get h (i := 8 * p + 3) (by omega)
  rw [IB_at hp]
  refine ⟨⟨?_, ?_⟩, ⟨?_, ?_⟩, ⟨?_, ?_⟩, ⟨?_, ?_⟩, c_imm h hp⟩
  · unfold g_Program_code g_Program_code_0; rw [e0, g0.1]
  · unfold K_Program_code K_Program_code_0; rw [e0]; exact ⟨h.T102, g0.2⟩
  · unfold g_Program_d g_Program_d_0; rw [e1, g1.1]
    show bC M 103 (8 * p + 1) &&& 15 = Int32.ofNat (ix (bC M 103 (8 * p + 1) &&& 15))
    rw [eb]; exact q1
  · unfold K_Program_d K_Program_d_0; rw [e1]; exact ⟨h.T102, g1.2⟩
  · unfold g_Program_s g_Program_s_0; rw [e1, g1.1]
    show j_ishr (bC M 103 (8 * p + 1)) 4 = Int32.ofNat (ix (j_ishr (bC M 103 (8 * p + 1)) 4))
    rw [eb]; exact q2
  · unfold K_Program_s K_Program_s_0; rw [e1]; exact ⟨h.T102, g1.2⟩
  · unfold g_Program_offset g_Program_offset_0; rw [e2, e3, g2.1, g3.1]
  · unfold K_Program_offset K_Program_offset_0; rw [e2, e3]; exact ⟨h.T102, g2.2, h.T102, g3.2⟩
theorem le_ofNat {a b : Nat} (ha : a < 2147483648) (hb : b < 2147483648) : Int32.ofNat a ≤ Int32.ofNat b ↔ a ≤ b := by
  rw [Int32.le_iff_toInt_le, toInt_ofNat32 ha, toInt_ofNat32 hb]
  omega
section CFq
variable {M : XM} {p all : Nat}
theorem f_wide (s : Sh M) (al : all ≤ 1024) (hall : mI M 102 2 = Int32.ofNat all) (hp : p < all) : FL (g_FormCheck_isWide 105 (Int32.ofNat p) M) (okW (IB (bC M 103) p) all p (imB (bC M 103) (8 * p + 8) = 0)) ∧ K_FormCheck_isWide 105 (Int32.ofNat p) M := by
  have h := c_in5 s (p := p) (by omega)
  obtain ⟨hd, hs, _⟩ := IB_ds (BYT.c M 103) (p := p) (by omega)
  have ej : (IB (bC M 103) p).j = imB (tr8 (bC M 103)) (8 * (p + 1) + 4) := by rw [IB_at (by omega)]
  generalize IB (bC M 103) p = I at h hd hs ej ⊢
  obtain ⟨_, _, z2, zs, _⟩ := reg_le ⟨I.s, hs⟩
  have e9 : (8 : Int32) * Int32.ofNat p + 9 = Int32.ofNat (8 * p + 9) := mul8N p 9
  have e1 : Int32.ofNat p + 1 = Int32.ofNat (p + 1) := add1_32 p
  have lec : Int32.ofNat all ≤ Int32.ofNat (p + 1) ↔ all ≤ p + 1 := le_ofNat (by omega) (by omega)
  have A119 : ∀ s0 : Int32, (¬ s0 = 0 → p + 1 < all) → FL (g_FormCheck_isWide_119 105 (Int32.ofNat p) s0 M) (¬ s0 = 0 ∧ (I.s = 0 ∨ (0 ≤ I.i ∧ I.j = 0))) ∧ K_FormCheck_isWide_119 105 (Int32.ofNat p) s0 M := by
    intro s0 q
    unfold g_FormCheck_isWide_119 K_FormCheck_isWide_119 g_FormCheck_isWide_159
    rw [s.R105_0, h.2.2.1.1, h.2.2.2.2.1, e1]
    by_cases c : s0 = 0
    · rw [if_pos c]
      exact ⟨FL.ff (fun z => z.1 c), fun z => absurd c z⟩
    · have q1 := q c
      obtain ⟨g1, g2⟩ := c_imm s (p := p + 1) (by omega)
      rw [← imB_tr (by omega), ← ej] at g1
      rw [if_neg c, g1]
      refine ⟨?_, fun _ => ⟨s.T105, s.T102, h.2.2.1.2, fun _ => ⟨s.T105, s.T102, h.2.2.2.2.2, fun _ => ⟨s.T105, s.T102, g2⟩⟩⟩⟩
      exact FL.ite (fun y => FL.tt ⟨c, Or.inl (zs.mp y)⟩) (fun y => FL.ite (fun y2 => FL.ff (fun z => z.2.elim (fun z => y (zs.mpr z)) (fun z => absurd z.1 (Int32.not_le.mpr y2)))) (fun y2 => FL.ite (fun y3 => FL.tt ⟨c, Or.inr ⟨Int32.not_lt.mp y2, y3⟩⟩) (fun y3 => FL.ff (fun z => z.2.elim (fun z => y (zs.mpr z)) (fun z => y3 z.2)))))
  have A53 : ∀ s0 : Int32, FL (g_FormCheck_isWide_53 105 (Int32.ofNat p) s0 M) (¬ s0 = 0 ∧ p + 1 < all ∧ imB (bC M 103) (8 * p + 8) = 0 ∧ (I.s = 0 ∨ (0 ≤ I.i ∧ I.j = 0))) ∧ K_FormCheck_isWide_53 105 (Int32.ofNat p) s0 M := by
    intro s0
    unfold g_FormCheck_isWide_53 K_FormCheck_isWide_53 g_FormCheck_isWide_118 K_FormCheck_isWide_118
    obtain ⟨z1, z2'⟩ := A119 0 (fun z => absurd rfl z)
    obtain ⟨w1, w2⟩ : (p + 1 < all → FL (g_FormCheck_isWide_119 105 (Int32.ofNat p) 1 M) (I.s = 0 ∨ (0 ≤ I.i ∧ I.j = 0))) ∧ (p + 1 < all → K_FormCheck_isWide_119 105 (Int32.ofNat p) 1 M) := ⟨fun q => (A119 1 (fun _ => q)).1.iff ⟨fun z => z.2, fun z => ⟨i1_0, z⟩⟩, fun q => (A119 1 (fun _ => q)).2⟩
    have zero : ∀ {P : Prop}, ¬ P → FL (g_FormCheck_isWide_119 105 (Int32.ofNat p) 0 M) P := fun {P} n => z1.iff ⟨fun z => absurd rfl z.1, fun z => absurd z n⟩
    rw [s.R105_0, hall, e9, e1]
    by_cases c : s0 = 0
    · rw [if_pos c]
      exact ⟨zero (fun z => z.1 c), fun _ => z2', fun z => absurd c z⟩
    · rw [if_neg c]
      by_cases cl : all ≤ p + 1
      · rw [if_pos (lec.mpr cl)]
        exact ⟨zero (fun z => by omega), fun z => absurd z c, fun _ => ⟨s.T105, s.T102, fun _ => z2', fun z => absurd (lec.mpr cl) z⟩⟩
      · have q1 : p + 1 < all := by omega
        have g := c_in5 s (p := p + 1) (by omega)
        have i8 := im_0 (BYT.c M 103) (a := 8 * p + 8) (by omega)
        obtain ⟨g9, k9⟩ := c_get s (i := 8 * p + 9) (by omega)
        obtain ⟨ma, ha, ea⟩ := BYT.c M 103 (8 * p + 10) (by omega)
        obtain ⟨mb, hb, eb⟩ := BYT.c M 103 (8 * p + 11) (by omega)
        have gc : g_Program_code 102 (Int32.ofNat (p + 1)) M = bC M 103 (8 * p + 8) := by
          rw [g.1.1, IB_at (by omega)]
          show bC M 103 (8 * (p + 1)) = _
          rw [show 8 * (p + 1) = 8 * p + 8 by omega]
        have go : g_Program_offset 102 (Int32.ofNat (p + 1)) M = 0 ↔ bC M 103 (8 * p + 10) = 0 ∧ bC M 103 (8 * p + 11) = 0 := by
          rw [g.2.2.2.1.1, IB_at (by omega)]
          show j_i2s (bC M 103 (8 * (p + 1) + 2) ||| j_ishl (bC M 103 (8 * (p + 1) + 3)) 8) = 0 ↔ _
          rw [show 8 * (p + 1) + 2 = 8 * p + 10 by omega, show 8 * (p + 1) + 3 = 8 * p + 11 by omega, ea, eb]
          exact i2s_0 ha hb
        rw [if_neg (fun z => cl (lec.mp z)), gc, g9]
        constructor
        · refine FL.ite (fun y1 => FL.ite (fun y2 => FL.ite (fun y3 => ?_) (fun y3 => zero (fun z => y3 (go.mpr ⟨(i8.mp z.2.2.1).2.2.1, (i8.mp z.2.2.1).2.2.2⟩)))) (fun y2 => zero (fun z => y2 (i8.mp z.2.2.1).2.1))) (fun y1 => zero (fun z => y1 (i8.mp z.2.2.1).1))
          exact (w1 q1).iff ⟨fun z => ⟨c, q1, i8.mpr ⟨y1, y2, (go.mp y3).1, (go.mp y3).2⟩, z⟩, fun z => z.2.2.2⟩
        · exact ⟨fun z => absurd z c, fun _ => ⟨s.T105, s.T102, fun z => absurd (lec.mp z) cl, fun _ => ⟨s.T105, s.T102, g.1.2, fun _ => ⟨s.T105, s.T102, k9, fun _ => ⟨s.T105, s.T102, g.2.2.2.1.2, fun _ => w2 q1, fun _ => z2'⟩, fun _ => z2'⟩, fun _ => z2'⟩⟩⟩
  obtain ⟨b1, b2⟩ := A53 0
  obtain ⟨d1, d2⟩ := A53 1
  have zero : ∀ {P : Prop}, ¬ P → FL (g_FormCheck_isWide_53 105 (Int32.ofNat p) 0 M) P := fun {P} n => b1.iff ⟨fun z => absurd rfl z.1, fun z => absurd z n⟩
  unfold g_FormCheck_isWide K_FormCheck_isWide g_FormCheck_isWide_0 K_FormCheck_isWide_0 g_FormCheck_isWide_52 K_FormCheck_isWide_52 g_Program_isWide K_Program_isWide g_Program_isWide_0 K_Program_isWide_0
  rw [s.R105_0, h.1.1, h.2.1.1, h.2.2.1.1, h.2.2.2.1.1]
  constructor
  · unfold okW
    simp only [f10]
    refine FL.ite (fun y1 => zero (fun z => y1 z.1)) (fun y1 => FL.ite (fun y2 => zero (fun z => (f_taker hd).z.mp y2 z.2.1)) (fun y2 => FL.ite (fun y3 => zero (fun z => z2.mp y3 z.2.2.1)) (fun y3 => FL.ite (fun y4 => ?_) (fun y4 => zero (fun z => y4 z.2.2.2.1)))))
    exact d1.iff ⟨fun z => ⟨Decidable.not_not.mp y1, (f_taker hd).zn.mp y2, Decidable.not_not.mp (fun q => y3 (z2.mpr q)), y4, z.2⟩, fun z => ⟨i1_0, z.2.2.2.2⟩⟩
  · repeat' (first | exact s.T105 | exact s.T102 | exact b2 | exact d2 | exact h.1.2 | exact h.2.1.2 | exact h.2.2.1.2 | exact h.2.2.2.1.2 | exact h.2.2.2.2.2 | refine ⟨?_, ?_⟩ | intro _)
theorem f_instr (s : Sh M) (al : all ≤ 1024) (hall : mI M 102 2 = Int32.ofNat all) (hp : p < all) : FL (g_FormCheck_isInstruction 105 (Int32.ofNat p) M) (okI (bC M 103) all p) ∧ K_FormCheck_isInstruction 105 (Int32.ofNat p) M := by
  have h5 := c_in5 s (p := p) (by omega)
  obtain ⟨hd, hs, m, hm, em⟩ := IB_ds (BYT.c M 103) (p := p) (by omega)
  have kk : g_Program_kind 102 (Int32.ofNat p) M = kd (IB (bC M 103) p).c ∧ K_Program_kind 102 (Int32.ofNat p) M := ⟨by show g_Program_code 102 (Int32.ofNat p) M &&& 7 = _; rw [h5.1.1]; rfl, s.T102, h5.1.2⟩
  have inc : ¬ kd (IB (bC M 103) p).c = 0 → InC M (Int32.ofNat p) (IB (bC M 103) p) := fun z => c_inC s (by omega) (fun q => by
    have e : (IB (bC M 103) p).c = bC M 103 (8 * p) := by rw [IB_at (by omega)]
    rw [← e] at q; exact absurd q z)
  have kl := kd_list ⟨m, hm⟩
  rw [← em] at kl
  have n0 : ∀ a b : Int32, a ≠ b → ∀ {x : Int32}, x = a → ¬ x = b := fun a b ab x hx hb => ab (hx.symm.trans hb)
  unfold g_FormCheck_isInstruction K_FormCheck_isInstruction g_FormCheck_isInstruction_0 K_FormCheck_isInstruction_0 g_FormCheck_isInstruction_58 K_FormCheck_isInstruction_58 g_FormCheck_isInstruction_64 K_FormCheck_isInstruction_64 g_FormCheck_isInstruction_70 K_FormCheck_isInstruction_70
  rw [s.R105_0, kk.1]
  unfold okI
  have W := f_wide s al hall hp
  have C := fun z => f_access s (inc z) hd hs
  have J := fun z => f_jump s (inc z) hd hs
  have A := fun z => f_reck s (inc z) hd hs
  generalize IB (bC M 103) p = I at kl inc W C J A hd hs ⊢
  have x01 : ¬ (0 : Int32) = 1 := by decide
  by_cases c0 : kd I.c = 0
  · rw [if_pos c0]
    refine ⟨W.1.jz.iff ⟨fun z => Or.inl ⟨c0, z⟩, fun z => ?_⟩, s.T105, s.T102, kk.2, fun _ => ⟨s.T105, W.2⟩, fun z => absurd c0 z⟩
    rcases z with z | z | z | z
    · exact z.2
    · rw [c0] at z; exact absurd z.1 (by decide)
    · rw [c0] at z; exact absurd z.1 (by decide)
    · rw [c0] at z; exact absurd z.1 (by decide)
  rw [if_neg c0]
  obtain ⟨C1, C2⟩ := C c0
  obtain ⟨J1, J2⟩ := J c0
  obtain ⟨A1, A2⟩ := A c0
  have KK : (kd I.c = 1 → mT M 105 = 4 ∧ K_FormCheck_isAccess 105 (Int32.ofNat p) M) ∧ True := ⟨fun _ => ⟨s.T105, C2⟩, trivial⟩
  refine ⟨?_, ?_⟩
  · by_cases c1 : kd I.c = 1
    · rw [if_pos c1]
      refine C1.jz.iff ⟨fun z => Or.inr (Or.inl ⟨Or.inl c1, z⟩), fun z => ?_⟩
      rcases z with z | z | z | z
      · exact absurd z.1 c0
      · exact z.2
      · rw [c1] at z; exact absurd z.1 (by decide)
      · rw [c1] at z; exact absurd z.1 (by decide)
    rw [if_neg c1]
    by_cases c2 : kd I.c = 2
    · rw [if_pos c2]
      refine C1.jz.iff ⟨fun z => Or.inr (Or.inl ⟨Or.inr (Or.inl c2), z⟩), fun z => ?_⟩
      rcases z with z | z | z | z
      · exact absurd z.1 c0
      · exact z.2
      · rw [c2] at z; exact absurd z.1 (by decide)
      · rw [c2] at z; exact absurd z.1 (by decide)
    rw [if_neg c2]
    by_cases c3 : kd I.c = 3
    · rw [if_pos c3]
      refine C1.jz.iff ⟨fun z => Or.inr (Or.inl ⟨Or.inr (Or.inr c3), z⟩), fun z => ?_⟩
      rcases z with z | z | z | z
      · exact absurd z.1 c0
      · exact z.2
      · rw [c3] at z; exact absurd z.1 (by decide)
      · rw [c3] at z; exact absurd z.1 (by decide)
    rw [if_neg c3]
    by_cases c4 : kd I.c = 4
    · rw [if_pos c4]
      refine A1.jz.iff ⟨fun z => Or.inr (Or.inr (Or.inr ⟨Or.inl c4, z⟩)), fun z => ?_⟩
      rcases z with z | z | z | z
      · exact absurd z.1 c0
      · rw [c4] at z; exact absurd z.1 (by decide)
      · rw [c4] at z; exact absurd z.1 (by decide)
      · exact z.2
    rw [if_neg c4]
    by_cases c5 : kd I.c = 5
    · rw [if_pos c5]
      refine J1.jz.iff ⟨fun z => Or.inr (Or.inr (Or.inl ⟨Or.inl c5, z⟩)), fun z => ?_⟩
      rcases z with z | z | z | z
      · exact absurd z.1 c0
      · rw [c5] at z; exact absurd z.1 (by decide)
      · exact z.2
      · rw [c5] at z; exact absurd z.1 (by decide)
    rw [if_neg c5]
    by_cases c6 : kd I.c = 6
    · rw [if_pos c6]
      refine J1.jz.iff ⟨fun z => Or.inr (Or.inr (Or.inl ⟨Or.inr c6, z⟩)), fun z => ?_⟩
      rcases z with z | z | z | z
      · exact absurd z.1 c0
      · rw [c6] at z; exact absurd z.1 (by decide)
      · exact z.2
      · rw [c6] at z; exact absurd z.1 (by decide)
    rw [if_neg c6]
    have c7 : kd I.c = 7 := by
      rcases kl with e | e | e | e | e | e | e | e
      · exact absurd e c0
      · exact absurd e c1
      · exact absurd e c2
      · exact absurd e c3
      · exact absurd e c4
      · exact absurd e c5
      · exact absurd e c6
      · exact e
    refine A1.jz.iff ⟨fun z => Or.inr (Or.inr (Or.inr ⟨Or.inr c7, z⟩)), fun z => ?_⟩
    rcases z with z | z | z | z
    · exact absurd z.1 c0
    · rw [c7] at z; exact absurd z.1 (by decide)
    · rw [c7] at z; exact absurd z.1 (by decide)
    · exact z.2
  · repeat' (first | exact s.T105 | exact s.T102 | exact kk.2 | exact C2 | exact J2 | exact A2 | exact W.2 | refine ⟨?_, ?_⟩ | intro _)
end CFq
