/-! part 47zzzv: the twin's form: a place, goals, ways (gen/tpl.py) -/
def FLP (X : XM) (P : Prop) (r : Int32 × XM) : Prop := FL r.1 P ∧ r.2 = X
theorem FLP.ite {c : Prop} [Decidable c] {X : XM} {a b : Int32 × XM} {P : Prop} (h1 : c → FLP X P a) (h2 : ¬ c → FLP X P b) : FLP X P (if c then a else b) := by
  by_cases q : c
  · rw [if_pos q]; exact h1 q
  · rw [if_neg q]; exact h2 q
theorem FLP.tt {X : XM} {P : Prop} (h : P) : FLP X P (1, X) := ⟨FL.tt h, rfl⟩
theorem FLP.ff {X : XM} {P : Prop} (h : ¬ P) : FLP X P (0, X) := ⟨FL.ff h, rfl⟩
section TI
variable {M : XM} {p all : Nat} {B : Nat → Int32}
theorem t_instr (s : Sh M) (eB : (fun i => mI M 449 i) = B) (hb : BYT B) (al : all ≤ 1024) (hp : p < all) : K_Model_isInstruction 448 449 (Int32.ofNat p) (Int32.ofNat all) M ∧ FLP (g_Model_take 448 449 (Int32.ofNat p) M) (okI B all p) (g_Model_isInstruction 448 449 (Int32.ofNat p) (Int32.ofNat all) M) ∧ FT M (g_Model_take 448 449 (Int32.ofNat p) M) ∧ InT (g_Model_take 448 449 (Int32.ofNat p) M) (IB B p) := by
  obtain ⟨k1, f1, h⟩ := m_take s.T448 s.T449 s.N449 (by decide) (by rw [eB]; exact hb) (p := p) (by omega)
  rw [eB] at h
  obtain ⟨hd, hs, w⟩ := IB_ds hb (p := p) (by omega)
  have ej : (IB B p).j = imB (tr8 B) (8 * (p + 1) + 4) := by rw [IB_at (by omega)]
  unfold K_Model_isInstruction g_Model_isInstruction K_Model_isInstruction_0 g_Model_isInstruction_0
  have e49 : ∀ i, mI (g_Model_take 448 449 (Int32.ofNat p) M) 449 i = B i := fun i => by rw [f1.2 449 i (by omega)]; exact congrFun eB i
  have s1 : Sh (g_Model_take 448 449 (Int32.ofNat p) M) := s.kept (by rw [f1.1])
  suffices H : K_Model_isInstruction_6 448 449 (Int32.ofNat p) (Int32.ofNat all) (g_Model_take 448 449 (Int32.ofNat p) M) ∧ FLP (g_Model_take 448 449 (Int32.ofNat p) M) (okI B all p) (g_Model_isInstruction_6 448 449 (Int32.ofNat p) (Int32.ofNat all) (g_Model_take 448 449 (Int32.ofNat p) M)) by
    exact ⟨⟨s.T448, k1, H.1⟩, H.2, f1, h⟩
  generalize g_Model_take 448 449 (Int32.ofNat p) M = X at h e49 s1 ⊢
  have zs := (reg_le ⟨_, hs⟩).2.2.2.1
  have t2 := (reg_le ⟨_, hs⟩).2.2.1
  have ld10 := (reg_le ⟨_, hd⟩).1
  have ld11 := (reg_le2 ⟨_, hd⟩).1
  have ls11 := (reg_le2 ⟨_, hs⟩).1
  obtain ⟨d1, d2⟩ := h.kind s1
  obtain ⟨o1, o2⟩ := h.mode s1
  obtain ⟨z1, z2⟩ := h.size s1
  have z8 := (sz_cmp (IB B p).c).2
  obtain ⟨at1, at2⟩ := t_atom s1 h hd hs
  have ar := fun z => t_arith s1 h w z hd hs
  have jp := fun z => t_jmp s1 h w z hd hs
  have e8 : (8 : Int32) * Int32.ofNat p + 8 = Int32.ofNat (8 * p + 8) := mul8N p 8
  have e12 : (8 : Int32) * Int32.ofNat p + 12 = Int32.ofNat (8 * p + 12) := mul8N p 12
  have e1 : Int32.ofNat p + 1 = Int32.ofNat (p + 1) := add1_32 p
  have lec : Int32.ofNat all ≤ Int32.ofNat (p + 1) ↔ all ≤ p + 1 := le_ofNat (by omega) (by omega)
  have num8 : p + 1 < all → K_Model_number 449 (Int32.ofNat (8 * p + 8)) 4 X ∧ g_Model_number 449 (Int32.ofNat (8 * p + 8)) 4 X = imB B (8 * p + 8) := fun q => by
    obtain ⟨a, b⟩ := m_num4 s1.T449 s1.N449 (a := 8 * p + 8) (by omega)
    refine ⟨a, ?_⟩
    rw [b]; unfold imB; simp only [e49]
  have num12 : p + 1 < all → K_Model_number 449 (Int32.ofNat (8 * p + 12)) 4 X ∧ g_Model_number 449 (Int32.ofNat (8 * p + 12)) 4 X = (IB B p).j := fun q => by
    obtain ⟨a, b⟩ := m_num4 s1.T449 s1.N449 (a := 8 * p + 12) (by omega)
    refine ⟨a, ?_⟩
    rw [b, ej, imB_tr (by omega), show 8 * (p + 1) + 4 = 8 * p + 12 by omega]; unfold imB; simp only [e49]
  unfold okI
  have kl : kd (IB B p).c = 0 ∨ kd (IB B p).c = 1 ∨ kd (IB B p).c = 2 ∨ kd (IB B p).c = 3 ∨ kd (IB B p).c = 4 ∨ kd (IB B p).c = 5 ∨ kd (IB B p).c = 6 ∨ kd (IB B p).c = 7 := by
    obtain ⟨m, hm, e⟩ := w
    rw [e]; exact kd_list ⟨m, hm⟩
  generalize IB B p = I at h hd hs w ej zs t2 ld10 ld11 ls11 d1 o1 z1 z8 at1 ar jp num12 kl ⊢
  -- the second of two
  have A281 : ∀ s0 : Int32, (¬ s0 = 0 → p + 1 < all) → K_Model_isInstruction_281 448 449 (Int32.ofNat p) s0 X ∧ FLP X (¬ s0 = 0 ∧ (I.s = 0 ∨ (0 ≤ I.i ∧ I.j = 0))) (g_Model_isInstruction_281 448 449 (Int32.ofNat p) s0 X) := by
    intro s0 q
    unfold K_Model_isInstruction_281 g_Model_isInstruction_281 g_Model_isInstruction_317
    rw [h.2.2.1, h.2.2.2.2, e12]
    by_cases c : s0 = 0
    · rw [if_pos c]
      exact ⟨fun z => absurd c z, FLP.ff (fun z => z.1 c)⟩
    · obtain ⟨b1, b2⟩ := num12 (q c)
      rw [if_neg c, b2]
      exact ⟨fun _ => ⟨s1.T448, fun _ => ⟨s1.T448, fun _ => b1⟩⟩, FLP.ite (fun y => FLP.tt ⟨c, Or.inl (zs.mp y)⟩) (fun y => FLP.ite (fun y2 => FLP.ff (fun z => z.2.elim (fun z => y (zs.mpr z)) (fun z => absurd z.1 (Int32.not_le.mpr y2)))) (fun y2 => FLP.ite (fun y3 => FLP.tt ⟨c, Or.inr ⟨Int32.not_lt.mp y2, y3⟩⟩) (fun y3 => FLP.ff (fun z => z.2.elim (fun z => y (zs.mpr z)) (fun z => y3 z.2)))))⟩
  have A254 : ∀ s0 : Int32, (¬ s0 = 0 → p + 1 < all) → K_Model_isInstruction_254 448 449 (Int32.ofNat p) s0 X ∧ FLP X (¬ s0 = 0 ∧ imB B (8 * p + 8) = 0 ∧ (I.s = 0 ∨ (0 ≤ I.i ∧ I.j = 0))) (g_Model_isInstruction_254 448 449 (Int32.ofNat p) s0 X) := by
    intro s0 q
    unfold K_Model_isInstruction_254 g_Model_isInstruction_254 K_Model_isInstruction_280 g_Model_isInstruction_280
    obtain ⟨x1, x2, x3⟩ := A281 0 (fun z => absurd rfl z)
    rw [e8]
    by_cases c : s0 = 0
    · rw [if_pos c]
      exact ⟨⟨fun _ => x1, fun z => absurd c z⟩, x2.iff ⟨fun z => absurd rfl z.1, fun z => absurd c z.1⟩, x3⟩
    · obtain ⟨b1, b2⟩ := num8 (q c)
      obtain ⟨y1, y2, y3⟩ := A281 1 (fun _ => q c)
      rw [if_neg c, b2]
      by_cases ci : imB B (8 * p + 8) = 0
      · rw [if_pos ci]
        exact ⟨⟨fun z => absurd z c, fun _ => ⟨b1, fun _ => y1, fun z => absurd ci z⟩⟩, y2.iff ⟨fun z => ⟨c, ci, z.2⟩, fun z => ⟨i1_0, z.2.2⟩⟩, y3⟩
      · rw [if_neg ci]
        exact ⟨⟨fun z => absurd z c, fun _ => ⟨b1, fun z => absurd z ci, fun _ => x1⟩⟩, x2.iff ⟨fun z => absurd rfl z.1, fun z => absurd z.2.1 ci⟩, x3⟩
  obtain ⟨B1, B2, B3⟩ := A254 0 (fun z => absurd rfl z)
  have bad : ∀ {P : Prop}, ¬ P → FLP X P (g_Model_isInstruction_253 448 449 (Int32.ofNat p) X) := fun {P} n => ⟨B2.iff ⟨fun z => absurd rfl z.1, fun z => absurd z n⟩, B3⟩
  unfold K_Model_isInstruction_6 g_Model_isInstruction_6 K_Model_isInstruction_52 g_Model_isInstruction_52 K_Model_isInstruction_57 g_Model_isInstruction_57 g_Model_isInstruction_185 g_Model_isInstruction_112
  have KB : K_Model_isInstruction_253 448 449 (Int32.ofNat p) X := B1
  rw [d1, o1, z1, h.2.1, h.2.2.1, h.2.2.2.1, h.2.2.2.2, e1]
  have wd : FL (g_Model_isWide 448 X) (I.c = 24) ∧ K_Model_isWide 448 X := by
    unfold g_Model_isWide K_Model_isWide g_Model_isWide_0 K_Model_isWide_0
    rw [h.1]
    exact ⟨FL.ite (fun c => FL.tt c) (fun c => FL.ff c), s1.T448⟩
  constructor
  · have JJ : kd I.c = 5 ∨ kd I.c = 6 → K_Model_isJump 448 X := fun z => (jp z).2
    have AA : kd I.c = 4 ∨ kd I.c = 7 → K_Model_isArithmetic 448 X := fun z => (ar z).2
    have K254 : ¬ Int32.ofNat all ≤ Int32.ofNat (p + 1) → K_Model_isInstruction_254 448 449 (Int32.ofNat p) 1 X := fun z => (A254 1 (fun _ => by have : ¬ all ≤ p + 1 := fun q => z (lec.mpr q); omega)).1
    refine ⟨s1.T448, d2, ?_⟩
    refine ⟨fun _ => ?_, fun n1 => ⟨fun _ => ?_, fun n2 => ⟨fun _ => ?_, fun n3 => ⟨fun c4 => ⟨s1.T448, AA (Or.inl c4)⟩, fun n4 => ⟨fun c5 => ⟨s1.T448, JJ (Or.inl c5)⟩, fun n5 => ⟨fun c6 => ⟨s1.T448, JJ (Or.inr c6)⟩, fun n6 => ⟨fun c7 => ⟨s1.T448, AA (Or.inr c7)⟩, fun n7 => ?_⟩⟩⟩⟩⟩⟩⟩
    · repeat' (first | exact s1.T448 | exact o2 | exact z2 | refine ⟨?_, ?_⟩ | intro _)
    · repeat' (first | exact s1.T448 | exact o2 | exact z2 | refine ⟨?_, ?_⟩ | intro _)
    · repeat' (first | exact s1.T448 | exact o2 | exact z2 | exact at2 | refine ⟨?_, ?_⟩ | intro _)
    · refine ⟨s1.T448, wd.2, fun _ => KB, fun _ => ⟨s1.T448, fun _ => KB, fun _ => ⟨s1.T448, fun _ => KB, fun _ => ⟨s1.T448, fun _ => ⟨fun _ => KB, fun z => K254 z⟩, fun _ => KB⟩⟩⟩⟩
  · by_cases c1 : kd I.c = 1
    · rw [if_pos c1]
      have P : ((kd I.c = 0 ∧ okW I all p (imB B (8 * p + 8) = 0)) ∨ ((kd I.c = 1 ∨ kd I.c = 2 ∨ kd I.c = 3) ∧ okC I) ∨ ((kd I.c = 5 ∨ kd I.c = 6) ∧ okJ I) ∨ ((kd I.c = 4 ∨ kd I.c = 7) ∧ okA I)) ↔ (I.d < 10 ∧ I.s < 11 ∧ I.i = 0 ∧ (md I.c = 3 ∨ (md I.c = 4 ∧ sz I.c < 8))) := by
        unfold okC
        rw [c1]
        constructor
        · rintro (z | z | z | z)
          · exact absurd z.1 (by decide)
          · rcases z.2.2.2 with y | y | y
            · exact ⟨y.2.1, z.2.2.1, y.2.2.1, y.2.2.2⟩
            · exact absurd y.1 (by decide)
            · exact absurd rfl y.1
          · exact absurd z.1 (by decide)
          · exact absurd z.1 (by decide)
        · intro z
          exact Or.inr (Or.inl ⟨Or.inl rfl, by omega, z.2.1, Or.inl ⟨rfl, z.1, z.2.2.1, z.2.2.2⟩⟩)
      have go : ∀ {r : Int32 × XM}, FLP X (I.d < 10 ∧ I.s < 11 ∧ I.i = 0 ∧ (md I.c = 3 ∨ (md I.c = 4 ∧ sz I.c < 8))) r → FLP X ((kd I.c = 0 ∧ okW I all p (imB B (8 * p + 8) = 0)) ∨ ((kd I.c = 1 ∨ kd I.c = 2 ∨ kd I.c = 3) ∧ okC I) ∨ ((kd I.c = 5 ∨ kd I.c = 6) ∧ okJ I) ∨ ((kd I.c = 4 ∨ kd I.c = 7) ∧ okA I)) r := fun {r} y => ⟨y.1.iff P.symm, y.2⟩
      refine go (FLP.ite (fun ci => FLP.ite (fun y => FLP.ff (fun z => ld10.mp y z.1)) (fun y => FLP.ite (fun y2 => FLP.ff (fun z => ls11.mp y2 z.2.1)) (fun y2 => FLP.ite (fun y3 => FLP.tt ?_) (fun y3 => FLP.ite (fun y4 => FLP.ite (fun y5 => FLP.ff ?_) (fun y5 => FLP.tt ?_)) (fun y4 => FLP.ff ?_))))) (fun ci => FLP.ff (fun z => ci z.2.2.1)))
      · exact ⟨Decidable.not_not.mp (fun z => y (ld10.mpr z)), Decidable.not_not.mp (fun z => y2 (ls11.mpr z)), ci, Or.inl y3⟩
      · exact fun z => z.2.2.2.elim y3 (fun z => z8.mp y5 z.2)
      · exact ⟨Decidable.not_not.mp (fun z => y (ld10.mpr z)), Decidable.not_not.mp (fun z => y2 (ls11.mpr z)), ci, Or.inr ⟨y4, Decidable.not_not.mp (fun z => y5 (z8.mpr z))⟩⟩
      · exact fun z => z.2.2.2.elim y3 (fun z => y4 z.1)
    rw [if_neg c1]
    by_cases c2 : kd I.c = 2
    · rw [if_pos c2]
      have P : ((kd I.c = 0 ∧ okW I all p (imB B (8 * p + 8) = 0)) ∨ ((kd I.c = 1 ∨ kd I.c = 2 ∨ kd I.c = 3) ∧ okC I) ∨ ((kd I.c = 5 ∨ kd I.c = 6) ∧ okJ I) ∨ ((kd I.c = 4 ∨ kd I.c = 7) ∧ okA I)) ↔ (I.s = 0 ∧ I.d < 11 ∧ md I.c = 3) := by
        unfold okC
        rw [c2]
        constructor
        · rintro (z | z | z | z)
          · exact absurd z.1 (by decide)
          · rcases z.2.2.2 with y | y | y
            · exact absurd y.1 (by decide)
            · exact ⟨y.2.1, z.2.1, y.2.2⟩
            · exact absurd rfl y.2.1
          · exact absurd z.1 (by decide)
          · exact absurd z.1 (by decide)
        · intro z
          exact Or.inr (Or.inl ⟨Or.inr (Or.inl rfl), z.2.1, by omega, Or.inr (Or.inl ⟨rfl, z.1, z.2.2⟩)⟩)
      have go : ∀ {r : Int32 × XM}, FLP X (I.s = 0 ∧ I.d < 11 ∧ md I.c = 3) r → FLP X ((kd I.c = 0 ∧ okW I all p (imB B (8 * p + 8) = 0)) ∨ ((kd I.c = 1 ∨ kd I.c = 2 ∨ kd I.c = 3) ∧ okC I) ∨ ((kd I.c = 5 ∨ kd I.c = 6) ∧ okJ I) ∨ ((kd I.c = 4 ∨ kd I.c = 7) ∧ okA I)) r := fun {r} y => ⟨y.1.iff P.symm, y.2⟩
      exact go (FLP.ite (fun y => FLP.ite (fun y2 => FLP.ff (fun z => ld11.mp y2 z.2.1)) (fun y2 => FLP.ite (fun y3 => FLP.tt ⟨zs.mp y, Decidable.not_not.mp (fun z => y2 (ld11.mpr z)), y3⟩) (fun y3 => FLP.ff (fun z => y3 z.2.2)))) (fun y => FLP.ff (fun z => y (zs.mpr z.1))))
    rw [if_neg c2]
    by_cases c3 : kd I.c = 3
    · rw [if_pos c3]
      have P : ((kd I.c = 0 ∧ okW I all p (imB B (8 * p + 8) = 0)) ∨ ((kd I.c = 1 ∨ kd I.c = 2 ∨ kd I.c = 3) ∧ okC I) ∨ ((kd I.c = 5 ∨ kd I.c = 6) ∧ okJ I) ∨ ((kd I.c = 4 ∨ kd I.c = 7) ∧ okA I)) ↔ (I.d < 11 ∧ I.s < 11 ∧ ((md I.c = 3 ∧ I.i = 0) ∨ (md I.c = 6 ∧ okT I))) := by
        unfold okC
        rw [c3]
        constructor
        · rintro (z | z | z | z)
          · exact absurd z.1 (by decide)
          · rcases z.2.2.2 with y | y | y
            · exact absurd y.1 (by decide)
            · exact absurd y.1 (by decide)
            · exact ⟨z.2.1, z.2.2.1, y.2.2⟩
          · exact absurd z.1 (by decide)
          · exact absurd z.1 (by decide)
        · intro z
          exact Or.inr (Or.inl ⟨Or.inr (Or.inr rfl), z.1, z.2.1, Or.inr (Or.inr ⟨by decide, by decide, z.2.2⟩)⟩)
      have go : ∀ {r : Int32 × XM}, FLP X (I.d < 11 ∧ I.s < 11 ∧ ((md I.c = 3 ∧ I.i = 0) ∨ (md I.c = 6 ∧ okT I))) r → FLP X ((kd I.c = 0 ∧ okW I all p (imB B (8 * p + 8) = 0)) ∨ ((kd I.c = 1 ∨ kd I.c = 2 ∨ kd I.c = 3) ∧ okC I) ∨ ((kd I.c = 5 ∨ kd I.c = 6) ∧ okJ I) ∨ ((kd I.c = 4 ∨ kd I.c = 7) ∧ okA I)) r := fun {r} y => ⟨y.1.iff P.symm, y.2⟩
      refine go (FLP.ite (fun m3 => ?_) (fun m3 => FLP.ite (fun m6 => FLP.ite (fun y => FLP.ff (fun z => ?_)) (fun y => FLP.tt ?_)) (fun m6 => FLP.ff (fun z => z.2.2.elim (fun z => m3 z.1) (fun z => m6 z.1)))))
      · have n6 : ¬ md I.c = 6 := by rw [m3]; decide
        exact FLP.ite (fun y => FLP.ite (fun y2 => FLP.ff (fun z => ld11.mp y2 z.1)) (fun y2 => FLP.ite (fun y3 => FLP.ff (fun z => ls11.mp y3 z.2.1)) (fun y3 => FLP.tt ⟨Decidable.not_not.mp (fun z => y2 (ld11.mpr z)), Decidable.not_not.mp (fun z => y3 (ls11.mpr z)), Or.inl ⟨m3, y⟩⟩))) (fun y => FLP.ff (fun z => z.2.2.elim (fun z => y z.2) (fun z => n6 z.1)))
      · exact at1.z.mp y ⟨z.1, z.2.1, z.2.2.elim (fun q => absurd q.1 m3) (fun q => q.2)⟩
      · obtain ⟨q1, q2, q3⟩ := at1.zn.mp y
        exact ⟨q1, q2, Or.inr ⟨m6, q3⟩⟩
    rw [if_neg c3]
    by_cases c4 : kd I.c = 4
    · rw [if_pos c4]
      refine ⟨(ar (Or.inl c4)).1.jz.iff ⟨fun z => Or.inr (Or.inr (Or.inr ⟨Or.inl c4, z⟩)), fun z => ?_⟩, rfl⟩
      rcases z with z | z | z | z
      · rw [c4] at z; exact absurd z.1 (by decide)
      · rw [c4] at z; exact absurd z.1 (by decide)
      · rw [c4] at z; exact absurd z.1 (by decide)
      · exact z.2
    rw [if_neg c4]
    by_cases c5 : kd I.c = 5
    · rw [if_pos c5]
      refine ⟨(jp (Or.inl c5)).1.jz.iff ⟨fun z => Or.inr (Or.inr (Or.inl ⟨Or.inl c5, z⟩)), fun z => ?_⟩, rfl⟩
      rcases z with z | z | z | z
      · rw [c5] at z; exact absurd z.1 (by decide)
      · rw [c5] at z; exact absurd z.1 (by decide)
      · exact z.2
      · rw [c5] at z; exact absurd z.1 (by decide)
    rw [if_neg c5]
    by_cases c6 : kd I.c = 6
    · rw [if_pos c6]
      refine ⟨(jp (Or.inr c6)).1.jz.iff ⟨fun z => Or.inr (Or.inr (Or.inl ⟨Or.inr c6, z⟩)), fun z => ?_⟩, rfl⟩
      rcases z with z | z | z | z
      · rw [c6] at z; exact absurd z.1 (by decide)
      · rw [c6] at z; exact absurd z.1 (by decide)
      · exact z.2
      · rw [c6] at z; exact absurd z.1 (by decide)
    rw [if_neg c6]
    by_cases c7 : kd I.c = 7
    · rw [if_pos c7]
      refine ⟨(ar (Or.inr c7)).1.jz.iff ⟨fun z => Or.inr (Or.inr (Or.inr ⟨Or.inr c7, z⟩)), fun z => ?_⟩, rfl⟩
      rcases z with z | z | z | z
      · rw [c7] at z; exact absurd z.1 (by decide)
      · rw [c7] at z; exact absurd z.1 (by decide)
      · rw [c7] at z; exact absurd z.1 (by decide)
      · exact z.2
    rw [if_neg c7]
    have c0 : kd I.c = 0 := by
      rcases kl with e | e | e | e | e | e | e | e
      · exact e
      · exact absurd e c1
      · exact absurd e c2
      · exact absurd e c3
      · exact absurd e c4
      · exact absurd e c5
      · exact absurd e c6
      · exact absurd e c7
    have P : ((kd I.c = 0 ∧ okW I all p (imB B (8 * p + 8) = 0)) ∨ ((kd I.c = 1 ∨ kd I.c = 2 ∨ kd I.c = 3) ∧ okC I) ∨ ((kd I.c = 5 ∨ kd I.c = 6) ∧ okJ I) ∨ ((kd I.c = 4 ∨ kd I.c = 7) ∧ okA I)) ↔ okW I all p (imB B (8 * p + 8) = 0) := by
      rw [c0]
      constructor
      · rintro (z | z | z | z)
        · exact z.2
        · exact absurd z.1 (by decide)
        · exact absurd z.1 (by decide)
        · exact absurd z.1 (by decide)
      · intro z; exact Or.inl ⟨rfl, z⟩
    have go : ∀ {r : Int32 × XM}, FLP X (okW I all p (imB B (8 * p + 8) = 0)) r → FLP X ((kd I.c = 0 ∧ okW I all p (imB B (8 * p + 8) = 0)) ∨ ((kd I.c = 1 ∨ kd I.c = 2 ∨ kd I.c = 3) ∧ okC I) ∨ ((kd I.c = 5 ∨ kd I.c = 6) ∧ okJ I) ∨ ((kd I.c = 4 ∨ kd I.c = 7) ∧ okA I)) r := fun {r} y => ⟨y.1.iff P.symm, y.2⟩
    unfold okW at go ⊢
    refine go (FLP.ite (fun y1 => bad (fun z => wd.1.z.mp y1 z.1)) (fun y1 => FLP.ite (fun y2 => bad (fun z => ld10.mp y2 z.2.1)) (fun y2 => FLP.ite (fun y3 => bad (fun z => t2.mp y3 z.2.2.1)) (fun y3 => FLP.ite (fun y4 => FLP.ite (fun y5 => bad (fun z => ?_)) (fun y5 => ?_)) (fun y4 => bad (fun z => y4 z.2.2.2.1))))))
    · have := lec.mp y5
      omega
    · have q1 : p + 1 < all := by have : ¬ all ≤ p + 1 := fun q => y5 (lec.mpr q); omega
      obtain ⟨_, x2, x3⟩ := A254 1 (fun _ => q1)
      exact ⟨x2.iff ⟨fun z => ⟨wd.1.zn.mp y1, Decidable.not_not.mp (fun q => y2 (ld10.mpr q)), Decidable.not_not.mp (fun q => y3 (t2.mpr q)), y4, q1, z.2⟩, fun z => ⟨i1_0, z.2.2.2.2.2⟩⟩, x3⟩
end TI
