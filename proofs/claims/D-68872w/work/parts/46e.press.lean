/-! part 46e: the component's Press.tighten computes the tight form -/
def gv6 (M : XM) (r : Nat) : AV := (mL M r 0, mL M r 1, mL M r 2, mL M r 3, mL M r 4, mL M r 5)
theorem between_hi {f l x t : Nat} (h : ∀ j, t < j → f.testBit j = l.testBit j) (h1 : f ≤ x) (h2 : x ≤ l) (j : Nat) (hj : t < j) : x.testBit j = f.testBit j := by
  have e : f >>> (t + 1) = l >>> (t + 1) := Nat.eq_of_testBit_eq fun i => by
    rw [Nat.testBit_shiftRight, Nat.testBit_shiftRight]; exact h _ (by omega)
  have e2 : x >>> (t + 1) = f >>> (t + 1) := by
    rw [Nat.shiftRight_eq_div_pow] at e ⊢
    rw [Nat.shiftRight_eq_div_pow] at e ⊢
    have a1 := Nat.div_le_div_right (c := 2 ^ (t + 1)) h1
    have a2 := Nat.div_le_div_right (c := 2 ^ (t + 1)) h2
    omega
  have e3 := congrArg (fun n => n.testBit (j - (t + 1))) e2
  simp only [Nat.testBit_shiftRight] at e3
  rw [show t + 1 + (j - (t + 1)) = j by omega] at e3
  exact e3
/-- a piece with its open bits -/
theorem isP_pc {a b v u f l : Int64} {S : Int64 → Prop} {p : Nat} {M : XM} (h : IsP a b v u f l) (hvu : v &&& u = 0) (hS : ∀ x, S x ↔ Ag u v x ∧ un a ≤ un x ∧ un x ≤ un b) (hf : mL M p 1 = f) (hl : mL M p 2 = l) : Pc S f l (g_Piece_open p u M) := by
  have h0 := id h
  obtain ⟨p1, p2, p3, p4, p5, p6⟩ := h0
  have sf : S f := (hS f).mpr ⟨p1, p3, Nat.le_trans p5 p4⟩
  have sl : S l := (hS l).mpr ⟨p2, Nat.le_trans p3 p5, p4⟩
  have hb : ∀ x, S x → un f ≤ un x ∧ un x ≤ un l := fun x hx => by
    obtain ⟨q1, q2, q3⟩ := (hS x).mp hx
    exact p6 x q1 q2 q3
  unfold g_Piece_open g_Piece_open_0 g_Piece_open_13
  rw [hf, hl]
  by_cases hfl : f = l
  · have hz : f ^^^ l = 0 := by rw [hfl]; exact tb_ext fun j _ => by rw [tb_xor, tb_zero]; simp
    rw [hz, hob_0, if_pos (cmp_eq.mpr rfl)]
    refine ⟨sf, sl, hb, (fun j hj => by rw [tb_zero] at hj; cases hj), fun x hx j _ => ?_⟩
    have := hb x hx
    rw [← hfl] at this
    rw [un_inj (Nat.le_antisymm this.2 this.1)]
  · obtain ⟨t, t1, t2, t3, t4, t5, t6⟩ := h.opens hvu hfl
    have hm := tb_mask t1 t2 t3
    generalize g_Long_highestOneBit (f ^^^ l) = top at t2 t3 hm ⊢
    have hne : top ≠ 0 := fun e => by
      have := t3 t
      rw [e, tb_zero] at this
      simp at this
    rw [if_neg (fun e => hne (cmp_eq.mp e))]
    refine ⟨sf, sl, hb, fun j hj => ?_, fun x hx j hj => ?_⟩
    · rw [tb_and, hm j, Bool.and_eq_true, decide_eq_true_eq] at hj
      obtain ⟨x, y, hx, hy, hxy⟩ := t6 j hj.2 hj.1
      exact ⟨x, y, (hS x).mpr hx, (hS y).mpr hy, hxy⟩
    · rw [tb_and, hm j] at hj
      cases huj : tb u j with
      | false => rw [((hS x).mp hx).1 j huj, p1 j huj]
      | true =>
        have hjt : t < j := by
          rw [huj, Bool.true_and, decide_eq_false_iff_not] at hj
          omega
        have := hb x hx
        rw [tb_un, tb_un]
        exact between_hi (fun i hi => by rw [← tb_un, ← tb_un]; exact t4 i hi) this.1 this.2 j hjt
/-- what a piece says of a half -/
def PS (M : XM) (p : Nat) (u : Int64) (S : Int64 → Prop) : Prop := (mI M p 0 = 1 ∧ Pc S (mL M p 1) (mL M p 2) (g_Piece_open p u M)) ∨ (mI M p 0 = 0 ∧ ∀ x, ¬ S x)
theorem PS.take {a b v u : Int64} {S : Int64 → Prop} {p : Nat} {M : XM} (hvu : v &&& u = 0) (hT : mT M p = 8) (hS : ∀ x, S x ↔ Ag u v x ∧ un a ≤ un x ∧ un x ≤ un b) : PS (g_Piece_take p a b v u M) p u S := by
  obtain ⟨-, -, h⟩ := take_ok (a := a) (b := b) hvu hT
  rcases h with ⟨h1, h2⟩ | ⟨h1, h2⟩
  · exact Or.inl ⟨h1, isP_pc h2 hvu hS rfl rfl⟩
  · exact Or.inr ⟨h1, fun x hx => by
      obtain ⟨q1, q2, q3⟩ := (hS x).mp hx
      exact h2 x q1 q2 q3⟩
theorem PS.miss {u : Int64} {S : Int64 → Prop} {p : Nat} {M : XM} (hS : ∀ x, ¬ S x) : PS (g_Piece_miss p M) p u S := Or.inr ⟨mI_same, hS⟩
theorem PS.kept {M M' : XM} {p q : Nat} {u : Int64} {S : Int64 → Prop} (h : PS M p u S) (hx : OnlyX q M M') (hpq : p ≠ q) : PS M' p u S := by
  have e1 := hx.2.1 p 0 hpq
  have e2 := hx.2.2 p 1 hpq
  have e3 := hx.2.2 p 2 hpq
  unfold PS g_Piece_open g_Piece_open_0
  rw [e1, e2, e3]
  exact h
theorem or_zero (a : Int64) : a ||| 0 = a := tb_ext fun j _ => by rw [tb_or, tb_zero]; simp
theorem zero_or (a : Int64) : 0 ||| a = a := tb_ext fun j _ => by rw [tb_or, tb_zero]; simp
/-- behind both pieces -/
theorem press_122 {x0 x1 p q : Nat} {M : XM} {w : AV} (hp : mR M x0 0 = p) (hq : mR M x0 1 = q) (t0 : mT M x0 = 7) (tp : mT M p = 8) (tq : mT M q = 8) (t1 : mT M x1 = 10) (hw : gv6 M x1 = w)
    (h1 : PS M p w.u (fun x => vin w x ∧ un x < 9223372036854775808)) (h2 : PS M q w.u (fun x => vin w x ∧ ¬ un x < 9223372036854775808)) :
    K_Press_tighten_122 x0 x1 M ∧ OnlyX x1 M (g_Press_tighten_122 x0 x1 M).2 ∧ (∀ j, mI (g_Press_tighten_122 x0 x1 M).2 x1 j = mI M x1 j) ∧
    (((g_Press_tighten_122 x0 x1 M).1 = 1 ∧ IsT (vin w) (gv6 (g_Press_tighten_122 x0 x1 M).2 x1)) ∨ ((g_Press_tighten_122 x0 x1 M).1 = 0 ∧ (∀ x, ¬ vin w x) ∧ gv6 (g_Press_tighten_122 x0 x1 M).2 x1 = w)) := by
  have hp1 : p ≠ x1 := fun e => by rw [e, t1] at tp; exact absurd tp (by decide)
  have hq1 : q ≠ x1 := fun e => by rw [e, t1] at tq; exact absurd tq (by decide)
  have hu : mL M x1 1 = w.u := by rw [← hw]; rfl
  have n10 : ((1 : Int32) = 0) = False := by simp
  have cp : ∀ (a b : Int64) (k : Nat), mL (g_Value_unsigned x1 a b M) p k = mL M p k := fun a b k => by
    unfold g_Value_unsigned g_Value_unsigned_0
    rw [mL_wL, if_neg (fun z => hp1 z.1), mL_wL, if_neg (fun z => hp1 z.1)]
  have cq : ∀ (a b : Int64) (k : Nat), mL (g_Value_unsigned x1 a b M) q k = mL M q k := fun a b k => by
    unfold g_Value_unsigned g_Value_unsigned_0
    rw [mL_wL, if_neg (fun z => hq1 z.1), mL_wL, if_neg (fun z => hq1 z.1)]
  have ci : ∀ (a b : Int64) (r k : Nat), mI (g_Value_unsigned x1 a b M) r k = mI M r k := fun _ _ _ _ => rfl
  have cr : ∀ (a b : Int64) (r k : Nat), mR (g_Value_unsigned x1 a b M) r k = mR M r k := fun _ _ _ _ => rfl
  have ct : ∀ (a b : Int64) (r : Nat), mT (g_Value_unsigned x1 a b M) r = mT M r := fun _ _ _ => rfl
  have fin : ∀ (a b c d e f : Int64), gv6 (g_Value_say x1 a b (g_Value_signed x1 c d (g_Value_unsigned x1 e f M))) x1 = (a &&& (b ^^^ (-1)), b, e, f, c, d) := by
    intro a b c d e f
    unfold gv6 g_Value_say g_Value_say_0 g_Value_signed g_Value_signed_0 g_Value_unsigned g_Value_unsigned_0
    simp [mL_wL]
  have fx : ∀ (a b c d e f : Int64), OnlyX x1 M (g_Value_say x1 a b (g_Value_signed x1 c d (g_Value_unsigned x1 e f M))) := by
    intro a b c d e f
    exact OnlyX.wl.trans (OnlyX.wl.trans (OnlyX.wl.trans (OnlyX.wl.trans (OnlyX.wl.trans OnlyX.wl))))
  unfold g_Press_tighten_122 K_Press_tighten_122
  rw [hp, hq]
  rcases h1 with ⟨a1, a2⟩ | ⟨a1, a2⟩ <;> rcases h2 with ⟨b1, b2⟩ | ⟨b1, b2⟩
  · have e : g_Press_tighten_144 x0 x1 M = (1, g_Value_say x1 (mL M p 1) ((g_Piece_open p w.u M ||| g_Piece_open q w.u M) ||| (mL M p 1 ^^^ mL M q 1)) (g_Value_signed x1 (mL M q 1) (mL M p 2) (g_Value_unsigned x1 (mL M p 1) (mL M q 2) M))) := by
      unfold g_Press_tighten_144 g_Press_tighten_169 g_Press_tighten_195 g_Press_tighten_236 g_Press_tighten_265 g_Press_tighten_297 g_Press_tighten_300 g_Press_tighten_328 g_Press_tighten_355 g_Press_tighten_358 g_Press_tighten_371
      simp only [cr, ci, cp, cq, hp, hq, a1, b1, hu, n10, if_false]
    have kk : K_Press_tighten_144 x0 x1 M := by
      unfold K_Press_tighten_144 K_Press_tighten_169 K_Press_tighten_195 K_Press_tighten_235 K_Press_tighten_236 K_Press_tighten_265 K_Press_tighten_297 K_Press_tighten_300 K_Press_tighten_328 K_Press_tighten_355 K_Press_tighten_358 K_Value_say K_Value_say_0 K_Value_signed K_Value_signed_0 K_Value_unsigned K_Value_unsigned_0 K_Piece_open K_Piece_open_0
      simp only [cr, ci, ct, hp, hq, a1, b1, t0, tp, tq, t1, n10, false_implies, not_false_eq_true, true_implies, and_self, true_and, and_true]
      exact t1
    rw [a1, if_neg (by decide : ¬ (1 : Int32) = 0), e]
    refine ⟨⟨t0, tp, fun z => absurd z (by decide), fun _ => kk⟩, fx _ _ _ _ _ _, fun _ => rfl, Or.inl ⟨rfl, ?_⟩⟩
    rw [fin]
    exact isT_two a2 b2 (fun x => ⟨fun hx => by by_cases c : un x < 9223372036854775808 <;> simp [hx, c], fun hx => hx.elim (·.1) (·.1)⟩) (fun x hx => hx.2) (fun x hx => hx.2)
  · have e : g_Press_tighten_144 x0 x1 M = (1, g_Value_say x1 (mL M p 1) ((g_Piece_open p w.u M ||| 0) ||| 0) (g_Value_signed x1 (mL M p 1) (mL M p 2) (g_Value_unsigned x1 (mL M p 1) (mL M p 2) M))) := by
      unfold g_Press_tighten_144 g_Press_tighten_169 g_Press_tighten_195 g_Press_tighten_235 g_Press_tighten_236 g_Press_tighten_265 g_Press_tighten_297 g_Press_tighten_300 g_Press_tighten_328 g_Press_tighten_355 g_Press_tighten_358 g_Press_tighten_371
      simp only [cr, ci, cp, cq, hp, hq, a1, b1, hu, n10, if_false, if_true]
    have kk : K_Press_tighten_144 x0 x1 M := by
      unfold K_Press_tighten_144 K_Press_tighten_169 K_Press_tighten_195 K_Press_tighten_235 K_Press_tighten_236 K_Press_tighten_265 K_Press_tighten_297 K_Press_tighten_300 K_Press_tighten_328 K_Press_tighten_355 K_Press_tighten_358 K_Value_say K_Value_say_0 K_Value_signed K_Value_signed_0 K_Value_unsigned K_Value_unsigned_0 K_Piece_open K_Piece_open_0
      simp only [cr, ci, ct, hp, hq, a1, b1, t0, tp, tq, t1, n10, false_implies, not_false_eq_true, not_true_eq_false, true_implies, and_self, true_and, and_true]
      exact t1
    rw [a1, if_neg (by decide : ¬ (1 : Int32) = 0), e]
    refine ⟨⟨t0, tp, fun z => absurd z (by decide), fun _ => kk⟩, fx _ _ _ _ _ _, fun _ => rfl, Or.inl ⟨rfl, ?_⟩⟩
    rw [fin, or_zero, or_zero]
    refine (isT_one a2 (Or.inl fun x hx => hx.2)).iff fun x => ⟨fun hx => hx.1, fun hx => ⟨hx, ?_⟩⟩
    exact Classical.byContradiction fun c => b2 x ⟨hx, c⟩
  · have e : g_Press_tighten_144 x0 x1 M = (1, g_Value_say x1 (mL M q 1) ((0 ||| g_Piece_open q w.u M) ||| 0) (g_Value_signed x1 (mL M q 1) (mL M q 2) (g_Value_unsigned x1 (mL M q 1) (mL M q 2) M))) := by
      unfold g_Press_tighten_144 g_Press_tighten_169 g_Press_tighten_195 g_Press_tighten_235 g_Press_tighten_236 g_Press_tighten_265 g_Press_tighten_297 g_Press_tighten_300 g_Press_tighten_328 g_Press_tighten_355 g_Press_tighten_358 g_Press_tighten_371
      simp only [cr, ci, cp, cq, hp, hq, a1, b1, hu, n10, if_false, if_true]
    have kk : K_Press_tighten_144 x0 x1 M := by
      unfold K_Press_tighten_144 K_Press_tighten_169 K_Press_tighten_195 K_Press_tighten_235 K_Press_tighten_236 K_Press_tighten_265 K_Press_tighten_297 K_Press_tighten_300 K_Press_tighten_328 K_Press_tighten_355 K_Press_tighten_358 K_Value_say K_Value_say_0 K_Value_signed K_Value_signed_0 K_Value_unsigned K_Value_unsigned_0 K_Piece_open K_Piece_open_0
      simp only [cr, ci, ct, hp, hq, a1, b1, t0, tp, tq, t1, n10, false_implies, not_false_eq_true, not_true_eq_false, true_implies, and_self, true_and, and_true]
      exact t1
    rw [a1, if_pos rfl, b1, if_neg (by decide : ¬ (1 : Int32) = 0), e]
    refine ⟨⟨t0, tp, fun _ => ⟨t0, tq, fun _ => kk⟩, fun z => absurd rfl z⟩, fx _ _ _ _ _ _, fun _ => rfl, Or.inl ⟨rfl, ?_⟩⟩
    rw [fin, or_zero, zero_or]
    refine (isT_one b2 (Or.inr fun x hx => hx.2)).iff fun x => ⟨fun hx => hx.1, fun hx => ⟨hx, fun c => a2 x ⟨hx, c⟩⟩⟩
  · rw [a1, if_pos rfl, b1, if_pos rfl]
    refine ⟨⟨t0, tp, fun _ => ⟨t0, tq, fun z => absurd rfl z⟩, fun z => absurd rfl z⟩, OnlyX.rf, fun _ => rfl, Or.inr ⟨rfl, fun x hx => ?_, hw⟩⟩
    by_cases c : un x < 9223372036854775808
    · exact a2 x ⟨hx, c⟩
    · exact b2 x ⟨hx, c⟩
