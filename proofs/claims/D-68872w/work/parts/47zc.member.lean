/-! part 47zc: there is always a number: members of what operations say -/
theorem free_in (x : Int64) : vin vFree x := by
  have hx := un_lt x
  have k := toInt_un x
  refine ⟨fun j hj => ?_, ?_, ?_, ?_, ?_⟩
  · have hj' : tb (-1) j = false := hj
    rw [tb_ones] at hj'
    have : 64 ≤ j := Nat.not_lt.mp (of_decide_eq_false hj')
    rw [tb_ge this, tb_ge this]
  · show un 0 ≤ un x; exact Nat.zero_le _
  · show un x ≤ un (-1); rw [show un (-1) = 18446744073709551615 from rfl]; omega
  · show (-9223372036854775808 : Int64).toInt ≤ x.toInt; rw [show (-9223372036854775808 : Int64).toInt = -9223372036854775808 from rfl]; split at k <;> omega
  · show x.toInt ≤ (9223372036854775807 : Int64).toInt; rw [show (9223372036854775807 : Int64).toInt = 9223372036854775807 from rfl]; split at k <;> omega
theorem in_say {a u x : Int64} (h : Ag u (a &&& (u ^^^ (-1))) x) : vin (vFree.say a u) x := ⟨h, (free_in x).2⟩
theorem in_uns {w : AV} {l h x : Int64} (hw : vin w x) (h1 : un l ≤ un x) (h2 : un x ≤ un h) : vin (w.uns l h) x := ⟨hw.1, h1, h2, hw.2.2.2⟩
theorem in_sgn {w : AV} {l h x : Int64} (hw : vin w x) (h1 : l.toInt ≤ x.toInt) (h2 : x.toInt ≤ h.toInt) : vin (w.sgn l h) x := ⟨hw.1, hw.2.1, hw.2.2.1, h1, h2⟩
theorem in_unsIf {w : AV} {c : Prop} [Decidable c] {l h x : Int64} (hw : vin w x) (hc : c → un l ≤ un x ∧ un x ≤ un h) : vin (w.unsIf c l h) x := by
  unfold AV.unsIf
  split
  · rename_i z; exact in_uns hw (hc z).1 (hc z).2
  · exact hw
theorem in_sgnIf {w : AV} {c : Prop} [Decidable c] {l h x : Int64} (hw : vin w x) (hc : c → l.toInt ≤ x.toInt ∧ x.toInt ≤ h.toInt) : vin (w.sgnIf c l h) x := by
  unfold AV.sgnIf
  split
  · rename_i z; exact in_sgn hw (hc z).1 (hc z).2
  · exact hw
theorem not0 {p : Int32} {P : Prop} (h : p = 1 ∧ P ∨ p = 0 ∧ ¬ P) (hp : ¬ p = 0) : P := h.elim (fun z => z.2) (fun z => absurd z.1 hp)
theorem ne_add {x y : AV} (bx : bu x) (bY : bu y) {a b : Int64} (ha : vin x a) (hb : vin y b) : vin (oAdd vFree x y) (a + b) := by
  obtain ⟨a1, a2, a3, a4, a5⟩ := ha
  obtain ⟨b1, b2, b3, b4, b5⟩ := hb
  refine in_sgnIf (in_unsIf (in_say (sum_ag bx bY a1 b1)) fun c => ?_) fun c => ?_
  · rw [isLess_01, isLess_01] at c
    have h1 := un_add x.lo y.lo
    have h2 := un_add x.hi y.hi
    have h3 := un_add a b
    have := un_lt x.lo
    have := un_lt x.hi
    have := un_lt y.lo
    have := un_lt y.hi
    by_cases c1 : un (x.lo + y.lo) < un x.lo <;> by_cases c2 : un (x.hi + y.hi) < un x.hi
    · omega
    · rw [if_pos c1, if_neg c2] at c; exact absurd c (by decide)
    · rw [if_neg c1, if_pos c2] at c; exact absurd c (by decide)
    · omega
  · have p1 := not0 (isSum_01 _ _) c.1
    have p2 := not0 (isSum_01 _ _) c.2
    have p3 : isJ64 (a.toInt + b.toInt) := by unfold isJ64 at *; omega
    rw [add_J p1, add_J p2, add_J p3]
    omega
theorem ne_sub {x y : AV} (bx : bu x) (bY : bu y) {a b : Int64} (ha : vin x a) (hb : vin y b) : vin (oSub vFree x y) (a - b) := by
  obtain ⟨a1, a2, a3, a4, a5⟩ := ha
  obtain ⟨b1, b2, b3, b4, b5⟩ := hb
  refine in_sgnIf (in_unsIf (in_say (sub_ag bx bY a1 b1)) fun c => ?_) fun c => ?_
  · rw [isLess_01, isLess_01] at c
    have h1 := un_sub x.lo y.hi
    have h2 := un_sub x.hi y.lo
    have h3 := un_sub a b
    have := un_lt x.lo
    have := un_lt x.hi
    have := un_lt y.lo
    have := un_lt y.hi
    by_cases c1 : un x.lo < un y.hi <;> by_cases c2 : un x.hi < un y.lo
    · omega
    · rw [if_pos c1, if_neg c2] at c; exact absurd c (by decide)
    · rw [if_neg c1, if_pos c2] at c; exact absurd c (by decide)
    · omega
  · have p1 := not0 (isDiff_01 _ _) c.1
    have p2 := not0 (isDiff_01 _ _) c.2
    have p3 : isJ64 (a.toInt - b.toInt) := by unfold isJ64 at *; omega
    rw [sub_J p1, sub_J p2, sub_J p3]
    omega
theorem ne_and {x y : AV} (bx : bu x) (bY : bu y) {a b : Int64} (ha : vin x a) (hb : vin y b) : vin (oAnd vFree x y) (a &&& b) := by
  obtain ⟨a1, a2, a3, a4, a5⟩ := ha
  obtain ⟨b1, b2, b3, b4, b5⟩ := hb
  refine in_uns (in_say fun j hj => ?_) (Nat.zero_le _) ?_
  · by_cases h64 : j < 64
    · have e1 := a1 j
      have e2 := b1 j
      have n1 := vb_f bx j
      have n2 := vb_f bY j
      rw [tb_and, tb_and, tb_or, tb_or, tb_cpl, tb_and] at hj
      rw [tb_and, tb_and, tb_and, tb_cpl, tb_and, tb_and, tb_or, tb_or, tb_cpl, tb_and]
      cases c1 : tb x.u j <;> cases c2 : tb y.u j <;> cases c3 : tb x.b j <;> cases c4 : tb y.b j <;> simp_all
    · rw [tb_ge (by omega), tb_ge (by omega)]
  · have h1 : un (a &&& b) ≤ un a := tb_le fun j hj => by rw [tb_and, Bool.and_eq_true] at hj; exact hj.1
    have h2 : un (a &&& b) ≤ un b := tb_le fun j hj => by rw [tb_and, Bool.and_eq_true] at hj; exact hj.2
    rw [lesser_un]
    split <;> omega
theorem ne_or {x y : AV} (bx : bu x) (bY : bu y) {a b : Int64} (ha : vin x a) (hb : vin y b) : vin (oOr vFree x y) (a ||| b) := by
  obtain ⟨a1, a2, a3, a4, a5⟩ := ha
  obtain ⟨b1, b2, b3, b4, b5⟩ := hb
  refine in_uns (in_say fun j hj => ?_) ?_ (free_in _).2.2.1
  · by_cases h64 : j < 64
    · have e1 := a1 j
      have e2 := b1 j
      have n1 := vb_f bx j
      have n2 := vb_f bY j
      rw [tb_and, tb_or, tb_cpl, tb_or] at hj
      rw [tb_or, tb_and, tb_or, tb_cpl, tb_and, tb_or, tb_cpl, tb_or]
      cases c1 : tb x.u j <;> cases c2 : tb y.u j <;> cases c3 : tb x.b j <;> cases c4 : tb y.b j <;> simp_all
    · rw [tb_ge (by omega), tb_ge (by omega)]
  · have h1 : un a ≤ un (a ||| b) := tb_le fun j hj => by rw [tb_or, hj]; rfl
    have h2 : un b ≤ un (a ||| b) := tb_le fun j hj => by rw [tb_or, hj]; simp
    rw [greater_un]
    split <;> omega
theorem ne_xor {x y : AV} : vin (oXor vFree x y) ((x.b ^^^ y.b) &&& ((x.u ||| y.u) ^^^ (-1))) := in_say fun _ _ => rfl
theorem ne_div {x y : AV} {a b : Int64} (ha : vin x a) (hb : vin y b) : ∃ z, vin (oDiv vFree x y) z := by
  unfold oDiv
  by_cases c : lg_cmp y.lo 0 = 0
  · rw [if_pos c]
    exact ⟨0, in_uns (free_in 0) (Nat.zero_le _) (Nat.zero_le _)⟩
  · rw [if_neg c]
    refine ⟨g_Sieve_divide x.lo y.hi, in_uns (free_in _) (Nat.le_refl _) ?_⟩
    rw [divide_un, divide_un]
    have h0 : 0 < un y.lo := Nat.pos_of_ne_zero fun z => c (cmp_eq.mpr (un_inj z))
    have h1 := Nat.le_trans ha.2.1 ha.2.2.1
    have h2 := Nat.le_trans hb.2.1 hb.2.2.1
    exact Nat.le_trans (Nat.div_le_div_right h1) (Nat.div_le_div_left h2 h0)
theorem ne_rest {x y : AV} {a : Int64} (ha : vin x a) : ∃ z, vin (oRest vFree x y) z := by
  unfold oRest
  split
  · split
    · exact ⟨0, in_uns (free_in 0) (Nat.zero_le _) (Nat.zero_le _)⟩
    · exact ⟨0, in_uns (free_in 0) (Nat.zero_le _) (Nat.zero_le _)⟩
  · exact ⟨a, ha⟩
/-- a tight form for whatever has a number -/
theorem tt_ex {w : AV} (hb : bu w) {x : Int64} (hx : vin w x) : IsT (vin w) (tite w) := by
  obtain ⟨-, -, k3⟩ := press_ok (x0 := 0) (x1 := 1) (p := 2) (q := 3) (w := w) (M := (fun _ _ => 0, fun a j => if a = 1 then sel w j else 0, fun a j => if a = 0 then (if j = 0 then 2 else 3) else 0, fun a => if a = 0 then 7 else if a = 1 then 10 else 8, fun _ => 0, 0, 0)) rfl rfl rfl rfl rfl rfl (by decide) rfl hb
  rcases k3 with ⟨_, a2⟩ | ⟨_, a2, _⟩
  · rw [a2.tte]; exact a2
  · exact absurd hx (a2 x)
theorem tt_T {w : AV} (hb : bu w) {x : Int64} (hx : vin w x) : Tt (tite w) := (tt_ex hb hx).tt
