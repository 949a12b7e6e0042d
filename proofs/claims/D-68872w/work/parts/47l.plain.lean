/-! part 47l: all numbers of some lowest bits -/
theorem plain_low {w : AV} (hb : w.b = 0) (hu0 : (0 : Int64) < w.u) (hpow : w.u &&& (w.u + 1) = 0) (hlo : w.lo = 0) (hhi : un w.u ≤ un w.hi) (hle : w.le.toInt ≤ 0) (hgr : w.u.toInt ≤ w.gr.toInt) : IsT (vin w) (0, w.u, 0, w.u, 0, w.u) := by
  have z0 : (0 : Int64).toInt = 0 := rfl
  rw [lt_un, z0] at hu0
  have hun : un w.u < 9223372036854775808 := by
    have := toInt_un w.u
    have := un_lt w.u
    refine Classical.byContradiction fun c => ?_
    rw [if_neg c] at *
    omega
  have hti := toInt_nn hun
  -- every number of the bits of u lies between 0 and u
  have mem : ∀ x, vin w x ↔ ∀ j, tb w.u j = false → tb x j = false := by
    intro x
    constructor
    · intro h j hj
      have := h.1 j hj
      rw [hb, tb_zero] at this
      exact this
    · intro h
      have hx : un x ≤ un w.u := tb_le fun j hj => by
        cases q : tb w.u j with
        | true => rfl
        | false => rw [h j q] at hj; cases hj
      have hxt : x.toInt = un x := toInt_nn (by omega)
      refine ⟨fun j hj => by rw [h j hj, hb, tb_zero], by rw [hlo]; exact Nat.zero_le _, by omega, by omega, by omega⟩
  have s0 : vin w 0 := (mem 0).mpr fun j _ => tb_zero j
  have su : vin w w.u := (mem w.u).mpr fun j hj => hj
  have hx : ∀ x, vin w x → un x ≤ un w.u ∧ x.toInt = un x := fun x h => by
    have h1 : un x ≤ un w.u := tb_le fun j hj => by
      cases q : tb w.u j with
      | true => rfl
      | false => rw [(mem x).mp h j q] at hj; cases hj
    exact ⟨h1, toInt_nn (by omega)⟩
  refine ⟨⟨s0, fun x _ => Nat.zero_le _⟩, ⟨su, fun x h => (hx x h).1⟩, ⟨s0, fun x h => ?_⟩, ⟨su, fun x h => ?_⟩, fun j hj => ⟨0, w.u, s0, su, ?_⟩, and_0.mpr fun j ⟨h1, _⟩ => ?_, fun x h j hj => ?_⟩
  · show (0 : Int64).toInt ≤ x.toInt
    rw [z0, (hx x h).2]; omega
  · show x.toInt ≤ w.u.toInt
    rw [hti, (hx x h).2]; have := (hx x h).1; omega
  · have hj' : tb w.u j = true := hj
    rw [tb_zero, hj']; decide
  · have h1' : tb 0 j = true := h1
    rw [tb_zero] at h1'; cases h1'
  · show tb x j = tb 0 j
    rw [tb_zero]; exact (mem x).mp h j hj
