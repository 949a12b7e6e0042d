/-! part 47k: what is plain to see is tight -/
theorem plain_all : IsT (vin (0, -1, 0, -1, -9223372036854775808, 9223372036854775807)) (0, -1, 0, -1, -9223372036854775808, 9223372036854775807) := by
  have all : ∀ x, vin (0, -1, 0, -1, -9223372036854775808, 9223372036854775807) x := fun x => by
    have hx := un_lt x
    have k := toInt_un x
    refine ⟨fun j hj => ?_, ?_, ?_, ?_, ?_⟩
    · have hj' : tb (-1) j = false := hj
      rw [tb_ones] at hj'
      have : 64 ≤ j := Nat.not_lt.mp (of_decide_eq_false hj')
      rw [tb_ge this, tb_ge this]
    · show un 0 ≤ un x; exact Nat.zero_le _
    · show un x ≤ un (-1); rw [show un (-1) = 18446744073709551615 from rfl]; omega
    · show (-9223372036854775808 : Int64).toInt ≤ x.toInt; rw [show (-9223372036854775808 : Int64).toInt = -9223372036854775808 from rfl]; split at k <;> omega
    · show x.toInt ≤ (9223372036854775807 : Int64).toInt; rw [show (9223372036854775807 : Int64).toInt = 9223372036854775807 from rfl]; split at k <;> omega
  refine ⟨⟨all _, fun x _ => (all x).2.1⟩, ⟨all _, fun x _ => (all x).2.2.1⟩, ⟨all _, fun x _ => (all x).2.2.2.1⟩, ⟨all _, fun x _ => (all x).2.2.2.2⟩, fun j hj => ⟨0, -1, all _, all _, ?_⟩, and_0.mpr fun j ⟨h1, _⟩ => ?_, fun x hx => hx.1⟩
  · have hj' : tb (-1) j = true := hj
    rw [tb_zero, hj']; decide
  · have h1' : tb 0 j = true := h1
    rw [tb_zero] at h1'; cases h1'
theorem plain_one {S : Int64 → Prop} {v : Int64} (hS : ∀ x, S x ↔ x = v) : IsT S (v, 0, v, v, v, v) := by
  have sv : S v := (hS v).mpr rfl
  refine ⟨⟨sv, fun x hx => by rw [(hS x).mp hx]; exact Nat.le_refl _⟩, ⟨sv, fun x hx => by rw [(hS x).mp hx]; exact Nat.le_refl _⟩, ⟨sv, fun x hx => by rw [(hS x).mp hx]; exact Int.le_refl _⟩, ⟨sv, fun x hx => by rw [(hS x).mp hx]; exact Int.le_refl _⟩, fun j hj => ?_, and_0.mpr fun j ⟨_, h2⟩ => ?_, fun x hx j _ => by rw [(hS x).mp hx]⟩
  · have hj' : tb 0 j = true := hj
    rw [tb_zero] at hj'; cases hj'
  · have h2' : tb 0 j = true := h2
    rw [tb_zero] at h2'; cases h2'
/-- all bits known: the number alone, or none -/
theorem vin_known {w : AV} (hu : w.u = 0) (x : Int64) : vin w x → x = w.b := fun h => tb_ext fun j _ => h.1 j (by rw [hu, tb_zero])
