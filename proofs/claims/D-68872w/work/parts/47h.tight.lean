/-! part 47h: out of the loop's end the tight form -/
theorem TI.isT {S : Int64 → Prop} {v u B O a b c d : Int64} (h : TI S v u 64 B O) (hvu : v &&& u = 0) (hS : ∀ x, S x → Ag u v x) (ha : S a ∧ ∀ x, S x → un a ≤ un x) (hb : S b ∧ ∀ x, S x → un x ≤ un b) (hc : S c ∧ ∀ x, S x → c.toInt ≤ x.toInt) (hd : S d ∧ ∀ x, S x → x.toInt ≤ d.toInt) : IsT S (B, O, a, b, c, d) := by
  refine ⟨ha, hb, hc, hd, fun j hj => ?_, and_0.mpr fun j ⟨h1, h2⟩ => ?_, fun x hx j hj => ?_⟩
  · have hj' : tb O j = true := hj
    have h64 := tb_lt hj'
    obtain ⟨q1, q2 | ⟨⟨x, x1, x2⟩, y, y1, y2⟩⟩ := (h j h64).1.mp hj'
    · omega
    · exact ⟨x, y, x1, y1, by rw [x2, y2]; decide⟩
  · have h1' : tb B j = true := h1
    have h2' : tb O j = true := h2
    have h64 := tb_lt h1'
    obtain ⟨q1, q2 | ⟨q2, q3⟩⟩ := (h j h64).1.mp h2'
    · omega
    · rcases (h j h64).2.mp h1' with w | w
      · exact and_0.mp hvu j ⟨w, q1⟩
      · exact w.2.2.2 q2
  · show tb x j = tb B j
    have hj' : tb O j = false := hj
    by_cases h64 : j < 64
    · obtain ⟨p1, p2⟩ := h j h64
      cases hu : tb u j with
      | false =>
        have e : tb B j = tb v j := by
          cases q : tb B j with
          | true =>
            rcases p2.mp q with w | w
            · exact w.symm
            · rw [hu] at w; cases w.1
          | false =>
            cases q2 : tb v j with
            | false => rfl
            | true => rw [p2.mpr (Or.inl q2)] at q; cases q
        rw [e]; exact hS x hx j hu
      | true =>
        have hn : ¬ ((∃ x, S x ∧ tb x j = false) ∧ ∃ x, S x ∧ tb x j = true) := fun z => by
          rw [p1.mpr ⟨hu, Or.inr z⟩] at hj'; cases hj'
        have hv : tb v j = false := by
          cases e : tb v j with
          | false => rfl
          | true => exact absurd ⟨e, hu⟩ (and_0.mp hvu j)
        cases hxj : tb x j with
        | true => exact (p2.mpr (Or.inr ⟨hu, h64, ⟨x, hx, hxj⟩, fun z => hn ⟨z, x, hx, hxj⟩⟩)).symm
        | false =>
          cases q : tb B j with
          | false => rfl
          | true =>
            rcases p2.mp q with w | w
            · rw [hv] at w; cases w
            · exact absurd ⟨x, hx, hxj⟩ w.2.2.2
    · rw [tb_ge (by omega), tb_ge (by omega)]
theorem TI.start {S : Int64 → Prop} {v u : Int64} : TI S v u 0 v u := by
  intro i _
  constructor
  · exact ⟨fun h => ⟨h, Or.inl (Nat.zero_le _)⟩, fun h => h.1⟩
  · exact ⟨fun h => Or.inl h, fun h => h.elim id (fun w => absurd w.2.1 (by omega))⟩
theorem BM.rf {x0 : Nat} {k : Int32} {M : XM} : BM x0 k M M := ⟨rfl, rfl, fun _ _ _ => rfl⟩
/-- the ends without and with the sign, by which halves there are -/
theorem ends_all {x0 : Nat} {k : Int32} {v u : Int64} {M : XM} (hvu : v &&& u = 0) {p m : Int32} {S : Int64 → Prop} (hS : S = vin ((tv6 M x0 k).wi v u))
    (hp : p = 1 ∧ (∃ x, S x ∧ un x < 9223372036854775808) ∨ p = 0 ∧ ∀ x, S x → ¬ un x < 9223372036854775808) (hm : m = 1 ∧ (∃ x, S x ∧ ¬ un x < 9223372036854775808) ∨ m = 0 ∧ ∀ x, S x → un x < 9223372036854775808) (hne : ∃ x, S x) :
    (S (if p = 0 then g_Sets_end x0 k v u 1 1 M else g_Sets_end x0 k v u 0 1 M) ∧ ∀ x, S x → un (if p = 0 then g_Sets_end x0 k v u 1 1 M else g_Sets_end x0 k v u 0 1 M) ≤ un x) ∧
    (S (if m = 0 then g_Sets_end x0 k v u 0 0 M else g_Sets_end x0 k v u 1 0 M) ∧ ∀ x, S x → un x ≤ un (if m = 0 then g_Sets_end x0 k v u 0 0 M else g_Sets_end x0 k v u 1 0 M)) ∧
    (S (if m = 0 then g_Sets_end x0 k v u 0 1 M else g_Sets_end x0 k v u 1 1 M) ∧ ∀ x, S x → (if m = 0 then g_Sets_end x0 k v u 0 1 M else g_Sets_end x0 k v u 1 1 M).toInt ≤ x.toInt) ∧
    (S (if p = 0 then g_Sets_end x0 k v u 1 0 M else g_Sets_end x0 k v u 0 0 M) ∧ ∀ x, S x → x.toInt ≤ (if p = 0 then g_Sets_end x0 k v u 1 0 M else g_Sets_end x0 k v u 0 0 M).toInt) := by
  subst hS
  have i1 : ¬ (1 : Int32) = 0 := by decide
  rcases hp with ⟨rfl, y, y1, y2⟩ | ⟨rfl, hp⟩ <;> rcases hm with ⟨rfl, z, z1, z2⟩ | ⟨rfl, hm⟩
  · obtain ⟨⟨a1, a2⟩, ⟨b1, b2⟩, ab⟩ := ends_up hvu y1 y2
    obtain ⟨⟨c1, c2⟩, ⟨d1, d2⟩, cd⟩ := ends_down hvu z1 z2
    rw [if_neg i1, if_neg i1, if_neg i1, if_neg i1]
    refine ⟨⟨a1, fun x hx => ?_⟩, ⟨d1, fun x hx => ?_⟩, ⟨c1, fun x hx => ?_⟩, ⟨b1, fun x hx => ?_⟩⟩ <;> by_cases h : un x < 9223372036854775808
    · exact (ab x hx h).1
    · omega
    · omega
    · exact (cd x hx h).2
    · rw [toInt_ng c2, toInt_nn h]; have := un_lt (g_Sets_end x0 k v u 1 1 M); omega
    · rw [toInt_ng c2, toInt_ng h]; have := (cd x hx h).1; omega
    · rw [toInt_nn b2, toInt_nn h]; have := (ab x hx h).2; omega
    · rw [toInt_nn b2, toInt_ng h]; have := un_lt x; omega
  · obtain ⟨⟨a1, a2⟩, ⟨b1, b2⟩, ab⟩ := ends_up hvu y1 y2
    rw [if_neg i1, if_pos rfl, if_pos rfl, if_neg i1]
    refine ⟨⟨a1, fun x hx => (ab x hx (hm x hx)).1⟩, ⟨b1, fun x hx => (ab x hx (hm x hx)).2⟩, ⟨a1, fun x hx => ?_⟩, ⟨b1, fun x hx => ?_⟩⟩
    · rw [toInt_nn a2, toInt_nn (hm x hx)]; have := (ab x hx (hm x hx)).1; omega
    · rw [toInt_nn b2, toInt_nn (hm x hx)]; have := (ab x hx (hm x hx)).2; omega
  · obtain ⟨⟨c1, c2⟩, ⟨d1, d2⟩, cd⟩ := ends_down hvu z1 z2
    rw [if_pos rfl, if_neg i1, if_neg i1, if_pos rfl]
    refine ⟨⟨c1, fun x hx => (cd x hx (hp x hx)).1⟩, ⟨d1, fun x hx => (cd x hx (hp x hx)).2⟩, ⟨c1, fun x hx => ?_⟩, ⟨d1, fun x hx => ?_⟩⟩
    · rw [toInt_ng c2, toInt_ng (hp x hx)]; have := (cd x hx (hp x hx)).1; omega
    · rw [toInt_ng d2, toInt_ng (hp x hx)]; have := (cd x hx (hp x hx)).2; omega
  · obtain ⟨x, hx⟩ := hne
    exact absurd (hm x hx) (hp x hx)
