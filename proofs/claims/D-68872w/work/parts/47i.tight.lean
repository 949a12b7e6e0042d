/-! part 47i: the twin's tighten of a row that has a number, behind isPlain -/
theorem tight_83 {x0 : Nat} {k : Int32} {v u : Int64} {M : XM} (hs : SS M x0 k) (hd : SD M x0) (hv : mL M (mR M x0 0) (ix k) = v) (hu : mL M (mR M x0 1) (ix k) = u) (hvu : v &&& u = 0) (hne : ∃ x, vin (tv6 M x0 k) x) :
    K_Sets_tighten_83 x0 k v u M ∧ ∃ (M' : XM) (a b c d : Int64), BM x0 k M M' ∧ g_Sets_tighten_83 x0 k v u M = wL (wL (wL (wL M' (mR M x0 2) (ix k) a) (mR M x0 3) (ix k) b) (mR M x0 4) (ix k) c) (mR M x0 5) (ix k) d ∧
      IsT (vin (tv6 M x0 k)) (mL M' (mR M x0 0) (ix k), mL M' (mR M x0 1) (ix k), a, b, c, d) := by
  have hw : (tv6 M x0 k).wi v u = tv6 M x0 k := by
    unfold AV.wi tv6
    rw [hv, hu]
  have hp := has_up (x0 := x0) (k := k) (M := M) hvu
  have hm := has_down (x0 := x0) (k := k) (M := M) hvu
  rw [hw] at hp hm
  have e := fun q => ends_all (x0 := x0) (k := k) (M := M) hvu (S := vin (tv6 M x0 k)) (by rw [hw]) hp hm q
  obtain ⟨ha, hb, hc, hdd⟩ := e hne
  unfold g_Sets_tighten_83 K_Sets_tighten_83 g_Sets_tighten_94 K_Sets_tighten_94
  have kp := K_has (m := 0) hs hvu
  have km := K_has (m := 1) hs hvu
  generalize g_Sets_has x0 k v u 0 M = p at hp ha hb hc hdd ⊢
  generalize g_Sets_has x0 k v u 1 M = m at hm ha hb hc hdd ⊢
  have L := fun a b c d => tight_loop (a := a) (b := b) (c := c) (d := d) hs hd hvu 64 xF 0 M (by decide) xF_64 BM.rf (by rw [hv, hu]; exact TI.start)
  have fin : ∀ a b c d, ((vin (tv6 M x0 k)) a ∧ ∀ x, (vin (tv6 M x0 k)) x → un a ≤ un x) → ((vin (tv6 M x0 k)) b ∧ ∀ x, (vin (tv6 M x0 k)) x → un x ≤ un b) → ((vin (tv6 M x0 k)) c ∧ ∀ x, (vin (tv6 M x0 k)) x → c.toInt ≤ x.toInt) → ((vin (tv6 M x0 k)) d ∧ ∀ x, (vin (tv6 M x0 k)) x → x.toInt ≤ d.toInt) →
      K_Sets_tighten_173 x0 k v u a b c d M ∧ ∃ (M' : XM) (a' b' c' d' : Int64), BM x0 k M M' ∧ g_Sets_tighten_173 x0 k v u a b c d M = wL (wL (wL (wL M' (mR M x0 2) (ix k) a') (mR M x0 3) (ix k) b') (mR M x0 4) (ix k) c') (mR M x0 5) (ix k) d' ∧ IsT (vin (tv6 M x0 k)) (mL M' (mR M x0 0) (ix k), mL M' (mR M x0 1) (ix k), a', b', c', d') := by
    intro a b c d ha hb hc hd'
    obtain ⟨q1, M', q2, q3, q4⟩ := L a b c d
    refine ⟨q1, M', a, b, c, d, q2, ?_, ?_⟩
    · rw [← q2.r x0 2, ← q2.r x0 3, ← q2.r x0 4, ← q2.r x0 5]; exact q4
    · rw [hw] at q3
      exact q3.isT hvu (fun x hx j hj => by rw [hx.1 j (by show tb (mL M (mR M x0 1) (ix k)) j = false; rw [hu]; exact hj)]; show tb (mL M (mR M x0 0) (ix k)) j = _; rw [hv]) ha hb hc hd'
  have ke := fun mm ff => K_end (m := mm) (f := ff) hs hvu
  unfold g_Sets_tighten_105 K_Sets_tighten_105 g_Sets_tighten_120 K_Sets_tighten_120 g_Sets_tighten_126 K_Sets_tighten_126 g_Sets_tighten_139 K_Sets_tighten_139 g_Sets_tighten_152 K_Sets_tighten_152 g_Sets_tighten_167 K_Sets_tighten_167
  have m01 : m = 0 ∨ m = 1 := hm.elim (fun z => Or.inr z.1) (fun z => Or.inl z.1)
  have p01 : p = 0 ∨ p = 1 := hp.elim (fun z => Or.inr z.1) (fun z => Or.inl z.1)
  have i1 : ¬ (1 : Int32) = 0 := by decide
  rcases p01 with rfl | rfl <;> rcases m01 with rfl | rfl <;> simp only [if_true, if_false, i1] at ha hb hc hdd ⊢ <;> (obtain ⟨f1, f2⟩ := fin _ _ _ _ ha hb hc hdd; refine ⟨?_, f2⟩; simp [hs.1, kp, km, ke, f1])
