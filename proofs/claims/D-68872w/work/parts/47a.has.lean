/-! part 47a: the twin's Sets.has: whether a half has a number with some bits -/
theorem has101 {x0 : Nat} {k : Int32} {v u n : Int64} {M : XM} (hp : ∀ j, j < 63 → tb u j = false → tb n j = tb v j) :
    g_Sets_has_101 x0 k v u n M = if (un (tv6 M x0 k).lo ≤ un n ∧ un n ≤ un (tv6 M x0 k).hi ∧ (tv6 M x0 k).le.toInt ≤ n.toInt ∧ n.toInt ≤ (tv6 M x0 k).gr.toInt) then 1 else 0 := by
  unfold g_Sets_has_101
  have e : n &&& ((u ||| (-9223372036854775808)) ^^^ (-1)) = v &&& ((u ||| (-9223372036854775808)) ^^^ (-1)) := tb_ext fun j hj => by
    rw [tb_and, tb_and, tb_cpl, tb_or, tb_top]
    by_cases c : j = 63
    · simp [c]
    · cases hu : tb u j with
      | true => simp
      | false => rw [hp j (by omega) hu]
  rw [if_pos (cmp_eq.mpr e)]
  show (if g_Sets_below n (tv6 M x0 k).lo = 0 then (if g_Sets_below (tv6 M x0 k).hi n = 0 then (if lg_cmp n (tv6 M x0 k).le < 0 then (0 : Int32) else (if 0 < lg_cmp n (tv6 M x0 k).gr then (0 : Int32) else 1)) else 0) else 0) = _
  generalize tv6 M x0 k = w
  rw [below_01, below_01]
  simp only [cmp_lt, cmp_gt, lt_un]
  by_cases h1 : un n < un w.lo
  · rw [if_pos h1, if_neg (by decide), if_neg (fun z => by omega)]
  · rw [if_neg h1, if_pos rfl]
    by_cases h2 : un w.hi < un n
    · rw [if_pos h2, if_neg (by decide), if_neg (fun z => by omega)]
    · rw [if_neg h2, if_pos rfl]
      by_cases h3 : n.toInt < w.le.toInt
      · rw [if_pos h3, if_neg (fun z => by omega)]
      · rw [if_neg h3]
        by_cases h4 : w.gr.toInt < n.toInt
        · rw [if_pos h4, if_neg (fun z => by omega)]
        · rw [if_neg h4, if_pos ⟨by omega, by omega, by omega, by omega⟩]
/-- the row's bounds with other bits -/
def AV.wi (w : AV) (v u : Int64) : AV := (v, u, w.lo, w.hi, w.le, w.gr)
theorem u63 {u : Int64} : lg_cmp (u &&& (-9223372036854775808)) 0 = 0 ↔ tb u 63 = false := by
  rw [cmp_eq, and_0]
  constructor
  · intro h
    cases e : tb u 63 with
    | false => rfl
    | true => exact absurd ⟨e, by rw [tb_top]; rfl⟩ (h 63)
  · rintro h j ⟨h1, h2⟩
    rw [tb_top, decide_eq_true_eq] at h2
    rw [h2, h] at h1
    cases h1
theorem v63 {v : Int64} : 0 ≤ lg_cmp v 0 ↔ tb v 63 = false := by
  rw [cmp_ge, le_un, show (0 : Int64).toInt = 0 from rfl, tb63, decide_eq_false_iff_not, toInt_un]
  have := un_lt v
  constructor
  · intro h; split at h <;> omega
  · intro h; rw [if_pos (by omega)]; omega
/-- can: the bits allow a number of the half -/
theorem has_can {x0 : Nat} {k m : Int32} {v u : Int64} {M : XM} (hm : m = 0 ∨ m = 1) : g_Sets_has x0 k v u m M = g_Sets_has_32 x0 k v u m (if (tb u 63 = true ∨ tb v 63 = decide (m = 1)) then 1 else 0) M := by
  unfold g_Sets_has g_Sets_has_0 g_Sets_has_22 g_Sets_has_27
  cases hu : tb u 63 with
  | true =>
    rw [if_neg (fun z => by rw [u63, hu] at z; cases z), if_pos (Or.inl rfl)]
  | false =>
    rw [if_pos (u63.mpr hu)]
    cases hv : tb v 63 with
    | false =>
      rw [if_pos (v63.mpr hv)]
      rcases hm with rfl | rfl <;> simp
    | true =>
      rw [if_neg (fun z => by rw [v63, hv] at z; cases z)]
      rcases hm with rfl | rfl <;> simp
theorem has_up {x0 : Nat} {k : Int32} {v u : Int64} {M : XM} (hvu : v &&& u = 0) : g_Sets_has x0 k v u 0 M = 1 ∧ (∃ x, vin ((tv6 M x0 k).wi v u) x ∧ un x < 9223372036854775808) ∨ g_Sets_has x0 k v u 0 M = 0 ∧ ∀ x, vin ((tv6 M x0 k).wi v u) x → ¬ un x < 9223372036854775808 := by
  rw [has_can (Or.inl rfl)]
  unfold g_Sets_has_32
  rw [if_pos rfl]
  by_cases can : tb u 63 = true ∨ tb v 63 = decide ((0 : Int32) = 1)
  · rw [if_pos can]
    have can' : tb u 63 = true ∨ tb v 63 = false := by simpa using can
    by_cases hg : lg_cmp (mL M (mR M x0 5) (ix k)) 0 < 0
    · rw [if_pos hg]
      unfold g_Sets_has_74
      rw [if_neg (by decide), if_pos rfl]
      refine Or.inr ⟨rfl, fun x hx hn => ?_⟩
      have h1 := lt_un.mp (cmp_lt.mp hg)
      have h2 : x.toInt ≤ (mL M (mR M x0 5) (ix k)).toInt := hx.2.2.2.2
      rw [toInt_nn hn] at h2
      rw [show (0 : Int64).toInt = 0 from rfl] at h1
      omega
    · rw [if_neg hg]
      unfold g_Sets_has_74
      rw [if_neg (by decide), if_neg (by decide), end_00]
      obtain ⟨-, a2, a3⟩ := upFrom_ok (b := fr0 (tv6 M x0 k)) (half_bu half_0 hvu)
      generalize g_Sets_upFrom ((v &&& 9223372036854775807) ||| 0) (u &&& 9223372036854775807) (fr0 (tv6 M x0 k)) = n at a2 a3 ⊢
      obtain ⟨q1, q2⟩ := (half_pat half_0 can').mpr a2
      have q2' : un n < 9223372036854775808 := by rw [tb63, decide_eq_false_iff_not] at q2; omega
      rw [has101 (fun j _ hj => q1 j hj)]
      by_cases hb : (un (tv6 M x0 k).lo ≤ un n ∧ un n ≤ un (tv6 M x0 k).hi ∧ (tv6 M x0 k).le.toInt ≤ n.toInt ∧ n.toInt ≤ (tv6 M x0 k).gr.toInt)
      · rw [if_pos hb]
        exact Or.inl ⟨rfl, n, ⟨q1, hb⟩, q2'⟩
      · rw [if_neg hb]
        refine Or.inr ⟨rfl, fun x hx hn => hb ?_⟩
        obtain ⟨x1, x2, x3, x4, x5⟩ := hx
        have hx' : Ag (u &&& 9223372036854775807) ((v &&& 9223372036854775807) ||| 0) x := (half_pat half_0 can').mp ⟨x1, by rw [tb63]; simp [hn]⟩
        obtain ⟨b1, b2⟩ := a3 x hx' ((fr0_ok hn).mpr ⟨x2, x4⟩)
        obtain ⟨c1, c2⟩ := (fr0_ok q2').mp b1
        have x3' : un x ≤ un (tv6 M x0 k).hi := x3
        have x5' : x.toInt ≤ (tv6 M x0 k).gr.toInt := x5
        rw [toInt_nn hn] at x5'
        refine ⟨c1, by omega, c2, ?_⟩
        rw [toInt_nn q2']; omega
  · rw [if_neg can]
    have hz : (if lg_cmp (mL M (mR M x0 5) (ix k)) 0 < 0 then g_Sets_has_74 x0 k v u 0 0 0 M else g_Sets_has_74 x0 k v u 0 0 1 M) = 0 := by
      unfold g_Sets_has_74
      split <;> rfl
    rw [hz]
    refine Or.inr ⟨rfl, fun x hx hn => can ?_⟩
    cases hu : tb u 63 with
    | true => exact Or.inl rfl
    | false =>
      have := hx.1 63 hu
      have h3 : tb x 63 = false := by rw [tb63]; simp [hn]
      rw [h3] at this
      exact Or.inr (by rw [show tb v 63 = false from this.symm]; decide)
theorem has_down {x0 : Nat} {k : Int32} {v u : Int64} {M : XM} (hvu : v &&& u = 0) : g_Sets_has x0 k v u 1 M = 1 ∧ (∃ x, vin ((tv6 M x0 k).wi v u) x ∧ ¬ un x < 9223372036854775808) ∨ g_Sets_has x0 k v u 1 M = 0 ∧ ∀ x, vin ((tv6 M x0 k).wi v u) x → un x < 9223372036854775808 := by
  rw [has_can (Or.inr rfl)]
  unfold g_Sets_has_32
  rw [if_neg (by decide)]
  by_cases can : tb u 63 = true ∨ tb v 63 = decide ((1 : Int32) = 1)
  · rw [if_pos can]
    have can' : tb u 63 = true ∨ tb v 63 = true := by simpa using can
    by_cases hg : 0 ≤ lg_cmp (mL M (mR M x0 4) (ix k)) 0
    · rw [if_pos hg]
      unfold g_Sets_has_74
      rw [if_neg (by decide), if_pos rfl]
      refine Or.inr ⟨rfl, fun x hx => Nat.not_le.mp fun hn => ?_⟩
      have h1 := le_un.mp (cmp_ge.mp hg)
      have h2 : (mL M (mR M x0 4) (ix k)).toInt ≤ x.toInt := hx.2.2.2.1
      rw [toInt_ng (x := x) (by omega)] at h2
      rw [show (0 : Int64).toInt = 0 from rfl] at h1
      have := un_lt x
      omega
    · rw [if_neg hg]
      have hl : (tv6 M x0 k).le < (0 : Int64) := by
        rw [cmp_ge, le_un] at hg
        rw [lt_un]
        show (mL M (mR M x0 4) (ix k)).toInt < _
        omega
      unfold g_Sets_has_74
      rw [if_neg (by decide), if_neg (by decide), end_10]
      obtain ⟨-, a2, a3⟩ := upFrom_ok (b := fr1 (tv6 M x0 k)) (half_bu half_1 hvu)
      generalize g_Sets_upFrom ((v &&& 9223372036854775807) ||| (-9223372036854775808)) (u &&& 9223372036854775807) (fr1 (tv6 M x0 k)) = n at a2 a3 ⊢
      obtain ⟨q1, q2⟩ := (half_pat half_1 can').mpr a2
      have q2' : ¬ un n < 9223372036854775808 := by rw [tb63, decide_eq_true_eq] at q2; exact q2
      rw [has101 (fun j _ hj => q1 j hj)]
      by_cases hb : (un (tv6 M x0 k).lo ≤ un n ∧ un n ≤ un (tv6 M x0 k).hi ∧ (tv6 M x0 k).le.toInt ≤ n.toInt ∧ n.toInt ≤ (tv6 M x0 k).gr.toInt)
      · rw [if_pos hb]
        exact Or.inl ⟨rfl, n, ⟨q1, hb⟩, q2'⟩
      · rw [if_neg hb]
        refine Or.inr ⟨rfl, fun x hx => Nat.not_le.mp fun hn => hb ?_⟩
        have hn' : ¬ un x < 9223372036854775808 := by omega
        obtain ⟨x1, x2, x3, x4, x5⟩ := hx
        have hx' : Ag (u &&& 9223372036854775807) ((v &&& 9223372036854775807) ||| (-9223372036854775808)) x := (half_pat half_1 can').mp ⟨x1, by rw [tb63]; simp; omega⟩
        obtain ⟨b1, b2⟩ := a3 x hx' ((fr1_ok hn' hl).mpr ⟨x2, x4⟩)
        obtain ⟨c1, c2⟩ := (fr1_ok q2' hl).mp b1
        have x3' : un x ≤ un (tv6 M x0 k).hi := x3
        have x5' : x.toInt ≤ (tv6 M x0 k).gr.toInt := x5
        rw [toInt_ng hn'] at x5'
        refine ⟨c1, by omega, c2, ?_⟩
        rw [toInt_ng q2']; omega
  · rw [if_neg can]
    have hz : (if 0 ≤ lg_cmp (mL M (mR M x0 4) (ix k)) 0 then g_Sets_has_74 x0 k v u 1 0 0 M else g_Sets_has_74 x0 k v u 1 0 1 M) = 0 := by
      unfold g_Sets_has_74
      split <;> rfl
    rw [hz]
    refine Or.inr ⟨rfl, fun x hx => Nat.not_le.mp fun hn => can ?_⟩
    cases hu : tb u 63 with
    | true => exact Or.inl rfl
    | false =>
      have := hx.1 63 hu
      have h3 : tb x 63 = true := by rw [tb63]; simp; omega
      rw [h3] at this
      exact Or.inr (by rw [show tb v 63 = true from this.symm]; decide)
/-- hasAny: whether there is a number -/
theorem hasAny_ok {x0 : Nat} {k : Int32} {v u : Int64} {M : XM} (hvu : v &&& u = 0) : g_Sets_hasAny x0 k v u M = 1 ∧ (∃ x, vin ((tv6 M x0 k).wi v u) x) ∨ g_Sets_hasAny x0 k v u M = 0 ∧ ∀ x, ¬ vin ((tv6 M x0 k).wi v u) x := by
  unfold g_Sets_hasAny g_Sets_hasAny_0 g_Sets_hasAny_24
  rcases has_up (x0 := x0) (k := k) (M := M) hvu with ⟨a, x, hx, -⟩ | ⟨a, ha⟩
  · rw [a, if_neg (by decide)]
    exact Or.inl ⟨rfl, x, hx⟩
  · rw [a, if_pos rfl]
    rcases has_down (x0 := x0) (k := k) (M := M) hvu with ⟨b, x, hx, -⟩ | ⟨b, hb⟩
    · rw [b, if_neg (by decide)]
      exact Or.inl ⟨rfl, x, hx⟩
    · rw [b, if_pos rfl]
      exact Or.inr ⟨rfl, fun x hx => ha x hx (hb x hx)⟩
