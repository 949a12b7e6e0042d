/-! part 47u: Sets.sumBits, whole -/
def bI (b : Bool) : Int32 := if b then 1 else 0
theorem bI_0 (b : Bool) : bI b = 0 ↔ b = false := by cases b <;> decide
theorem bI_eq (a b : Bool) : bI a = bI b ↔ a = b := by cases a <;> cases b <;> decide
theorem mayBe_ok {x0 : Nat} {p : Int32} {k : Nat} (hk : k < 64) (v : Bool) (M : XM) : g_Sets_mayBe x0 p (Int32.ofNat k) (bI v) M = bI (tb (mL M (mR M x0 1) (ix p)) k || decide (tb (mL M (mR M x0 0) (ix p)) k = v)) := by
  unfold g_Sets_mayBe g_Sets_mayBe_0 g_Sets_mayBe_30
  rw [shr_bit hk, shr_bit hk]
  have i0 : ¬ lg_cmp (0 : Int64) 1 = 0 := by decide
  have i1 : lg_cmp (1 : Int64) 1 = 0 := by decide
  cases h1 : tb (mL M (mR M x0 1) (ix p)) k
  · rw [if_neg (by decide : ¬ (false = true)), if_neg i0]
    cases h2 : tb (mL M (mR M x0 0) (ix p)) k <;> cases v <;> decide
  · rw [if_pos rfl, if_pos i1]
    cases v <;> rfl
def inF (x1 : Int32) (p : Nat → Bool) : Int32 × Int32 × Int32 × Int32 := stI x1 7 (p 7) (stI x1 6 (p 6) (stI x1 5 (p 5) (stI x1 4 (p 4) (stI x1 3 (p 3) (stI x1 2 (p 2) (stI x1 1 (p 1) (stI x1 0 (p 0) (0, 0, 0, 0))))))))
def pB (xb xu yb yu z o : Bool) (t : Nat) : Bool := (xu || decide (xb = decide (t % 2 = 1))) && (yu || decide (yb = decide (t / 2 % 2 = 1))) && (if t / 4 = 0 then z else o)
theorem tI : ∀ t : Fin 8, Int32.ofNat t.val &&& 1 = bI (decide (t.val % 2 = 1)) ∧ j_ishr (Int32.ofNat t.val) 1 &&& 1 = bI (decide (t.val / 2 % 2 = 1)) ∧ j_ishr (Int32.ofNat t.val) 2 = bI (!decide (t.val / 4 = 0)) := by decide +kernel
theorem psI_ok {x0 k : Nat} (hk : k < 64) (z o : Bool) (M : XM) {t : Nat} (ht : t < 8) : psI x0 (bI z) (bI o) (Int32.ofNat k) (Int32.ofNat t) M = pB (tb (mL M (mR M x0 0) (ix 0)) k) (tb (mL M (mR M x0 1) (ix 0)) k) (tb (mL M (mR M x0 0) (ix 1)) k) (tb (mL M (mR M x0 1) (ix 1)) k) z o t := by
  obtain ⟨h1, h2, h3⟩ := tI ⟨t, ht⟩
  unfold psI pB
  rw [h1, h2, h3, mayBe_ok hk, mayBe_ok hk]
  simp only [bI_0]
  by_cases c : t / 4 = 0
  · simp [c, bI_0]
  · simp [c, bI_0]
theorem in_plus : ∀ xb xu yb yu c C : Bool, (xb && xu) = false → (yb && yu) = false → (c && !C) = false → inF 0 (pB xb xu yb yu (!c) C) = (bI ((xu || yu || Bool.xor c C) || !(Bool.xor xb (Bool.xor yb c))), bI ((xu || yu || Bool.xor c C) || Bool.xor xb (Bool.xor yb c)), bI (!maj xb yb c), bI (maj (xb || xu) (yb || yu) C)) := by decide +kernel
theorem in_minus : ∀ xb xu yb yu c C : Bool, (xb && xu) = false → (yb && yu) = false → (c && !C) = false → inF 1 (pB xb xu yb yu (!c) C) = (bI ((xu || yu || Bool.xor c C) || !(Bool.xor xb (Bool.xor yb c))), bI ((xu || yu || Bool.xor c C) || Bool.xor xb (Bool.xor yb c)), bI (!maj (!(xb || xu)) yb c), bI (maj (!xb) (yb || yu) C)) := by decide +kernel
theorem xF_9 : ∃ f, xF = f + 9 := ⟨18446744073709551607, by rw [xF_eq]⟩
section IN
variable (κ14 : Nat → Int32 → Int64 → Int64 → Int32 → Int32 → Int32 → XM → XM) (P14 : Nat → Int32 → Int64 → Int64 → Int32 → Int32 → Int32 → XM → Prop)
theorem in_end (n x0 : Nat) (x1 : Int32) (v u : Int64) (x6 x7 x8 n11 n12 : Int32) (iz io : Bool) (M : XM) : g_Sets_sumBits_36 κ14 (n + 1) x0 x1 v u x6 x7 x8 (bI iz) (bI io) n11 n12 8 M = κ14 x0 x1 (if io && !iz then v ||| j_lshl 1 x8 else v) (if iz && io then u ||| j_lshl 1 x8 else u) n11 n12 (x8 + 1) M := by
  conv => lhs; unfold g_Sets_sumBits_36
  rw [if_pos (by decide)]
  unfold g_Sets_sumBits_259 g_Sets_sumBits_261 g_Sets_sumBits_282 g_Sets_sumBits_283
  have i1 : ¬ (1 : Int32) = 0 := by decide
  cases iz <;> cases io <;> simp [bI, i1]
theorem kin_end (n x0 : Nat) (x1 : Int32) (v u : Int64) (x6 x7 x8 n11 n12 : Int32) (iz io : Bool) (M : XM) (h : P14 x0 x1 (if io && !iz then v ||| j_lshl 1 x8 else v) (if iz && io then u ||| j_lshl 1 x8 else u) n11 n12 (x8 + 1) M) : K_Sets_sumBits_36 κ14 P14 (n + 1) x0 x1 v u x6 x7 x8 (bI iz) (bI io) n11 n12 8 M := by
  conv => unfold K_Sets_sumBits_36
  refine ⟨fun _ => ?_, fun z => absurd (by decide) z⟩
  unfold K_Sets_sumBits_259 K_Sets_sumBits_261 K_Sets_sumBits_282 K_Sets_sumBits_283
  have i1 : ¬ (1 : Int32) = 0 := by decide
  cases iz <;> cases io <;> simp [bI, i1] at h ⊢ <;> exact h
theorem in_all (x0 : Nat) (x1 : Int32) (v u : Int64) (z o : Bool) {k : Nat} (hk : k < 64) (M : XM) (f : Nat) {iz io : Bool} {n11 n12 : Int32}
    (hF : inF x1 (pB (tb (mL M (mR M x0 0) (ix 0)) k) (tb (mL M (mR M x0 1) (ix 0)) k) (tb (mL M (mR M x0 0) (ix 1)) k) (tb (mL M (mR M x0 1) (ix 1)) k) z o) = (bI iz, bI io, n11, n12)) :
    g_Sets_sumBits_36 κ14 (f + 9) x0 x1 v u (bI z) (bI o) (Int32.ofNat k) 0 0 0 0 0 M = κ14 x0 x1 (if io && !iz then v ||| j_lshl 1 (Int32.ofNat k) else v) (if iz && io then u ||| j_lshl 1 (Int32.ofNat k) else u) n11 n12 (Int32.ofNat k + 1) M := by
  have ps := fun t (ht : t < 8) => psI_ok (x0 := x0) hk z o M ht
  generalize pB (tb (mL M (mR M x0 0) (ix 0)) k) (tb (mL M (mR M x0 1) (ix 0)) k) (tb (mL M (mR M x0 0) (ix 1)) k) (tb (mL M (mR M x0 1) (ix 1)) k) z o = p at ps hF
  unfold inF at hF
  have e0 := sb_step κ14 (f + 8) x0 x1 v u (bI z) (bI o) (Int32.ofNat k) 0 (0, 0, 0, 0) M (by decide)
  rw [show psI x0 (bI z) (bI o) (Int32.ofNat k) 0 M = p 0 from ps 0 (by decide)] at e0
  have e1 := sb_step κ14 (f + 7) x0 x1 v u (bI z) (bI o) (Int32.ofNat k) 1 (stI x1 0 (p 0) (0, 0, 0, 0)) M (by decide)
  rw [show psI x0 (bI z) (bI o) (Int32.ofNat k) 1 M = p 1 from ps 1 (by decide)] at e1
  have e2 := sb_step κ14 (f + 6) x0 x1 v u (bI z) (bI o) (Int32.ofNat k) 2 (stI x1 1 (p 1) (stI x1 0 (p 0) (0, 0, 0, 0))) M (by decide)
  rw [show psI x0 (bI z) (bI o) (Int32.ofNat k) 2 M = p 2 from ps 2 (by decide)] at e2
  have e3 := sb_step κ14 (f + 5) x0 x1 v u (bI z) (bI o) (Int32.ofNat k) 3 (stI x1 2 (p 2) (stI x1 1 (p 1) (stI x1 0 (p 0) (0, 0, 0, 0)))) M (by decide)
  rw [show psI x0 (bI z) (bI o) (Int32.ofNat k) 3 M = p 3 from ps 3 (by decide)] at e3
  have e4 := sb_step κ14 (f + 4) x0 x1 v u (bI z) (bI o) (Int32.ofNat k) 4 (stI x1 3 (p 3) (stI x1 2 (p 2) (stI x1 1 (p 1) (stI x1 0 (p 0) (0, 0, 0, 0))))) M (by decide)
  rw [show psI x0 (bI z) (bI o) (Int32.ofNat k) 4 M = p 4 from ps 4 (by decide)] at e4
  have e5 := sb_step κ14 (f + 3) x0 x1 v u (bI z) (bI o) (Int32.ofNat k) 5 (stI x1 4 (p 4) (stI x1 3 (p 3) (stI x1 2 (p 2) (stI x1 1 (p 1) (stI x1 0 (p 0) (0, 0, 0, 0)))))) M (by decide)
  rw [show psI x0 (bI z) (bI o) (Int32.ofNat k) 5 M = p 5 from ps 5 (by decide)] at e5
  have e6 := sb_step κ14 (f + 2) x0 x1 v u (bI z) (bI o) (Int32.ofNat k) 6 (stI x1 5 (p 5) (stI x1 4 (p 4) (stI x1 3 (p 3) (stI x1 2 (p 2) (stI x1 1 (p 1) (stI x1 0 (p 0) (0, 0, 0, 0))))))) M (by decide)
  rw [show psI x0 (bI z) (bI o) (Int32.ofNat k) 6 M = p 6 from ps 6 (by decide)] at e6
  have e7 := sb_step κ14 (f + 1) x0 x1 v u (bI z) (bI o) (Int32.ofNat k) 7 (stI x1 6 (p 6) (stI x1 5 (p 5) (stI x1 4 (p 4) (stI x1 3 (p 3) (stI x1 2 (p 2) (stI x1 1 (p 1) (stI x1 0 (p 0) (0, 0, 0, 0)))))))) M (by decide)
  rw [show psI x0 (bI z) (bI o) (Int32.ofNat k) 7 M = p 7 from ps 7 (by decide)] at e7
  rw [hF] at e7
  refine e0.trans (e1.trans (e2.trans (e3.trans (e4.trans (e5.trans (e6.trans (e7.trans ?_)))))))
  exact in_end κ14 f x0 x1 v u _ _ _ n11 n12 iz io M
theorem kin_all (x0 : Nat) (x1 : Int32) (v u : Int64) (z o : Bool) {k : Nat} (hk : k < 64) (M : XM) (f : Nat) {iz io : Bool} {n11 n12 : Int32} (hs : mT M x0 = 27) (hm : ∀ p v, (p = 0 ∨ p = 1) → K_Sets_mayBe x0 p (Int32.ofNat k) v M)
    (hF : inF x1 (pB (tb (mL M (mR M x0 0) (ix 0)) k) (tb (mL M (mR M x0 1) (ix 0)) k) (tb (mL M (mR M x0 0) (ix 1)) k) (tb (mL M (mR M x0 1) (ix 1)) k) z o) = (bI iz, bI io, n11, n12))
    (h : P14 x0 x1 (if io && !iz then v ||| j_lshl 1 (Int32.ofNat k) else v) (if iz && io then u ||| j_lshl 1 (Int32.ofNat k) else u) n11 n12 (Int32.ofNat k + 1) M) :
    K_Sets_sumBits_36 κ14 P14 (f + 9) x0 x1 v u (bI z) (bI o) (Int32.ofNat k) 0 0 0 0 0 M := by
  have ps := fun t (ht : t < 8) => psI_ok (x0 := x0) hk z o M ht
  generalize pB (tb (mL M (mR M x0 0) (ix 0)) k) (tb (mL M (mR M x0 1) (ix 0)) k) (tb (mL M (mR M x0 0) (ix 1)) k) (tb (mL M (mR M x0 1) (ix 1)) k) z o = p at ps hF
  unfold inF at hF
  have e0 := kb_step κ14 P14 (f + 8) x0 x1 v u (bI z) (bI o) (Int32.ofNat k) 0 (0, 0, 0, 0) M (by decide) hs hm
  rw [show psI x0 (bI z) (bI o) (Int32.ofNat k) 0 M = p 0 from ps 0 (by decide)] at e0
  have e1 := kb_step κ14 P14 (f + 7) x0 x1 v u (bI z) (bI o) (Int32.ofNat k) 1 (stI x1 0 (p 0) (0, 0, 0, 0)) M (by decide) hs hm
  rw [show psI x0 (bI z) (bI o) (Int32.ofNat k) 1 M = p 1 from ps 1 (by decide)] at e1
  have e2 := kb_step κ14 P14 (f + 6) x0 x1 v u (bI z) (bI o) (Int32.ofNat k) 2 (stI x1 1 (p 1) (stI x1 0 (p 0) (0, 0, 0, 0))) M (by decide) hs hm
  rw [show psI x0 (bI z) (bI o) (Int32.ofNat k) 2 M = p 2 from ps 2 (by decide)] at e2
  have e3 := kb_step κ14 P14 (f + 5) x0 x1 v u (bI z) (bI o) (Int32.ofNat k) 3 (stI x1 2 (p 2) (stI x1 1 (p 1) (stI x1 0 (p 0) (0, 0, 0, 0)))) M (by decide) hs hm
  rw [show psI x0 (bI z) (bI o) (Int32.ofNat k) 3 M = p 3 from ps 3 (by decide)] at e3
  have e4 := kb_step κ14 P14 (f + 4) x0 x1 v u (bI z) (bI o) (Int32.ofNat k) 4 (stI x1 3 (p 3) (stI x1 2 (p 2) (stI x1 1 (p 1) (stI x1 0 (p 0) (0, 0, 0, 0))))) M (by decide) hs hm
  rw [show psI x0 (bI z) (bI o) (Int32.ofNat k) 4 M = p 4 from ps 4 (by decide)] at e4
  have e5 := kb_step κ14 P14 (f + 3) x0 x1 v u (bI z) (bI o) (Int32.ofNat k) 5 (stI x1 4 (p 4) (stI x1 3 (p 3) (stI x1 2 (p 2) (stI x1 1 (p 1) (stI x1 0 (p 0) (0, 0, 0, 0)))))) M (by decide) hs hm
  rw [show psI x0 (bI z) (bI o) (Int32.ofNat k) 5 M = p 5 from ps 5 (by decide)] at e5
  have e6 := kb_step κ14 P14 (f + 2) x0 x1 v u (bI z) (bI o) (Int32.ofNat k) 6 (stI x1 5 (p 5) (stI x1 4 (p 4) (stI x1 3 (p 3) (stI x1 2 (p 2) (stI x1 1 (p 1) (stI x1 0 (p 0) (0, 0, 0, 0))))))) M (by decide) hs hm
  rw [show psI x0 (bI z) (bI o) (Int32.ofNat k) 6 M = p 6 from ps 6 (by decide)] at e6
  have e7 := kb_step κ14 P14 (f + 1) x0 x1 v u (bI z) (bI o) (Int32.ofNat k) 7 (stI x1 6 (p 6) (stI x1 5 (p 5) (stI x1 4 (p 4) (stI x1 3 (p 3) (stI x1 2 (p 2) (stI x1 1 (p 1) (stI x1 0 (p 0) (0, 0, 0, 0)))))))) M (by decide) hs hm
  rw [show psI x0 (bI z) (bI o) (Int32.ofNat k) 7 M = p 7 from ps 7 (by decide)] at e7
  rw [hF] at e7
  exact e0 (e1 (e2 (e3 (e4 (e5 (e6 (e7 (kin_end κ14 P14 f x0 x1 v u _ _ _ n11 n12 iz io M h))))))))
end IN
theorem i32_le64 : ∀ k : Fin 64, ¬ (64 : Int32) ≤ Int32.ofNat k.val := by decide +kernel
/-- the outer loop -/
theorem sum_loop {x0 : Nat} {x1 : Int32} {M : XM} {S U : Int64} {c C : Nat → Bool} (hs : mT M x0 = 27) (h0 : mT M (mR M x0 0) = 104 ∧ ∀ i : Int32, (i = 0 ∨ i = 1 ∨ i = 2) → vp_in i (mN M (mR M x0 0))) (h1 : mT M (mR M x0 1) = 104 ∧ ∀ i : Int32, (i = 0 ∨ i = 1 ∨ i = 2) → vp_in i (mN M (mR M x0 1)))
    (hin : ∀ k, k < 64 → inF x1 (pB (tb (mL M (mR M x0 0) (ix 0)) k) (tb (mL M (mR M x0 1) (ix 0)) k) (tb (mL M (mR M x0 0) (ix 1)) k) (tb (mL M (mR M x0 1) (ix 1)) k) (!c k) (C k)) = (bI (tb U k || !tb S k), bI (tb U k || tb S k), bI (!c (k + 1)), bI (C (k + 1)))) :
    ∀ (m k f : Nat) (v u : Int64), k + m = 64 → m < f → (∀ j, tb u j = (decide (j < k) && tb U j)) → (∀ j, tb v j = (decide (j < k) && (tb S j && !tb U j))) →
      K_Sets_sumBits_14 f x0 x1 v u (bI (!c k)) (bI (C k)) (Int32.ofNat k) M ∧ g_Sets_sumBits_14 f x0 x1 v u (bI (!c k)) (bI (C k)) (Int32.ofNat k) M = wL (wL M (mR M x0 0) (ix 2) (S &&& (U ^^^ (-1)))) (mR M x0 1) (ix 2) U := by
  intro m
  induction m with
  | zero =>
    intro k f v u hk hf hu hv
    obtain rfl : k = 64 := by omega
    obtain ⟨f, rfl⟩ : ∃ f', f = f' + 1 := ⟨f - 1, by omega⟩
    conv => unfold K_Sets_sumBits_14 g_Sets_sumBits_14
    have i1 : (64 : Int32) ≤ Int32.ofNat 64 := by decide
    rw [if_pos i1]
    have eu : u = U := tb_ext fun j hj => by rw [hu j]; simp [hj]
    have ev : v = S &&& (U ^^^ (-1)) := tb_ext fun j hj => by rw [hv j, tb_and, tb_cpl]; simp [hj]
    rw [eu, ev]
    exact ⟨⟨fun _ => ⟨hs, h0.1, h0.2 2 (by simp), hs, h1.1, h1.2 2 (by simp)⟩, fun z => absurd i1 z⟩, rfl⟩
  | succ m ih =>
    intro k f v u hk hf hu hv
    obtain ⟨f, rfl⟩ : ∃ f', f = f' + 1 := ⟨f - 1, by omega⟩
    have hk64 : k < 64 := by omega
    conv => unfold K_Sets_sumBits_14 g_Sets_sumBits_14
    have i1 := i32_le64 ⟨k, hk64⟩
    rw [if_neg i1]
    obtain ⟨F, hF⟩ := xF_9
    rw [hF]
    have hb := tb_bit hk64
    have hI := hin k hk64
    have km : ∀ p v, (p = 0 ∨ p = 1) → K_Sets_mayBe x0 p (Int32.ofNat k) v M := by
      intro p v hp
      unfold K_Sets_mayBe K_Sets_mayBe_0
      exact ⟨hs, h1.1, h1.2 p (by rcases hp with e | e <;> simp [e]), fun _ => ⟨hs, h0.1, h0.2 p (by rcases hp with e | e <;> simp [e])⟩⟩
    have e1 : Int32.ofNat k + 1 = Int32.ofNat (k + 1) := by rw [Int32.ofNat_add]; rfl
    have nx := ih (k + 1) f (if (tb U k || tb S k) && !(tb U k || !tb S k) then v ||| j_lshl 1 (Int32.ofNat k) else v) (if (tb U k || !tb S k) && (tb U k || tb S k) then u ||| j_lshl 1 (Int32.ofNat k) else u) (by omega) (by omega) ?_ ?_
    · rw [in_all (g_Sets_sumBits_14 f) x0 x1 v u (!c k) (C k) hk64 M F hI, e1]
      refine ⟨⟨fun z => absurd z i1, fun _ => ?_⟩, nx.2⟩
      refine kin_all (g_Sets_sumBits_14 f) (K_Sets_sumBits_14 f) x0 x1 v u (!c k) (C k) hk64 M F hs km hI ?_
      rw [e1]
      exact nx.1
    · intro j
      rcases Nat.lt_trichotomy j k with h | h | h
      · have h2 : j < k + 1 := by omega
        have h3 : ¬ j = k := by omega
        split <;> simp [tb_or, hb, hu j, h, h2, h3]
      · have h2 : ¬ k < k := by omega
        rw [h]
        cases a : tb U k <;> cases b : tb S k <;> simp [tb_or, hb, hu k, a, b]
      · have h2 : ¬ j < k + 1 := by omega
        have h3 : ¬ j = k := by omega
        have h4 : ¬ j < k := by omega
        split <;> simp [tb_or, hb, hu j, h2, h3, h4]
    · intro j
      rcases Nat.lt_trichotomy j k with h | h | h
      · have h2 : j < k + 1 := by omega
        have h3 : ¬ j = k := by omega
        split <;> simp [tb_or, hb, hv j, h, h2, h3]
      · have h2 : ¬ k < k := by omega
        rw [h]
        cases a : tb U k <;> cases b : tb S k <;> simp [tb_or, hb, hv k, a, b]
      · have h2 : ¬ j < k + 1 := by omega
        have h3 : ¬ j = k := by omega
        have h4 : ¬ j < k := by omega
        split <;> simp [tb_or, hb, hv j, h2, h3, h4]
theorem vb_f {b u : Int64} (h : b &&& u = 0) (k : Nat) : (tb b k && tb u k) = false := by
  have := and_0.mp h k
  cases a : tb b k <;> cases c : tb u k <;> simp_all
theorem sum_ok {x0 : Nat} {M : XM} {x y : AV} (hs0 : SS M x0 0) (hs1 : SS M x0 1) (hs2 : SS M x0 2) (hx : tv6 M x0 0 = x) (hy : tv6 M x0 1 = y) (bx : x.b &&& x.u = 0) (bY : y.b &&& y.u = 0) :
    K_Sets_sumBits x0 0 M ∧ g_Sets_sumBits x0 0 M = wL (wL M (mR M x0 0) (ix 2) ((x.b + y.b) &&& (sumU x y ^^^ (-1)))) (mR M x0 1) (ix 2) (sumU x y) := by
  have e0 : mL M (mR M x0 0) (ix 0) = x.b := by rw [← hx]; rfl
  have e1 : mL M (mR M x0 1) (ix 0) = x.u := by rw [← hx]; rfl
  have e2 : mL M (mR M x0 0) (ix 1) = y.b := by rw [← hy]; rfl
  have e3 : mL M (mR M x0 1) (ix 1) = y.u := by rw [← hy]; rfl
  have ar : ∀ q, q < 6 → mT M (mR M x0 q) = 104 ∧ ∀ i : Int32, (i = 0 ∨ i = 1 ∨ i = 2) → vp_in i (mN M (mR M x0 q)) := fun q hq => ⟨(hs0.2.1 q hq).1, fun i hi => by
    rcases hi with rfl | rfl | rfl
    · exact (hs0.2.1 q hq).2
    · exact (hs1.2.1 q hq).2
    · exact (hs2.2.1 q hq).2⟩
  have L := sum_loop (x1 := 0) (S := x.b + y.b) (U := sumU x y) (c := fun k => cr k x.b y.b) (C := fun k => cr k (x.b ||| x.u) (y.b ||| y.u)) hs0.1 (ar 0 (by decide)) (ar 1 (by decide)) (fun k hk => by
    rw [e0, e1, e2, e3, in_plus _ _ _ _ _ _ (vb_f bx k) (vb_f bY k) ?_, tb_sumU bx bY hk, tb_add hk, cr_succ, cr_succ, tb_or, tb_or]
    have := cr_mono (x := x.b) (y := y.b) (x' := x.b ||| x.u) (y' := y.b ||| y.u) (fun j => or_up j) (fun j => or_up j) k
    cases a : cr k x.b y.b <;> cases b : cr k (x.b ||| x.u) (y.b ||| y.u) <;> simp_all) 64 0 xF 0 0 (by decide) xF_64 (fun j => by rw [tb_zero]; simp) (fun j => by rw [tb_zero]; simp)
  rw [cr_zero, cr_zero] at L
  exact L
theorem sub_ok {x0 : Nat} {M : XM} {x y : AV} (hs0 : SS M x0 0) (hs1 : SS M x0 1) (hs2 : SS M x0 2) (hx : tv6 M x0 0 = x) (hy : tv6 M x0 1 = y) (bx : x.b &&& x.u = 0) (bY : y.b &&& y.u = 0) :
    K_Sets_sumBits x0 1 M ∧ g_Sets_sumBits x0 1 M = wL (wL M (mR M x0 0) (ix 2) ((x.b - y.b) &&& (subU x y ^^^ (-1)))) (mR M x0 1) (ix 2) (subU x y) := by
  have e0 : mL M (mR M x0 0) (ix 0) = x.b := by rw [← hx]; rfl
  have e1 : mL M (mR M x0 1) (ix 0) = x.u := by rw [← hx]; rfl
  have e2 : mL M (mR M x0 0) (ix 1) = y.b := by rw [← hy]; rfl
  have e3 : mL M (mR M x0 1) (ix 1) = y.u := by rw [← hy]; rfl
  have ar : ∀ q, q < 6 → mT M (mR M x0 q) = 104 ∧ ∀ i : Int32, (i = 0 ∨ i = 1 ∨ i = 2) → vp_in i (mN M (mR M x0 q)) := fun q hq => ⟨(hs0.2.1 q hq).1, fun i hi => by
    rcases hi with rfl | rfl | rfl
    · exact (hs0.2.1 q hq).2
    · exact (hs1.2.1 q hq).2
    · exact (hs2.2.1 q hq).2⟩
  have L := sum_loop (x1 := 1) (S := x.b - y.b) (U := subU x y) (c := fun k => br k (x.b ||| x.u) y.b) (C := fun k => br k x.b (y.b ||| y.u)) hs0.1 (ar 0 (by decide)) (ar 1 (by decide)) (fun k hk => by
    have m1 := br_mono (x := x.b ||| x.u) (y := y.b) (x' := x.b) (y' := y.b) (fun j => or_up j) (fun _ => id) k
    have m2 := br_mono (x := x.b) (y := y.b) (x' := x.b) (y' := y.b ||| y.u) (fun _ => id) (fun j => or_up j) k
    rw [e0, e1, e2, e3, in_minus _ _ _ _ _ _ (vb_f bx k) (vb_f bY k) ?_, tb_subU bx bY hk, tb_sub hk, br_succ hk, br_succ hk, tb_or, tb_or]
    · cases a : br k (x.b ||| x.u) y.b <;> cases b : br k x.b (y.b ||| y.u) <;> cases c : br k x.b y.b <;> simp_all
    · cases a : br k (x.b ||| x.u) y.b <;> cases b : br k x.b (y.b ||| y.u) <;> cases c : br k x.b y.b <;> simp_all) 64 0 xF 0 0 (by decide) xF_64 (fun j => by rw [tb_zero]; simp) (fun j => by rw [tb_zero]; simp)
  rw [br_zero, br_zero] at L
  exact L
