/-! part 47zzzzc: check, the twin's front (gen/tpl.py) -/
section TCk
variable {n all : Nat} {r : Int32}
theorem t_36 (al : all ≤ 1024) : ∀ (m k f : Nat) (X : XM), k + m = 8 * all → m < f → Sh X →
    ∃ Y, Y.2 = X.2 ∧ (∀ a i, a ≠ 450 → ¬ (a = 448 ∧ (i = 2 ∨ i = 6)) → mI Y a i = mI X a i) ∧ (∀ i, mI Y 450 i = if k ≤ i ∧ i < 8 * all then mI X 449 i else mI X 450 i) ∧ mI Y 448 2 = 0 ∧ mI Y 448 6 = 0 ∧
      (K_Model_check_84 448 (Int32.ofNat all) r 448 (if r = -1 then 0 else 9) Y → K_Model_check_36 f 448 (Int32.ofNat all) r (Int32.ofNat k) X) ∧ g_Model_check_36 f 448 (Int32.ofNat all) r (Int32.ofNat k) X = g_Model_check_84 448 (Int32.ofNat all) r 448 (if r = -1 then 0 else 9) Y := by
  have e8 : (8 : Int32) * Int32.ofNat all = Int32.ofNat (8 * all) := by rw [Int32.ofNat_mul]; rfl
  intro m
  induction m with
  | zero =>
    intro k f X km mf s
    obtain ⟨f, rfl⟩ : ∃ f', f = f' + 1 := ⟨f - 1, by omega⟩
    have le : Int32.ofNat (8 * all) ≤ Int32.ofNat k := (le_ofNat (by omega) (by omega)).mpr (by omega)
    refine ⟨wI (wI X 448 2 0) 448 6 0, rfl, fun a i x y => ?_, fun i => ?_, ?_, ?_, ?_, ?_⟩
    · rw [mI_wI, if_neg (by omega), mI_wI, if_neg (by omega)]
    · rw [if_neg (show ¬ (k ≤ i ∧ i < 8 * all) by omega), mI_wI, if_neg (by omega), mI_wI, if_neg (by omega)]
    · rw [mI_wI, if_neg (by omega), mI_wI, if_pos ⟨rfl, rfl⟩]
    · rw [mI_wI, if_pos ⟨rfl, rfl⟩]
    · intro z
      unfold K_Model_check_36
      rw [e8]
      refine ⟨fun _ => ⟨s.T448, s.T448, fun c => ?_, fun c => ?_⟩, fun q => absurd le q⟩
      · rw [if_pos c] at z; exact z
      · rw [if_neg c] at z; exact z
    · conv => lhs; unfold g_Model_check_36
      rw [e8, if_pos le]
      by_cases c : r = -1
      · rw [if_pos c, if_pos c]
      · rw [if_neg c, if_neg c]
  | succ m ih =>
    intro k f X km mf s
    obtain ⟨f, rfl⟩ : ∃ f', f = f' + 1 := ⟨f - 1, by omega⟩
    have le : ¬ Int32.ofNat (8 * all) ≤ Int32.ofNat k := fun z => by have := (le_ofNat (by omega) (by omega)).mp z; omega
    obtain ⟨Y, y1, y2, y3, y4, y5, y6, y7⟩ := ih (k + 1) f (wI X 450 k (mI X 449 k)) (by omega) (by omega) (s.kept rfl)
    have v1 : vp_in (Int32.ofNat k) 8192 := vpN (by omega) (by omega)
    refine ⟨Y, y1, fun a i x y => ?_, fun i => ?_, y4, y5, fun z => ?_, ?_⟩
    · rw [y2 a i x y, mI_wI, if_neg (fun q => x q.1)]
    · rw [y3 i]
      by_cases q2 : k + 1 ≤ i ∧ i < 8 * all
      · rw [if_pos q2, if_pos (show k ≤ i ∧ i < 8 * all by omega), mI_wI, if_neg (by omega)]
      · rw [if_neg q2, mI_wI]
        by_cases q : i = k
        · rw [if_pos ⟨rfl, q⟩, if_pos (show k ≤ i ∧ i < 8 * all by omega), q]
        · rw [if_neg (fun z => q z.2), if_neg (show ¬ (k ≤ i ∧ i < 8 * all) by omega)]
    · unfold K_Model_check_36
      rw [e8, s.R448_1, s.R448_3, s.N449, s.N450, ixN (by omega), add1_32]
      exact ⟨fun q => absurd q le, fun _ => ⟨s.T448, s.T448, s.T449, v1, s.T450, v1, y6 z⟩⟩
    · conv => lhs; unfold g_Model_check_36
      rw [e8, if_neg le, s.R448_1, s.R448_3, ixN (by omega), add1_32]
      exact y7
theorem tvk_out {X Y : XM} (e : Y.2 = X.2) (k : Nat) : tvk Y k = tvk X k := by
  have : ∀ a i, mL Y a i = mL X a i := fun a i => by show Y.2.1 a i = X.2.1 a i; rw [e]
  unfold tvk
  rw [this, this, this, this, this, this]
def TA (n : Nat) (X Y : XM) : Prop := TW Y ∧ J10 Y ∧ TC X Y ∧ (∀ i, i < 8 * (n / 8) → mI Y 450 i = mI X 449 i) ∧ BYT (fun i => mI Y 450 i) ∧ mI Y 448 2 = 0 ∧ mI Y 448 6 = 0 ∧ (∀ i, mI Y 449 i = mI X 449 i) ∧ mpT Y = mpT X
theorem t_front {X : XM} (tw : TW X) (j10 : J10 X) (hn : n ≤ 8192) (h2 : mI X 448 2 = Int32.ofNat n) (b9 : BYT (fun i => mI X 449 i)) (b0 : BYT (fun i => mI X 450 i)) :
    ∃ r Y, TA n X Y ∧ FR (fun i => mI X 449 i) n r ∧ (K_Model_check_84 448 (Int32.ofNat (n / 8)) r 448 (if r = -1 then 0 else 9) Y → K_Model_check 448 X) ∧ g_Model_check 448 X = g_Model_check_84 448 (Int32.ofNat (n / 8)) r 448 (if r = -1 then 0 else 9) Y := by
  have s := tw.1
  have xf := xF_eq
  -- with the wrong place, or none
  suffices H : ∀ X1 : XM, TSt (fun i => mI X 449 i) n X1 → TW X1 → J10 X1 → TC X X1 → (∀ i, mI X1 450 i = mI X 450 i) → mpT X1 = mpT X →
      ∃ r X2, FR (fun i => mI X 449 i) n r ∧ FT X1 X2 ∧ (K_Model_check_33 448 (Int32.ofNat (n / 8)) r X2 → K_Model_check_13 448 (Int32.ofNat (n / 8)) X1) ∧ g_Model_check_13 448 (Int32.ofNat (n / 8)) X1 = g_Model_check_33 448 (Int32.ofNat (n / 8)) r X2 by
    have k : ∀ a i, ¬ (a = 448 ∧ i = 0) → mI (wI X 448 0 0) a i = mI X a i := fun a i z => by rw [mI_wI, if_neg z]
    obtain ⟨r, X2, f, ft, hk, hg⟩ := H (wI X 448 0 0) ⟨s.kept rfl, funext (fun i => k 449 i (by omega)), by rw [k 448 2 (by omega)]; exact h2⟩ (tw.wi (by decide)) (j10.same (k 457 _ (by omega))) (TC.wi (by decide)) (fun i => k 450 i (by omega)) (by
      unfold mpT
      simp only [fun j => k 451 j (by omega), fun j => k 452 j (by omega), fun j => k 453 j (by omega)])
    have tw2 := ft.tw (tw.wi (by decide : 448 ≠ 457 ∧ 448 ≠ 458 ∧ 448 ≠ 459 ∧ 448 ≠ 467) (i := 0) (v := 0))
    obtain ⟨Y, y1, y2, y3, y4, y5, y6, y7⟩ := t_36 (r := r) (all := n / 8) (by omega) (8 * (n / 8)) 0 xF X2 (by omega) (by omega) tw2.1
    rw [show Int32.ofNat 0 = 0 from rfl] at y6 y7
    have m2 : ∀ a i, ¬ (a = 448 ∧ (i = 0 ∨ i = 2 ∨ i = 6 ∨ (19 ≤ i ∧ i ≤ 23))) → a ≠ 450 → mI Y a i = mI X a i := fun a i z ha => by
      rw [y2 a i ha (by omega), ft.2 a i (by omega), k a i (by omega)]
    refine ⟨r, Y, ⟨?_, j10.same (m2 457 _ (by omega) (by decide)), ⟨?_, fun a i z => ⟨m2 a i (by omega) (by omega), ?_⟩⟩, fun i hi => ?_, fun i hi => ?_, y4, y5, fun i => m2 449 i (by omega) (by decide), ?_⟩, f, fun z => ?_, ?_⟩
    · refine ⟨tw2.1.kept (by rw [y1]), fun i hi => ?_, ?_, ?_⟩
      · have e1 : tE Y i = tE X2 i := y2 467 _ (by decide) (by omega)
        have e2 : (tR Y i).va = (tR X2 i).va := tvk_out y1 _
        rw [e1, e2]; exact tw2.2.1 i hi
      · rw [tvk_out y1]; exact tw2.2.2.1
      · have e1 : tek Y 6 = tek X2 6 := y2 467 _ (by decide) (by omega)
        rw [e1]; exact tw2.2.2.2
    · rw [y1, ft.1]; rfl
    · show Y.2.1 a i = X.2.1 a i
      rw [y1, ft.1]; rfl
    · rw [y3 i, if_pos ⟨Nat.zero_le _, hi⟩, ft.2 449 i (by omega), k 449 i (by omega)]
    · show ∃ m, m < 256 ∧ mI Y 450 i = Int32.ofNat m
      rw [y3 i]
      by_cases q : 0 ≤ i ∧ i < 8 * (n / 8)
      · rw [if_pos q, ft.2 449 i (by omega), k 449 i (by omega)]; exact b9 i hi
      · rw [if_neg q, ft.2 450 i (by omega), k 450 i (by omega)]; exact b0 i hi
    · unfold mpT
      simp only [fun j => m2 451 j (by omega) (by decide), fun j => m2 452 j (by omega) (by decide), fun j => m2 453 j (by omega) (by decide)]
    · unfold K_Model_check K_Model_check_0 K_Model_check_5
      rw [k 448 2 (by omega), h2, (div8 hn).1]
      exact ⟨s.T448, s.T448, hk (y6 z)⟩
    · unfold g_Model_check g_Model_check_0 g_Model_check_5
      rw [k 448 2 (by omega), h2, (div8 hn).1, hg]
      exact y7
  intro X1 ts tw1 _ _ _ _
  unfold K_Model_check_13 g_Model_check_13
  obtain ⟨k1, f1, p1⟩ := t_place hn b9 (n / 8) 0 xF X1 (by omega) (by omega) ts rfl (fun j hj => absurd hj (Nat.not_lt_zero j))
  rw [show Int32.ofNat 0 = 0 from rfl] at k1 f1 p1
  have k1' : K_Model_wrongPlace 448 (Int32.ofNat (n / 8)) X1 := k1
  have f1' : FT X1 (g_Model_wrongPlace 448 (Int32.ofNat (n / 8)) X1).2 := f1
  have p1' : FPl (fun i => mI X 449 i) n (g_Model_wrongPlace 448 (Int32.ofNat (n / 8)) X1).1 := p1
  generalize g_Model_wrongPlace 448 (Int32.ofNat (n / 8)) X1 = G at f1' p1' ⊢
  unfold K_Model_check_18 g_Model_check_18
  by_cases c : G.1 = -1
  · rw [if_pos c]
    rcases p1' with ⟨p, a1, _, _, _, a5⟩ | ⟨a1, a2⟩
    · exact absurd (a5.symm.trans c) (ne_neg1 (by omega))
    · rcases a2 with a2 | ⟨a2, a3, _⟩
      · exact absurd (a2.2.symm.trans c) (ne_neg1 (by omega))
      · have ts2 := ts.ft f1'
        obtain ⟨k2, f2, p2⟩ := t_way (n := n) (all := n / 8) (by omega) b9 a1 (n / 8) 0 xF G.2 (by omega) (by omega) (by omega) ts2 rfl (fun j hj => absurd hj (Nat.not_lt_zero j))
        rw [show Int32.ofNat 0 = 0 from rfl] at k2 f2 p2
        exact ⟨_, _, Or.inr ⟨a1, Or.inr ⟨a2, a3, p2⟩⟩, f1'.trans f2, fun z => ⟨tw1.1.T448, k1', fun _ => ⟨ts2.1.T448, k2, z⟩, fun q => absurd c q⟩, rfl⟩
  · rw [if_neg c]
    refine ⟨G.1, G.2, ?_, f1', fun z => ⟨tw1.1.T448, k1', fun q => absurd q c, fun _ => z⟩, rfl⟩
    rcases p1' with a | ⟨a1, a2⟩
    · exact Or.inl a
    · rcases a2 with a2 | ⟨a2, a3, a4⟩
      · exact Or.inr ⟨a1, Or.inl a2⟩
      · exact absurd a4 c
end TCk
