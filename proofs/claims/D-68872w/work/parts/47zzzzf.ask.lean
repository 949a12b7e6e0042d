/-! part 47zzzzf: asking, on both sides: what is kept, the fields (gen/tpl.py) -/
section LIf
variable {n : Nat} {M X : XM}
theorem LI.fr (h : LI n M) (s : Sh X) (i : StI X) (e : ∀ a j, a < 469 → ¬ (a = 448 ∧ j = 0) → mI X a j = mI M a j) (l : ∀ a j, a < 468 → mL X a j = mL M a j) (t : ∀ k, k < 1024 → TbC X k = TbC M k) : LI n X := by
  obtain ⟨h1, h2, h3, h4, h5, h6, h7, h8, h9, h10, h11, h12, h13, h14⟩ := h
  have o : ∀ a j, 449 ≤ a → a < 468 → mI X a j = mI M a j ∧ mL X a j = mL M a j := fun a j x y => ⟨e a j (by omega) (by omega), l a j y⟩
  have mt : mpT X = mpT M := by
    unfold mpT
    simp only [fun i => e 451 i (by decide) (by omega), fun i => e 452 i (by decide) (by omega), fun i => e 453 i (by decide) (by omega)]
  have mc : mpC X = mpC M := by
    unfold mpC
    simp only [fun i => e 107 i (by decide) (by omega), fun i => e 108 i (by decide) (by omega), fun i => e 109 i (by decide) (by omega)]
  refine ⟨i, h2.out s o, h3.same (e 457 _ (by decide) (by omega)), fun k hk => by rw [t k hk, TbT.out o]; exact h4 k hk, by rw [mc, mt]; exact h5, by rw [mt]; exact h6, h7, by rw [e 445 1 (by decide) (by omega)]; exact h8, by rw [e 448 2 (by decide) (by omega)]; exact h9, fun i hi => ?_, fun i => by rw [e 446 i (by decide) (by omega)]; exact h11 i, ?_, ?_, ?_⟩
  · unfold bC
    rw [e 446 i (by decide) (by omega), e 449 i (by decide) (by omega)]; exact h10 i hi
  · have : (fun i => mI X 450 i) = fun i => mI M 450 i := funext (fun i => e 450 i (by decide) (by omega))
    rw [this]; exact h12
  · rw [e 101 7 (by decide) (by omega), e 448 5 (by decide) (by omega)]; exact h13
  · rw [e 101 8 (by decide) (by omega), e 448 6 (by decide) (by omega)]; exact h14
theorem LI.sh (h : LI n M) : Sh M := h.2.1.1
theorem LI.w0 (h : LI n M) (v : Int32) : LI n (wI M 448 0 v) ∧ pC (wI M 448 0 v) = pC M ∧ pS (wI M 448 0 v) = pS M :=
  ⟨h.fr (h.sh.kept rfl) (h.1.kept rfl) (fun a j _ z => by rw [mI_wI, if_neg z]) (fun _ _ _ => rfl) (fun k hk => TbC.out (M := M) (X := wI M 448 0 v) rfl h.1 (fun a j ha => ⟨by rw [mI_wI, if_neg (by omega)], rfl⟩) hk), rfl, rfl⟩
theorem LI.wl (h : LI n M) (v : Int64) : LI n (wL M 468 0 v) ∧ pC (wL M 468 0 v) = pC M ∧ pS (wL M 468 0 v) = pS M :=
  ⟨h.fr (h.sh.kept rfl) (h.1.kept rfl) (fun a j _ z => rfl) (fun a j ha => by rw [mL_wL, if_neg (by omega)]) (fun k hk => TbC.out (M := M) (X := wL M 468 0 v) rfl h.1 (fun a j ha => ⟨rfl, by rw [mL_wL, if_neg (by omega)]⟩) hk), rfl, rfl⟩
theorem LI.wn (h : LI n M) (t : Nat) : LI n (wN M t 6) ∧ pC (wN M t 6) = pC M + 1 ∧ pS (wN M t 6) = pS M + 6 := by
  have hC := h.sh.C
  have old : Old (mC M) M (wN M t 6) := Old.wn (Nat.le_refl _)
  have mc : mC (wN M t 6) = mC M + 1 := rfl
  have ms : mS (wN M t 6) = mS M + 6 := rfl
  have er : ∀ k, mR (wN M t 6) 442 k = mR M 442 k := fun k => ((old 442 (by omega)).1 k).2.2
  have kp : Kp M (wN M t 6) := ⟨fun a ha => ⟨(old a (by omega)).2.1, (old a (by omega)).2.2⟩, fun a i ha _ => ((old a (by omega)).1 i).2.2, by rw [mc]; omega⟩
  have st : StI (wN M t 6) := by
    refine ⟨fun k hk => ?_, fun k k' a b c d e => by rw [er, er] at *; exact h.1.2 k k' a b c d e⟩
    rw [er, mc]
    rcases h.1.1 k hk with z | ⟨z1, z2, z3⟩
    · exact Or.inl z
    · exact Or.inr ⟨z1, by omega, z3.old old (by omega)⟩
  refine ⟨h.fr (h.sh.kp kp) st (fun a j ha _ => ((old a (by omega)).1 j).1) (fun a j ha => ((old a (by omega)).1 j).2.1) (fun k hk => ?_), ?_, ?_⟩
  · by_cases z : mR M 442 k = 0
    · rw [TbC.no (M := M) (fun q => q.1 z), TbC.no (M := wN M t 6) (fun q => q.1 ((er k).trans z))]
    · obtain ⟨b1, b2, _⟩ := (h.1.1 k hk).resolve_left z
      have o : ∀ a j, a < mR M 442 k + 152 → mI (wN M t 6) a j = mI M a j ∧ mL (wN M t 6) a j = mL M a j := fun a j ha => ⟨((old a (by omega)).1 j).1, ((old a (by omega)).1 j).2.1⟩
      refine TbC.eq (er k) (vwC_eq (fun n hn => ?_)) (fun i _ => (o _ i (by omega)).1)
      unfold thC gv6
      rw [(o _ 0 (by omega)).1, (o _ 1 (by omega)).1, (o _ 2 (by omega)).1, (o _ 0 (by omega)).2, (o _ 1 (by omega)).2, (o _ 2 (by omega)).2, (o _ 3 (by omega)).2, (o _ 4 (by omega)).2, (o _ 5 (by omega)).2]
  · unfold pC; simp only [er]; rw [mc]; omega
  · unfold pS; simp only [er]; rw [ms]; omega
/-- what a question of the law leaves: thrown, out, and the rest -/
def AN (n : Nat) (M : XM) (k : Int32) (b : Int64) (Y : XM) : Prop := mI Y 448 0 = k ∧ (k = 0 → mL Y 468 0 = b) ∧ LI n Y ∧ pC Y ≤ pC M + 1 ∧ pS Y ≤ pS M + 6
theorem an_bad (h : LI n M) (t : Nat) (k : Int32) (b : Int64) (k0 : k ≠ 0) : AN n M k b (wI (wN M t 6) 448 0 k) := by
  obtain ⟨a1, a2, a3⟩ := h.wn t
  obtain ⟨b1, b2, b3⟩ := a1.w0 k
  exact ⟨by rw [mI_wI, if_pos ⟨rfl, rfl⟩], fun z => absurd z k0, b1, by rw [b2, a2]; omega, by rw [b3, a3]; omega⟩
theorem an_ok (h : LI n M) (v : Int64) : AN n M 0 v (wI (wL M 468 0 v) 448 0 0) := by
  obtain ⟨a1, a2, a3⟩ := h.wl v
  obtain ⟨b1, b2, b3⟩ := a1.w0 0
  exact ⟨by rw [mI_wI, if_pos ⟨rfl, rfl⟩], fun _ => by show mL (wL M 468 0 v) 468 0 = v; rw [mL_wL, if_pos ⟨rfl, rfl⟩], b1, by rw [b2, a2]; omega, by rw [b3, a3]; omega⟩
theorem i32N {x : Int32} (h : ¬ x < 0) : x = Int32.ofNat (ix x) ∧ ((ix x : Nat) : Int) = x.toInt := by
  have : ¬ x.toInt < (0 : Int32).toInt := fun q => h (lt_u3.mpr q)
  have e0 : (0 : Int32).toInt = 0 := rfl
  have e1 : ((ix x : Nat) : Int) = x.toInt := by
    show ((x.toInt.toNat : Nat) : Int) = x.toInt
    omega
  have lt := Int32.toInt_lt x
  refine ⟨Int32.toInt_inj.mp ?_, e1⟩
  rw [toInt_ofNat32 (by omega), e1]
theorem i32lt {x : Int32} {m : Nat} (hm : m < 2147483648) (h : ¬ x < 0) (h2 : ¬ Int32.ofNat m ≤ x) : ∃ k, k < m ∧ x = Int32.ofNat k := by
  obtain ⟨e1, e2⟩ := i32N h
  have lt := Int32.toInt_lt x
  refine ⟨ix x, ?_, e1⟩
  rw [e1, le_ofNat hm (by omega)] at h2
  omega
theorem t_noThing (s : Sh X) (x1 x2 : Int32) : K_Model_noThing 448 x1 x2 X ∧ g_Model_noThing 448 x1 x2 X = if b_at x1 x2 then (1, wI X 448 0 1) else (0, wI X 448 0 0) := by
  unfold K_Model_noThing g_Model_noThing K_Model_noThing_0 g_Model_noThing_0 K_Model_noThing_22 g_Model_noThing_22 K_Model_noThing_27 g_Model_noThing_27 K_Model_noThing_30 g_Model_noThing_30
  constructor
  · repeat' (first | exact s.T448 | refine ⟨?_, ?_⟩ | intro _)
  · have e1 : mI (wI X 448 0 1) 448 0 = 1 := by rw [mI_wI, if_pos ⟨rfl, rfl⟩]
    have e0 : mI (wI X 448 0 0) 448 0 = 0 := by rw [mI_wI, if_pos ⟨rfl, rfl⟩]
    rw [e1, e0, if_neg (show ¬ (1 : Int32) ≤ 0 by decide), if_pos (show (0 : Int32) ≤ 0 by decide)]
    by_cases c1 : x1 < 0
    · rw [if_pos c1, if_pos (Or.inl c1)]
    · rw [if_neg c1]
      by_cases c2 : (1024 : Int32) ≤ x1
      · rw [if_pos c2, if_pos (Or.inr (Or.inl c2))]
      · rw [if_neg c2]
        by_cases c3 : x2 < 0
        · rw [if_pos c3, if_pos (Or.inr (Or.inr (Or.inl c3)))]
        · rw [if_neg c3]
          by_cases c4 : x2 < (75 : Int32)
          · rw [if_pos c4, if_neg (fun z => z.elim c1 (fun z => z.elim c2 (fun z => z.elim c3 (fun z => absurd c4 (Int32.not_lt.mpr z)))))]
          · rw [if_neg c4, if_pos (Or.inr (Or.inr (Or.inr (Int32.not_lt.mp c4))))]
theorem LI.see (h : LI n M) {k : Nat} (hk : k < 1024) : (¬ pIs M k ∧ mI M 454 k = 0) ∨ (pIs M k ∧ mI M 454 k ≠ 0 ∧ vwC M (mR M 442 k) = vwT M k ∧ pKn M k = mI M 455 k) := by
  have e := h.2.2.2.1 k hk
  have t0 : mI M 454 k ≠ 0 → TbT M k = some (vwT M k, mI M 455 k, mI M 456 k) := fun z => if_neg z
  by_cases is : pIs M k
  · right
    rw [TbC.is is] at e
    have z : mI M 454 k ≠ 0 := fun z => by rw [TbT.none z] at e; exact absurd e (by simp)
    rw [t0 z] at e
    have := Option.some.inj e
    exact ⟨is, z, (Prod.mk.inj this).1, (Prod.mk.inj (Prod.mk.inj this).2).1⟩
  · left
    refine ⟨is, Decidable.not_not.mp (fun z => ?_)⟩
    rw [TbC.no is, t0 z] at e
    exact absurd e (by simp)
theorem c_seen (h : Sh M) (hI : StI M) {k : Nat} (hk : k < 1024) : K_Checker_seen 101 (Int32.ofNat k) M ∧ (pIs M k → g_Checker_seen 101 (Int32.ofNat k) M = mR M 442 k) ∧ (¬ pIs M k → g_Checker_seen 101 (Int32.ofNat k) M = 0) := by
  unfold K_Checker_seen g_Checker_seen K_Checker_seen_0 g_Checker_seen_0
  rw [h.R101_5, ixN (by omega), h.N442]
  have vk : vp_in (Int32.ofNat k) 1024 := vpN hk (by omega)
  refine ⟨⟨h.T101, h.T442, vk, fun z => ⟨h.T101, h.T442, vk, ((hI.1 k hk).resolve_left z).2.2.1, fun _ => ⟨h.T101, h.T442, vk⟩⟩⟩, fun z => ?_, fun z => ?_⟩
  · rw [if_neg z.1, if_neg z.2]
  · by_cases c : mR M 442 k = 0
    · rw [if_pos c]; rfl
    · rw [if_neg c, if_pos (Decidable.not_not.mp (fun q => z ⟨c, q⟩))]; rfl
theorem c_face (h : Sh M) (hI : StI M) {k m : Nat} (hk : k < 1024) (hm : m < 75) : K_PC_at 100 (Int32.ofNat k) (Int32.ofNat m) M ∧ (pIs M k → g_PC_at 100 (Int32.ofNat k) (Int32.ofNat m) M = (mR M 442 k + 2 + 2 * m, M) ∧ ShTh M (mR M 442 k + 2 + 2 * m)) ∧ (¬ pIs M k → g_PC_at 100 (Int32.ofNat k) (Int32.ofNat m) M = (0, M)) := by
  have z0 : ∀ j : Nat, j < 2147483648 → ¬ Int32.ofNat j < 0 := fun j hj q => by
    rw [lt_u3, toInt_ofNat32 hj] at q
    have e0 : (0 : Int32).toInt = 0 := rfl
    omega
  have l1 : ¬ (1024 : Int32) ≤ Int32.ofNat k := fun z => by have := (le_ofNat (a := 1024) (by decide) (by omega)).mp z; omega
  have l2 : ¬ (75 : Int32) ≤ Int32.ofNat m := fun z => by have := (le_ofNat (a := 75) (by decide) (by omega)).mp z; omega
  have c1 := z0 k (by omega)
  have c2 := z0 m (by omega)
  obtain ⟨s1, s2, s3⟩ := c_seen h hI hk
  unfold K_PC_at g_PC_at K_PC_at_0 g_PC_at_0 K_PC_at_26 g_PC_at_26 K_PC_at_29 g_PC_at_29 K_PC_there g_PC_there K_PC_there_0 g_PC_there_0
  rw [if_neg c1, if_neg l1, if_neg c2, if_neg l2, if_neg i1_0, h.R100_0]
  by_cases is : pIs M k
  · obtain ⟨b1, b2, b3⟩ := (hI.1 k hk).resolve_left is.1
    rw [s2 is]
    unfold K_PC_at_38 g_PC_at_38
    rw [if_neg is.1, b3.2.1, ixN (by omega), (b3.2.2.2.2 m hm).1]
    refine ⟨⟨fun z => absurd z c1, fun _ => ⟨fun z => absurd z l1, fun _ => ⟨fun z => absurd z c2, fun _ => ⟨fun z => absurd z l2, fun _ => ⟨fun z => absurd z i1_0, h.T100, h.T101, s1, fun _ => ⟨b3.1, b3.2.2.1, by rw [b3.2.2.2.1]; exact vpN hm (by omega)⟩⟩⟩⟩⟩⟩, fun _ => ⟨rfl, (b3.2.2.2.2 m hm).2⟩, fun z => absurd is z⟩
  · rw [s3 is]
    unfold K_PC_at_38 g_PC_at_38
    rw [if_pos rfl]
    exact ⟨⟨fun z => absurd z c1, fun _ => ⟨fun z => absurd z l1, fun _ => ⟨fun z => absurd z c2, fun _ => ⟨fun z => absurd z l2, fun _ => ⟨fun z => absurd z i1_0, h.T100, h.T101, s1, fun z => absurd rfl z⟩⟩⟩⟩⟩, fun z => absurd z is, fun _ => rfl⟩
end LIf
