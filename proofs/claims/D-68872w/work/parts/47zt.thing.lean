/-! part 47zt: the component's things and states on memory (gen/tpl.py) -/
abbrev TH : Type := Int32 × Int32 × Int32 × AV
abbrev TH.so (t : TH) : Int32 := t.1
abbrev TH.de (t : TH) : Int32 := t.2.1
abbrev TH.og (t : TH) : Int32 := t.2.2.1
abbrev TH.va (t : TH) : AV := t.2.2.2
def thC (M : XM) (r : Nat) : TH := (mI M r 0, mI M r 1, mI M r 2, gv6 M (r + 1))
def sT (M : XM) (r : Nat) (t : TH) : XM := (fun a j => if a = r ∧ j < 3 then (if j = 0 then t.so else if j = 1 then t.de else t.og) else M.1 a j, fun a j => if a = r + 1 ∧ j < 6 then sel t.va j else M.2.1 a j, M.2.2)
section ST
variable (M : XM) (r : Nat) (t t' : TH)
theorem sel_gv {a j : Nat} (h : j < 6) : sel (gv6 M a) j = mL M a j := six (P := fun j => sel (gv6 M a) j = mL M a j) rfl rfl rfl rfl rfl rfl j h
theorem three {P : Nat → Prop} (h0 : P 0) (h1 : P 1) (h2 : P 2) : ∀ j, j < 3 → P j
  | 0, _ => h0
  | 1, _ => h1
  | 2, _ => h2
  | _ + 3, h => absurd h (by omega)
theorem sT_i {i : Nat} {v : Int32} (hi : i < 3) (hw : t.va = gv6 M (r + 1)) (ht : ∀ j, j < 3 → (if j = 0 then t.so else if j = 1 then t.de else t.og) = if j = i then v else mI M r j) : wI M r i v = sT M r t := by
  unfold wI sT
  refine Prod.ext ?_ (Prod.ext ?_ rfl)
  · funext a j
    show (if a = r ∧ j = i then v else M.1 a j) = if a = r ∧ j < 3 then _ else M.1 a j
    by_cases h1 : a = r
    · by_cases h2 : j < 3
      · have e2 : (if a = r ∧ j < 3 then (if j = 0 then t.so else if j = 1 then t.de else t.og) else M.1 a j) = if j = i then v else mI M r j := by rw [if_pos ⟨h1, h2⟩, ht j h2]
        rw [e2]
        by_cases h3 : j = i
        · rw [if_pos ⟨h1, h3⟩, if_pos h3]
        · rw [if_neg (fun z => h3 z.2), if_neg h3, h1]; rfl
      · rw [if_neg (fun z => h2 (by have := z.2; omega)), if_neg (fun z => h2 z.2)]
    · rw [if_neg (fun z => h1 z.1), if_neg (fun z => h1 z.1)]
  · funext a j
    show M.2.1 a j = if a = r + 1 ∧ j < 6 then sel t.va j else M.2.1 a j
    by_cases h : a = r + 1 ∧ j < 6
    · rw [if_pos h, hw, sel_gv M h.2, h.1]; rfl
    · rw [if_neg h]
theorem sTi0 (v : Int32) : wI M r 0 v = sT M r (v, (thC M r).de, (thC M r).og, (thC M r).va) := sT_i M r _ (by decide) rfl (three rfl rfl rfl)
theorem sTi1 (v : Int32) : wI M r 1 v = sT M r ((thC M r).so, v, (thC M r).og, (thC M r).va) := sT_i M r _ (by decide) rfl (three rfl rfl rfl)
theorem sTi2 (v : Int32) : wI M r 2 v = sT M r ((thC M r).so, (thC M r).de, v, (thC M r).va) := sT_i M r _ (by decide) rfl (three rfl rfl rfl)
theorem sTv (w : AV) : sV M (r + 1) w = sT M r ((thC M r).so, (thC M r).de, (thC M r).og, w) := by
  unfold sV sT
  refine Prod.ext ?_ rfl
  funext a j
  show M.1 a j = if a = r ∧ j < 3 then (if j = 0 then mI M r 0 else if j = 1 then mI M r 1 else mI M r 2) else M.1 a j
  by_cases h : a = r ∧ j < 3
  · rw [if_pos h, h.1]
    exact three (P := fun j => M.1 r j = if j = 0 then mI M r 0 else if j = 1 then mI M r 1 else mI M r 2) rfl rfl rfl j h.2
  · rw [if_neg h]
theorem gv6_sT : gv6 (sT M r t) (r + 1) = t.va := by
  have : ∀ j, j < 6 → mL (sT M r t) (r + 1) j = sel t.va j := fun j hj => if_pos ⟨rfl, hj⟩
  unfold gv6
  rw [this 0 (by decide), this 1 (by decide), this 2 (by decide), this 3 (by decide), this 4 (by decide), this 5 (by decide)]
  rfl
theorem thC_sT : thC (sT M r t) r = t := by
  unfold thC
  rw [gv6_sT]
  have : ∀ j, j < 3 → mI (sT M r t) r j = if j = 0 then t.so else if j = 1 then t.de else t.og := fun j hj => if_pos ⟨rfl, hj⟩
  rw [this 0 (by decide), this 1 (by decide), this 2 (by decide)]
  rfl
theorem mI_sTne {a : Nat} (h : a ≠ r) (k : Nat) : mI (sT M r t) a k = mI M a k := if_neg (fun z => h z.1)
theorem mI_sT3 {k : Nat} (h : 3 ≤ k) (a : Nat) : mI (sT M r t) a k = mI M a k := if_neg (fun z => by have := z.2; omega)
theorem mL_sTne {a : Nat} (h : a ≠ r + 1) (k : Nat) : mL (sT M r t) a k = mL M a k := if_neg (fun z => h z.1)
theorem gv6_sTne {a : Nat} (h : a ≠ r + 1) : gv6 (sT M r t) a = gv6 M a := by
  unfold gv6
  simp only [mL_sTne M r t h]
theorem thC_sTne {a : Nat} (h : a ≠ r) : thC (sT M r t) a = thC M a := by
  unfold thC
  rw [mI_sTne M r t h, mI_sTne M r t h, mI_sTne M r t h, gv6_sTne M r t (by omega)]
theorem sT_sT : sT (sT M r t) r t' = sT M r t' := by
  unfold sT
  refine Prod.ext ?_ (Prod.ext ?_ rfl)
  · funext a j
    show (if a = r ∧ j < 3 then (if j = 0 then t'.so else if j = 1 then t'.de else t'.og) else if a = r ∧ j < 3 then (if j = 0 then t.so else if j = 1 then t.de else t.og) else M.1 a j) = if a = r ∧ j < 3 then (if j = 0 then t'.so else if j = 1 then t'.de else t'.og) else M.1 a j
    by_cases h : a = r ∧ j < 3
    · rw [if_pos h, if_pos h]
    · rw [if_neg h, if_neg h, if_neg h]
  · funext a j
    show (if a = r + 1 ∧ j < 6 then sel t'.va j else if a = r + 1 ∧ j < 6 then sel t.va j else M.2.1 a j) = if a = r + 1 ∧ j < 6 then sel t'.va j else M.2.1 a j
    by_cases h : a = r + 1 ∧ j < 6
    · rw [if_pos h, if_pos h]
    · rw [if_neg h, if_neg h, if_neg h]
theorem mR_sT (a k : Nat) : mR (sT M r t) a k = mR M a k := rfl
theorem mT_sT (a : Nat) : mT (sT M r t) a = mT M a := rfl
theorem mN_sT (a : Nat) : mN (sT M r t) a = mN M a := rfl
end ST
theorem tpS (a b c : Int32) (w : AV) : TH.so (a, b, c, w) = a := rfl
theorem tpD (a b c : Int32) (w : AV) : TH.de (a, b, c, w) = b := rfl
theorem tpO (a b c : Int32) (w : AV) : TH.og (a, b, c, w) = c := rfl
theorem tpV (a b c : Int32) (w : AV) : TH.va (a, b, c, w) = w := rfl
section TM
variable {M : XM} {r : Nat}
theorem h_become (h : ShTh M r) (s d f : Int32) : g_Thing_become r s d f M = sT M r (s, d, f, vOne 0) ∧ K_Thing_become r s d f M := by
  constructor
  · unfold g_Thing_become g_Thing_become_0 g_Thing_become_15
    simp only [mR_wI, h.2.1, v_only, sTi0, sTi1, sTi2, thC_sT, sT_sT, mR_sT, sTv, tpS, tpD, tpO, tpV]
  · unfold K_Thing_become K_Thing_become_0 K_Thing_become_15 K_Value_only K_Value_only_0
    simp only [mR_wI, mT_wI, h.2.1, h.1, h.2.2, and_self]
theorem h_nothing (h : ShTh M r) : g_Thing_nothing r M = sT M r (0, 0, -1, vOne 0) ∧ K_Thing_nothing r M := ⟨(h_become h 0 0 (-1)).1, h.1, (h_become h 0 0 (-1)).2⟩
theorem h_bytes (h : ShTh M r) (m : Int32) : g_Thing_bytes r m M = sT M r (9, m, -1, vOne 0) ∧ K_Thing_bytes r m M := ⟨(h_become h 9 m (-1)).1, h.1, (h_become h 9 m (-1)).2⟩
theorem h_number (h : ShTh M r) (v : Int64) : g_Thing_number r v M = sT M r (1, 0, -1, vOne v) ∧ K_Thing_number r v M := by
  obtain ⟨e, k⟩ := h_become h 1 0 (-1)
  constructor
  · unfold g_Thing_number g_Thing_number_0 g_Thing_number_7
    rw [e, mR_sT, h.2.1, v_only, sTv, thC_sT, sT_sT]
  · unfold K_Thing_number K_Thing_number_0 K_Thing_number_7 K_Value_only K_Value_only_0
    rw [e]
    simp only [mR_sT, mT_sT, h.2.1, h.1, h.2.2, k, and_self]
theorem h_copy {o : Nat} (h : ShTh M r) (ho : ShTh M o) : g_Thing_copy r o M = sT M r (thC M o) ∧ K_Thing_copy r o M := by
  constructor
  · unfold g_Thing_copy g_Thing_copy_0 g_Thing_copy_8 g_Thing_copy_16 g_Thing_copy_24
    simp only [mR_wI, h.2.1, ho.2.1, v_copy]
    by_cases c : o = r
    · subst c
      have : ∀ (i : Nat) (v : Int32), v = mI M o i → wI M o i v = M := fun i v hv => by
        unfold wI
        refine Prod.ext ?_ rfl
        funext a j
        show (if a = o ∧ j = i then v else M.1 a j) = M.1 a j
        by_cases h : a = o ∧ j = i
        · rw [if_pos h, hv, h.1, h.2]; rfl
        · rw [if_neg h]
      rw [this 0 _ rfl, this 1 _ rfl, this 2 _ rfl, sTv]
      rfl
    · have e : ∀ (M : XM) i (v : Int32) k, mI (wI M r i v) o k = mI M o k := fun M i v k => by rw [mI_wI, if_neg (fun z => c z.1)]
      have e2 : ∀ (M : XM) i (v : Int32) a, gv6 (wI M r i v) a = gv6 M a := fun M i v a => rfl
      simp only [e, e2]
      simp only [sTi0, sTi1, sTi2, thC_sT, sT_sT, sTv, tpS, tpD, tpO, tpV]
      rfl
  · unfold K_Thing_copy K_Thing_copy_0 K_Thing_copy_8 K_Thing_copy_16 K_Thing_copy_24 K_Value_copy K_Value_copy_0 K_Value_copy_8 K_Value_copy_16 K_Value_copy_24 K_Value_copy_32 K_Value_copy_40
    simp only [mR_wI, mT_wI, mT_wL, h.2.1, ho.2.1, h.1, h.2.2, ho.1, ho.2.2, and_self]
end TM
/-- a state's block of names -/
def BK (r a : Nat) : Prop := r ≤ a ∧ a < r + 152
theorem i32_le75 : ∀ k : Fin 75, ¬ (75 : Int32) ≤ Int32.ofNat k.val := by decide +kernel
theorem ix75 : ∀ k : Fin 76, ix (Int32.ofNat k.val) = k.val := by decide +kernel
theorem vp75 : ∀ k : Fin 75, vp_in (Int32.ofNat k.val) 75 := by unfold vp_in; decide +kernel
theorem xF_75 : 75 < xF := by rw [xF_eq]; decide
theorem scopy_loop {M : XM} {r o : Nat} (hr : ShSt M r) (ho : ShSt M o) (ne : r + 152 ≤ o ∨ o + 152 ≤ r) : ∀ (m k f : Nat) (M1 : XM), k + m = 75 → m < f → M1.2.2 = M.2.2 → (∀ n, n < k → thC M1 (r + 2 + 2 * n) = thC M (o + 2 + 2 * n)) → (∀ a i, ¬ (r + 2 ≤ a ∧ a < r + 152) → mI M1 a i = mI M a i ∧ mL M1 a i = mL M a i) →
    K_State_copy_2 f r o (Int32.ofNat k) M1 ∧ (g_State_copy_2 f r o (Int32.ofNat k) M1).2.2 = M.2.2 ∧ (∀ n, n < 75 → thC (g_State_copy_2 f r o (Int32.ofNat k) M1) (r + 2 + 2 * n) = thC M (o + 2 + 2 * n)) ∧ mI (g_State_copy_2 f r o (Int32.ofNat k) M1) r 1 = mI M o 1 ∧
      (∀ a i, ¬ (r + 2 ≤ a ∧ a < r + 152) → ¬ (a = r ∧ i = 1) → mI (g_State_copy_2 f r o (Int32.ofNat k) M1) a i = mI M a i) ∧ ∀ a i, ¬ (r + 2 ≤ a ∧ a < r + 152) → mL (g_State_copy_2 f r o (Int32.ofNat k) M1) a i = mL M a i := by
  intro m
  induction m with
  | zero =>
    intro k f M1 hk hf e0 e1 e2
    obtain rfl : k = 75 := by omega
    obtain ⟨f, rfl⟩ : ∃ f', f = f' + 1 := ⟨f - 1, by omega⟩
    conv => unfold K_State_copy_2 g_State_copy_2
    have i1 : (75 : Int32) ≤ Int32.ofNat 75 := by decide
    rw [if_pos i1]
    refine ⟨⟨fun _ => ⟨(eT e0 o).trans ho.1, (eT e0 r).trans hr.1⟩, fun z => absurd i1 z⟩, e0, fun n hn => ?_, ?_, fun a i h1 h2 => ?_, fun a i h1 => (e2 a i h1).2⟩
    · have : thC (wI M1 r 1 (mI M1 o 1)) (r + 2 + 2 * n) = thC M1 (r + 2 + 2 * n) := by
        unfold thC
        have z : ∀ i, mI (wI M1 r 1 (mI M1 o 1)) (r + 2 + 2 * n) i = mI M1 (r + 2 + 2 * n) i := fun i => by rw [mI_wI, if_neg (by omega)]
        rw [z, z, z]; rfl
      rw [this]; exact e1 n hn
    · rw [mI_wI, if_pos ⟨rfl, rfl⟩]
      exact (e2 o 1 (by omega)).1
    · rw [mI_wI, if_neg h2]; exact (e2 a i h1).1
  | succ m ih =>
    intro k f M1 hk hf e0 e1 e2
    obtain ⟨f, rfl⟩ : ∃ f', f = f' + 1 := ⟨f - 1, by omega⟩
    have hk75 : k < 75 := by omega
    have i1 : ¬ (75 : Int32) ≤ Int32.ofNat k := i32_le75 ⟨k, hk75⟩
    have ik : ix (Int32.ofNat k) = k := ix75 ⟨k, by omega⟩
    have vk : vp_in (Int32.ofNat k) 75 := vp75 ⟨k, hk75⟩
    have r1 := (hr.2.2.2.2 k hk75)
    have o1 := (ho.2.2.2.2 k hk75)
    have er : mR M1 (mR M1 r 0) k = r + 2 + 2 * k := by rw [eR e0, eR e0, hr.2.1, r1.1]
    have eo : mR M1 (mR M1 o 0) k = o + 2 + 2 * k := by rw [eR e0, eR e0, ho.2.1, o1.1]
    obtain ⟨c1, c2⟩ := h_copy (r1.2.kept e0) (o1.2.kept e0)
    have en : Int32.ofNat k + 1 = Int32.ofNat (k + 1) := by rw [Int32.ofNat_add]; rfl
    conv => unfold K_State_copy_2 g_State_copy_2
    rw [if_neg i1]
    unfold g_State_copy_23 K_State_copy_23
    rw [ik, er, eo, c1, en]
    have nx := ih (k + 1) f (sT M1 (r + 2 + 2 * k) (thC M1 (o + 2 + 2 * k))) (by omega) (by omega) e0 (fun n hn => ?_) (fun a i ha => ?_)
    · refine ⟨⟨fun z => absurd z i1, fun _ => ⟨(eT e0 r).trans hr.1, ?_, ?_, (eT e0 o).trans ho.1, ?_, ?_, (r1.2.kept e0).1, c2, nx.1⟩⟩, nx.2⟩
      · rw [eR e0, hr.2.1, eT e0]; exact hr.2.2.1
      · rw [eR e0, hr.2.1, eN e0, hr.2.2.2.1]; exact vk
      · rw [eR e0, ho.2.1, eT e0]; exact ho.2.2.1
      · rw [eR e0, ho.2.1, eN e0, ho.2.2.2.1]; exact vk
    · by_cases q : n = k
      · rw [q, thC_sT]
        have hb : ¬ (r + 2 ≤ o + 2 + 2 * k ∧ o + 2 + 2 * k < r + 152) := by omega
        have hb2 : ¬ (r + 2 ≤ o + 2 + 2 * k + 1 ∧ o + 2 + 2 * k + 1 < r + 152) := by omega
        unfold thC gv6
        rw [(e2 _ 0 hb).1, (e2 _ 1 hb).1, (e2 _ 2 hb).1, (e2 _ 0 hb2).2, (e2 _ 1 hb2).2, (e2 _ 2 hb2).2, (e2 _ 3 hb2).2, (e2 _ 4 hb2).2, (e2 _ 5 hb2).2]
      · rw [thC_sTne _ _ _ (by omega)]; exact e1 n (by omega)
    · rw [mI_sTne _ _ _ (by omega), mL_sTne _ _ _ (by omega)]; exact e2 a i ha
theorem h_scopy {M : XM} {r o : Nat} (hr : ShSt M r) (ho : ShSt M o) (ne : r + 152 ≤ o ∨ o + 152 ≤ r) : K_State_copy r o M ∧ (g_State_copy r o M).2.2 = M.2.2 ∧ (∀ n, n < 75 → thC (g_State_copy r o M) (r + 2 + 2 * n) = thC M (o + 2 + 2 * n)) ∧ mI (g_State_copy r o M) r 1 = mI M o 1 ∧
      (∀ a i, ¬ (r + 2 ≤ a ∧ a < r + 152) → ¬ (a = r ∧ i = 1) → mI (g_State_copy r o M) a i = mI M a i) ∧ ∀ a i, ¬ (r + 2 ≤ a ∧ a < r + 152) → mL (g_State_copy r o M) a i = mL M a i :=
  scopy_loop hr ho ne 75 0 xF M (by decide) xF_75 rfl (fun n hn => absurd hn (Nat.not_lt_zero n)) (fun _ _ _ => ⟨rfl, rfl⟩)
