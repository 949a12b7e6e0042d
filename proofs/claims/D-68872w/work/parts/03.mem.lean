/-! part 03: the abstract memory, its tie to a heap, the judgements RW and CW -/
abbrev XV : Type := Int32 ⊕ (Int64 ⊕ Nat)
abbrev XL : Type := List (Option XV)
/-- ints, longs, references (names; 0 is null), tags, lengths, the next name, slots made -/
abbrev XM : Type := (Nat → Nat → Int32) × (Nat → Nat → Int64) × (Nat → Nat → Nat) × (Nat → Nat) × (Nat → Nat) × Nat × Nat
def mI (M : XM) (r k : Nat) : Int32 := M.1 r k
def mL (M : XM) (r k : Nat) : Int64 := M.2.1 r k
def mR (M : XM) (r k : Nat) : Nat := M.2.2.1 r k
def mT (M : XM) (r : Nat) : Nat := M.2.2.2.1 r
def mN (M : XM) (r : Nat) : Nat := M.2.2.2.2.1 r
def mC (M : XM) : Nat := M.2.2.2.2.2.1
def mS (M : XM) : Nat := M.2.2.2.2.2.2
def wI (M : XM) (r k : Nat) (v : Int32) : XM := (fun a j => if a = r ∧ j = k then v else M.1 a j, M.2)
def wL (M : XM) (r k : Nat) (v : Int64) : XM := (M.1, fun a j => if a = r ∧ j = k then v else M.2.1 a j, M.2.2)
def wR (M : XM) (r k : Nat) (v : Nat) : XM := (M.1, M.2.1, fun a j => if a = r ∧ j = k then v else M.2.2.1 a j, M.2.2.2)
/-- a new cell: its tag, its slots -/
def wN (M : XM) (t n : Nat) : XM := (fun a j => if a = mC M then 0 else M.1 a j, fun a j => if a = mC M then 0 else M.2.1 a j, fun a j => if a = mC M then 0 else M.2.2.1 a j, fun a => if a = mC M then t else M.2.2.2.1 a, fun a => if a = mC M then n else M.2.2.2.2.1 a, mC M + 1, mS M + n)
/-- an outcome: an answer, or a thrown object -/
abbrev XO : Type := Option XV ⊕ Nat
/-- what stays: launch, class numbers and slots, array classes, the first new address, the addresses of the old things (1..12 constants, 13 the script), the script's length, the script -/
abbrev XG : Type := Launch × va_G × (Nat → ClassId) × Nat × (Nat → Nat) × Nat × (Nat → Int32)
abbrev XG.l (Γ : XG) : Launch := Γ.1
abbrev XG.D (Γ : XG) : va_G := Γ.2.1
abbrev XG.A (Γ : XG) : Nat → ClassId := Γ.2.2.1
abbrev XG.B (Γ : XG) : Nat := Γ.2.2.2.1
abbrev XG.o (Γ : XG) : Nat → Nat := Γ.2.2.2.2.1
abbrev XG.n (Γ : XG) : Nat := Γ.2.2.2.2.2.1
abbrev XG.x (Γ : XG) : Nat → Int32 := Γ.2.2.2.2.2.2
/-- the address of a name -/
def ad (Γ : XG) (r : Nat) : Nat := if r < 100 then Γ.o r else Γ.B + (r - 100)
def rv (Γ : XG) (r : Nat) : Value := if r = 0 then .null else .ref (ad Γ r)
def cv (Γ : XG) : XV → Value
  | .inl i => .int i
  | .inr (.inl i) => .long i
  | .inr (.inr r) => rv Γ r
/-- what a field of an object of a tag holds -/
def fv (Γ : XG) (M : XM) (t r k : Nat) : Value := match (xft.getD (t - 1) []).getD k 0 with
  | 1 => .long (mL M r k)
  | 2 => rv Γ (mR M r k)
  | _ => .int (mI M r k)
/-- what an element of an array of a tag holds -/
def ev (Γ : XG) (M : XM) (t r k : Nat) : Value := if t = 104 then .long (mL M r k) else if t < 104 then .int (mI M r k) else rv Γ (mR M r k)
def aT (t : Nat) : FieldType := if t = 101 then .boolean else if t = 102 then .byte else if t = 103 then .int else if t = 104 then .long else if t = 105 then .object "ProgramChecker$State" else if t = 106 then .object "ProgramChecker$Thing" else .object "ProgramChecker$Sieve$Operation"
abbrev xtys (Γ : XG) : List (ClassId × FieldType) := [(Γ.A 101, .boolean), (Γ.A 102, .byte), (Γ.A 103, .int), (Γ.A 104, .long), (Γ.A 105, .object "ProgramChecker$State"), (Γ.A 106, .object "ProgramChecker$Thing"), (Γ.A 107, .object "ProgramChecker$Sieve$Operation")]
/-- one cell: nothing for a free name or an old thing; an object; an array -/
def xcell (Γ : XG) (M : XM) (r : Nat) (H : Heap) : Prop :=
  (1 ≤ mT M r → mT M r < 100 → ∃ q : vw_C, xcl[mT M r - 1]? = some q ∧ t_OB (ad Γ r) (Γ.D.1 (mT M r - 1)) q.2.2 (Γ.D.2 (mT M r - 1)) H (fv Γ M (mT M r) r)) ∧
  (100 < mT M r → mT M r < 108 → H[ad Γ r]? = some (arrV (Γ.A (mT M r)) (mN M r) (ev Γ M (mT M r) r))) ∧
  (150 ≤ mT M r → mT M r < 153 → ∃ cell : Cell, H[ad Γ r]? = some cell ∧ cell.vm.isStatics = false ∧ cell.cls = Γ.A (mT M r))
def Rel (Γ : XG) (M : XM) (H : Heap) : Prop :=
  (∀ r, 100 ≤ r → xcell Γ M r H) ∧ 100 ≤ mC M ∧ H.size = Γ.B + (mC M - 100) ∧ (∀ r, mC M ≤ r → mT M r = 0) ∧ (∀ r, r < 100 → mT M r = 0 ∨ 200 ≤ mT M r)
/-- the writable part -/
def XA (Γ : XG) : Nat → Prop := fun q => Γ.B ≤ q
theorem ad_new {Γ : XG} {r : Nat} (h : 100 ≤ r) : ad Γ r = Γ.B + (r - 100) := if_neg (by omega)
theorem ad_A {Γ : XG} {r : Nat} (h : 100 ≤ r) : XA Γ (ad Γ r) := by unfold XA; rw [ad_new h]; omega
theorem ad_inj {Γ : XG} {r q : Nat} (h : 100 ≤ r) (h2 : 100 ≤ q) (e : ad Γ r = ad Γ q) : r = q := by rw [ad_new h, ad_new h2] at e; omega
theorem rv_new {Γ : XG} {r : Nat} (h : r ≠ 0) : rv Γ r = .ref (ad Γ r) := if_neg h
theorem cv_ref {Γ : XG} {r : Nat} (h : r ≠ 0) : cv Γ (.inr (.inr r)) = .ref (ad Γ r) := rv_new h
theorem cv_null {Γ : XG} : cv Γ (.inr (.inr 0)) = .null := rfl
theorem Rel.tag {Γ : XG} {M : XM} {H : Heap} (h : Rel Γ M H) {r : Nat} (h1 : mT M r ≠ 0) (h2 : mT M r < 200) : 100 ≤ r ∧ r < mC M := by
  refine ⟨Nat.not_lt.mp fun q => ?_, Nat.not_le.mp fun q => h1 (h.2.2.2.1 r q)⟩
  rcases h.2.2.2.2 r q with z | z <;> omega
section MemRows
variable {M : XM} {r k a j t n : Nat}
theorem mI_wI {v : Int32} : mI (wI M r k v) a j = if a = r ∧ j = k then v else mI M a j := rfl
theorem mL_wL {v : Int64} : mL (wL M r k v) a j = if a = r ∧ j = k then v else mL M a j := rfl
theorem mR_wR {v : Nat} : mR (wR M r k v) a j = if a = r ∧ j = k then v else mR M a j := rfl
theorem mL_wI {v : Int32} : mL (wI M r k v) a j = mL M a j := rfl
theorem mR_wI {v : Int32} : mR (wI M r k v) a j = mR M a j := rfl
theorem mT_wI {v : Int32} : mT (wI M r k v) a = mT M a := rfl
theorem mN_wI {v : Int32} : mN (wI M r k v) a = mN M a := rfl
theorem mC_wI {v : Int32} : mC (wI M r k v) = mC M := rfl
theorem mS_wI {v : Int32} : mS (wI M r k v) = mS M := rfl
theorem mI_wL {v : Int64} : mI (wL M r k v) a j = mI M a j := rfl
theorem mR_wL {v : Int64} : mR (wL M r k v) a j = mR M a j := rfl
theorem mT_wL {v : Int64} : mT (wL M r k v) a = mT M a := rfl
theorem mN_wL {v : Int64} : mN (wL M r k v) a = mN M a := rfl
theorem mC_wL {v : Int64} : mC (wL M r k v) = mC M := rfl
theorem mS_wL {v : Int64} : mS (wL M r k v) = mS M := rfl
theorem mI_wR {v : Nat} : mI (wR M r k v) a j = mI M a j := rfl
theorem mL_wR {v : Nat} : mL (wR M r k v) a j = mL M a j := rfl
theorem mT_wR {v : Nat} : mT (wR M r k v) a = mT M a := rfl
theorem mN_wR {v : Nat} : mN (wR M r k v) a = mN M a := rfl
theorem mC_wR {v : Nat} : mC (wR M r k v) = mC M := rfl
theorem mS_wR {v : Nat} : mS (wR M r k v) = mS M := rfl
theorem mI_wN : mI (wN M t n) a j = if a = mC M then 0 else mI M a j := rfl
theorem mL_wN : mL (wN M t n) a j = if a = mC M then 0 else mL M a j := rfl
theorem mR_wN : mR (wN M t n) a j = if a = mC M then 0 else mR M a j := rfl
theorem mT_wN : mT (wN M t n) a = if a = mC M then t else mT M a := rfl
theorem mN_wN : mN (wN M t n) a = if a = mC M then n else mN M a := rfl
theorem mC_wN : mC (wN M t n) = mC M + 1 := rfl
theorem mS_wN : mS (wN M t n) = mS M + n := rfl
end MemRows
/-- a cell's picture depends on its own name alone -/
theorem xcell.kept {Γ : XG} {M M' : XM} {r : Nat} {H H' : Heap} (h : xcell Γ M r H) (hT : mT M' r = mT M r) (hN : mN M' r = mN M r) (hI : ∀ k, mI M' r k = mI M r k) (hL : ∀ k, mL M' r k = mL M r k) (hR : ∀ k, mR M' r k = mR M r k) (hH : H'[ad Γ r]? = H[ad Γ r]?) : xcell Γ M' r H' := by
  have e1 : ∀ t, fv Γ M' t r = fv Γ M t r := fun t => funext fun k => by unfold fv; rw [hI, hL, hR]
  have e2 : ∀ t, ev Γ M' t r = ev Γ M t r := fun t => funext fun k => by unfold ev; rw [hI, hL, hR]
  unfold xcell
  rw [hT, hN, e1, e2]
  refine ⟨fun a b => ?_, fun a b => by rw [hH]; exact h.2.1 a b, fun a b => by rw [hH]; exact h.2.2 a b⟩
  obtain ⟨q, h1, h2⟩ := h.1 a b
  exact ⟨q, h1, h2.kept hH⟩
/-- one cell has changed -/
theorem Rel.set {Γ : XG} {M M' : XM} {H H' : Heap} (h : Rel Γ M H) {r : Nat} (hr : 100 ≤ r) (hT : ∀ a, mT M' a = mT M a) (hN : ∀ a, mN M' a = mN M a) (hC : mC M' = mC M)
    (ho : ∀ a k, a ≠ r → mI M' a k = mI M a k ∧ mL M' a k = mL M a k ∧ mR M' a k = mR M a k) (hsz : H'.size = H.size) (hH : ∀ q, q ≠ ad Γ r → H'[q]? = H[q]?) (hc : xcell Γ M' r H') : Rel Γ M' H' := by
  refine ⟨fun a ha => ?_, by rw [hC]; exact h.2.1, by rw [hC, hsz]; exact h.2.2.1, fun a ha => by rw [hT]; exact h.2.2.2.1 a (by rw [← hC]; exact ha), fun a ha => by rw [hT]; exact h.2.2.2.2 a ha⟩
  by_cases e : a = r
  · rw [e]; exact hc
  · exact (h.1 a ha).kept (hT a) (hN a) (fun k => (ho a k e).1) (fun k => (ho a k e).2.1) (fun k => (ho a k e).2.2) (hH _ (fun z => e (ad_inj ha hr z)))
/-- a cell has come -/
theorem Rel.push {Γ : XG} {M : XM} {H H' : Heap} {t n : Nat} (h : Rel Γ M H) (hsz : H'.size = H.size + 1) (hH : ∀ q, q < H.size → H'[q]? = H[q]?) (hc : xcell Γ (wN M t n) (mC M) H') : Rel Γ (wN M t n) H' := by
  obtain ⟨h1, h2, h3, h4, h5⟩ := h
  refine ⟨fun a ha => ?_, by rw [mC_wN]; omega, by rw [mC_wN, hsz, h3]; omega, fun a ha => ?_, fun a ha => ?_⟩
  · by_cases e : a = mC M
    · rw [e]; exact hc
    · by_cases l : a < mC M
      · exact (h1 a ha).kept (by rw [mT_wN, if_neg e]) (by rw [mN_wN, if_neg e]) (fun k => by rw [mI_wN, if_neg e]) (fun k => by rw [mL_wN, if_neg e]) (fun k => by rw [mR_wN, if_neg e]) (hH _ (by rw [ad_new ha, h3]; omega))
      · unfold xcell
        rw [mT_wN, if_neg e, h4 a (by omega)]
        exact ⟨fun z => absurd z (by decide), fun z => absurd z (by decide), fun z => absurd z (by decide)⟩
  · rw [mC_wN] at ha
    rw [mT_wN, if_neg (by omega)]
    exact h4 a (by omega)
  · rw [mT_wN, if_neg (by omega)]
    exact h5 a ha
theorem Rel.nextA {Γ : XG} {M : XM} {H : Heap} (h : Rel Γ M H) : ad Γ (mC M) = H.size := by rw [ad_new h.2.1, h.2.2.1]
/-! ### locals -/
def gtL (lv : XL) (k : Nat) : Option XV := (lv[k]?).getD none
def isJ : Option XV → Bool
  | some (.inr (.inl _)) => true
  | _ => false
def kilL (o : Option XV) : Option XV := if isJ o then none else o
/-- a value of one slot is stored: a long one place below falls -/
def stL : XL → Nat → XV → XL
  | [], _, _ => []
  | _ :: l, 0, v => some v :: l
  | a :: l, 1, v => kilL a :: stL l 0 v
  | a :: l, k + 2, v => a :: stL l (k + 1) v
/-- a long is stored -/
def stJ : XL → Nat → Int64 → XL
  | [], _, _ => []
  | _ :: l, 0, v => some (.inr (.inl v)) :: none :: l.tail
  | a :: l, 1, v => kilL a :: stJ l 0 v
  | a :: l, k + 2, v => a :: stJ l (k + 1) v
def lvp (Γ : XG) (lv : XL) : List (Nat × Value) := (List.range lv.length).filterMap (fun k => (gtL lv k).map (fun v => (k, cv Γ v)))
theorem lvp_mem {Γ : XG} {lv : XL} {q : Nat × Value} : q ∈ lvp Γ lv ↔ ∃ v, gtL lv q.1 = some v ∧ q.2 = cv Γ v := by
  unfold lvp
  rw [List.mem_filterMap]
  constructor
  · rintro ⟨k, -, h⟩
    cases hg : gtL lv k with
    | none => rw [hg] at h; cases h
    | some v =>
      rw [hg] at h
      cases h
      exact ⟨v, hg, rfl⟩
  · rintro ⟨v, h1, h2⟩
    refine ⟨q.1, List.mem_range.mpr (Nat.not_le.mp fun z => ?_), by rw [h1]; cases q; simp at h2 ⊢; exact h2.symm⟩
    unfold gtL at h1
    rw [List.getElem?_eq_none z] at h1
    cases h1
theorem lv_has.read {Γ : XG} {ls : Array Slot} {nL : Nat} {lv : XL} (h : lv_has ls nL (lvp Γ lv)) {k : Nat} {v : XV} (hk : gtL lv k = some v) : ls[k]? = some (.val (cv Γ v)) := h.2.2 (k, cv Γ v) (lvp_mem.mpr ⟨v, hk, rfl⟩)
theorem lv_has.fewer {ls : Array Slot} {nL : Nat} {l l' : List (Nat × Value)} (h : lv_has ls nL l) (hs : ∀ q ∈ l', q ∈ l) : lv_has ls nL l' := ⟨h.1, h.2.1, fun q hq => h.2.2 q (hs q hq)⟩
theorem kilL_some {o : Option XV} {v : XV} (h : kilL o = some v) : o = some v ∧ isJ o = false := by
  unfold kilL at h
  cases hj : isJ o with
  | true => rw [hj] at h; cases h
  | false => rw [hj] at h; exact ⟨h, rfl⟩
theorem gtL_stL : ∀ (lv : XL) (k j : Nat) (v w : XV), gtL (stL lv k v) j = some w → (j = k ∧ w = v) ∨ (j ≠ k ∧ gtL lv j = some w ∧ (j + 1 = k → isJ (some w) = false))
  | [], k, j, v, w, h => by cases k <;> simp [stL, gtL] at h
  | a :: l, 0, j, v, w, h => by
    cases j with
    | zero => simp [stL, gtL] at h; exact Or.inl ⟨rfl, h.symm⟩
    | succ j => exact Or.inr ⟨by omega, by simpa [stL, gtL] using h, by omega⟩
  | a :: l, 1, j, v, w, h => by
    cases j with
    | zero =>
      have h1 : kilL a = some w := by simpa [stL, gtL] using h
      obtain ⟨e1, e2⟩ := kilL_some h1
      exact Or.inr ⟨by omega, by simp [gtL, e1], fun _ => by rw [← e1]; exact e2⟩
    | succ j =>
      have h1 : gtL (stL l 0 v) j = some w := by simpa [stL, gtL] using h
      rcases gtL_stL l 0 j v w h1 with ⟨e1, e2⟩ | ⟨e1, e2, e3⟩
      · exact Or.inl ⟨by omega, e2⟩
      · exact Or.inr ⟨by omega, by simpa [gtL] using e2, by omega⟩
  | a :: l, k + 2, j, v, w, h => by
    cases j with
    | zero => exact Or.inr ⟨by omega, by simpa [stL, gtL] using h, by omega⟩
    | succ j =>
      have h1 : gtL (stL l (k + 1) v) j = some w := by simpa [stL, gtL] using h
      rcases gtL_stL l (k + 1) j v w h1 with ⟨e1, e2⟩ | ⟨e1, e2, e3⟩
      · exact Or.inl ⟨by omega, e2⟩
      · exact Or.inr ⟨by omega, by simpa [gtL] using e2, fun z => e3 (by omega)⟩
theorem gtL_stJ : ∀ (lv : XL) (k j : Nat) (v : Int64) (w : XV), gtL (stJ lv k v) j = some w → (j = k ∧ w = .inr (.inl v)) ∨ (j ≠ k ∧ j ≠ k + 1 ∧ gtL lv j = some w ∧ (j + 1 = k → isJ (some w) = false))
  | [], k, j, v, w, h => by cases k <;> simp [stJ, gtL] at h
  | a :: l, 0, j, v, w, h => by
    match j with
    | 0 => simp [stJ, gtL] at h; exact Or.inl ⟨rfl, h.symm⟩
    | 1 => simp [stJ, gtL] at h
    | j + 2 =>
      refine Or.inr ⟨by omega, by omega, ?_, by omega⟩
      cases l with
      | nil => simp [stJ, gtL] at h
      | cons b l => simpa [stJ, gtL] using h
  | a :: l, 1, j, v, w, h => by
    cases j with
    | zero =>
      have h1 : kilL a = some w := by simpa [stJ, gtL] using h
      obtain ⟨e1, e2⟩ := kilL_some h1
      exact Or.inr ⟨by omega, by omega, by simp [gtL, e1], fun _ => by rw [← e1]; exact e2⟩
    | succ j =>
      have h1 : gtL (stJ l 0 v) j = some w := by simpa [stJ, gtL] using h
      rcases gtL_stJ l 0 j v w h1 with ⟨e1, e2⟩ | ⟨e1, e4, e2, e3⟩
      · exact Or.inl ⟨by omega, e2⟩
      · exact Or.inr ⟨by omega, by omega, by simpa [gtL] using e2, by omega⟩
  | a :: l, k + 2, j, v, w, h => by
    cases j with
    | zero => exact Or.inr ⟨by omega, by omega, by simpa [stJ, gtL] using h, by omega⟩
    | succ j =>
      have h1 : gtL (stJ l (k + 1) v) j = some w := by simpa [stJ, gtL] using h
      rcases gtL_stJ l (k + 1) j v w h1 with ⟨e1, e2⟩ | ⟨e1, e4, e2, e3⟩
      · exact Or.inl ⟨by omega, e2⟩
      · exact Or.inr ⟨by omega, by omega, by simpa [gtL] using e2, fun z => e3 (by omega)⟩
theorem cv_cat {Γ : XG} {v : XV} : (cv Γ v).category = if isJ (some v) then 2 else 1 := by
  rcases v with i | i | r
  · rfl
  · rfl
  · show (rv Γ r).category = 1
    unfold rv; split <;> rfl
/-- behind a store of one slot -/
theorem lvp_st {Γ : XG} {ls : Array Slot} {nL : Nat} {lv : XL} {k : Nat} {v : XV} (h : lv_has ls nL ((k, cv Γ v) :: (lvp Γ lv).filter (fun q => !(q.1 == k) && !(q.1 + 1 == k && q.2.category == 2)))) : lv_has ls nL (lvp Γ (stL lv k v)) := by
  refine h.fewer fun q hq => ?_
  obtain ⟨w, h1, h2⟩ := lvp_mem.mp hq
  rcases gtL_stL lv k q.1 v w h1 with ⟨e1, e2⟩ | ⟨e1, e2, e3⟩
  · obtain ⟨a, b⟩ := q
    simp only at e1 h2
    rw [e1, h2, e2]; exact List.mem_cons_self
  · refine List.mem_cons_of_mem _ (List.mem_filter.mpr ⟨lvp_mem.mpr ⟨w, e2, h2⟩, ?_⟩)
    rw [h2, cv_cat]
    by_cases z : q.1 + 1 = k
    · rw [e3 z]; simp [e1]
    · simp [e1, z]
theorem lvp_stJ {Γ : XG} {ls : Array Slot} {nL : Nat} {lv : XL} {k : Nat} {v : Int64} (h : lv_has ls nL ((k, Value.long v) :: (lvp Γ lv).filter (fun q => !(q.1 == k) && (!(q.1 == k + 1) && !(q.1 + 1 == k && q.2.category == 2))))) : lv_has ls nL (lvp Γ (stJ lv k v)) := by
  refine h.fewer fun q hq => ?_
  obtain ⟨w, h1, h2⟩ := lvp_mem.mp hq
  rcases gtL_stJ lv k q.1 v w h1 with ⟨e1, e2⟩ | ⟨e1, e4, e2, e3⟩
  · obtain ⟨a, b⟩ := q
    simp only at e1 h2
    rw [e1, h2, e2]; exact List.mem_cons_self
  · refine List.mem_cons_of_mem _ (List.mem_filter.mpr ⟨lvp_mem.mpr ⟨w, e2, h2⟩, ?_⟩)
    rw [h2, cv_cat]
    by_cases z : q.1 + 1 = k
    · rw [e3 z]; simp [e1, e4]
    · simp [e1, e4, z]
