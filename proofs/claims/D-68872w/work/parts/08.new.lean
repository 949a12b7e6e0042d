/-! part 08: rows for new, constants, statics, switches, ends -/
theorem xft_all : ∀ l ∈ xft, ∀ x ∈ l, x < 4 := by decide +kernel
theorem xft_lt (t k : Nat) : (xft.getD t []).getD k 0 < 4 := by
  have h1 : ∀ x ∈ xft.getD t [], x < 4 := by
    rw [List.getD_eq_getElem?_getD]
    cases h : xft[t]? with
    | none => intro x hx; simp at hx
    | some l => exact xft_all l (List.mem_of_getElem? h)
  rw [List.getD_eq_getElem?_getD (l := xft.getD t [])]
  cases h : (xft.getD t [])[k]? with
  | none => simp
  | some x => exact h1 x (List.mem_of_getElem? h)
theorem fv_new {Γ : XG} {M : XM} {t n k : Nat} {ty : FieldType} (h : kdT ty = (xft.getD (t - 1) []).getD k 0) : fv Γ (wN M t n) t (mC M) k = defaultValue ty := by
  have h4 := xft_lt (t - 1) k
  rw [← h] at h4
  unfold fv
  rw [← h, mI_wN, mL_wN, mR_wN, if_pos rfl, if_pos rfl, if_pos rfl]
  cases ty <;> first | rfl | (simp [kdT] at h4; done)
/-- a class that is made: the tag, its slots -/
def XN (own : String) (idx t n : Nat) : Prop := 1 ≤ t ∧ ∃ q : vw_C, xcl[t - 1]? = some q ∧ Cond.classLink own idx q.1 ∈ xgood ∧ Cond.instantiable q.1 n ∈ xgood ∧ Cond.initialized q.1 ∈ xgood
def aTg : ArrayType → Nat
  | .boolean => 101
  | .byte => 102
  | .int => 103
  | .long => 104
  | _ => 0
section R8
variable {Γ : XG} {Y : XY} {d pc : Nat} {ω : XO × XM} {lv : XL} {st : List XV} {M : XM}
theorem r_new {idx t n : Nat} (hd : decode Y.cc pc = .ok (.new idx, 3)) (hN : XN Y.nm.cls idx t n) (kk : RW Γ Y d ω (pc + 3) lv (.inr (.inr (mC M)) :: st) (wN M t n)) : RW Γ Y d ω pc lv st M := by
  have a1 := kk.1
  have a2 := kk.2.1
  rw [mC_wN] at a1
  rw [mS_wN] at a2
  refine ⟨by omega, by omega, fun p e R s m args below meth c H locs ls u0 v0 C h1 h2 h3 h4 hR hS hl => ?_⟩
  obtain ⟨ht1, q, hq, w1, w2, w3⟩ := hN
  obtain ⟨hx, hb, -, -, hown, hts, -, -, -, -, hK, -, hB, -⟩ := id C
  obtain ⟨ty, hws, hty, hnm, hkd⟩ := xcl_ok _ _ hq
  have hKn := hK.1.1 _ _ hq
  have h100 := hR.2.1
  refine W.newcK hx hb hown (hts _ w1) (hts _ w2) (hts _ w3) rfl hd (by omega) (by omega) hKn.2.1 (hR.nextA).symm fun H' kC hkC g1 g2 g3 => ?_
  have hn := hR.nextA
  have K := kk.2.2 p e R s m args below meth c H' locs ls u0 v0 C (by rw [mC_wN]; omega) (by rw [mS_wN]; omega) h3 h4 (hR.push (t := t) (n := n) (by rw [g2, hn]) (fun q hq => g3 q (by rw [hn]; exact hq)) ?_) ⟨Nat.le_trans hS.1 (by rw [g2, hn]; omega), fun z z1 z2 => (g3 z (by rw [hn]; exact Nat.lt_of_lt_of_le z1 hS.1)).trans (hS.2.1 z z1 z2), hS.2.2⟩ hl
  · rw [List.map_cons, cv_ref (by omega), mC_wN, mS_wN, show mC M + 1 - u0 = mC M - u0 + 1 by omega, show mS M + n - v0 = mS M - v0 + n by omega] at K
    exact K
  · have h30 := xcl_lt hq
    unfold xcell
    rw [mT_wN, if_pos rfl]
    refine ⟨fun _ _ => ⟨q, hq, ?_⟩, fun z => absurd z (by omega), fun z => absurd z (by omega)⟩
    exact (u_born ty hts hws hKn hkC g1 hty).to (fun j hj => (fv_new (hkd j hj)).symm)
theorem ev_new {t n : Nat} : ev Γ (wN M t n) t (mC M) = fun _ => if t = 104 then Value.long 0 else if t < 104 then Value.int 0 else Value.null := by
  funext k
  unfold ev
  rw [mI_wN, mL_wN, mR_wN, if_pos rfl, if_pos rfl, if_pos rfl]
  rfl
theorem r_newarray {a : ArrayType} {n : Int32} (hd : decode Y.cc pc = .ok (.newarray a, 2)) (ha : aTg a ≠ 0) (hw : Cond.arrayClass (newarray.typeOf a) ∈ xgood) (hn : ¬ n < 0) (hb8 : n.toNatClampNeg ≤ 1000000) (kk : RW Γ Y d ω (pc + 2) lv (.inr (.inr (mC M)) :: st) (wN M (aTg a) n.toNatClampNeg)) : RW Γ Y d ω pc lv (.inl n :: st) M := by
  have a1 := kk.1
  have a2 := kk.2.1
  rw [mC_wN] at a1
  rw [mS_wN] at a2
  refine ⟨by omega, by omega, fun p e R s m args below meth c H locs ls u0 v0 C h1 h2 h3 h4 hR hS hl => ?_⟩
  obtain ⟨hx, hb, -, -, hown, hts, -, -, -, -, hK, -, hB, -⟩ := id C
  have h100 := hR.2.1
  have hnx := hR.nextA
  refine va_newaK hx hb (hts _ hw) rfl hd rfl hn rfl ?_ (by omega) (by omega) hnx.symm fun H' cA g1 g2 g3 _ g5 => ?_
  · cases a <;> simp [newarray.typeOf, componentBytes] <;> omega
  · have K := kk.2.2 p e R s m args below meth c H' locs ls u0 v0 C (by rw [mC_wN]; omega) (by rw [mS_wN]; omega) h3 h4 (hR.push (t := aTg a) (n := n.toNatClampNeg) (by rw [g2, hnx]) (fun q hq => g3 q (by rw [hnx]; exact hq)) ?_) ⟨Nat.le_trans hS.1 (by rw [g2, hnx]; omega), fun z z1 z2 => (g3 z (by rw [hnx]; exact Nat.lt_of_lt_of_le z1 hS.1)).trans (hS.2.1 z z1 z2), hS.2.2⟩ hl
    · rw [List.map_cons, cv_ref (by omega), mC_wN, mS_wN, show mC M + 1 - u0 = mC M - u0 + 1 by omega, show mS M + n.toNatClampNeg - v0 = mS M - v0 + n.toNatClampNeg by omega] at K
      exact K
    · unfold xcell
      rw [mT_wN, if_pos rfl, mN_wN, if_pos rfl, ev_new]
      cases a <;> first | exact absurd rfl ha | skip
      · have hA : va_RA s (Γ.A 101) .boolean := (xtys_at hK (t := 101) (by decide) (by decide)).2
        cases g5.symm.trans hA
        exact ⟨fun _ z => absurd z (by decide), fun _ _ => g1, fun z => absurd z (by decide)⟩
      · have hA : va_RA s (Γ.A 102) .byte := (xtys_at hK (t := 102) (by decide) (by decide)).2
        cases g5.symm.trans hA
        exact ⟨fun _ z => absurd z (by decide), fun _ _ => g1, fun z => absurd z (by decide)⟩
      · have hA : va_RA s (Γ.A 103) .int := (xtys_at hK (t := 103) (by decide) (by decide)).2
        cases g5.symm.trans hA
        exact ⟨fun _ z => absurd z (by decide), fun _ _ => g1, fun z => absurd z (by decide)⟩
      · have hA : va_RA s (Γ.A 104) .long := (xtys_at hK (t := 104) (by decide) (by decide)).2
        cases g5.symm.trans hA
        exact ⟨fun _ z => absurd z (by decide), fun _ _ => g1, fun z => absurd z (by decide)⟩
/-- an array of references that is made -/
def XAn (own : String) (idx t : Nat) : Prop := (t = 105 ∧ Cond.classLink own idx "ProgramChecker$State" ∈ xgood) ∨ (t = 106 ∧ Cond.classLink own idx "ProgramChecker$Thing" ∈ xgood) ∨ (t = 107 ∧ Cond.classLink own idx "ProgramChecker$Sieve$Operation" ∈ xgood)
theorem r_anewarray {idx t : Nat} {n : Int32} (hd : decode Y.cc pc = .ok (.anewarray idx, 3)) (hA : XAn Y.nm.cls idx t) (hn : ¬ n < 0) (hb8 : n.toNatClampNeg ≤ 1000000) (kk : RW Γ Y d ω (pc + 3) lv (.inr (.inr (mC M)) :: st) (wN M t n.toNatClampNeg)) : RW Γ Y d ω pc lv (.inl n :: st) M := by
  have a1 := kk.1
  have a2 := kk.2.1
  rw [mC_wN] at a1
  rw [mS_wN] at a2
  refine ⟨by omega, by omega, fun p e R s m args below meth c H locs ls u0 v0 C h1 h2 h3 h4 hR hS hl => ?_⟩
  obtain ⟨hx, hb, -, -, hown, hts, -, -, -, -, hK, -, hB, -⟩ := id C
  have h100 := hR.2.1
  have hnx := hR.nextA
  obtain ⟨E, t1, t2, hE, hlk, hAO⟩ : ∃ E, 104 < t ∧ t < 108 ∧ aT t = .object E ∧ Cond.classLink Y.nm.cls idx E ∈ xgood ∧ va_AO E s := by
    rcases hA with ⟨rfl, h⟩ | ⟨rfl, h⟩ | ⟨rfl, h⟩
    · exact ⟨_, by decide, by decide, rfl, h, hK.2.2.1⟩
    · exact ⟨_, by decide, by decide, rfl, h, hK.2.2.2.1⟩
    · exact ⟨_, by decide, by decide, rfl, h, hK.2.2.2.2.1⟩
  refine W.anew hx hb hown (hts _ hlk) (va_AO.use hAO) rfl hd rfl hn (by omega) (by omega) (by omega) fun cA kA comp f1 f2 f3 f4 => ?_
  have hRA := (xtys_at hK (t := t) (by omega) t2).2
  rw [hE] at hRA
  obtain ⟨kA', comp', k1, k2, k3, k4⟩ := hRA
  cases f1.symm.trans k4
  have g3 : ∀ (cl : Cell) (q : Nat), q < H.size → (H.push cl)[q]? = H[q]? := fun cl q hq => by rw [Array.getElem?_push, if_neg (Nat.ne_of_lt hq)]
  have K := kk.2.2 p e R s m args below meth c (H.push ({ cls := Γ.A t, slots := Array.replicate n.toNatClampNeg .null, vm := .none } : Cell)) locs ls u0 v0 C (by rw [mC_wN]; omega) (by rw [mS_wN]; omega) h3 h4 (hR.push (t := t) (n := n.toNatClampNeg) (by simp) (fun q hq => g3 _ q hq) ?_) ⟨Nat.le_trans hS.1 (by simp), fun z z1 z2 => (g3 _ z (Nat.lt_of_lt_of_le z1 hS.1)).trans (hS.2.1 z z1 z2), hS.2.2⟩ hl
  · rw [List.map_cons, cv_ref (by omega), mC_wN, mS_wN, show mC M + 1 - u0 = mC M - u0 + 1 by omega, show mS M + n.toNatClampNeg - v0 = mS M - v0 + n.toNatClampNeg by omega, hnx] at K
    exact K
  · unfold xcell
    rw [mT_wN, if_pos rfl, mN_wN, if_pos rfl, ev_new, if_neg (by omega), if_neg (by omega)]
    refine ⟨fun _ z => absurd z (by omega), fun _ _ => ?_, fun z => absurd z (by omega)⟩
    rw [hnx, ← arrV_new]
    simp
theorem r_ldc {idx : Nat} {v : Int32} (hd : decode Y.cc pc = .ok (.ldc idx, 2)) (hw : Cond.constant Y.nm.cls idx v ∈ xgood) (k : RW Γ Y d ω (pc + 2) lv (.inl v :: st) M) : RW Γ Y d ω pc lv st M := ⟨k.1, k.2.1, fun p e R s m args below meth c H locs ls u0 v0 C h1 h2 h3 h4 hR hS hl => lv_ldc C.1 C.2.1 C.2.2.2.2.1 (C.2.2.2.2.2.1 _ hw) hd (k.2.2 p e R s m args below meth c H locs ls u0 v0 C h1 h2 h3 h4 hR hS hl)⟩
theorem r_ldc_w {idx : Nat} {v : Int32} (hd : decode Y.cc pc = .ok (.ldc_w idx, 3)) (hw : Cond.constant Y.nm.cls idx v ∈ xgood) (k : RW Γ Y d ω (pc + 3) lv (.inl v :: st) M) : RW Γ Y d ω pc lv st M := ⟨k.1, k.2.1, fun p e R s m args below meth c H locs ls u0 v0 C h1 h2 h3 h4 hR hS hl => lv_ldcw C.1 C.2.1 C.2.2.2.2.1 (C.2.2.2.2.2.1 _ hw) hd (k.2.2 p e R s m args below meth c H locs ls u0 v0 C h1 h2 h3 h4 hR hS hl)⟩
theorem r_ldc2_w {idx : Nat} {v : Int64} (hd : decode Y.cc pc = .ok (.ldc2_w idx, 3)) (hw : Cond.constantLong Y.nm.cls idx v ∈ xgood) (k : RW Γ Y d ω (pc + 3) lv (.inr (.inl v) :: st) M) : RW Γ Y d ω pc lv st M := ⟨k.1, k.2.1, fun p e R s m args below meth c H locs ls u0 v0 C h1 h2 h3 h4 hR hS hl => lv_ldc2 C.1 C.2.1 C.2.2.2.2.1 (C.2.2.2.2.2.1 _ hw) hd (k.2.2 p e R s m args below meth c H locs ls u0 v0 C h1 h2 h3 h4 hR hS hl)⟩
/-- a constant of Relation -/
theorem r_getstatic {idx i : Nat} (hd : decode Y.cc pc = .ok (.getstatic idx, 3)) (hi : i < 12) (hw : Cond.fieldLink Y.nm.cls idx "ProgramChecker$Sieve$Relation" (xrel.getD i "") "LProgramChecker$Sieve$Relation;" ∈ xgood) (k : RW Γ Y d ω (pc + 3) lv (.inr (.inr (i + 1)) :: st) M) : RW Γ Y d ω pc lv st M := ⟨k.1, k.2.1, fun p e R s m args below meth c H locs ls u0 v0 C h1 h2 h3 h4 hR hS hl => by
  obtain ⟨hx, hb, -, -, hown, hts, -, -, -, -, hK, hX, hB, -⟩ := id C
  have K := k.2.2 p e R s m args below meth c H locs ls u0 v0 C h1 h2 h3 h4 hR hS hl
  rw [List.map_cons, cv_ref (by omega), show ad Γ (i + 1) = Γ.o (i + 1) from if_pos (by omega)] at K
  exact va_gets hx hb (hX.2.2.1 i hi).1 hS hown (hts _ hw) (fun _ h => h) hd K⟩
/-- the ordinal of a constant -/
theorem r_getord {idx i : Nat} (hd : decode Y.cc pc = .ok (.getfield idx, 3)) (hi : i < 12) (hw : Cond.fieldLink Y.nm.cls idx "java/lang/Enum" "ordinal" "I" ∈ xgood) (k : RW Γ Y d ω (pc + 3) lv (.inl (Int32.ofNat i) :: st) M) : RW Γ Y d ω pc lv (.inr (.inr (i + 1)) :: st) M := ⟨k.1, k.2.1, fun p e R s m args below meth c H locs ls u0 v0 C h1 h2 h3 h4 hR hS hl => by
  obtain ⟨hx, hb, -, -, hown, hts, -, -, -, -, hK, hX, hB, -⟩ := id C
  obtain ⟨cf, kk, fi, f, cell, z1, z2, z3, z4, z5, z6⟩ := (hX.2.2.1 i hi).2.2
  rw [List.map_cons, cv_ref (by omega), show ad Γ (i + 1) = Γ.o (i + 1) from if_pos (by omega)]
  have zl : Γ.o (i + 1) < s.heap.size := (Array.getElem?_eq_some_iff.mp z3).1
  exact W.getf hx hb hown (hts _ hw) z1 z2 (by rw [hS.2.1 _ zl z6]; exact z3) z4 z5 rfl rfl hd (k.2.2 p e R s m args below meth c H locs ls u0 v0 C h1 h2 h3 h4 hR hS hl)⟩
/-! ### switches -/
/-- the place that a number picks -/
def swT (x : Int32) (dflt : Nat) : List (Int32 × Nat) → Nat
  | [] => dflt
  | (k, t) :: l => if x = k then t else swT x dflt l
def swOff (pc : Nat) : List Int → Int → List (Int32 × Nat)
  | [], _ => []
  | o :: l, k => (Int32.ofInt k, (pc + o).toNat) :: swOff pc l (k + 1)
theorem r_lookup {dflt : Int} {ps : Array (Int × Int)} {len t0 : Nat} {x : Int32} {l : List (Int32 × Nat)} (hd : decode Y.cc pc = .ok (.lookupswitch dflt ps, len)) (hp : (ps.toList.zip (ps.toList.drop 1)).all (fun (a, next) => a.1 < next.1) = true)
    (hl0 : ps.toList.length = l.length ∧ ∀ q ∈ ps.toList.zip l, q.1.1 = q.2.1.toInt ∧ (pc : Int) + q.1.2 = (q.2.2 : Int)) (h0 : (pc : Int) + dflt = (t0 : Int)) (k : RW Γ Y d ω (swT x t0 l) lv st M) : RW Γ Y d ω pc lv (.inl x :: st) M := ⟨k.1, k.2.1, fun p e R s m args below meth c H locs ls u0 v0 C h1 h2 h3 h4 hR hS hl => by
  refine lv_lookup C.1 C.2.1 hd hp rfl ?_ (k.2.2 p e R s m args below meth c H locs ls u0 v0 C h1 h2 h3 h4 hR hS hl)
  revert hl0
  generalize ps.toList = L
  clear k hp hd
  induction L generalizing l with
  | nil =>
    intro hl0
    cases l with
    | nil => simpa [swT, Op.lookupswitch.offset] using h0
    | cons a b => simp at hl0
  | cons a L ih =>
    intro hl0
    cases l with
    | nil => simp at hl0
    | cons b l =>
      obtain ⟨z1, z2⟩ := hl0
      have z3 := z2 (a, b) (by simp)
      obtain ⟨a1, a2⟩ := a
      obtain ⟨b1, b2⟩ := b
      simp only at z3
      rw [Op.lookupswitch.offset_cons]
      unfold swT
      by_cases hx : x = b1
      · rw [if_pos (by rw [hx]; exact z3.1.symm ▸ rfl), if_pos hx]; exact z3.2
      · rw [if_neg (fun z => hx (Int32.toInt_inj.mp (by rw [← z3.1]; first | exact z | exact z.symm))), if_neg hx]
        exact ih ⟨by simpa using z1, fun q hq => z2 q (by simp [hq])⟩⟩
end R8
