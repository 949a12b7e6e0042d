/-! part 43: what holds at the law's entry -/
def isInst (C : String) : Cond → Bool
  | .instantiable C' _ => C' == C
  | _ => false
theorem xcl_inst0 : (xcl.map (fun q => q.1)).all (fun C => lw_tbl.any (isInst C)) = true := by decide +kernel
theorem xcl_inst {k : Nat} {q : vw_C} (h : xcl[k]? = some q) : ∃ n, Cond.instantiable q.1 n ∈ lw_tbl := by
  have h1 := List.all_eq_true.mp xcl_inst0 q.1 (List.mem_map.mpr ⟨q, List.mem_of_getElem? h, rfl⟩)
  obtain ⟨w, hw, he⟩ := List.any_eq_true.mp h1
  cases w <;> simp [isInst] at he
  subst he
  exact ⟨_, hw⟩
theorem st_prim {args : Array Value} {s : State} {ty : FieldType} (h : (Cond.arrayClass ty).before args s = true) (ht : ∀ C, ty ≠ .object C) : ∃ cA, ArrOfT s cA ty ∧ va_RA s cA ty := by
  obtain ⟨c, k, comp, h1, h2, h3⟩ := Cond.arrayClass_spec h
  refine ⟨c, fun N z => ⟨(fun k h => by cases h), k, h2, comp, h3⟩, ?_⟩
  cases ty <;> first | exact absurd rfl (ht _) | exact h1
theorem st_over {args : Array Value} {s : State} {C : String} (h : (Cond.arrayOver (.object C)).before args s = true) : ∃ cA, ArrOfT s cA (.object C) ∧ va_RA s cA (.object C) := by
  obtain ⟨comp, c, k, h1, h2, h3, h4, h5⟩ := Cond.arrayOver_spec h
  exact ⟨c, fun N z => ⟨(fun k h => by cases h), k, h3, comp, h4⟩, k, comp, h3, h4, h1, h5⟩
theorem st_find {args : Array Value} {s : State} {C : String} {n : Nat} (h : (Cond.instantiable C n).before args s = true) : ∃ c, s.vm.findClass C = some c := by
  obtain ⟨cC, kC, hfc, -⟩ := Cond.instantiable_spec h
  exact ⟨cC, hfc⟩
theorem st_not {args : Array Value} {s : State} {C T : String} {c t : ClassId} (h : (Cond.not (.castable C T)).before args s = true) (hc : s.vm.findClass C = some c) (ht : s.vm.findClass T = some t) : s.vm.assignable c t = false := by
  simp only [Cond.before, Cond.holds, Cond.value, hc, ht] at h
  simpa using h
theorem st_yes {args : Array Value} {s : State} {C T : String} {c t : ClassId} (h : (Cond.castable C T).before args s = true) (hc : s.vm.findClass C = some c) (ht : s.vm.findClass T = some t) : s.vm.assignable c t = true := by
  obtain ⟨c', t', h1, h2, h3⟩ := Cond.castable_spec h
  cases hc.symm.trans h1
  cases ht.symm.trans h2
  exact h3
abbrev xordF : List (String × String × String × List Int32) := [("java/lang/Enum", "ordinal", "I", [0, 1, 2, 3, 4, 5, 6, 7, 8, 9, 10, 11])]
abbrev xE : String := "ProgramChecker$Sieve$Relation"
abbrev xEd : String := "LProgramChecker$Sieve$Relation;"
def st_flat : List Cond := flatC (Jvm.Cond.and given_1 narrow_1)
theorem st_w1 : (List.range 12).all (fun i => decide (Cond.laysStatic xE (xrel.getD i "") xEd ∈ lw_tbl) && decide (Cond.exactly (.static xE (xrel.getD i "") xEd) xE ∈ st_flat) && decide (Cond.eq (.field (.static xE (xrel.getD i "") xEd) "java/lang/Enum" "ordinal" "I") (.int (Int32.ofNat i)) ∈ st_flat)) = true := by decide +kernel
def st_w2f (i : Nat) : Bool := (List.range 12).all fun j => i == j || decide (Cond.not (.eq (.static xE (xrel.getD i "") xEd) (.static xE (xrel.getD j "") xEd)) ∈ st_flat) || decide (Cond.not (.eq (.static xE (xrel.getD j "") xEd) (.static xE (xrel.getD i "") xEd)) ∈ st_flat)
theorem st_w2_0 : st_w2f 0 = true := by decide +kernel
theorem st_w2_1 : st_w2f 1 = true := by decide +kernel
theorem st_w2_2 : st_w2f 2 = true := by decide +kernel
theorem st_w2_3 : st_w2f 3 = true := by decide +kernel
theorem st_w2_4 : st_w2f 4 = true := by decide +kernel
theorem st_w2_5 : st_w2f 5 = true := by decide +kernel
theorem st_w2_6 : st_w2f 6 = true := by decide +kernel
theorem st_w2_7 : st_w2f 7 = true := by decide +kernel
theorem st_w2_8 : st_w2f 8 = true := by decide +kernel
theorem st_w2_9 : st_w2f 9 = true := by decide +kernel
theorem st_w2_10 : st_w2f 10 = true := by decide +kernel
theorem st_w2_11 : st_w2f 11 = true := by decide +kernel
theorem st_w2 : (List.range 12).all (fun i => (List.range 12).all fun j => i == j || decide (Cond.not (.eq (.static xE (xrel.getD i "") xEd) (.static xE (xrel.getD j "") xEd)) ∈ st_flat) || decide (Cond.not (.eq (.static xE (xrel.getD j "") xEd) (.static xE (xrel.getD i "") xEd)) ∈ st_flat)) = true := by
  have h : ∀ i, i < 12 → st_w2f i = true := fun i hi => by
    match i, hi with
    | 0, _ => exact st_w2_0
    | 1, _ => exact st_w2_1
    | 2, _ => exact st_w2_2
    | 3, _ => exact st_w2_3
    | 4, _ => exact st_w2_4
    | 5, _ => exact st_w2_5
    | 6, _ => exact st_w2_6
    | 7, _ => exact st_w2_7
    | 8, _ => exact st_w2_8
    | 9, _ => exact st_w2_9
    | 10, _ => exact st_w2_10
    | 11, _ => exact st_w2_11
    | n + 12, hi => exact absurd hi (by omega)
  exact List.all_eq_true.mpr (fun i hi => h i (List.mem_range.mp hi))
theorem st_w3 : [Cond.castable (xexc 150) (xexc 150), Cond.castable (xexc 151) (xexc 151), Cond.castable (xexc 152) (xexc 152)].all (fun w => decide (w ∈ lw_tbl)) = true := by decide +kernel
theorem st_w6 : [Cond.not (.castable (xexc 150) (xexc 151)), Cond.not (.castable (xexc 150) (xexc 152)), Cond.not (.castable (xexc 151) (xexc 150)), Cond.not (.castable (xexc 151) (xexc 152)), Cond.not (.castable (xexc 152) (xexc 150)), Cond.not (.castable (xexc 152) (xexc 151))].all (fun w => decide (w ∈ st_flat)) = true := by decide +kernel
theorem st_w4 : [Cond.instantiable (xexc 150) 6, Cond.instantiable (xexc 151) 6, Cond.instantiable (xexc 152) 6, .arrayClass .boolean, .arrayClass .byte, .arrayClass .int, .arrayClass .long, .arrayOver (.object "ProgramChecker$State"), .arrayOver (.object "ProgramChecker$Thing"), .arrayOver (.object "ProgramChecker$Sieve$Operation"), .initialized xE, .initialized "java/lang/Throwable", xr3, xr4].all (fun w => decide (w ∈ lw_tbl)) = true := by decide +kernel
theorem st_w5 : [xr1, xr2].all (fun w => decide (w ∈ st_flat)) = true := by decide +kernel
theorem x_start {s : State} {l : Launch} {b L : Nat} {xs : Nat → Int32} (hfl : l.stackTraces = false) (hts : ∀ w ∈ lw_tbl, w.before #[Value.ref b] s = true) (hX : va_X b L xs s s.heap) (hbl : b < s.heap.size) (hgv : (Jvm.Cond.and given_1 narrow_1).before #[Value.ref b] s = true) :
    ∃ Γ : XG, Γ.l = l ∧ Γ.B = s.heap.size ∧ Γ.o 13 = b ∧ Γ.n = L ∧ Γ.x = xs ∧ Kn Γ s ∧ Sx Γ s s.heap := by
  have hs : ∀ w ∈ st_flat, w.before #[Value.ref b] s = true := flat_of_before _ hgv
  have hg : ∀ w ∈ xgood, w.before #[Value.ref b] s = true := fun w hw => hts w (List.mem_filter.mp hw).1
  have hA : ∀ a : Nat, a < s.heap.size → ¬ (fun q : Nat => s.heap.size ≤ q) a := fun a h => Nat.not_le.mpr h
  have hcl : ∀ k : Nat, ∃ p : ClassId × (Nat → Nat), ∀ q, xcl[k]? = some q → u_Kn s q.1 q.2.1 q.2.2 p.1 p.2 := by
    intro k
    cases hq : xcl[k]? with
    | none => exact ⟨(0, fun _ => 0), fun q h => by simp at h⟩
    | some q =>
      obtain ⟨ty, hws, -⟩ := xcl_ok _ _ hq
      obtain ⟨n, hn⟩ := xcl_inst hq
      obtain ⟨c, iS, h⟩ := u_known (C := q.1) (T := q.2.1) (N := q.2.2) hg hws (hts _ hn)
      exact ⟨(c, iS), fun q' h' => by cases h'; exact h⟩
  obtain ⟨D, hD⟩ := Classical.axiomOfChoice hcl
  have w4 : ∀ w ∈ _, w ∈ lw_tbl := fun w hw => of_decide_eq_true (List.all_eq_true.mp st_w4 w hw)
  obtain ⟨e0, he0⟩ := st_find (hts _ (w4 (.instantiable (xexc 150) 6) (by simp)))
  obtain ⟨e1, he1⟩ := st_find (hts _ (w4 (.instantiable (xexc 151) 6) (by simp)))
  obtain ⟨e2, he2⟩ := st_find (hts _ (w4 (.instantiable (xexc 152) 6) (by simp)))
  obtain ⟨a1, ha1⟩ := st_prim (hts _ (w4 (.arrayClass .boolean) (by simp))) (fun C h => by cases h)
  obtain ⟨a2, ha2⟩ := st_prim (hts _ (w4 (.arrayClass .byte) (by simp))) (fun C h => by cases h)
  obtain ⟨a3, ha3⟩ := st_prim (hts _ (w4 (.arrayClass .int) (by simp))) (fun C h => by cases h)
  obtain ⟨a4, ha4⟩ := st_prim (hts _ (w4 (.arrayClass .long) (by simp))) (fun C h => by cases h)
  have o5 := hts _ (w4 (.arrayOver (.object "ProgramChecker$State")) (by simp))
  have o6 := hts _ (w4 (.arrayOver (.object "ProgramChecker$Thing")) (by simp))
  have o7 := hts _ (w4 (.arrayOver (.object "ProgramChecker$Sieve$Operation")) (by simp))
  obtain ⟨a5, ha5⟩ := st_over o5
  obtain ⟨a6, ha6⟩ := st_over o6
  obtain ⟨a7, ha7⟩ := st_over o7
  have w1 := fun i (hi : i < 12) => List.all_eq_true.mp st_w1 i (List.mem_range.mpr hi)
  simp only [Bool.and_eq_true, decide_eq_true_eq] at w1
  have hxl : xrel.length = 12 := rfl
  obtain ⟨ad, hEn⟩ := va_Enof (args := #[Value.ref b]) (s := s) (E := xE) (d := xEd) (nm := xrel) (F := xordF) (A := fun q => s.heap.size ≤ q) (fun i hi => hts _ (w1 i hi).1.1) (hts _ (w4 (.initialized xE) (by simp))) (fun i hi => hs _ (w1 i hi).1.2)
    (fun q hq i hi => by
      simp only [List.mem_singleton] at hq
      subst hq
      have := hs _ (w1 i hi).2
      have e : ([0, 1, 2, 3, 4, 5, 6, 7, 8, 9, 10, 11] : List Int32).getD i 0 = Int32.ofNat i := by
        have : i < 12 := hi
        rcases (show i = 0 ∨ i = 1 ∨ i = 2 ∨ i = 3 ∨ i = 4 ∨ i = 5 ∨ i = 6 ∨ i = 7 ∨ i = 8 ∨ i = 9 ∨ i = 10 ∨ i = 11 by omega) with rfl | rfl | rfl | rfl | rfl | rfl | rfl | rfl | rfl | rfl | rfl | rfl <;> rfl
      show (Cond.eq (.field (.static xE (xrel.getD i "") xEd) "java/lang/Enum" "ordinal" "I") (.int (([0, 1, 2, 3, 4, 5, 6, 7, 8, 9, 10, 11] : List Int32).getD i 0))).before #[Value.ref b] s = true
      rw [e]; exact this)
    (fun i j hi hj hij => by
      have h1 := List.all_eq_true.mp (List.all_eq_true.mp st_w2 i (List.mem_range.mpr hi)) j (List.mem_range.mpr hj)
      simp only [Bool.or_eq_true, beq_iff_eq, decide_eq_true_eq] at h1
      rcases h1 with (h1 | h1) | h1
      · exact absurd h1 hij
      · exact Or.inl (hs _ h1)
      · exact Or.inr (hs _ h1)) hA
  refine ⟨(l, (fun k => (D k).1, fun k => (D k).2), (fun t => if t = 101 then a1 else if t = 102 then a2 else if t = 103 then a3 else if t = 104 then a4 else if t = 105 then a5 else if t = 106 then a6 else if t = 107 then a7 else if t = 150 then e0 else if t = 151 then e1 else e2), s.heap.size, (fun r => if r = 13 then b else ad (r - 1)), L, xs), rfl, rfl, rfl, rfl, rfl, ?_, ?_⟩
  · refine ⟨⟨fun c q hq => hD c q hq, fun k q hk => ?_⟩, fun w hw => ?_, va_AO.of o5, va_AO.of o6, va_AO.of o7, fun t t1 t2 => ?_, fun t u t1 t2 u1 u2 => ?_, hfl⟩
    · match k, hk with
      | 0, hk => cases hk; exact ha1
      | 1, hk => cases hk; exact ha2
      | 2, hk => cases hk; exact ha3
      | 3, hk => cases hk; exact ha4
      | 4, hk => cases hk; exact ha5
      | 5, hk => cases hk; exact ha6
      | 6, hk => cases hk; exact ha7
      | k + 7, hk => simp [xtys] at hk
    · have h1 := hts w (List.mem_filter.mp hw).1
      have h2 := (List.mem_filter.mp hw).2
      cases w <;> first | (simp [isNestW] at h2; done) | exact va_Nw.of rfl h1
    · rcases xt3 t1 t2 with rfl | rfl | rfl
      · exact he0
      · exact he1
      · exact he2
    · have w3 : ∀ w ∈ _, w ∈ lw_tbl := fun w hw => of_decide_eq_true (List.all_eq_true.mp st_w3 w hw)
      have w6 : ∀ w ∈ _, w ∈ st_flat := fun w hw => of_decide_eq_true (List.all_eq_true.mp st_w6 w hw)
      rcases xt3 t1 t2 with rfl | rfl | rfl <;> rcases xt3 u1 u2 with rfl | rfl | rfl
      · exact st_yes (hts _ (w3 (.castable (xexc 150) (xexc 150)) (by simp))) he0 he0
      · exact st_not (hs _ (w6 (.not (.castable (xexc 150) (xexc 151))) (by simp))) he0 he1
      · exact st_not (hs _ (w6 (.not (.castable (xexc 150) (xexc 152))) (by simp))) he0 he2
      · exact st_not (hs _ (w6 (.not (.castable (xexc 151) (xexc 150))) (by simp))) he1 he0
      · exact st_yes (hts _ (w3 (.castable (xexc 151) (xexc 151)) (by simp))) he1 he1
      · exact st_not (hs _ (w6 (.not (.castable (xexc 151) (xexc 152))) (by simp))) he1 he2
      · exact st_not (hs _ (w6 (.not (.castable (xexc 152) (xexc 150))) (by simp))) he2 he0
      · exact st_not (hs _ (w6 (.not (.castable (xexc 152) (xexc 151))) (by simp))) he2 he1
      · exact st_yes (hts _ (w3 (.castable (xexc 152) (xexc 152)) (by simp))) he2 he2
  · have w5 := fun w hw => of_decide_eq_true (List.all_eq_true.mp st_w5 w hw)
    refine ⟨hX, hbl, fun i hi => ?_, ⟨?_, ?_⟩, ⟨?_, ?_⟩⟩
    · have h := hEn.1 i hi
      have hne : (i + 1 = 13) = False := by simp; omega
      have ho : (if i + 1 = 13 then b else ad (i + 1 - 1)) = ad i := by rw [if_neg (by omega)]; rfl
      show va_Z _ _ _ (.ref (if i + 1 = 13 then b else ad (i + 1 - 1))) _ _ _ ∧ va_O _ (if i + 1 = 13 then b else ad (i + 1 - 1)) _ _ _ ∧ va_OF _ _ _ _ (if i + 1 = 13 then b else ad (i + 1 - 1)) _ _ _
      rw [ho]
      refine ⟨h.1, h.2.1, ?_⟩
      have h3 := h.2.2 _ (List.mem_singleton.mpr rfl)
      have e : ([0, 1, 2, 3, 4, 5, 6, 7, 8, 9, 10, 11] : List Int32).getD i 0 = Int32.ofNat i := by
        rcases (show i = 0 ∨ i = 1 ∨ i = 2 ∨ i = 3 ∨ i = 4 ∨ i = 5 ∨ i = 6 ∨ i = 7 ∨ i = 8 ∨ i = 9 ∨ i = 10 ∨ i = 11 by omega) with rfl | rfl | rfl | rfl | rfl | rfl | rfl | rfl | rfl | rfl | rfl | rfl <;> rfl
      rw [← e]; exact h3
    · exact va_Zqof (hts _ (w4 xr3 (by simp))) (hts _ (w4 (.initialized "java/lang/Throwable") (by simp))) (hs _ (w5 xr1 (by simp))) hA
    · exact xLS.of (hts _ (w4 xr3 (by simp))) hA
    · exact va_Zqof (hts _ (w4 xr4 (by simp))) (hts _ (w4 (.initialized "java/lang/Throwable") (by simp))) (hs _ (w5 xr2 (by simp))) hA
    · exact xLS.of (hts _ (w4 xr4 (by simp))) hA
