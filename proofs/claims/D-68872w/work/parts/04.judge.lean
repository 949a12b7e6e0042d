/-! part 04: the judgements RW (from a place of a method to its end) and CW (a whole call) -/
/-- a method: its name, its bytes, its locals, what it answers, its handlers (from, to, at, class entry) -/
abbrev XY : Type := MethodName × ByteArray × Nat × Option FieldType × List (Nat × Nat × Nat × Nat)
abbrev XY.nm (Y : XY) : MethodName := Y.1
abbrev XY.cc (Y : XY) : ByteArray := Y.2.1
abbrev XY.mL (Y : XY) : Nat := Y.2.2.1
abbrev XY.rt (Y : XY) : Option FieldType := Y.2.2.2.1
abbrev XY.hd (Y : XY) : List (Nat × Nat × Nat × Nat) := Y.2.2.2.2
def isNestW : Cond → Bool
  | .fieldLinkNest .. => true
  | .methodLinkNest .. => true
  | .declares .. => true
  | .castable .. => true
  | _ => false
def xnest : List Cond := lw_tbl.filter isNestW
theorem x_nest {w : Cond} (h : w ∈ lw_tbl) (g : isNestW w = true) : w ∈ xnest := List.mem_filter.mpr ⟨h, g⟩
/-- the exceptions' classes, by their tags -/
def xexc (t : Nat) : String := if t = 150 then "java/lang/IllegalArgumentException" else if t = 151 then "java/lang/IndexOutOfBoundsException" else "java/lang/IllegalStateException"
/-- what the tables say, wherever the walk stands -/
def Kn (Γ : XG) (U : State) : Prop := va_K Γ.D xcl (xtys Γ) U ∧ (∀ w ∈ xnest, va_Nw w U) ∧ va_AO "ProgramChecker$State" U ∧ va_AO "ProgramChecker$Thing" U ∧ va_AO "ProgramChecker$Sieve$Operation" U ∧ (∀ t, 150 ≤ t → t < 153 → U.vm.findClass (xexc t) = some (Γ.A t)) ∧ (∀ t u, 150 ≤ t → t < 153 → 150 ≤ u → u < 153 → U.vm.assignable (Γ.A t) (Γ.A u) = decide (t = u)) ∧ Γ.l.stackTraces = false
def xrel : List String := ["SAME", "OTHER", "BELOW", "NOT_ABOVE", "ABOVE", "NOT_BELOW", "LESS", "NOT_MORE", "MORE", "NOT_LESS", "COMMON", "APART"]
/-- a static field is laid, outside what may be written -/
def xLS (C n d : String) (A : Nat → Prop) (U : State) (H : Heap) : Prop := ∃ (c : ClassId) (k : Class) (i : Nat) (f : Field) (a : Nat) (cell : Cell), U.vm.findClass C = some c ∧ U.fieldFound? C n d = some (c, k, i, f) ∧ f.isStatic = true ∧ k.statics = some a ∧ H[a]? = some cell ∧ cell.vm.isStatics = true ∧ cell.cls = c ∧ f.slot < cell.slots.size ∧ k.staticTypes[f.slot]? = some f.type ∧ ¬ A a
theorem xLS.moved {C n d : String} {A : Nat → Prop} {u U : State} {H : Heap} (h : u.vm.Alike U.vm) (k : xLS C n d A u H) : xLS C n d A U H := by
  obtain ⟨c, k, i, f, a, cell, hc, hi, hst, ha, hr1, hr2, hr3, hr4, hty, hr5⟩ := k
  obtain ⟨k', hi', hek⟩ := State.fieldFound?_setVm h hi
  exact ⟨c, k', i, f, a, cell, by rw [h.findClass]; exact hc, hi', hst, by rw [hek]; exact ha, hr1, hr2, hr3, hr4, by rw [hek]; exact hty, hr5⟩
theorem xLS.kept {C n d : String} {A : Nat → Prop} {U : State} {H H1 : Heap} (h : xLS C n d A U H) (hq : ∀ a : Nat, a < H.size → ¬ A a → H1[a]? = H[a]?) : xLS C n d A U H1 := by
  obtain ⟨c, k, i, f, a, cell, hc, hi, hst, ha, hr1, hr2, hr3, hr4, hty, hr5⟩ := h
  exact ⟨c, k, i, f, a, cell, hc, hi, hst, ha, by rw [hq a (Array.getElem?_eq_some_iff.mp hr1).1 hr5]; exact hr1, hr2, hr3, hr4, hty, hr5⟩
theorem xLS.of {args : Array Value} {s : State} {C n d : String} {A : Nat → Prop} (hl : (Cond.laysStatic C n d).before args s = true) (hA : ∀ a : Nat, a < s.heap.size → ¬ A a) : xLS C n d A s s.heap := by
  obtain ⟨c, k, i, f, a, cell, hc, hi, hst, ha, hcell, hs, hcls, hlt, hty⟩ := Cond.laysStatic_spec hl
  exact ⟨c, k, i, f, a, cell, hc, hi, hst, ha, hcell, hs, hcls, hlt, hty, hA a (Array.getElem?_eq_some_iff.mp hcell).1⟩
theorem xLS.use {args : Array Value} {s : State} {C n d : String} {A : Nat → Prop} (h : xLS C n d A s s.heap) : (Cond.laysStatic C n d).before args s = true := by
  obtain ⟨c, k, i, f, a, cell, hc, hi, hst, ha, hr1, hr2, hr3, hr4, hty, hr5⟩ := h
  exact Cond.laysStatic_of hc hi hst ha hr1 hr2 hr3 hr4 hty
def xst (n d : String) (A : Nat → Prop) (U : State) (H : Heap) : Prop := va_Zq "java/lang/Throwable" n d A U H ∧ xLS "java/lang/Throwable" n d A U H
/-- the old things: the script, the constants -/
def Sx (Γ : XG) (U : State) (H : Heap) : Prop := va_X (Γ.o 13) Γ.n Γ.x U H ∧ Γ.o 13 < Γ.B ∧
  (∀ i, i < 12 → va_Z "ProgramChecker$Sieve$Relation" (xrel.getD i "") "LProgramChecker$Sieve$Relation;" (.ref (Γ.o (i + 1))) (XA Γ) U H ∧ va_O "ProgramChecker$Sieve$Relation" (Γ.o (i + 1)) (XA Γ) U H ∧ va_OF "java/lang/Enum" "ordinal" "I" (.int (Int32.ofNat i)) (Γ.o (i + 1)) (XA Γ) U H) ∧ xst "UNASSIGNED_STACK" "[Ljava/lang/StackTraceElement;" (XA Γ) U H ∧ xst "SUPPRESSED_SENTINEL" "Ljava/util/List;" (XA Γ) U H
/-- where a walk of the method Y stands; d: how many calls may be nested -/
def XC (Γ : XG) (Y : XY) (d : Nat) (p : Program) (R : Room) (s : State) (m : MethodId) (args : Array Value) (meth : Method) (c : Code) : Prop :=
  p.tables.exec = Jvm.exec ∧ c.code = Y.cc ∧ meth.sig.returnType = Y.rt ∧ c.maxLocals = Y.mL ∧ s.vm.findClass Y.nm.cls = some m.cls ∧ (∀ w ∈ xgood, w.before args s = true) ∧ meth.locks = false ∧ meth.name = Y.nm.name ∧
  d ≤ R.frames ∧ 40 * d ≤ R.locals ∧ Kn Γ s ∧ Sx Γ s s.heap ∧ Γ.B ≤ s.heap.size ∧ c.exceptionTable.toList.map (fun h => (h.startPc, h.endPc, h.handlerPc, h.catchType)) = Y.hd
def xo (Γ : XG) : XO → Outcome
  | .inl v => .returned (v.map (cv Γ))
  | .inr r => .threw (ad Γ r)
/-- the end of a method: its outcome and memory; what was outside is as it was -/
def XE (Γ : XG) (s : State) (below : List Frame) (ω : XO × XM) (k n : Nat) (t : State) : Prop :=
  t.status = .running ∧ Ended t below (xo Γ ω.1) ∧ Rel Γ ω.2 t.heap ∧ va_F (XA Γ) s t ∧ ∃ L, s.WarmedH t.vm ∧ s.sameButNew ({ t with vm := s.vm } : State) L k n ∧ ∀ q ∈ L, XA Γ q.base
def RW (Γ : XG) (Y : XY) (d : Nat) (ω : XO × XM) (pc : Nat) (lv : XL) (st : List XV) (M : XM) : Prop :=
  mC M ≤ mC ω.2 ∧ mS M ≤ mS ω.2 ∧
  ∀ (p : Program) (e : Env) (R : Room) (s : State) (m : MethodId) (args : Array Value) (below : List Frame) (meth : Method) (c : Code) (H : Heap) (locs : List Loc) (ls : Array Slot) (u0 v0 : Nat),
    XC Γ Y d p R s m args meth c → u0 ≤ mC M → v0 ≤ mS M → mC ω.2 - u0 ≤ R.cells → mS ω.2 - v0 ≤ R.slots → Rel Γ M H → va_S (XA Γ) s.heap H locs → lv_has ls Y.mL (lvp Γ lv) →
    W p Γ.l e R s m args below meth c H locs (mC M - u0) (mS M - v0) (XE Γ s below ω (mC ω.2 - u0) (mS ω.2 - v0)) (F0 m pc ls (st.map (cv Γ)))
def xws (Y : XY) : List Cond := (if Y.hd = [] then Cond.code Y.nm Y.cc Y.mL Y.rt else Cond.codeWith Y.nm Y.cc Y.mL Y.rt Y.hd) :: xgood
def CP (Γ : XG) (M : XM) : State → Prop := fun U => Kn Γ U ∧ Sx Γ U U.heap ∧ Rel Γ M U.heap
def CQ (Γ : XG) (ω : XO × XM) (k n : Nat) : Array Value → State → Outcome → State → Prop := fun _ st o t =>
  o = xo Γ ω.1 ∧ Rel Γ ω.2 t.heap ∧ va_F (XA Γ) st t ∧ ∃ L, st.WarmedH t.vm ∧ st.sameButNew ({ t with vm := st.vm } : State) L k n ∧ ∀ q ∈ L, XA Γ q.base
def CW (Γ : XG) (d : Nat) (Y : XY) (as : List XV) (M : XM) (ω : XO × XM) : Prop :=
  mC M ≤ mC ω.2 ∧ mS M ≤ mS ω.2 ∧
  MetFree Γ.l Y.nm (headSpec (xws Y) { frames := d, cells := mC ω.2 - mC M, slots := mS ω.2 - mS M, locals := 40 * d }) (va_Pc (as.map (cv Γ)) (CP Γ M)) (fun _ _ _ _ _ => True) (CQ Γ ω (mC ω.2 - mC M) (mS ω.2 - mS M))
/-- the arguments as locals -/
def inL : Nat → List XV → XL
  | n, [] => List.replicate n none
  | n, .inl i :: l => some (.inl i) :: inL (n - 1) l
  | n, .inr (.inr r) :: l => some (.inr (.inr r)) :: inL (n - 1) l
  | n, .inr (.inl i) :: l => some (.inr (.inl i)) :: none :: inL (n - 2) l
theorem W.mono {p : Program} {l : Launch} {e : Env} {R : Room} {s : State} {m : MethodId} {args : Array Value} {below : List Frame} {meth : Method} {c : Code} {H : Heap} {locs : List Loc} {cells slots : Nat} {Q Q' : State → Prop} {g : JFrame} (hq : ∀ t, Q t → Q' t) (k : W p l e R s m args below meth c H locs cells slots Q g) : W p l e R s m args below meth c H locs cells slots Q' g := fun T hT X => by
  obtain ⟨t, a, b⟩ := k T hT X
  exact ⟨t, a, hq t b⟩
theorem gtL_rep {n k : Nat} {v : XV} (h : gtL (List.replicate n none) k = some v) : False := by
  unfold gtL at h
  rw [List.getElem?_replicate] at h
  split at h <;> cases h
/-- the entry's locals hold the arguments -/
theorem inL_args (Γ : XG) : ∀ (as : List XV) (n i k : Nat) (v : XV), gtL (inL n as) k = some v → (i + k, cv Γ v) ∈ lv_args i (as.map (cv Γ))
  | [], n, i, k, v, h => absurd h (fun z => gtL_rep z)
  | .inl x :: l, n, i, k, v, h => by
    cases k with
    | zero =>
      simp [inL, gtL] at h
      subst h
      simp [lv_args, cv, Value.category]
    | succ k =>
      have h1 : gtL (inL (n - 1) l) k = some v := by simpa [inL, gtL] using h
      have h2 := inL_args Γ l (n - 1) (i + 1) k v h1
      rw [show i + (k + 1) = i + 1 + k by omega]
      simp [lv_args, cv, Value.category] at h2 ⊢
      exact Or.inr h2
  | .inr (.inl x) :: l, n, i, k, v, h => by
    match k with
    | 0 =>
      simp [inL, gtL] at h
      subst h
      simp [lv_args, cv, Value.category]
    | 1 => simp [inL, gtL] at h
    | k + 2 =>
      have h1 : gtL (inL (n - 2) l) k = some v := by simpa [inL, gtL] using h
      have h2 := inL_args Γ l (n - 2) (i + 2) k v h1
      rw [show i + (k + 2) = i + 2 + k by omega]
      simp [lv_args, cv, Value.category] at h2 ⊢
      exact Or.inr h2
  | .inr (.inr x) :: l, n, i, k, v, h => by
    have hc : (rv Γ x).category = 1 := by unfold rv; split <;> rfl
    cases k with
    | zero =>
      simp [inL, gtL] at h
      subst h
      simp [lv_args, cv, hc]
    | succ k =>
      have h1 : gtL (inL (n - 1) l) k = some v := by simpa [inL, gtL] using h
      have h2 := inL_args Γ l (n - 1) (i + 1) k v h1
      rw [show i + (k + 1) = i + 1 + k by omega]
      simp [lv_args, cv, hc] at h2 ⊢
      exact Or.inr h2
def wdL : List XV → Nat
  | [] => 0
  | .inr (.inl _) :: l => wdL l + 2
  | _ :: l => wdL l + 1
theorem wdL_len (Γ : XG) : ∀ as : List XV, (lg_sl (as.map (cv Γ))).length = wdL as
  | [] => rfl
  | .inl x :: l => by
    have := wdL_len Γ l
    simp [lg_sl, cv, Value.category, wdL] at this ⊢; omega
  | .inr (.inl x) :: l => by
    have := wdL_len Γ l
    simp [lg_sl, cv, Value.category, wdL] at this ⊢; omega
  | .inr (.inr x) :: l => by
    have := wdL_len Γ l
    have hc : (rv Γ x).category = 1 := by unfold rv; split <;> rfl
    simp [lg_sl, cv, hc, wdL] at this ⊢; omega
theorem x_code {Y : XY} (hh : Y.hd = []) : xws Y = Cond.code Y.nm Y.cc Y.mL Y.rt :: xgood := by unfold xws; rw [if_pos hh]
/-- a method without handlers: from its entry to its end -/
theorem CW.of {Γ : XG} {d : Nat} {Y : XY} {as : List XV} {M : XM} {ω : XO × XM} (hy : plainName Y.nm.cls = true) (hh : Y.hd = []) (hw : wdL as ≤ Y.mL) (k : RW Γ Y d ω 0 (inL Y.mL as) [] M) : CW Γ d Y as M ω := by
  obtain ⟨k1, k2, k3⟩ := k
  refine ⟨k1, k2, ?_⟩
  refine MetFree.of_bodyS (code := Y.cc) (maxLocals := Y.mL) (ret := Y.rt) hy ?_ ?_
  · intro args s m h hn
    obtain ⟨meth, c, h1, h2, h3, h4, h5, h6, -, -⟩ := Cond.code_spec hn (atoms_spec (ws := xws Y) h _ (by rw [x_code hh]; exact List.mem_cons_self))
    exact ⟨meth, c, h1, h2, h3, h4, h5, h6⟩
  · intro p e s m args below meth c s₁ B hml hP _
    have hh0 : s₁.heap = s.heap := by rw [B.state]; rfl
    obtain ⟨rfl, hK, hX, hR⟩ := hP
    have hts := atoms_spec (ws := xws Y) B.pre
    have hcd := hts _ (by rw [x_code hh]; exact List.mem_cons_self)
    have hnh : c.exceptionTable.toList.map (fun h => (h.startPc, h.endPc, h.handlerPc, h.catchType)) = Y.hd := by
      have h0 := B.noHandlers hcd
      have h1 : c.exceptionTable = #[] := by simpa [Array.isEmpty] using h0
      rw [hh, h1]
      rfl
    have hl := lv_entry (as.map (cv Γ)) (n := Y.mL) (by rw [wdL_len]; exact hw)
    have hl2 : lv_has ((lg_sl (as.map (cv Γ)) ++ List.replicate (Y.mL - (lg_sl (as.map (cv Γ))).length) Slot.unset).toArray) Y.mL (lvp Γ (inL Y.mL as)) := hl.fewer fun q hq => by
      obtain ⟨v, h1, h2⟩ := lvp_mem.mp hq
      have := inL_args Γ as Y.mL 0 q.1 v h1
      rw [Nat.zero_add, ← h2] at this
      exact this
    have K := k3 p e { frames := d, cells := mC ω.2 - mC M, slots := mS ω.2 - mS M, locals := 40 * d } s m (as.map (cv Γ)).toArray below meth c s.heap [] _ (mC M) (mS M)
      ⟨B.exec, B.bytes, B.returns, hml, findClass_of_methodNamed B.named, fun w hw => hts w (by rw [x_code hh]; exact List.mem_cons_of_mem _ hw), B.notSynchronized, (name_of_methodNamed B.named B.method).1, Nat.le_refl _, Nat.le_refl _, hK, hX, by rw [hR.2.2.1]; omega, hnh⟩
      (Nat.le_refl _) (Nat.le_refl _) (Nat.le_refl _) (Nat.le_refl _) hR va_S.rf hl2
    rw [Nat.sub_self, Nat.sub_self] at K
    rw [List.map_nil, ← lg_entry_eq] at K
    obtain ⟨t, a1, b1, b2, b3⟩ := K s₁ hh0 (Stand.of_body B)
    exact ⟨t, _, a1, b1, b2, rfl, b3⟩
theorem Kn.warm {Γ : XG} {s U : State} (h : s.WarmedH U.vm) (k : Kn Γ s) : Kn Γ U := by
  obtain ⟨k1, k2, k3, k4, k5, k6, k7, k8⟩ := k
  refine ⟨va_K.moved h.alike k1, fun w hw => ?_, va_AO.moved h.alike k3, va_AO.moved h.alike k4, va_AO.moved h.alike k5, fun t a b => by rw [h.alike.findClass]; exact k6 t a b, fun t u a b c d => by rw [h.alike.assignable]; exact k7 t u a b c d, k8⟩
  have hz := k2 w hw
  have hg := (List.mem_filter.mp hw).2
  cases w <;> first | (simp [isNestW] at hg; done) | exact va_Nw.warmF h hz | exact va_Nw.warmM h hz | exact va_Nw.warmD h hz | exact va_Nw.warmC h hz
theorem Sx.moved {Γ : XG} {s U : State} {H H' : Heap} (h : s.vm.Alike U.vm) (hk : ∀ q, q < Γ.B → H'[q]? = H[q]?) (k : Sx Γ s H) : Sx Γ U H' := by
  obtain ⟨k1, k0, k2, k3, k4⟩ := k
  refine ⟨va_X.moved h (k1.kept (hk _ k0)), k0, fun i hi => ?_, ⟨va_Zq.moved h (k3.1.kept fun q _ hq => hk q (Nat.not_le.mp hq)), xLS.moved h (k3.2.kept fun q _ hq => hk q (Nat.not_le.mp hq))⟩, ⟨va_Zq.moved h (k4.1.kept fun q _ hq => hk q (Nat.not_le.mp hq)), xLS.moved h (k4.2.kept fun q _ hq => hk q (Nat.not_le.mp hq))⟩⟩
  obtain ⟨a, b, c⟩ := k2 i hi
  exact ⟨va_Z.moved h (a.kept fun q _ hq => hk q (Nat.not_le.mp hq)), va_O.moved h (b.kept fun q _ hq => hk q (Nat.not_le.mp hq)), va_OF.moved h (c.kept fun q _ hq => hk q (Nat.not_le.mp hq))⟩
