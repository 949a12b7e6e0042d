/-! part 14w: an exception is made and thrown, in a frame that has changed nothing yet -/
theorem x_isRef {args : Array Value} {s : State} {C n d : String} {A : Nat → Prop} (h : va_Zq C n d A s s.heap) : (Cond.isRef (.static C n d)).before args s = true := by
  rcases h with h | ⟨t, h⟩ <;> obtain ⟨cf, kf, fi, f, a, cell, h1, h2, h3, h4, h5, h6, h7, -⟩ := h <;> simp [Cond.before, Cond.holds, Cond.value, Term.eval, State.fieldNamed?, h1, h2, h4, h5, h6, h7]
def xic (t : Nat) : Nat := if t = 150 then 25 else if t = 151 then 28 else 39
def xcc (t : Nat) : Nat := if t = 150 then 23 else if t = 151 then 26 else 37
abbrev xrt : List String := ["java/lang/RuntimeException", "java/lang/Exception"]
def xr1 : Cond := .isRef (.static "java/lang/Throwable" "UNASSIGNED_STACK" "[Ljava/lang/StackTraceElement;")
def xr2 : Cond := .isRef (.static "java/lang/Throwable" "SUPPRESSED_SENTINEL" "Ljava/util/List;")
def xr3 : Cond := .laysStatic "java/lang/Throwable" "UNASSIGNED_STACK" "[Ljava/lang/StackTraceElement;"
def xr4 : Cond := .laysStatic "java/lang/Throwable" "SUPPRESSED_SENTINEL" "Ljava/util/List;"
def xtw (a : Cond) : Bool := (decide (a ∈ lw_tbl) && (goodWord a || isNestW a)) || decide (a = xr1) || decide (a = xr2) || decide (a = xr3) || decide (a = xr4)
set_option maxRecDepth 100000 in
theorem xtw_150 : (Bundle.ownAtoms0 "ProgramChecker" 25 "java/lang/IllegalArgumentException" xrt).all xtw = true := by decide +kernel
set_option maxRecDepth 100000 in
theorem xtw_151 : (Bundle.ownAtoms0 "ProgramChecker" 28 "java/lang/IndexOutOfBoundsException" xrt).all xtw = true := by decide +kernel
set_option maxRecDepth 100000 in
theorem xtw_152 : (Bundle.ownAtoms0 "ProgramChecker" 39 "java/lang/IllegalStateException" xrt).all xtw = true := by decide +kernel
theorem xt3 {t : Nat} (t1 : 150 ≤ t) (t2 : t < 153) : t = 150 ∨ t = 151 ∨ t = 152 := by omega
theorem xtw_all {t : Nat} (t1 : 150 ≤ t) (t2 : t < 153) : (Bundle.ownAtoms0 "ProgramChecker" (xic t) (xexc t) xrt).all xtw = true := by
  rcases xt3 t1 t2 with rfl | rfl | rfl
  · exact xtw_150
  · exact xtw_151
  · exact xtw_152
theorem xtw_new {t : Nat} (t1 : 150 ≤ t) (t2 : t < 153) : xtw (.classLink "ProgramChecker" (xcc t) (xexc t)) = true ∧ xtw (.instantiable (xexc t) 6) = true ∧ xtw (.initialized (xexc t)) = true := by
  rcases xt3 t1 t2 with rfl | rfl | rfl <;> decide +kernel
theorem xtw_use {Γ : XG} {args : Array Value} {s : State} (hts : ∀ w ∈ xgood, w.before args s = true) (hK : Kn Γ s) (hX : Sx Γ s s.heap) {a : Cond} (h : xtw a = true) : a.before args s = true := by
  unfold xtw at h
  simp only [Bool.or_eq_true, Bool.and_eq_true, decide_eq_true_eq] at h
  rcases h with (((⟨h1, h2⟩ | h) | h) | h) | h
  · rcases h2 with h2 | h2
    · exact hts _ (x_good h1 h2)
    · have hz := hK.2.1 _ (x_nest h1 h2)
      cases a <;> first | (simp [isNestW] at h2; done) | exact va_Nw.use rfl hz
  · rw [h]; exact x_isRef hX.2.2.2.1.1
  · rw [h]; exact x_isRef hX.2.2.2.2.1
  · rw [h]; exact hX.2.2.2.1.2.use
  · rw [h]; exact hX.2.2.2.2.2.use
/-- as RW, for a frame that has changed nothing yet -/
def RN (Γ : XG) (Y : XY) (d : Nat) (ω : XO × XM) (pc : Nat) (lv : XL) (st : List XV) (M : XM) : Prop :=
  mC M ≤ mC ω.2 ∧ mS M ≤ mS ω.2 ∧ ∀ (p : Program) (e : Env) (R : Room) (s : State) (m : MethodId) (args : Array Value) (below : List Frame) (meth : Method) (c : Code) (ls : Array Slot),
    XC Γ Y d p R s m args meth c → mC ω.2 - mC M ≤ R.cells → mS ω.2 - mS M ≤ R.slots → Rel Γ M s.heap → lv_has ls Y.mL (lvp Γ lv) →
    W p Γ.l e R s m args below meth c s.heap [] 0 0 (XE Γ s below ω (mC ω.2 - mC M) (mS ω.2 - mS M)) (F0 m pc ls (st.map (cv Γ)))
section W14
variable {Γ : XG} {Y : XY} {d pc : Nat} {ω : XO × XM} {lv : XL} {st : List XV} {M M1 : XM}
theorem CW.ofN {as : List XV} (hy : plainName Y.nm.cls = true) (hh : Y.hd = []) (hw : wdL as ≤ Y.mL) (k : RN Γ Y d ω 0 (inL Y.mL as) [] M) : CW Γ d Y as M ω := by
  obtain ⟨k1, k2, k3⟩ := k
  refine ⟨k1, k2, ?_⟩
  refine MetFree.of_bodyS (code := Y.cc) (maxLocals := Y.mL) (ret := Y.rt) hy ?_ ?_
  · intro args s m h hn
    obtain ⟨meth, c, h1, h2, h3, h4, h5, h6, -, -⟩ := Cond.code_spec hn (atoms_spec (ws := xws Y) h _ (by rw [x_code hh]; exact List.mem_cons_self))
    exact ⟨meth, c, h1, h2, h3, h4, h5, h6⟩
  · intro p e s m args below meth c s₁ B hml hP _
    have hh0 : s₁.heap = s.heap := by rw [B.state]; rfl
    obtain ⟨rfl, hK, hX, hR⟩ := hP
    have hts := atoms_spec (ws := xws Y) B.pre
    have hcd := hts _ (by rw [x_code hh]; exact List.mem_cons_self)
    have hnh : c.exceptionTable.toList.map (fun h => (h.startPc, h.endPc, h.handlerPc, h.catchType)) = Y.hd := by
      have h0 := B.noHandlers hcd
      have h1 : c.exceptionTable = #[] := by simpa [Array.isEmpty] using h0
      rw [hh, h1]
      rfl
    have hl := lv_entry (as.map (cv Γ)) (n := Y.mL) (by rw [wdL_len]; exact hw)
    have hl2 : lv_has ((lg_sl (as.map (cv Γ)) ++ List.replicate (Y.mL - (lg_sl (as.map (cv Γ))).length) Slot.unset).toArray) Y.mL (lvp Γ (inL Y.mL as)) := hl.fewer fun q hq => by
      obtain ⟨v, h1, h2⟩ := lvp_mem.mp hq
      have := inL_args Γ as Y.mL 0 q.1 v h1
      rw [Nat.zero_add, ← h2] at this
      exact this
    have K := k3 p e { frames := d, cells := mC ω.2 - mC M, slots := mS ω.2 - mS M, locals := 40 * d } s m (as.map (cv Γ)).toArray below meth c _
      ⟨B.exec, B.bytes, B.returns, hml, findClass_of_methodNamed B.named, fun w hw => hts w (by rw [x_code hh]; exact List.mem_cons_of_mem _ hw), B.notSynchronized, (name_of_methodNamed B.named B.method).1, Nat.le_refl _, Nat.le_refl _, hK, hX, by rw [hR.2.2.1]; omega, hnh⟩
      (Nat.le_refl _) (Nat.le_refl _) hR hl2
    rw [List.map_nil, ← lg_entry_eq] at K
    obtain ⟨t, a1, b1, b2, b3⟩ := K s₁ hh0 (Stand.of_body B)
    exact ⟨t, _, a1, b1, b2, rfl, b3⟩
theorem n_iload_n {k : Fin 4} {x : Int32} (hd : decode Y.cc pc = .ok (.iload_n k, 1)) (hg : gtL lv k = some (.inl x)) (k : RN Γ Y d ω (pc + 1) lv (.inl (x) :: st) M) : RN Γ Y d ω pc lv (st) M := ⟨k.1, k.2.1, fun p e R s m args below meth c ls C h3 h4 hR hl => lv_iload_n C.1 C.2.1 hd rfl (hl.read hg) (k.2.2 p e R s m args below meth c ls C h3 h4 hR hl)⟩
theorem n_bipush {n : Int} {v : Int32} (hd : decode Y.cc pc = .ok (.bipush n, 2)) (hv : (Int8.ofInt n).toInt32 = v) (k : RN Γ Y d ω (pc + 2) lv (.inl (v) :: st) M) : RN Γ Y d ω pc lv (st) M := ⟨k.1, k.2.1, fun p e R s m args below meth c ls C h3 h4 hR hl => lv_bipush C.1 C.2.1 hd hv (k.2.2 p e R s m args below meth c ls C h3 h4 hR hl)⟩
theorem n_sipush {n : Int} {v : Int32} (hd : decode Y.cc pc = .ok (.sipush n, 3)) (hv : (Int16.ofInt n).toInt32 = v) (k : RN Γ Y d ω (pc + 3) lv (.inl (v) :: st) M) : RN Γ Y d ω pc lv (st) M := ⟨k.1, k.2.1, fun p e R s m args below meth c ls C h3 h4 hR hl => lv_sipush C.1 C.2.1 hd hv (k.2.2 p e R s m args below meth c ls C h3 h4 hR hl)⟩
theorem n_iadd {x y : Int32} (hd : decode Y.cc pc = .ok (.iadd, 1))  (k : RN Γ Y d ω (pc + 1) lv (.inl (x + y) :: st) M) : RN Γ Y d ω pc lv (.inl (y) :: .inl (x) :: st) M := ⟨k.1, k.2.1, fun p e R s m args below meth c ls C h3 h4 hR hl => lv_iadd C.1 C.2.1 hd (k.2.2 p e R s m args below meth c ls C h3 h4 hR hl)⟩
theorem n_aload_n {k : Fin 4} {x : Nat} (hd : decode Y.cc pc = .ok (.aload_n k, 1)) (hg : gtL lv k = some (.inr (.inr x))) (hx0 : x ≠ 0) (k : RN Γ Y d ω (pc + 1) lv (.inr (.inr x) :: st) M) : RN Γ Y d ω pc lv st M := ⟨k.1, k.2.1, fun p e R s m args below meth c ls C h3 h4 hR hl => by
  have K := k.2.2 p e R s m args below meth c ls C h3 h4 hR hl
  have G := hl.read hg
  rw [List.map_cons, cv_ref hx0] at K
  rw [cv_ref hx0] at G
  exact lv_aload_n C.1 C.2.1 hd rfl G K⟩
theorem n_ifne {x : Int32} {off : Int} {tgt : Nat} (hd : decode Y.cc pc = .ok (.ifCond .ne off, 3)) (ht : (pc : Int) + off = (tgt : Int)) (hx : x = 0) (k : RN Γ Y d ω (pc + 3) lv st M) : RN Γ Y d ω pc lv (.inl x :: st) M := ⟨k.1, k.2.1, fun p e R s m args below meth c ls C h3 h4 hR hl => lv_if_ne C.1 C.2.1 hd ht (fun z => absurd hx z) (fun _ => k.2.2 p e R s m args below meth c ls C h3 h4 hR hl)⟩
theorem n_icmple {x y : Int32} {off : Int} {tgt : Nat} (hd : decode Y.cc pc = .ok (.if_icmp .le off, 3)) (ht : (pc : Int) + off = (tgt : Int)) (hx : ¬ x ≤ y) (k : RN Γ Y d ω (pc + 3) lv st M) : RN Γ Y d ω pc lv (.inl y :: .inl x :: st) M := ⟨k.1, k.2.1, fun p e R s m args below meth c ls C h3 h4 hR hl => lv_icmp_le C.1 C.2.1 hd ht (fun z => absurd z hx) (fun _ => k.2.2 p e R s m args below meth c ls C h3 h4 hR hl)⟩
theorem n_getfield {idx t k r : Nat} (hd : decode Y.cc pc = .ok (.getfield idx, 3)) (hF : XF Y.nm.cls idx t k) (hT : mT M r = t) (kk : RN Γ Y d ω (pc + 3) lv (gv M t r k :: st) M) : RN Γ Y d ω pc lv (.inr (.inr r) :: st) M := ⟨kk.1, kk.2.1, fun p e R s m args below meth c ls C h3 h4 hR hl => by
  obtain ⟨ht1, q, hq, hk, hlk⟩ := hF
  obtain ⟨hr, cell, q1, q2, q3, q4⟩ := xobj hR hq ht1 hT
  obtain ⟨hx, hb, -, -, hown, hts, -, -, -, -, hK, -⟩ := id C
  obtain ⟨ty, hws, hty, hnm, -⟩ := xcl_ok _ _ hq
  obtain ⟨hSl, hfc, kC, hkC, hkind⟩ := hK.1.1 _ _ hq
  obtain ⟨cf, kf, fi, f, hi, hsl⟩ := hSl k hk
  have hst := (u_facts hfc hkC (u_lays hts hws hk) hi).1
  have K := kk.2.2 p e R s m args below meth c ls C h3 h4 hR hl
  rw [List.map_cons, cv_gv] at K
  rw [List.map_cons, cv_ref (by omega)]
  have hv := q4 k hk
  rw [← hsl] at hv
  rcases hlk with hlk | ⟨host, hlk⟩
  · exact W.getf hx hb hown (hts _ hlk) hi hst q1 (by rw [q3]; exact fun h => by cases h) hv rfl rfl hd K
  · exact va_Wgetf hx hb hown (va_Nw.use rfl (hK.2.1 _ hlk)) hi hst q1 (by rw [q3]; exact fun h => by cases h) hv rfl rfl hd K⟩
/-- new E, dup, its constructor, athrow -/
theorem n_throw {t : Nat} (t1 : 150 ≤ t) (t2 : t < 153) (hcl : Y.nm.cls = "ProgramChecker") (hh : Y.hd = []) (hd : 6 ≤ d) (hd0 : decode Y.cc pc = .ok (.new (xcc t), 3)) (hd3 : decode Y.cc (pc + 3) = .ok (.dup, 1)) (hd4 : decode Y.cc (pc + 4) = .ok (.invokespecial (xic t), 3)) (hd7 : decode Y.cc (pc + 7) = .ok (.athrow, 1)) : RN Γ Y d (.inr (mC M), wN M t 6) pc lv [] M := by
  refine ⟨by rw [mC_wN]; omega, by rw [mS_wN]; omega, fun p e R s m args below meth c ls C h3 h4 hR hl => ?_⟩
  obtain ⟨hx, hb, -, hml, hown, hts, hlk, -, hfr, hlo, hK, hX, hB, htab⟩ := id C
  rw [hcl] at hown
  have hn := hR.nextA
  have hnil : c.exceptionTable.toList = [] := by rw [hh] at htab; simpa using htab
  obtain ⟨w1, w2, w3⟩ := xtw_new t1 t2
  have hfc := hK.2.2.2.2.2.1 t t1 t2
  have h3' : mC M + 1 - mC M ≤ R.cells := h3
  have h4' : mS M + 6 - mS M ≤ R.slots := h4
  refine W.newcK hx hb hown (xtw_use hts hK hX w1) (xtw_use hts hK hX w2) (xtw_use hts hK hX w3) rfl hd0 (by omega) (by omega) hfc rfl fun H' kC hkC g1 g2 g3 => ?_
  refine lv_dup hx hb hd3 rfl ?_
  intro T hT X
  obtain ⟨U, st1, hrun, hend, hW, hsame, ce, hce, hown'⟩ := X.ctorThrow0 hx (by rw [X.admits.platform]; exact hK.2.2.2.2.2.2.2) (own := "ProgramChecker") (cls := xexc t) (names := xrt) (ic := xic t) hown (by rcases xt3 t1 t2 with rfl | rfl | rfl <;> decide +kernel) (by decide +kernel)
    (fun a ha => xtw_use hts hK hX (List.all_eq_true.mp (xtw_all t1 t2) a ha)) (fun x hx => by cases hx) (a := s.heap.size) hfc hkC (by rw [hT]; exact g1) (Nat.le_refl _) (g := F0 m (pc + 4) ls [.ref s.heap.size, .ref s.heap.size]) rfl (hl.1.trans hml.symm) rfl rfl (rest := []) rfl (by rw [hb]; exact hd4) (by rw [hb]; exact hd7) (fun x hx => by rw [hnil] at hx; cases hx)
    (by show 2 + 3 < R.frames; omega) (by show _ + (13 * (2 + 1) + 41) ≤ R.locals; simp [JFrame.monitorRoom, Value.category]; omega) hlk
  have hsz : U.heap.size = s.heap.size + 1 := by
    have z1 : U.heap.size ≤ s.heap.size + (0 + 1) := hsame.2.2.1
    have z2 := (Array.getElem?_eq_some_iff.mp hce).1
    omega
  have hold : ∀ q : Nat, q < s.heap.size → U.heap[q]? = s.heap[q]? := by
    intro q hq
    obtain ⟨c', e1, e2, e3, e4⟩ := hsame.2.2.2.2.2 q _ (Array.getElem?_eq_getElem hq)
    rw [Array.getElem?_eq_getElem hq]
    have e1' : U.heap[q]? = some c' := e1
    rw [e1', e2]
    congr 2
    exact Array.ext_getElem? fun i => e4 i (by simp)
  have hcls : ce.cls = Γ.A t := Option.some.inj (hown'.cls.symm.trans hfc)
  refine ⟨U, st1, hrun, ?_, ?_, ⟨by omega, fun q z1 _ => hold q z1⟩, [], hW, ?_, fun q hq => by cases hq⟩
  · show Ended U below (.threw (ad Γ (mC M)))
    rw [hn]; exact hend
  · refine hR.push (t := t) (n := 6) hsz hold ?_
    unfold xcell
    rw [mT_wN, if_pos rfl]
    refine ⟨fun _ z => absurd z (by omega), fun _ z => absurd z (by omega), fun _ _ => ⟨ce, by rw [hn]; exact hce, by rw [hown'.vm]; rfl, hcls⟩⟩
  · show s.sameButNew _ [] (mC M + 1 - mC M) (mS M + 6 - mS M)
    rw [show mC M + 1 - mC M = 0 + 1 by omega, show mS M + 6 - mS M = 0 + 6 by omega]
    exact hsame
end W14
