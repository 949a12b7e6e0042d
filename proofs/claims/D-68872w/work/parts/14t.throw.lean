/-! part 14t: exceptions: a callee that throws, out of a frame or into a handler of it -/
section T14
variable {Γ : XG} {Y : XY} {d pc : Nat} {ω : XO × XM} {lv : XL} {st : List XV} {M M1 : XM}
/-- a call whose callee throws -/
theorem x_thrown {d' r : Nat} {Y' : XY} {as : List XV} (hc : CW Γ d' Y' as M (.inr r, M1)) {p : Program} {e : Env} {R : Room} {s : State} {m : MethodId} {args : Array Value} {below : List Frame} {meth : Method} {c : Code} {U : State} {locs : List Loc} {cells slots : Nat}
    (X : Stand p Γ.l e R s m args below meth c U locs cells slots) {g : JFrame} (hg : g.method = m) (hsize : g.locals.size = c.maxLocals) {ig : Instr} {len : Nat} (hdg : decode c.code g.pc = .ok (ig, len)) {mk : MethodId} (hn : U.methodNamed? Y'.nm = some mk)
    (hY : YOK Y') (hpre : ∀ w ∈ xws Y', w.before (as.map (cv Γ)).toArray U = true) (hP : CP Γ M U) (hini : (Cond.initialized Y'.nm.cls).before (as.map (cv Γ)).toArray U = true)
    (hW : 2 * g.monitorRoom + (g.stack.map fun v => v.category).sum ≤ 8) (hfr : d' + 1 ≤ R.frames) (hlo : 8 + (Y'.mL + 11) + 40 * d' ≤ R.locals) (hcells : cells + (mC M1 - mC M) ≤ R.cells) (hslots : slots + (mS M1 - mS M) ≤ R.slots) :
    ∃ (T' : State) (L : List Loc), Stand p Γ.l e R s m args below meth c T' (locs ++ L) (cells + (mC M1 - mC M)) (slots + (mS M1 - mS M)) ∧ (∀ q ∈ L, XA Γ q.base) ∧ Rel Γ M1 T'.heap ∧ va_F (XA Γ) U T' ∧
      Steps p.tables e below (doInvoke e (U.setTop g) [] mk (as.map (cv Γ)).toArray).1 ((T'.setTop g).pushFrame (.throwing (ad Γ r))) := by
  have hcd : (Cond.code Y'.nm Y'.cc Y'.mL Y'.rt).before (as.map (cv Γ)).toArray U = true := hpre _ (by rw [x_code hY.1]; exact List.mem_cons_self)
  obtain ⟨methY, cY, hmY, hcY, -, hlY, -, -, -, -⟩ := Cond.code_spec hn hcd
  obtain ⟨kY, hkY, -⟩ := className_of_methodNamed hn
  have hinitY : kY.init = .initialized := Cond.initialized_spec (findClass_of_methodNamed hn) hkY hini
  have h : At U g.method c below := by rw [hg]; exact X.here
  have happ : (headSpec (xws Y') { frames := d', cells := mC M1 - mC M, slots := mS M1 - mS M, locals := 40 * d' }).appliesLoose Y'.nm e.platform (U.calling g mk (as.map (cv Γ)).toArray) = true :=
    Spec.appliesLoose_calling (g := g) h hdg hn hkY hinitY (X.room_calling (g := g) (R' := { frames := d', cells := mC M1 - mC M, slots := mS M1 - mS M, locals := 40 * d' }) hsize hmY hcY hfr (by rw [hlY]; show _ + 40 * d' ≤ _; omega) hcells hslots) (atoms_intro fun w hw => hpre w hw)
  obtain ⟨mid, hmid⟩ := h.above
  have hfrm : (U.setTop g).frames = (.java g :: mid) ++ below := by rw [State.frames_setTop' g h.top, hmid]; rfl
  obtain ⟨o, s₂, hsteps, -, hend, rfl, hRel, hF, L, hWm, hsm, hL⟩ := Steps.callFree hc.2.2 p X.admits X.cas X.clock (acts := []) hfrm happ ⟨rfl, CP.blind _ _ _ _ ⟨rfl, hP⟩ |>.2⟩ trivial
  rw [State.frames_setTop' g h.top, X.tail] at hend
  obtain ⟨T', X', hW', hsame, ht⟩ := X.outOfThrown hg (mk := mk) (a := (as.map (cv Γ)).toArray) hend hWm hsm
  have hheap : T'.heap = s₂.heap := by rw [ht]; rfl
  refine ⟨T', L, X', hL, by rw [hheap]; exact hRel, ?_, by rw [← ht]; exact hsteps⟩
  exact ⟨by rw [hheap]; exact hF.1, fun q a b => by rw [hheap]; exact hF.2 q a b⟩
end T14
