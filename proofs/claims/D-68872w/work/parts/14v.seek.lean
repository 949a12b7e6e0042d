/-! part 14v: the search for a handler, its classes resolved or not -/
/-- the table's entry that catches an exception of the tag t thrown at pc -/
def xhit (own : String) (pc t hp : Nat) : List (Nat × Nat × Nat × Nat) → Prop
  | [] => False
  | (a, b, h, ct) :: l => (a ≤ pc ∧ pc < b ∧ ct ≠ 0) ∧ ∃ u, 150 ≤ u ∧ u < 153 ∧ Cond.classLink own ct (xexc u) ∈ xgood ∧ ((u = t ∧ hp = h) ∨ (u ≠ t ∧ xhit own pc t hp l))
theorem x_seek {Γ : XG} {s : State} {e : Env} {f : JFrame} {a : Addr} {own : String} {t hp : Nat} {cell : Cell} {args : Array Value} (hpl : e.platform.magicAccessors = ({} : Platform).magicAccessors) (hown : s.vm.findClass own = some f.method.cls) (hts : ∀ w ∈ xgood, w.before args s = true) (hK : Kn Γ s)
    (t1 : 150 ≤ t) (t2 : t < 153) (hcls : cell.cls = Γ.A t) (hob : cell.vm.isStatics = false) : ∀ (l : List ClassFile.ExceptionTableEntry) (T : State), T.heap[a]? = some cell → s.WarmedH T.vm → xhit own f.pc t hp (l.map fun h => (h.startPc, h.endPc, h.handlerPc, h.catchType)) →
    ∃ vm', s.WarmedH vm' ∧ ∀ (Q : Handler → Pre) (E : CtlPost) (d : Bool) (acts : List Action), wp (findHandler.go f a l) Q E e d acts T ↔ Q (.found hp) d acts (T.setVm vm')
  | [], T, _, _, h => h.elim
  | x :: l, T, hcell, hW, h => by
    obtain ⟨⟨h1, h2, h0⟩, u, u1, u2, hlk, alt⟩ := h
    obtain ⟨c', hc', hcl⟩ := Cond.classLink_spec hown (hts _ hlk) e.platform hpl
    cases hc'.symm.trans (hK.2.2.2.2.2.1 u u1 u2)
    obtain ⟨dk, _, _, kt, hd, _, _, _, _, hkt, _, hopen⟩ := hcl.here
    have hcl₀ := hW.classLinks hcl
    have hW' : s.WarmedH (T.vm.noted f.method.cls x.catchType (.cls (Γ.A u))) := hW.noted hd hopen (State.rightAt_cls hcl)
    have hal := hW'.alike
    obtain ⟨k1, hk1⟩ := Vm.classAt_of_findClass (hK.2.2.2.2.2.1 t t1 t2)
    obtain ⟨k1', hk1', -⟩ := hal.2.2 _ _ hk1
    obtain ⟨k2', hk2', -⟩ := hal.2.2 _ _ hkt
    have hfit : (T.vm.noted f.method.cls x.catchType (.cls (Γ.A u))).assignable (Γ.A t) (Γ.A u) = decide (t = u) := by rw [hal.assignable]; exact hK.2.2.2.2.2.2.1 t u t1 t2 u1 u2
    have hobj := VmData.ne_statics_of hob
    obtain ⟨ha, hg⟩ := (resolveClass_links e.toSetting hcl₀).op (op := VmOp.resolveClass f.method.cls x.catchType) rfl
    have hcov : (decide (x.startPc ≤ f.pc) && decide (f.pc < x.endPc)) = true := by simp [h1, h2]
    rw [← hcls] at hk1' hfit
    rcases alt with ⟨e1, e2⟩ | ⟨e1, e2⟩
    · refine ⟨_, hW', fun Q E d acts => ?_⟩
      have hfit' : (T.vm.noted f.method.cls x.catchType (.cls (Γ.A u))).assignable cell.cls (Γ.A u) = true := by rw [hfit]; simp [e1]
      rw [e2]
      simp [findHandler.go, hcov, h1, h2, h0, ha, hg, hcell, hobj, hk1', hk2', hfit', VmOp.dirties, VmOp.acts]
    · have hfit' : (T.vm.noted f.method.cls x.catchType (.cls (Γ.A u))).assignable cell.cls (Γ.A u) = false := by rw [hfit]; simp; exact fun z => e1 z.symm
      obtain ⟨vm', hv, hf⟩ := x_seek hpl hown hts hK t1 t2 hcls hob l (T.setVm (T.vm.noted f.method.cls x.catchType (.cls (Γ.A u)))) hcell hW' e2
      refine ⟨vm', hv, fun Q E d acts => ?_⟩
      have := hf Q E d acts
      rw [show (T.setVm (T.vm.noted f.method.cls x.catchType (.cls (Γ.A u)))).setVm vm' = T.setVm vm' from rfl] at this
      rw [← this]
      simp [findHandler.go, hcov, h1, h2, h0, ha, hg, hcell, hobj, hk1', hk2', hfit', VmOp.dirties, VmOp.acts]
theorem x_caughtStep {tb : Tables} {e : Env} {s target : State} {g : JFrame} {c : Code} {below : List Frame} {a : Addr} (h : At s g.method c below) {pc : Nat} {vm' : Vm}
    (hfind : ∀ (Q : Handler → Pre) (E : CtlPost) (d : Bool) (acts : List Action), wp (findHandler g a) Q E e d acts ((s.setTop g).pushFrame (.throwing a)) ↔ Q (.found pc) d acts (((s.setTop g).pushFrame (.throwing a)).setVm vm'))
    (hrest : Steps tb e below ((s.setVm vm').setTop { g with pc := pc, stack := [.ref a] }) target) : Steps tb e below ((s.setTop g).pushFrame (.throwing a)) target := by
  obtain ⟨hgo, hw⟩ := h.throwing a
  refine Steps.head hgo hw ?_
  obtain ⟨g₀, hg⟩ := Option.isSome_iff_exists.mp h.top
  obtain ⟨r, hr⟩ := State.topJava?_eq_some.mp hg
  have hr' : (s.setVm vm').frames = .java g₀ :: r := hr
  have key : (stepThrowing e ((s.setTop g).pushFrame (.throwing a)) a (.java g :: r)).1 = (s.setVm vm').setTop { g with pc := pc, stack := [.ref a] } := by
    simp only [stepThrowing, searchFrame, vmDo]
    generalize hres : Sem.go _ e false [] ((s.setTop g).pushFrame (.throwing a)) = res
    obtain ⟨as, rfl, ha⟩ := Sem.eq_ok_of hres (a := Handler.found pc) (s' := ((s.setTop g).pushFrame (.throwing a)).setVm vm') (acts' := []) (by simp [hfind _ _ _ _])
    show (((s.setTop g).pushFrame (.throwing a)).setVm vm').setFrames _ = _
    rw [State.setTop_of_frames _ hr', State.setTop_of_frames _ hr, State.pushFrame]
    show (((s.setVm vm').setFrames _).setFrames _).setFrames _ = _
    rw [State.setFrames_setFrames, State.setFrames_setFrames]
  rw [stepThread_throwing (frames_entered h.top _), hr, List.tail_cons, key]
  exact hrest
section V14
variable {Γ : XG} {Y : XY} {d pc : Nat} {ω : XO × XM} {lv : XL} {st : List XV} {M M1 : XM}
/-- into a handler -/
theorem RT.catch {r t hp : Nat} (hT : mT M r = t) (t1 : 150 ≤ t) (t2 : t < 153) (hh : xhit Y.nm.cls pc t hp Y.hd) (kk : RW Γ Y d ω hp lv [.inr (.inr r)] M) : RT Γ Y d ω pc lv r M := by
  refine ⟨kk.1, kk.2.1, fun p e R s m args below meth c locs ls st u0 v0 T C h1 h2 h3 h4 hR hS hl X => ?_⟩
  obtain ⟨hx, hb, -, -, hown, hts, hlk, -, -, -, hK, -, hB, htab⟩ := id C
  have hr := hR.tag (r := r) (by omega) (by omega)
  obtain ⟨cell, hcell, hob, hcls⟩ := (hR.1 r hr.1).2.2 (by omega) (by omega)
  rw [hT] at hcls
  have hpl : e.platform.magicAccessors = ({} : Platform).magicAccessors := by rw [X.admits.platform]
  rw [← htab] at hh
  obtain ⟨vm', hW, hf⟩ := x_seek (f := F0 m pc ls st) (a := ad Γ r) (e := e) hpl hown hts hK t1 t2 hcls hob c.exceptionTable.toList ((T.setTop (F0 m pc ls st)).pushFrame (.throwing (ad Γ r))) hcell X.warmed hh
  have X' := X.noted hW
  obtain ⟨t', c1, c2⟩ := kk.2.2 p e R s m args below meth c T.heap locs ls u0 v0 C h1 h2 h3 h4 hR hS hl (T.setVm vm') rfl X'
  refine ⟨t', ?_, c2⟩
  refine x_caughtStep (g := F0 m pc ls st) (c := c) X.here (pc := hp) (vm' := vm') (fun Q E d acts => ?_) ?_
  · rw [W.findHandler_eq (meth := meth) (code := c) X.method' X.code]
    exact hf Q E d acts
  · rw [List.map_cons, List.map_nil, cv_ref (by omega)] at c1
    exact c1
end V14
