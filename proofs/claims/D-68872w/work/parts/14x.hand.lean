/-! part 14x: methods with handlers: from their entry to their end; a static call of one -/
theorem x_codeH {Y : XY} (hh : Y.hd ≠ []) : xws Y = Cond.codeWith Y.nm Y.cc Y.mL Y.rt Y.hd :: xgood := by unfold xws; rw [if_neg hh]
theorem CW.ofH {Γ : XG} {d : Nat} {Y : XY} {as : List XV} {M : XM} {ω : XO × XM} (hy : plainName Y.nm.cls = true) (hh : Y.hd ≠ []) (hw : wdL as ≤ Y.mL) (k : RW Γ Y d ω 0 (inL Y.mL as) [] M) : CW Γ d Y as M ω := by
  obtain ⟨k1, k2, k3⟩ := k
  refine ⟨k1, k2, ?_⟩
  refine MetFree.of_bodyS (code := Y.cc) (maxLocals := Y.mL) (ret := Y.rt) hy ?_ ?_
  · intro args s m h hn
    obtain ⟨m', meth, c, h0, h1, h2, h3, h4, h5, h6, h7, -⟩ := Cond.codeWith_spec (atoms_spec (ws := xws Y) h _ (by rw [x_codeH hh]; exact List.mem_cons_self))
    cases hn.symm.trans h0
    exact ⟨meth, c, h1, h2, h3, h4, h6, h7⟩
  · intro p e s m args below meth c s₁ B hml hP _
    have hh0 : s₁.heap = s.heap := by rw [B.state]; rfl
    obtain ⟨rfl, hK, hX, hR⟩ := hP
    have hts := atoms_spec (ws := xws Y) B.pre
    have hcd := hts _ (by rw [x_codeH hh]; exact List.mem_cons_self)
    have hnh : c.exceptionTable.toList.map (fun h => (h.startPc, h.endPc, h.handlerPc, h.catchType)) = Y.hd := by
      obtain ⟨m', meth', c', h0, h1, h2, -, -, h5, -⟩ := Cond.codeWith_spec hcd
      cases B.named.symm.trans h0
      cases B.method.symm.trans h1
      cases (Stand.of_body B).code.symm.trans h2
      exact h5
    have hl := lv_entry (as.map (cv Γ)) (n := Y.mL) (by rw [wdL_len]; exact hw)
    have hl2 : lv_has ((lg_sl (as.map (cv Γ)) ++ List.replicate (Y.mL - (lg_sl (as.map (cv Γ))).length) Slot.unset).toArray) Y.mL (lvp Γ (inL Y.mL as)) := hl.fewer fun q hq => by
      obtain ⟨v, h1, h2⟩ := lvp_mem.mp hq
      have := inL_args Γ as Y.mL 0 q.1 v h1
      rw [Nat.zero_add, ← h2] at this
      exact this
    have K := k3 p e { frames := d, cells := mC ω.2 - mC M, slots := mS ω.2 - mS M, locals := 40 * d } s m (as.map (cv Γ)).toArray below meth c s.heap [] _ (mC M) (mS M)
      ⟨B.exec, B.bytes, B.returns, hml, findClass_of_methodNamed B.named, fun w hw => hts w (by rw [x_codeH hh]; exact List.mem_cons_of_mem _ hw), B.notSynchronized, (name_of_methodNamed B.named B.method).1, Nat.le_refl _, Nat.le_refl _, hK, hX, by rw [hR.2.2.1]; omega, hnh⟩
      (Nat.le_refl _) (Nat.le_refl _) (Nat.le_refl _) (Nat.le_refl _) hR va_S.rf hl2
    rw [Nat.sub_self, Nat.sub_self] at K
    rw [List.map_nil, ← lg_entry_eq] at K
    obtain ⟨t, a1, b1, b2, b3⟩ := K s₁ hh0 (Stand.of_body B)
    exact ⟨t, _, a1, b1, b2, rfl, b3⟩
def MSH (own : String) (idx : Nat) (Y : XY) (n : Nat) : Prop := Y.hd ≠ [] ∧ Y.mL ≤ 21 ∧ Cond.codeWith Y.nm Y.cc Y.mL Y.rt Y.hd ∈ xgood ∧ Cond.initialized Y.nm.cls ∈ xgood ∧ (Y.nm.cls ≠ "java/lang/invoke/MethodHandle" ∧ Y.nm.cls ≠ "java/lang/invoke/VarHandle") ∧ Cond.methodLink own idx Y.nm ∈ xgood ∧ Cond.static Y.nm ∈ xgood ∧ YN Y n
theorem xws_payH {Y : XY} (hh : Y.hd ≠ []) (hg : Cond.codeWith Y.nm Y.cc Y.mL Y.rt Y.hd ∈ xgood) {args : Array Value} {s : State} (hts : ∀ w ∈ xgood, w.before args s = true) : ∀ w ∈ xws Y, ∀ (a' : Array Value) (U : State), s.WarmedH U.vm → w.before a' U = true := by
  intro w hw a' U hW
  rw [x_codeH hh] at hw
  rcases List.mem_cons.mp hw with rfl | hw
  · exact word_at hW (xgood_good hg) (hts _ hg)
  · exact word_at hW (xgood_good hw) (hts _ hw)
section X14
variable {Γ : XG} {Y : XY} {d pc : Nat} {ω : XO × XM} {lv : XL} {st : List XV} {M M1 : XM}
theorem r_staticH {idx n d' : Nat} {Y' : XY} {as : List XV} {v : Option XV} (hd : decode Y.cc pc = .ok (.invokestatic idx, 3)) (hM : MSH Y.nm.cls idx Y' n) (hn : as.length = n) (hd' : d' + 1 ≤ d) (hw : wdL st ≤ 8) (hc : CW Γ d' Y' as M (.inl v, M1)) (kk : RW Γ Y d ω (pc + 3) lv (v.toList ++ st) M1) : RW Γ Y d ω pc lv (as.reverse ++ st) M := by
  have n1 : mC M ≤ mC M1 := hc.1
  have n2 : mS M ≤ mS M1 := hc.2.1
  have k1 := kk.1
  have k2 := kk.2.1
  refine ⟨by omega, by omega, fun p e R s m args below meth c H locs ls u0 v0 C h1 h2 h3 h4 hR hS hl => ?_⟩
  obtain ⟨hx, hb, -, hml, hown, hts, -, -, hfr, hlo, hK, hX, hB, -⟩ := id C
  obtain ⟨hh, hL, hcg, hig, hnmh, hlk, hst, hYN⟩ := hM
  have hstk : (F0 m pc ls ((as.reverse ++ st).map (cv Γ))).stack = (as.map (cv Γ)).reverse ++ st.map (cv Γ) := by simp
  have hcw : Cond.codeWith Y'.nm Y'.cc Y'.mL Y'.rt Y'.hd ∈ xws Y' := by rw [x_codeH hh]; exact List.mem_cons_self
  have hwd : 2 * (F0 m pc ls (st.map (cv Γ))).monitorRoom + ((F0 m pc ls (st.map (cv Γ))).stack.map fun v => v.category).sum ≤ 8 := by show _ + ((st.map (cv Γ)).map fun v => v.category).sum ≤ 8; rw [wdL_sum]; simpa [JFrame.monitorRoom] using hw
  have hB0 : Back Γ.l R p e below s args Y'.nm 3 8 (PreOf R (mC M1 - mC M) (mS M1 - mS M) (va_Pc (as.map (cv Γ)) (CP Γ M))) (PostOf (CR Γ v M1) (mC M1 - mC M) (mS M1 - mS M) (XA Γ)) :=
    va_backW (bytes := Y'.cc) (maxL := Y'.mL) (ret := Y'.rt) (hh := Y'.hd) hc.met CP.blind rfl rfl (by show d' + 1 ≤ _; omega) (by show _ + 40 * d' ≤ _; omega) (xws_payH hh hcg hts) hcw (fun a' U hW => word_at hW (xgood_good hig) (hts _ hig))
  refine x_after C h1 h2 h3 h4 hS hl n1 n2 (a := (as.map (cv Γ)).toArray) ?_ kk
  intro T hT X
  obtain ⟨mk, methM, cM, hnamed, hmethM, -, -, -, -, -, -, hsigM⟩ := Cond.codeWith_spec (hts _ hcg)
  have hlen : (as.map (cv Γ)).length = methM.sig.parameters.length := by
    have h5 := hYN
    unfold YN at h5
    rw [hsigM] at h5
    rw [List.length_map, hn]
    exact (Option.some.inj h5).symm
  have hstatic : methM.isStatic = true := Cond.static_spec hnamed hmethM (hts _ hst)
  obtain ⟨kP, hkP, -⟩ := className_of_methodNamed hnamed
  have hinitP : kP.init = .initialized := Cond.initialized_spec (findClass_of_methodNamed hnamed) hkP (hts _ hig)
  obtain ⟨vm₁, X₁, hstep₁⟩ := X.invokestatic hx hown (hts _ hlk) hnamed hmethM hstatic hkP hinitP hnmh (g := F0 m pc ls ((as.reverse ++ st).map (cv Γ))) rfl (argsL := as.map (cv Γ)) (rest := st.map (cv Γ)) hlen hstk (by rw [hb]; exact hd)
  obtain ⟨v', ⟨U', l2, c2, s2⟩, X', ⟨g', mk', t, L, e1, e2, hq, e3, hL', e4, e5⟩, hsteps⟩ := hB0 m meth c ⟨T.setVm vm₁, locs, mC M - u0, mS M - v0⟩ (F0 m pc ls (st.map (cv Γ))) (.invokestatic idx) mk (as.map (cv Γ)).toArray X₁ rfl (hl.1.trans hml.symm) (by rw [hb]; exact hd) hwd (X₁.named hnamed) ⟨by show _ - u0 + _ ≤ _; omega, by show _ - v0 + _ ≤ _; omega, rfl, CP.at hK hX hB hS hR hT X₁.warmed⟩
  dsimp only [Pt.U, Pt.locs, Pt.cells, Pt.slots] at X' e1 e2 e3 e4 e5 hsteps
  subst e3; subst e4; subst e5
  exact ⟨v', (T.setVm vm₁).calling g' mk' (as.map (cv Γ)).toArray, t, U', L, hT, X', hL', e1, e2, hq, fun target h => hstep₁ _ fun acts => by rw [doInvoke_state]; exact hsteps.trans h⟩
end X14
