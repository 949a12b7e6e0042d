/-! part 14u: after a throw: out of the frame, or into a handler; calls whose callee throws -/
/-- from a throw of the object r at pc of the method Y to its end -/
def RT (Γ : XG) (Y : XY) (d : Nat) (ω : XO × XM) (pc : Nat) (lv : XL) (r : Nat) (M : XM) : Prop :=
  mC M ≤ mC ω.2 ∧ mS M ≤ mS ω.2 ∧
  ∀ (p : Program) (e : Env) (R : Room) (s : State) (m : MethodId) (args : Array Value) (below : List Frame) (meth : Method) (c : Code) (locs : List Loc) (ls : Array Slot) (st : List Value) (u0 v0 : Nat) (T : State),
    XC Γ Y d p R s m args meth c → u0 ≤ mC M → v0 ≤ mS M → mC ω.2 - u0 ≤ R.cells → mS ω.2 - v0 ≤ R.slots → Rel Γ M T.heap → va_S (XA Γ) s.heap T.heap locs → lv_has ls Y.mL (lvp Γ lv) →
    Stand p Γ.l e R s m args below meth c T locs (mC M - u0) (mS M - v0) →
    ∃ t, Steps p.tables e below ((T.setTop (F0 m pc ls st)).pushFrame (.throwing (ad Γ r))) t ∧ XE Γ s below ω (mC ω.2 - u0) (mS ω.2 - v0) t
section U14
variable {Γ : XG} {Y : XY} {d pc : Nat} {ω : XO × XM} {lv : XL} {st : List XV} {M M1 : XM}
/-- no handler -/
theorem RT.out {r : Nat} (hh : Y.hd = []) : RT Γ Y d (.inr r, M) pc lv r M := by
  refine ⟨Nat.le_refl _, Nat.le_refl _, fun p e R s m args below meth c locs ls st u0 v0 T C h1 h2 h3 h4 hR hS hl X => ?_⟩
  obtain ⟨hx, hb, -, -, hown, hts, hlk, -, -, -, hK, -, hB, htab⟩ := id C
  have hnil : c.exceptionTable.toList = [] := by rw [hh] at htab; simpa using htab
  obtain ⟨a1, a2, a3, a4, a5⟩ := X.leaveThrown (ad Γ r) (g := F0 m pc ls st) rfl rfl rfl (fun x hx => by rw [hnil] at hx; cases hx) (hlocks := hlk)
  exact ⟨_, a1, a2, a3, hR, ⟨hS.1, fun q z1 z2 => hS.2.1 q z1 z2⟩, locs, a4, a5, hS.2.2⟩
/-- a call of a static method that throws -/
theorem r_staticT {idx n d' r : Nat} {Y' : XY} {as : List XV} (hd : decode Y.cc pc = .ok (.invokestatic idx, 3)) (hM : MS Y.nm.cls idx Y' n) (hn : as.length = n) (hd' : d' + 1 ≤ d) (hw : wdL st ≤ 8) (hc : CW Γ d' Y' as M (.inr r, M1)) (kk : RT Γ Y d ω pc lv r M1) : RW Γ Y d ω pc lv (as.reverse ++ st) M := by
  have n1 : mC M ≤ mC M1 := hc.1
  have n2 : mS M ≤ mS M1 := hc.2.1
  have k1 := kk.1
  have k2 := kk.2.1
  refine ⟨by omega, by omega, fun p e R s m args below meth c H locs ls u0 v0 C h1 h2 h3 h4 hR hS hl => ?_⟩
  obtain ⟨hx, hb, -, hml, hown, hts, -, -, hfr, hlo, hK, hX, hB, -⟩ := id C
  obtain ⟨hY, hlk, hst, hYN⟩ := hM
  have hL := hY.2.1
  intro T hT X
  have hcode := hts _ hY.2.2.1
  obtain ⟨mk, hnamed⟩ := Cond.code_named hcode
  obtain ⟨methM, cM, hmethM, -, -, -, -, -, -, hsigM⟩ := Cond.code_spec hnamed hcode
  have hlen : (as.map (cv Γ)).length = methM.sig.parameters.length := by
    have h5 := hYN
    unfold YN at h5
    rw [hsigM] at h5
    rw [List.length_map, hn]
    exact (Option.some.inj h5).symm
  have hstatic : methM.isStatic = true := Cond.static_spec hnamed hmethM (hts _ hst)
  obtain ⟨kP, hkP, -⟩ := className_of_methodNamed hnamed
  have hinitP : kP.init = .initialized := Cond.initialized_spec (findClass_of_methodNamed hnamed) hkP (hts _ hY.2.2.2.1)
  have hstk : (F0 m pc ls ((as.reverse ++ st).map (cv Γ))).stack = (as.map (cv Γ)).reverse ++ st.map (cv Γ) := by simp
  obtain ⟨vm₁, X₁, hstep₁⟩ : ∃ vm', Stand p Γ.l e R s m args below meth c (T.setVm vm') locs (mC M - u0) (mS M - v0) ∧ ∀ target, (∀ acts, Steps p.tables e below (doInvoke e ((T.setVm vm').setTop (F0 m pc ls (st.map (cv Γ)))) acts mk (as.map (cv Γ)).toArray).1 target) → Steps p.tables e below (T.setTop (F0 m pc ls ((as.reverse ++ st).map (cv Γ)))) target := by
    rcases hlk with hlk | ⟨host, hlk⟩
    · exact X.invokestatic hx hown (hts _ hlk) hnamed hmethM hstatic hkP hinitP hY.2.2.2.2 (g := F0 m pc ls ((as.reverse ++ st).map (cv Γ))) rfl hlen hstk (by rw [hb]; exact hd)
    · exact X.invokestaticNest hx hown (va_Nw.use rfl (hK.2.1 _ hlk)) hnamed hmethM hstatic hkP hinitP hY.2.2.2.2 (g := F0 m pc ls ((as.reverse ++ st).map (cv Γ))) rfl hlen hstk (by rw [hb]; exact hd)
  have hwd : 2 * (F0 m pc ls (st.map (cv Γ))).monitorRoom + ((F0 m pc ls (st.map (cv Γ))).stack.map fun v => v.category).sum ≤ 8 := by show _ + ((st.map (cv Γ)).map fun v => v.category).sum ≤ 8; rw [wdL_sum]; simpa [JFrame.monitorRoom] using hw
  obtain ⟨T', L, X', hLb, hRel, hF, hst'⟩ := x_thrown hc X₁ (g := F0 m pc ls (st.map (cv Γ))) rfl (hl.1.trans hml.symm) (by rw [hb]; exact hd) (X₁.named hnamed) hY (fun w hw => xws_pay hY hts w hw _ _ X₁.warmed) (CP.at hK hX hB hS hR hT X₁.warmed) (word_at X₁.warmed (xgood_good hY.2.2.2.1) (hts _ hY.2.2.2.1)) hwd (by omega) (by omega) (by omega) (by omega)
  rw [show mC M - u0 + (mC M1 - mC M) = mC M1 - u0 by omega, show mS M - v0 + (mS M1 - mS M) = mS M1 - v0 by omega] at X'
  have hF1 : H.size ≤ T'.heap.size := by rw [← hT]; exact hF.1
  have hF2 : ∀ q : Nat, q < H.size → ¬ XA Γ q → T'.heap[q]? = H[q]? := fun q z1 z2 => by rw [← hT]; exact hF.2 q (by rw [← hT] at z1; exact z1) z2
  obtain ⟨t, c1, c2⟩ := kk.2.2 p e R s m args below meth c (locs ++ L) ls (st.map (cv Γ)) u0 v0 T' C (by omega) (by omega) h3 h4 hRel
    ⟨Nat.le_trans hS.1 hF1, fun q q1 q2 => by rw [hF2 q (Nat.lt_of_lt_of_le q1 hS.1) q2]; exact hS.2.1 q q1 q2, fun q hq => by
      rcases List.mem_append.mp hq with h | h
      · exact hS.2.2 q h
      · exact hLb q h⟩ hl X'
  exact ⟨t, hstep₁ t (fun acts => by rw [doInvoke_state]; exact hst'.trans c1), c2⟩
theorem r_virtualT {idx n t d' r r0 : Nat} {Y' : XY} {as : List XV} (hd : decode Y.cc pc = .ok (.invokevirtual idx, 3)) (hM : MV Y.nm.cls idx Y' n t) (hT0 : mT M r0 = t) (hn : as.length = n) (hd' : d' + 1 ≤ d) (hw : wdL st ≤ 8) (hc : CW Γ d' Y' (.inr (.inr r0) :: as) M (.inr r, M1)) (kk : RT Γ Y d ω pc lv r M1) : RW Γ Y d ω pc lv (as.reverse ++ .inr (.inr r0) :: st) M := by
  have n1 : mC M ≤ mC M1 := hc.1
  have n2 : mS M ≤ mS M1 := hc.2.1
  have k1 := kk.1
  have k2 := kk.2.1
  refine ⟨by omega, by omega, fun p e R s m args below meth c H locs ls u0 v0 C h1 h2 h3 h4 hR hS hl => ?_⟩
  obtain ⟨hx, hb, -, hml, hown, hts, -, -, hfr, hlo, hK, hX, hB, -⟩ := id C
  obtain ⟨hY, hlk, hst, hsel, hYN, ht1, q, hq, hqc⟩ := hM
  have hr0 : r0 ≠ 0 := by have := (xobj hR hq ht1 hT0).1; omega
  obtain ⟨cellB, hcB, hoB, hclB⟩ := x_recv hK hR hq ht1 hT0
  rw [hqc] at hclB
  have hL := hY.2.1
  intro T hT X
  have hcode := hts _ hY.2.2.1
  obtain ⟨mk, methM, hnamed, hmethM, hstM, habM⟩ := Cond.instanceMethod_spec (hts _ hst)
  obtain ⟨methM', cM, hmethM', -, -, -, -, -, -, hsigM⟩ := Cond.code_spec hnamed hcode
  cases hmethM.symm.trans hmethM'
  obtain ⟨c2, r2, m2, q1, q2, q3, q4, kP, hkP, hkPi⟩ := Cond.selects_spec (hts _ hsel)
  cases hclB.symm.trans q1
  cases (State.methodFound?_of_named hnamed hY.2.2.2.2).symm.trans q2
  cases hnamed.symm.trans q3
  have hselP : selectMethod e.platform s.vm cellB.cls mk = .method mk := by rw [Launch.admits_selectMethod X.admits]; exact q4
  have hlen : (as.map (cv Γ)).length = methM.sig.parameters.length := by
    have h5 := hYN
    unfold YN at h5
    rw [hsigM] at h5
    rw [List.length_map, hn]
    exact (Option.some.inj h5).symm
  have hstk : (F0 m pc ls ((as.reverse ++ .inr (.inr r0) :: st).map (cv Γ))).stack = (as.map (cv Γ)).reverse ++ .ref (ad Γ r0) :: st.map (cv Γ) := by simp [cv_ref hr0]
  have hTc : T.heap[ad Γ r0]? = some cellB := by rw [hT]; exact hcB
  obtain ⟨vm₁, X₁, hstep₁⟩ : ∃ vm', Stand p Γ.l e R s m args below meth c (T.setVm vm') locs (mC M - u0) (mS M - v0) ∧ ∀ target, (∀ acts, Steps p.tables e below (doInvoke e ((T.setVm vm').setTop (F0 m pc ls (st.map (cv Γ)))) acts mk ((.inr (.inr r0) :: as).map (cv Γ)).toArray).1 target) → Steps p.tables e below (T.setTop (F0 m pc ls ((as.reverse ++ .inr (.inr r0) :: st).map (cv Γ)))) target := by
    rw [List.map_cons, cv_ref hr0]
    rcases hlk with hlk | ⟨host, hlk⟩
    · exact X.invokevirtual hx hown (hts _ hlk) hnamed hmethM hstM hkP hkPi hY.2.2.2.2 hTc (fun z h => by rw [h] at hoB; cases hoB) hselP hmethM habM hkP hkPi (g := F0 m pc ls ((as.reverse ++ .inr (.inr r0) :: st).map (cv Γ))) rfl hlen hstk (by rw [hb]; exact hd)
    · exact X.invokevirtualNest hx hown (va_Nw.use rfl (hK.2.1 _ hlk)) hnamed hmethM hstM hkP hkPi hY.2.2.2.2 hTc (fun z h => by rw [h] at hoB; cases hoB) hselP hmethM habM hkP hkPi (g := F0 m pc ls ((as.reverse ++ .inr (.inr r0) :: st).map (cv Γ))) rfl hlen hstk (by rw [hb]; exact hd)
  have hwd : 2 * (F0 m pc ls (st.map (cv Γ))).monitorRoom + ((F0 m pc ls (st.map (cv Γ))).stack.map fun v => v.category).sum ≤ 8 := by show _ + ((st.map (cv Γ)).map fun v => v.category).sum ≤ 8; rw [wdL_sum]; simpa [JFrame.monitorRoom] using hw
  obtain ⟨T', L, X', hLb, hRel, hF, hst'⟩ := x_thrown hc X₁ (g := F0 m pc ls (st.map (cv Γ))) rfl (hl.1.trans hml.symm) (by rw [hb]; exact hd) (X₁.named hnamed) hY (fun w hw => xws_pay hY hts w hw _ _ X₁.warmed) (CP.at hK hX hB hS hR hT X₁.warmed) (word_at X₁.warmed (xgood_good hY.2.2.2.1) (hts _ hY.2.2.2.1)) hwd (by omega) (by omega) (by omega) (by omega)
  rw [show mC M - u0 + (mC M1 - mC M) = mC M1 - u0 by omega, show mS M - v0 + (mS M1 - mS M) = mS M1 - v0 by omega] at X'
  have hF1 : H.size ≤ T'.heap.size := by rw [← hT]; exact hF.1
  have hF2 : ∀ q : Nat, q < H.size → ¬ XA Γ q → T'.heap[q]? = H[q]? := fun q z1 z2 => by rw [← hT]; exact hF.2 q (by rw [← hT] at z1; exact z1) z2
  obtain ⟨t, c1, c2⟩ := kk.2.2 p e R s m args below meth c (locs ++ L) ls (st.map (cv Γ)) u0 v0 T' C (by omega) (by omega) h3 h4 hRel
    ⟨Nat.le_trans hS.1 hF1, fun q q1 q2 => by rw [hF2 q (Nat.lt_of_lt_of_le q1 hS.1) q2]; exact hS.2.1 q q1 q2, fun q hq => by
      rcases List.mem_append.mp hq with h | h
      · exact hS.2.2 q h
      · exact hLb q h⟩ hl X'
  exact ⟨t, hstep₁ t (fun acts => by rw [doInvoke_state]; exact hst'.trans c1), c2⟩
end U14
