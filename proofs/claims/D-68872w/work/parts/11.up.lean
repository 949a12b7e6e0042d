/-! part 11: calls of inherited and overriding methods -/
/-- x: the method that the entry names, found in owner; Y: the one that an object of class C runs -/
def MU (own : String) (idx : Nat) (C owner : String) (x : MethodName) (Y : XY) (n : Nat) : Prop := YOK Y ∧ Cond.methodLink own idx x ∈ xgood ∧ Cond.sameMethod x.cls owner x.name x.desc ∈ xgood ∧ Cond.declares ⟨owner, x.name, x.desc⟩ ∈ xnest ∧ Cond.selects C x Y.nm ∈ xgood ∧ Cond.instanceMethod Y.nm ∈ xgood ∧ (owner ≠ "java/lang/invoke/MethodHandle" ∧ owner ≠ "java/lang/invoke/VarHandle") ∧ (parseMethodDescriptor x.desc).map (fun d => d.parameters.length) = some n
section R11
variable {Γ : XG} {Y : XY} {d pc : Nat} {ω : XO × XM} {lv : XL} {st : List XV} {M M1 : XM}
theorem x_up {idx n d' r : Nat} {C owner : String} {x : MethodName} {Y' : XY} {as : List XV} {v : Option XV} (hd : decode Y.cc pc = .ok (.invokevirtual idx, 3)) (hM : MU Y.nm.cls idx C owner x Y' n)
    (hrc : ∀ (s : State) (H : Heap) (locs : List Loc), Kn Γ s → Sx Γ s s.heap → Rel Γ M H → va_S (XA Γ) s.heap H locs → ∃ cell : Cell, H[ad Γ r]? = some cell ∧ cell.vm.isStatics = false ∧ s.vm.findClass C = some cell.cls) (hr : r ≠ 0)
    (hn : as.length = n) (hd' : d' + 1 ≤ d) (hw : wdL st ≤ 8) (hc : CW Γ d' Y' (.inr (.inr r) :: as) M (.inl v, M1)) (kk : RW Γ Y d ω (pc + 3) lv (v.toList ++ st) M1) : RW Γ Y d ω pc lv (as.reverse ++ .inr (.inr r) :: st) M := by
  have n1 : mC M ≤ mC M1 := hc.1
  have n2 : mS M ≤ mS M1 := hc.2.1
  have k1 := kk.1
  have k2 := kk.2.1
  refine ⟨by omega, by omega, fun p e R s m args below meth c H locs ls u0 v0 C h1 h2 h3 h4 hR hS hl => ?_⟩
  obtain ⟨hx, hb, -, hml, hown, hts, -, -, hfr, hlo, hK, hX, hB, -⟩ := id C
  obtain ⟨hY, hlk, hsm, hdc, hsel, hin, hnm, hYN⟩ := hM
  have hpre : PreV s H _ (ad Γ r) (va_Pc ((.inr (.inr r) :: as).map (cv Γ)) (CP Γ M)) (as.map (cv Γ)) := ⟨CP.blind, hrc s H locs hK hX hR hS, fun U hU hW => ⟨by rw [List.map_cons, cv_ref hr], CP.at hK hX hB hS hR hU hW⟩⟩
  have hlen : ∀ sig, parseMethodDescriptor x.desc = some sig → n = sig.parameters.length := fun sig h => by
    have h5 := hYN
    rw [h] at h5
    exact (Option.some.inj h5).symm
  have hL := hY.2.1
  have hwd : 2 * (F0 m pc ls ((as.reverse ++ .inr (.inr r) :: st).map (cv Γ))).monitorRoom + ((st.map (cv Γ)).map fun v => v.category).sum ≤ 8 := by rw [wdL_sum]; simpa [JFrame.monitorRoom] using hw
  have hstk : (F0 m pc ls ((as.reverse ++ .inr (.inr r) :: st).map (cv Γ))).stack = (as.map (cv Γ)).reverse ++ .ref (ad Γ r) :: st.map (cv Γ) := by simp [cv_ref hr]
  have hcw : Cond.code Y'.nm Y'.cc Y'.mL Y'.rt ∈ xws Y' := by rw [x_code hY.1]; exact List.mem_cons_self
  exact x_after C h1 h2 h3 h4 hS hl n1 n2 (va_runU ⟨hx, hb, hml, hown, hts⟩ hc.met ⟨⟨rfl, rfl, by show d' + 1 ≤ _; omega, by show _ + 40 * d' ≤ _; omega, xws_pay hY hts, hcw⟩, hts _ hY.2.2.1, hts _ hY.2.2.2.1, hnm, hlen, hts _ hlk, hts _ hsm, va_Decl.abs (hK.2.1 _ hdc), hts _ hsel, hts _ hin⟩ hpre rfl (by simpa using hn) hl.1 hstk hwd hd ⟨by omega, by omega⟩) kk
theorem r_up {idx n t d' r : Nat} {owner : String} {x : MethodName} {Y' : XY} {as : List XV} {v : Option XV} {q : vw_C} (hd : decode Y.cc pc = .ok (.invokevirtual idx, 3)) (ht : 1 ≤ t) (hq : xcl[t - 1]? = some q) (hM : MU Y.nm.cls idx q.1 owner x Y' n) (hT : mT M r = t) (hn : as.length = n) (hd' : d' + 1 ≤ d) (hw : wdL st ≤ 8) (hc : CW Γ d' Y' (.inr (.inr r) :: as) M (.inl v, M1)) (kk : RW Γ Y d ω (pc + 3) lv (v.toList ++ st) M1) : RW Γ Y d ω pc lv (as.reverse ++ .inr (.inr r) :: st) M := by
  by_cases hr : r = 0
  · refine ⟨by have := hc.1; have := kk.1; simp at *; omega, by have := hc.2.1; have := kk.2.1; simp at *; omega, fun p e R s m args below meth c H locs ls u0 v0 C h1 h2 h3 h4 hR hS hl => ?_⟩
    have := (xobj hR hq ht hT).1
    omega
  · exact x_up hd hM (fun s H locs hK hX hR hS => x_recv hK hR hq ht hT) hr hn hd' hw hc kk
theorem r_upE {idx n i d' : Nat} {owner : String} {x : MethodName} {Y' : XY} {as : List XV} {v : Option XV} (hd : decode Y.cc pc = .ok (.invokevirtual idx, 3)) (hi : i < 12) (hM : MU Y.nm.cls idx "ProgramChecker$Sieve$Relation" owner x Y' n) (hn : as.length = n) (hd' : d' + 1 ≤ d) (hw : wdL st ≤ 8) (hc : CW Γ d' Y' (.inr (.inr (i + 1)) :: as) M (.inl v, M1)) (kk : RW Γ Y d ω (pc + 3) lv (v.toList ++ st) M1) : RW Γ Y d ω pc lv (as.reverse ++ .inr (.inr (i + 1)) :: st) M :=
  x_up hd hM (fun s H locs hK hX hR hS => by
    obtain ⟨cell, z1, z2, z3, z4⟩ := (hX.2.2.1 i hi).2.1
    have zl : Γ.o (i + 1) < s.heap.size := (Array.getElem?_eq_some_iff.mp z1).1
    rw [show ad Γ (i + 1) = Γ.o (i + 1) from if_pos (by omega)]
    exact ⟨cell, by rw [hS.2.1 _ zl z4]; exact z1, z2, z3⟩) (by omega) hn hd' hw hc kk
/-- a method of Relation's own, called on a constant -/
def MVE (own : String) (idx : Nat) (Y : XY) (n : Nat) : Prop := YOK Y ∧ XLk own idx Y.nm ∧ Cond.instanceMethod Y.nm ∈ xgood ∧ Cond.selects Y.nm.cls Y.nm Y.nm ∈ xgood ∧ YN Y n ∧ Y.nm.cls = "ProgramChecker$Sieve$Relation"
theorem r_virtualE {idx n i d' : Nat} {Y' : XY} {as : List XV} {v : Option XV} (hd : decode Y.cc pc = .ok (.invokevirtual idx, 3)) (hM : MVE Y.nm.cls idx Y' n) (hi : i < 12) (hn : as.length = n) (hd' : d' + 1 ≤ d) (hw : wdL st ≤ 8) (hc : CW Γ d' Y' (.inr (.inr (i + 1)) :: as) M (.inl v, M1)) (kk : RW Γ Y d ω (pc + 3) lv (v.toList ++ st) M1) : RW Γ Y d ω pc lv (as.reverse ++ .inr (.inr (i + 1)) :: st) M := by
  have n1 : mC M ≤ mC M1 := hc.1
  have n2 : mS M ≤ mS M1 := hc.2.1
  have k1 := kk.1
  have k2 := kk.2.1
  refine ⟨by omega, by omega, fun p e R s m args below meth c H locs ls u0 v0 C h1 h2 h3 h4 hR hS hl => ?_⟩
  obtain ⟨hx, hb, -, hml, hown, hts, -, -, hfr, hlo, hK, hX, hB, -⟩ := id C
  obtain ⟨hY, hlk, hst, hsel, hYN, hqc⟩ := hM
  have hr : i + 1 ≠ 0 := by omega
  have hrc : ∃ cell : Cell, H[ad Γ (i + 1)]? = some cell ∧ cell.vm.isStatics = false ∧ s.vm.findClass Y'.nm.cls = some cell.cls := by
    obtain ⟨cell, z1, z2, z3, z4⟩ := (hX.2.2.1 i hi).2.1
    have zl : Γ.o (i + 1) < s.heap.size := (Array.getElem?_eq_some_iff.mp z1).1
    rw [show ad Γ (i + 1) = Γ.o (i + 1) from if_pos (by omega), hqc]
    exact ⟨cell, by rw [hS.2.1 _ zl z4]; exact z1, z2, z3⟩
  have hpre : PreV s H Y'.nm.cls (ad Γ (i + 1)) (va_Pc ((.inr (.inr (i + 1)) :: as).map (cv Γ)) (CP Γ M)) (as.map (cv Γ)) := ⟨CP.blind, hrc, fun U hU hW => ⟨by rw [List.map_cons, cv_ref hr], CP.at hK hX hB hS hR hU hW⟩⟩
  have hlen : ∀ sig, parseMethodDescriptor Y'.nm.desc = some sig → n = sig.parameters.length := fun sig h => by
    have h5 := hYN
    unfold YN at h5
    rw [h] at h5
    exact (Option.some.inj h5).symm
  have hL := hY.2.1
  have hwd : 2 * (F0 m pc ls ((as.reverse ++ .inr (.inr (i + 1)) :: st).map (cv Γ))).monitorRoom + ((st.map (cv Γ)).map fun v => v.category).sum ≤ 8 := by rw [wdL_sum]; simpa [JFrame.monitorRoom] using hw
  have hstk : (F0 m pc ls ((as.reverse ++ .inr (.inr (i + 1)) :: st).map (cv Γ))).stack = (as.map (cv Γ)).reverse ++ .ref (ad Γ (i + 1)) :: st.map (cv Γ) := by simp [cv_ref hr]
  have hcw : Cond.code Y'.nm Y'.cc Y'.mL Y'.rt ∈ xws Y' := by rw [x_code hY.1]; exact List.mem_cons_self
  rcases hlk with hlk | ⟨host, hlk⟩
  · exact x_after C h1 h2 h3 h4 hS hl n1 n2 (va_runV ⟨hx, hb, hml, hown, hts⟩ hc.met ⟨⟨rfl, rfl, by show d' + 1 ≤ _; omega, by show _ + 40 * d' ≤ _; omega, xws_pay hY hts, hcw, hts _ hY.2.2.1, hts _ hY.2.2.2.1, hY.2.2.2.2, hlen, hts _ hlk⟩, hts _ hst, hts _ hsel⟩ hpre rfl (by simpa using hn) hl.1 hstk hwd hd ⟨by omega, by omega⟩) kk
  · exact x_after C h1 h2 h3 h4 hS hl n1 n2 (va_runVN ⟨hx, hb, hml, hown, hts⟩ hc.met ⟨⟨⟨rfl, rfl, by show d' + 1 ≤ _; omega, by show _ + 40 * d' ≤ _; omega, xws_pay hY hts, hcw⟩, hts _ hY.2.2.1, hts _ hY.2.2.2.1, hY.2.2.2.2, hlen, va_Nw.use rfl (hK.2.1 _ hlk)⟩, hts _ hst, hts _ hsel⟩ hpre rfl (by simpa using hn) hl.1 hstk hwd hd ⟨by omega, by omega⟩) kk
end R11
