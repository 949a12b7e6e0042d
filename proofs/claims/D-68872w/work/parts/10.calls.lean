/-! part 10: rows for calls -/
/-- a method that the tables know, without handlers -/
def YOK (Y : XY) : Prop := Y.hd = [] ∧ Y.mL ≤ 21 ∧ Cond.code Y.nm Y.cc Y.mL Y.rt ∈ xgood ∧ Cond.initialized Y.nm.cls ∈ xgood ∧ (Y.nm.cls ≠ "java/lang/invoke/MethodHandle" ∧ Y.nm.cls ≠ "java/lang/invoke/VarHandle")
abbrev YN (Y : XY) (n : Nat) : Prop := (parseMethodDescriptor Y.nm.desc).map (fun d => d.parameters.length) = some n
def XLk (own : String) (idx : Nat) (y : MethodName) : Prop := Cond.methodLink own idx y ∈ xgood ∨ ∃ host, Cond.methodLinkNest own idx y host ∈ xnest
theorem x_metmono {l : Launch} {x : MethodName} {S : Spec} {P : Array Value → State → Prop} {K : Program → Env → List Frame → State → Array Value → Prop} {Q Q' : Array Value → State → Outcome → State → Prop} (h : MetFree l x S P K Q) (hq : ∀ a s o t, Q a s o t → Q' a s o t) : MetFree l x S P K Q' := by
  intro p e a1 a2 a3 s m args below a4 a5 a6 a7
  obtain ⟨n, o, b1, b2, b3, b4⟩ := h p e a1 a2 a3 s m args below a4 a5 a6 a7
  exact ⟨n, o, b1, b2, b3, hq _ _ _ _ b4⟩
/-- the call's contract in the kit's form -/
def CR (Γ : XG) (v : Option XV) (M : XM) : Array Value → State → Outcome → State → Prop := fun _ st o t => o = .returned (v.map (cv Γ)) ∧ Rel Γ M t.heap ∧ va_F (XA Γ) st t
theorem CW.met {Γ : XG} {d : Nat} {Y : XY} {as : List XV} {M M1 : XM} {v : Option XV} (h : CW Γ d Y as M (.inl v, M1)) : Met Γ.l Y.nm (xws Y) { frames := d, cells := mC M1 - mC M, slots := mS M1 - mS M, locals := 40 * d } (va_Pc (as.map (cv Γ)) (CP Γ M)) (CR Γ v M1) (mC M1 - mC M) (mS M1 - mS M) (XA Γ) := by
  refine x_metmono h.2.2 ?_
  rintro a s o t ⟨rfl, b1, b2, L, b3, b4, b5⟩
  exact ⟨⟨rfl, b1, b2⟩, L, ⟨⟨_, rfl⟩, b3, b4⟩, b5⟩
theorem xgood_good {w : Cond} (h : w ∈ xgood) : (w.onTables && w.keeps) = true ∨ ∃ ty, w = .arrayClass ty := good_of_word (List.mem_filter.mp h).2
theorem xws_pay {Y : XY} (hY : YOK Y) {args : Array Value} {s : State} (hts : ∀ w ∈ xgood, w.before args s = true) : ∀ w ∈ xws Y, ∀ (a' : Array Value) (U : State), s.WarmedH U.vm → w.before a' U = true := by
  intro w hw a' U hW
  rw [x_code hY.1] at hw
  rcases List.mem_cons.mp hw with rfl | hw
  · exact word_at hW (xgood_good hY.2.2.1) (hts _ hY.2.2.1)
  · exact word_at hW (xgood_good hw) (hts _ hw)
theorem CP.blind {Γ : XG} {M : XM} {av : List Value} : FrameBlind (va_Pc av (CP Γ M)) := by
  rintro a U g mk ⟨h1, h2, h3, h4⟩
  exact ⟨h1, h2.warm (U := U.calling g mk a) (State.WarmedH.refl U), h3.moved (U := U.calling g mk a) (Vm.Alike.refl U.vm) (fun q _ => rfl), h4⟩
theorem CP.at {Γ : XG} {M : XM} {s U : State} {H : Heap} {locs : List Loc} (hK : Kn Γ s) (hX : Sx Γ s s.heap) (hB : Γ.B ≤ s.heap.size) (hS : va_S (XA Γ) s.heap H locs) (hR : Rel Γ M H) (hU : U.heap = H) (hW : s.WarmedH U.vm) : CP Γ M U :=
  ⟨hK.warm hW, hX.moved hW.alike (fun q hq => by rw [hU]; exact hS.2.1 q (Nat.lt_of_lt_of_le hq hB) (Nat.not_le.mpr hq)), by rw [hU]; exact hR⟩
theorem wdL_sum (Γ : XG) : ∀ l : List XV, ((l.map (cv Γ)).map fun v => v.category).sum = wdL l
  | [] => rfl
  | .inl x :: l => by
    have := wdL_sum Γ l
    simp [cv, Value.category, wdL] at this ⊢; omega
  | .inr (.inl x) :: l => by
    have := wdL_sum Γ l
    simp [cv, Value.category, wdL] at this ⊢; omega
  | .inr (.inr x) :: l => by
    have := wdL_sum Γ l
    have hc : (rv Γ x).category = 1 := by unfold rv; split <;> rfl
    simp [cv, hc, wdL] at this ⊢; omega
section R10
variable {Γ : XG} {Y : XY} {d pc : Nat} {ω : XO × XM} {lv : XL} {st : List XV} {M M1 : XM}
/-- behind a call -/
theorem x_after {p : Program} {e : Env} {R : Room} {s : State} {m : MethodId} {args : Array Value} {below : List Frame} {meth : Method} {c : Code} {H : Heap} {locs : List Loc} {ls : Array Slot} {u0 v0 : Nat} {a : Array Value} {st0 : List Value} {v : Option XV}
    (C : XC Γ Y d p R s m args meth c) (h1 : u0 ≤ mC M) (h2 : v0 ≤ mS M) (h3 : mC ω.2 - u0 ≤ R.cells) (h4 : mS ω.2 - v0 ≤ R.slots) (hS : va_S (XA Γ) s.heap H locs) (hl : lv_has ls Y.mL (lvp Γ lv)) (n1 : mC M ≤ mC M1) (n2 : mS M ≤ mS M1)
    (hr : va_Run p Γ.l e R s m args below meth c H locs (mC M - u0) (mS M - v0) (mC M1 - mC M) (mS M1 - mS M) (F0 m pc ls st0) (st.map (cv Γ)) (CR Γ v M1 a) (XA Γ))
    (kk : RW Γ Y d ω (pc + 3) lv (v.toList ++ st) M1) : W p Γ.l e R s m args below meth c H locs (mC M - u0) (mS M - v0) (XE Γ s below ω (mC ω.2 - u0) (mS ω.2 - v0)) (F0 m pc ls st0) := by
  intro T hT X
  obtain ⟨v', st₀, t, T', L, h0, X', hL, e1, e2, ⟨hv, hRel, hz, hk⟩, stp⟩ := hr T hT X
  cases hv
  rw [h0] at hz hk
  have K := kk.2.2 p e R s m args below meth c T'.heap (locs ++ L) ls u0 v0 C (by omega) (by omega) h3 h4 (by rw [e1]; exact hRel)
    ⟨Nat.le_trans hS.1 (by rw [e1]; exact hz), fun q q1 q2 => by rw [e1, hk q (Nat.lt_of_lt_of_le q1 hS.1) q2]; exact hS.2.1 q q1 q2, fun q hq => by
      rcases List.mem_append.mp hq with h | h
      · exact hS.2.2 q h
      · exact hL q h⟩ hl
  rw [show mC M - u0 + (mC M1 - mC M) = mC M1 - u0 by omega, show mS M - v0 + (mS M1 - mS M) = mS M1 - v0 by omega] at X'
  obtain ⟨t2, c1, c2⟩ := K T' rfl X'
  refine ⟨t2, stp t2 ?_, c2⟩
  have he : (v.toList ++ st).map (cv Γ) = (v.map (cv Γ)).toList ++ st.map (cv Γ) := by cases v <;> simp
  rw [he] at c1
  exact c1
/-- a static method -/
def MS (own : String) (idx : Nat) (Y : XY) (n : Nat) : Prop := YOK Y ∧ XLk own idx Y.nm ∧ Cond.static Y.nm ∈ xgood ∧ YN Y n
theorem r_static {idx n d' : Nat} {Y' : XY} {as : List XV} {v : Option XV} (hd : decode Y.cc pc = .ok (.invokestatic idx, 3)) (hM : MS Y.nm.cls idx Y' n) (hn : as.length = n) (hd' : d' + 1 ≤ d) (hw : wdL st ≤ 8) (hc : CW Γ d' Y' as M (.inl v, M1)) (kk : RW Γ Y d ω (pc + 3) lv (v.toList ++ st) M1) : RW Γ Y d ω pc lv (as.reverse ++ st) M := by
  have n1 : mC M ≤ mC M1 := hc.1
  have n2 : mS M ≤ mS M1 := hc.2.1
  have k1 := kk.1
  have k2 := kk.2.1
  refine ⟨by omega, by omega, fun p e R s m args below meth c H locs ls u0 v0 C h1 h2 h3 h4 hR hS hl => ?_⟩
  obtain ⟨hx, hb, -, hml, hown, hts, -, -, hfr, hlo, hK, hX, hB, -⟩ := id C
  obtain ⟨hY, hlk, hst, hYN⟩ := hM
  have hpre : PreS s H (va_Pc (as.map (cv Γ)) (CP Γ M)) (as.map (cv Γ)) := ⟨CP.blind, fun U hU hW => ⟨rfl, CP.at hK hX hB hS hR hU hW⟩⟩
  have hlen : ∀ sig, parseMethodDescriptor Y'.nm.desc = some sig → n = sig.parameters.length := fun sig h => by
    have h5 := hYN
    unfold YN at h5
    rw [h] at h5
    exact (Option.some.inj h5).symm
  have hL := hY.2.1
  have hwd : 2 * (F0 m pc ls ((as.reverse ++ st).map (cv Γ))).monitorRoom + ((st.map (cv Γ)).map fun v => v.category).sum ≤ 8 := by rw [wdL_sum]; simpa [JFrame.monitorRoom] using hw
  have hstk : (F0 m pc ls ((as.reverse ++ st).map (cv Γ))).stack = (as.map (cv Γ)).reverse ++ st.map (cv Γ) := by simp
  have hcw : Cond.code Y'.nm Y'.cc Y'.mL Y'.rt ∈ xws Y' := by rw [x_code hY.1]; exact List.mem_cons_self
  rcases hlk with hlk | ⟨host, hlk⟩
  · exact x_after C h1 h2 h3 h4 hS hl n1 n2 (va_runS ⟨hx, hb, hml, hown, hts⟩ hc.met ⟨⟨rfl, rfl, by show d' + 1 ≤ _; omega, by show _ + 40 * d' ≤ _; omega, xws_pay hY hts, hcw, hts _ hY.2.2.1, hts _ hY.2.2.2.1, hY.2.2.2.2, hlen, hts _ hlk⟩, hts _ hst⟩ hpre rfl (by simpa using hn) hl.1 hstk hwd hd ⟨by omega, by omega⟩) kk
  · exact x_after C h1 h2 h3 h4 hS hl n1 n2 (va_runSN ⟨hx, hb, hml, hown, hts⟩ hc.met ⟨⟨⟨rfl, rfl, by show d' + 1 ≤ _; omega, by show _ + 40 * d' ≤ _; omega, xws_pay hY hts, hcw⟩, hts _ hY.2.2.1, hts _ hY.2.2.2.1, hY.2.2.2.2, hlen, va_Nw.use rfl (hK.2.1 _ hlk)⟩, hts _ hst, trivial⟩ hpre rfl (by simpa using hn) hl.1 hstk hwd hd ⟨by omega, by omega⟩) kk
/-- a constructor -/
def MI (own : String) (idx : Nat) (Y : XY) (n : Nat) : Prop := YOK Y ∧ XLk own idx Y.nm ∧ Cond.instanceMethod Y.nm ∈ xgood ∧ YN Y n ∧ Y.nm.name = "<init>" ∧ Y.rt = none
theorem r_init {idx n d' r : Nat} {Y' : XY} {as : List XV} (hd : decode Y.cc pc = .ok (.invokespecial idx, 3)) (hM : MI Y.nm.cls idx Y' n) (hn : as.length = n) (hr : r ≠ 0) (hd' : d' + 1 ≤ d) (hw : wdL st ≤ 8) (hc : CW Γ d' Y' (.inr (.inr r) :: as) M (.inl none, M1)) (kk : RW Γ Y d ω (pc + 3) lv st M1) : RW Γ Y d ω pc lv (as.reverse ++ .inr (.inr r) :: st) M := by
  have n1 : mC M ≤ mC M1 := hc.1
  have n2 : mS M ≤ mS M1 := hc.2.1
  have k1 := kk.1
  have k2 := kk.2.1
  refine ⟨by omega, by omega, fun p e R s m args below meth c H locs ls u0 v0 C h1 h2 h3 h4 hR hS hl => ?_⟩
  obtain ⟨hx, hb, -, hml, hown, hts, -, -, hfr, hlo, hK, hX, hB, -⟩ := id C
  obtain ⟨hY, hlk, hst, hYN, hnm, hrt⟩ := hM
  have hpre : PreS s H (va_Pc ((.inr (.inr r) :: as).map (cv Γ)) (CP Γ M)) (.ref (ad Γ r) :: as.map (cv Γ)) := ⟨CP.blind, fun U hU hW => ⟨by rw [List.map_cons, cv_ref hr], CP.at hK hX hB hS hR hU hW⟩⟩
  have hlen : ∀ sig, parseMethodDescriptor Y'.nm.desc = some sig → n = sig.parameters.length := fun sig h => by
    have h5 := hYN
    unfold YN at h5
    rw [h] at h5
    exact (Option.some.inj h5).symm
  have hL := hY.2.1
  have hwd : 2 * (F0 m pc ls ((as.reverse ++ .inr (.inr r) :: st).map (cv Γ))).monitorRoom + ((st.map (cv Γ)).map fun v => v.category).sum ≤ 8 := by rw [wdL_sum]; simpa [JFrame.monitorRoom] using hw
  have hstk : (F0 m pc ls ((as.reverse ++ .inr (.inr r) :: st).map (cv Γ))).stack = (as.map (cv Γ)).reverse ++ .ref (ad Γ r) :: st.map (cv Γ) := by simp [cv_ref hr]
  have hcode := hY.2.2.1
  have hcw : Cond.code Y'.nm Y'.cc Y'.mL none ∈ xws Y' := by rw [x_code hY.1, hrt]; exact List.mem_cons_self
  rw [hrt] at hcode
  rcases hlk with hlk | ⟨host, hlk⟩
  · exact x_after (v := none) C h1 h2 h3 h4 hS hl n1 n2 (va_runI ⟨hx, hb, hml, hown, hts⟩ hc.met ⟨⟨rfl, rfl, by show d' + 1 ≤ _; omega, by show _ + 40 * d' ≤ _; omega, xws_pay hY hts, hcw, hts _ hcode, hts _ hY.2.2.2.1, hY.2.2.2.2, hlen, hts _ hlk⟩, hnm, hts _ hst⟩ hpre rfl (by simpa using hn) hl.1 hstk hwd hd ⟨by omega, by omega⟩) kk
  · exact x_after (v := none) C h1 h2 h3 h4 hS hl n1 n2 (va_runIN ⟨hx, hb, hml, hown, hts⟩ hc.met ⟨⟨⟨rfl, rfl, by show d' + 1 ≤ _; omega, by show _ + 40 * d' ≤ _; omega, xws_pay hY hts, hcw⟩, hts _ hcode, hts _ hY.2.2.2.1, hY.2.2.2.2, hlen, va_Nw.use rfl (hK.2.1 _ hlk)⟩, hnm, hts _ hst⟩ hpre rfl (by simpa using hn) hl.1 hstk hwd hd ⟨by omega, by omega⟩) kk
/-- Object's constructor -/
def MO (own : String) (idx : Nat) : Prop := Cond.methodLink own idx Lib.objectInit ∈ xgood ∧ Cond.instanceMethod Lib.objectInit ∈ xgood ∧ Cond.code Lib.objectInit ⟨#[0xb1]⟩ 1 none ∈ xgood
theorem r_objinit {idx r : Nat} (hd : decode Y.cc pc = .ok (.invokespecial idx, 3)) (hM : MO Y.nm.cls idx) (hr : r ≠ 0) (hd' : 1 ≤ d) (hw : wdL st ≤ 8) (kk : RW Γ Y d ω (pc + 3) lv st M) : RW Γ Y d ω pc lv (.inr (.inr r) :: st) M := ⟨kk.1, kk.2.1, fun p e R s m args below meth c H locs ls u0 v0 C h1 h2 h3 h4 hR hS hl => by
  obtain ⟨hx, hb, -, hml, hown, hts, -, -, hfr, hlo, hK, hX, hB, -⟩ := id C
  rw [List.map_cons, cv_ref hr]
  exact W.objInit hx hb hown (hts _ hM.1) (hts _ hM.2.1) (hts _ hM.2.2) rfl (by rw [hml]; exact hl.1) rfl hd (by omega) (by rw [wdL_sum]; simp [JFrame.monitorRoom]; omega) (kk.2.2 p e R s m args below meth c H locs ls u0 v0 C h1 h2 h3 h4 hR hS hl)⟩
/-- a method of the receiver's own class -/
def MV (own : String) (idx : Nat) (Y : XY) (n t : Nat) : Prop := YOK Y ∧ XLk own idx Y.nm ∧ Cond.instanceMethod Y.nm ∈ xgood ∧ Cond.selects Y.nm.cls Y.nm Y.nm ∈ xgood ∧ YN Y n ∧ 1 ≤ t ∧ ∃ q : vw_C, xcl[t - 1]? = some q ∧ q.1 = Y.nm.cls
theorem x_recv {H : Heap} {s : State} {t r : Nat} {q : vw_C} (hK : Kn Γ s) (hR : Rel Γ M H) (hq : xcl[t - 1]? = some q) (ht : 1 ≤ t) (hT : mT M r = t) : ∃ cell : Cell, H[ad Γ r]? = some cell ∧ cell.vm.isStatics = false ∧ s.vm.findClass q.1 = some cell.cls := by
  obtain ⟨hr, cell, q1, q2, q3, -⟩ := xobj hR hq ht hT
  exact ⟨cell, q1, by rw [q3]; rfl, by rw [q2]; exact (hK.1.1 _ _ hq).2.1⟩
theorem r_virtual {idx n t d' r : Nat} {Y' : XY} {as : List XV} {v : Option XV} (hd : decode Y.cc pc = .ok (.invokevirtual idx, 3)) (hM : MV Y.nm.cls idx Y' n t) (hT : mT M r = t) (hn : as.length = n) (hd' : d' + 1 ≤ d) (hw : wdL st ≤ 8) (hc : CW Γ d' Y' (.inr (.inr r) :: as) M (.inl v, M1)) (kk : RW Γ Y d ω (pc + 3) lv (v.toList ++ st) M1) : RW Γ Y d ω pc lv (as.reverse ++ .inr (.inr r) :: st) M := by
  have n1 : mC M ≤ mC M1 := hc.1
  have n2 : mS M ≤ mS M1 := hc.2.1
  have k1 := kk.1
  have k2 := kk.2.1
  refine ⟨by omega, by omega, fun p e R s m args below meth c H locs ls u0 v0 C h1 h2 h3 h4 hR hS hl => ?_⟩
  obtain ⟨hx, hb, -, hml, hown, hts, -, -, hfr, hlo, hK, hX, hB, -⟩ := id C
  obtain ⟨hY, hlk, hst, hsel, hYN, ht1, q, hq, hqc⟩ := hM
  have hr : r ≠ 0 := by have := (xobj hR hq ht1 hT).1; omega
  have hrc := x_recv hK hR hq ht1 hT
  rw [hqc] at hrc
  have hpre : PreV s H Y'.nm.cls (ad Γ r) (va_Pc ((.inr (.inr r) :: as).map (cv Γ)) (CP Γ M)) (as.map (cv Γ)) := ⟨CP.blind, hrc, fun U hU hW => ⟨by rw [List.map_cons, cv_ref hr], CP.at hK hX hB hS hR hU hW⟩⟩
  have hlen : ∀ sig, parseMethodDescriptor Y'.nm.desc = some sig → n = sig.parameters.length := fun sig h => by
    have h5 := hYN
    unfold YN at h5
    rw [h] at h5
    exact (Option.some.inj h5).symm
  have hL := hY.2.1
  have hwd : 2 * (F0 m pc ls ((as.reverse ++ .inr (.inr r) :: st).map (cv Γ))).monitorRoom + ((st.map (cv Γ)).map fun v => v.category).sum ≤ 8 := by rw [wdL_sum]; simpa [JFrame.monitorRoom] using hw
  have hstk : (F0 m pc ls ((as.reverse ++ .inr (.inr r) :: st).map (cv Γ))).stack = (as.map (cv Γ)).reverse ++ .ref (ad Γ r) :: st.map (cv Γ) := by simp [cv_ref hr]
  have hcw : Cond.code Y'.nm Y'.cc Y'.mL Y'.rt ∈ xws Y' := by rw [x_code hY.1]; exact List.mem_cons_self
  rcases hlk with hlk | ⟨host, hlk⟩
  · exact x_after C h1 h2 h3 h4 hS hl n1 n2 (va_runV ⟨hx, hb, hml, hown, hts⟩ hc.met ⟨⟨rfl, rfl, by show d' + 1 ≤ _; omega, by show _ + 40 * d' ≤ _; omega, xws_pay hY hts, hcw, hts _ hY.2.2.1, hts _ hY.2.2.2.1, hY.2.2.2.2, hlen, hts _ hlk⟩, hts _ hst, hts _ hsel⟩ hpre rfl (by simpa using hn) hl.1 hstk hwd hd ⟨by omega, by omega⟩) kk
  · exact x_after C h1 h2 h3 h4 hS hl n1 n2 (va_runVN ⟨hx, hb, hml, hown, hts⟩ hc.met ⟨⟨⟨rfl, rfl, by show d' + 1 ≤ _; omega, by show _ + 40 * d' ≤ _; omega, xws_pay hY hts, hcw⟩, hts _ hY.2.2.1, hts _ hY.2.2.2.1, hY.2.2.2.2, hlen, va_Nw.use rfl (hK.2.1 _ hlk)⟩, hts _ hst, hts _ hsel⟩ hpre rfl (by simpa using hn) hl.1 hstk hwd hd ⟨by omega, by omega⟩) kk
end R10
