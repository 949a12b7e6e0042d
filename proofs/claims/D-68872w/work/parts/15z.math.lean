/-! part 15z: a method of a class with natives, itself none -/
/-- a method without handlers: from its entry to its end -/
theorem CW.ofF {Γ : XG} {d : Nat} {Y : XY} {as : List XV} {M : XM} {ω : XO × XM} (hy : plainFor Y.nm = true) (hh : Y.hd = []) (hw : wdL as ≤ Y.mL) (k : RW Γ Y d ω 0 (inL Y.mL as) [] M) : CW Γ d Y as M ω := by
  obtain ⟨k1, k2, k3⟩ := k
  refine ⟨k1, k2, ?_⟩
  refine MetFree.of_bodySF (code := Y.cc) (maxLocals := Y.mL) (ret := Y.rt) hy ?_ ?_
  · intro args s m h hn
    obtain ⟨meth, c, h1, h2, h3, h4, h5, h6, -, -⟩ := Cond.code_spec hn (atoms_spec (ws := xws Y) h _ (by rw [x_code hh]; exact List.mem_cons_self))
    exact ⟨meth, c, h1, h2, h3, h4, h5, h6⟩
  · intro p e s m args below meth c s₁ B hml hP _
    have hh0 : s₁.heap = s.heap := by rw [B.state]; rfl
    obtain ⟨rfl, hK, hX, hR⟩ := hP
    have hts := atoms_spec (ws := xws Y) B.pre
    have hcd := hts _ (by rw [x_code hh]; exact List.mem_cons_self)
    have hnh : c.exceptionTable.toList.map (fun h => (h.startPc, h.endPc, h.handlerPc, h.catchType)) = Y.hd := by
      have h0 := B.noHandlers hcd
      have h1 : c.exceptionTable = #[] := by simpa [Array.isEmpty] using h0
      rw [hh, h1]
      rfl
    have hl := lv_entry (as.map (cv Γ)) (n := Y.mL) (by rw [wdL_len]; exact hw)
    have hl2 : lv_has ((lg_sl (as.map (cv Γ)) ++ List.replicate (Y.mL - (lg_sl (as.map (cv Γ))).length) Slot.unset).toArray) Y.mL (lvp Γ (inL Y.mL as)) := hl.fewer fun q hq => by
      obtain ⟨v, h1, h2⟩ := lvp_mem.mp hq
      have := inL_args Γ as Y.mL 0 q.1 v h1
      rw [Nat.zero_add, ← h2] at this
      exact this
    have K := k3 p e { frames := d, cells := mC ω.2 - mC M, slots := mS ω.2 - mS M, locals := 40 * d } s m (as.map (cv Γ)).toArray below meth c s.heap [] _ (mC M) (mS M)
      ⟨B.exec, B.bytes, B.returns, hml, findClass_of_methodNamed B.named, fun w hw => hts w (by rw [x_code hh]; exact List.mem_cons_of_mem _ hw), B.notSynchronized, (name_of_methodNamed B.named B.method).1, Nat.le_refl _, Nat.le_refl _, hK, hX, by rw [hR.2.2.1]; omega, hnh⟩
      (Nat.le_refl _) (Nat.le_refl _) (Nat.le_refl _) (Nat.le_refl _) hR va_S.rf hl2
    rw [Nat.sub_self, Nat.sub_self] at K
    rw [List.map_nil, ← lg_entry_eq] at K
    obtain ⟨t, a1, b1, b2, b3⟩ := K s₁ hh0 (Stand.of_body B)
    exact ⟨t, _, a1, b1, b2, rfl, b3⟩
