/-! part 09: tableswitch, the ends of methods -/
theorem swT_at {x : Int32} {t0 : Nat} : ∀ (l : List (Int32 × Nat)) (i t : Nat), l[i]? = some (x, t) → (∀ j k u, j < i → l[j]? = some (k, u) → x ≠ k) → swT x t0 l = t
  | [], i, t, h, _ => by simp at h
  | (k, u) :: l, 0, t, h, _ => by
    simp at h
    unfold swT
    rw [if_pos h.1.symm, h.2]
  | (k, u) :: l, i + 1, t, h, hn => by
    unfold swT
    rw [if_neg (hn 0 k u (by omega) rfl)]
    exact swT_at l i t (by simpa using h) (fun j k' u' hj hk => hn (j + 1) k' u' (by omega) (by simpa using hk))
theorem swT_out {x : Int32} {t0 : Nat} : ∀ (l : List (Int32 × Nat)), (∀ q ∈ l, x ≠ q.1) → swT x t0 l = t0
  | [], _ => rfl
  | (k, u) :: l, h => by
    unfold swT
    rw [if_neg (h (k, u) List.mem_cons_self)]
    exact swT_out l fun q hq => h q (List.mem_cons_of_mem _ hq)
def tsOK (pc : Nat) (lo hi : Int) (offs : Array Int) (l : List (Int32 × Nat)) : Bool :=
  decide (l.length = offs.size) && decide (hi = lo + offs.size - 1) && (List.range offs.size).all fun i => match offs[i]?, l[i]? with
    | some o, some q => decide (q.1.toInt = lo + i) && decide ((pc : Int) + o = (q.2 : Int))
    | _, _ => false
section R9
variable {Γ : XG} {Y : XY} {d pc : Nat} {ω : XO × XM} {lv : XL} {st : List XV} {M : XM}
theorem r_table {dflt lo hi : Int} {offs : Array Int} {len t0 : Nat} {x : Int32} {l : List (Int32 × Nat)} (hd : decode Y.cc pc = .ok (.tableswitch dflt lo hi offs, len)) (hk : tsOK pc lo hi offs l = true) (h0 : (pc : Int) + dflt = (t0 : Int)) (k : RW Γ Y d ω (swT x t0 l) lv st M) : RW Γ Y d ω pc lv (.inl x :: st) M := ⟨k.1, k.2.1, fun p e R s m args below meth c H locs ls u0 v0 C h1 h2 h3 h4 hR hS hl => by
  have K := k.2.2 p e R s m args below meth c H locs ls u0 v0 C h1 h2 h3 h4 hR hS hl
  unfold tsOK at hk
  simp only [Bool.and_eq_true, decide_eq_true_eq, List.all_eq_true, List.mem_range] at hk
  obtain ⟨⟨k1, k2⟩, k3⟩ := hk
  have key : ∀ i, i < offs.size → ∃ (o : Int) (q : Int32 × Nat), offs[i]? = some o ∧ l[i]? = some q ∧ q.1.toInt = lo + i ∧ (pc : Int) + o = (q.2 : Int) := by
    intro i hi'
    have h := k3 i hi'
    have e1 : offs[i]? = some offs[i] := Array.getElem?_eq_getElem hi'
    have e2 : l[i]? = some (l[i]'(by omega)) := List.getElem?_eq_getElem (by omega)
    rw [e1, e2] at h
    simp only [Bool.and_eq_true, decide_eq_true_eq] at h
    exact ⟨_, _, e1, e2, h.1, h.2⟩
  by_cases hout : x.toInt < lo ∨ hi < x.toInt
  · refine lv_tableOut C.1 C.2.1 hd hout h0 ?_
    rw [swT_out l] at K
    · exact K
    · intro q hq hxq
      obtain ⟨i, hi'⟩ := List.getElem?_of_mem hq
      have hil : i < l.length := (List.getElem?_eq_some_iff.mp hi').1
      obtain ⟨o, q', -, e2, e3, -⟩ := key i (by omega)
      cases hi'.symm.trans e2
      rw [hxq] at hout
      omega
  · have n1 : ¬ x.toInt < lo := fun z => hout (Or.inl z)
    have n2 : ¬ hi < x.toInt := fun z => hout (Or.inr z)
    obtain ⟨o, q, e1, e2, e3, e4⟩ := key (x.toInt - lo).toNat (by omega)
    have hxq : q.1 = x := Int32.toInt_inj.mp (by rw [e3]; omega)
    refine lv_tableIn C.1 C.2.1 hd n1 n2 e1 e4 ?_
    rw [swT_at l (x.toInt - lo).toNat q.2 (by rw [e2, ← hxq])] at K
    · exact K
    · intro j k' u hj hjk hx
      have hjl : j < l.length := (List.getElem?_eq_some_iff.mp hjk).1
      obtain ⟨_, q', -, f2, f3, -⟩ := key j (by omega)
      cases hjk.symm.trans f2
      have f4 : x.toInt = lo + j := by rw [hx]; exact f3
      omega⟩
theorem x_end {p : Program} {e : Env} {R : Room} {s : State} {m : MethodId} {args : Array Value} {below : List Frame} {meth : Method} {c : Code} {H : Heap} {locs : List Loc} {g : JFrame} {k n : Nat} {o : XO}
    (hR : Rel Γ M H) (hS : va_S (XA Γ) s.heap H locs) (w : W p Γ.l e R s m args below meth c H locs k n (MQ below (fun _ st oc t => oc = xo Γ o ∧ Rel Γ M t.heap ∧ va_F (XA Γ) st t) args s k n (XA Γ)) g) : W p Γ.l e R s m args below meth c H locs k n (XE Γ s below (o, M) k n) g := by
  refine W.mono ?_ w
  rintro t ⟨oc, b1, b2, ⟨rfl, b3, b4⟩, L, ⟨-, b5, b6⟩, b7⟩
  exact ⟨b1, b2, b3, b4, L, b5, b6, b7⟩
theorem r_ireturn {x : Int32} (hd : decode Y.cc pc = .ok (.ireturn, 1)) (hr : Y.rt = some .int) (hω : ω = (.inl (some (.inl x)), M)) : RW Γ Y d ω pc lv [.inl x] M := by
  subst hω
  refine ⟨Nat.le_refl _, Nat.le_refl _, fun p e R s m args below meth c H locs ls u0 v0 C h1 h2 h3 h4 hR hS hl => x_end hR hS ?_⟩
  have hlk := C.2.2.2.2.2.2.1
  exact W.iret C.1 C.2.1 (C.2.2.1.trans hr) (fun t ht hW => ⟨rfl, by rw [ht]; exact hR, hS.F ht⟩) hS.2.2 hd
theorem r_lreturn {x : Int64} (hd : decode Y.cc pc = .ok (.lreturn, 1)) (hr : Y.rt = some .long) (hω : ω = (.inl (some (.inr (.inl x))), M)) : RW Γ Y d ω pc lv [.inr (.inl x)] M := by
  subst hω
  refine ⟨Nat.le_refl _, Nat.le_refl _, fun p e R s m args below meth c H locs ls u0 v0 C h1 h2 h3 h4 hR hS hl => x_end hR hS ?_⟩
  have hlk := C.2.2.2.2.2.2.1
  exact W.lret C.1 C.2.1 (C.2.2.1.trans hr) (fun t ht hW => ⟨rfl, by rw [ht]; exact hR, hS.F ht⟩) hS.2.2 hd
theorem r_return (hd : decode Y.cc pc = .ok (.return_, 1)) (hr : Y.rt = none) (hω : ω = (.inl none, M)) : RW Γ Y d ω pc lv [] M := by
  subst hω
  refine ⟨Nat.le_refl _, Nat.le_refl _, fun p e R s m args below meth c H locs ls u0 v0 C h1 h2 h3 h4 hR hS hl => x_end hR hS ?_⟩
  have hlk := C.2.2.2.2.2.2.1
  exact W.vret C.1 C.2.1 (C.2.2.1.trans hr) (fun t ht hW => ⟨rfl, by rw [ht]; exact hR, hS.F ht⟩) hS.2.2 hd
theorem r_areturn {x : Nat} {E : String} (hd : decode Y.cc pc = .ok (.areturn, 1)) (hr : Y.rt = some (.object E)) (hω : ω = (.inl (some (.inr (.inr x))), M)) : RW Γ Y d ω pc lv [.inr (.inr x)] M := by
  subst hω
  refine ⟨Nat.le_refl _, Nat.le_refl _, fun p e R s m args below meth c H locs ls u0 v0 C h1 h2 h3 h4 hR hS hl => x_end hR hS ?_⟩
  have hlk := C.2.2.2.2.2.2.1
  have hv : rv Γ x = .null ∨ ∃ a, rv Γ x = .ref a := by
    unfold rv
    split
    · exact Or.inl rfl
    · exact Or.inr ⟨_, rfl⟩
  exact W.aret C.1 C.2.1 (C.2.2.1.trans hr) (Or.inl ⟨_, rfl⟩) hv (fun t ht hW => ⟨rfl, by rw [ht]; exact hR, hS.F ht⟩) hS.2.2 hd
/-- a boolean's end: the number is cut to its lowest bit -/
theorem W.zretN {p : Program} {l : Launch} {e : Env} {R : Room} {s : State} {m : MethodId} {args : Array Value} {below : List Frame} {meth : Method} {c : Code} {H : Heap} {locs : List Loc} {cells slots : Nat} {cc : ByteArray} {Qc : Array Value → State → Outcome → State → Prop} {free : Addr → Prop} {v w : Int32} {ty : FieldType} (hexec : p.tables.exec = Jvm.exec) (hb : c.code = cc) (hr : meth.sig.returnType = some ty) (hn : narrow ty (.int v) = .int w)
    (hq : ∀ t : State, t.heap = H → s.WarmedH t.vm → Qc args s (.returned (some (.int w))) t) (hf : ∀ q ∈ locs, free q.base)
    {pc : Nat} {ls : Array Slot} (hdg : decode cc pc = .ok (.ireturn, 1)) (hlocks : meth.locks = false) : W p l e R s m args below meth c H locs cells slots (MQ below Qc args s cells slots free) (F0 m pc ls [.int v]) := by
  intro T hT X
  obtain ⟨fs, hret, hrun, hended, hW, hframe⟩ := X.leave (v := some (.int w)) (fun h => by rw [hr] at h; cases h)
  have hmeth' : T.vm.method? m = some meth := X.method'
  refine ⟨T.setFrames fs, ?_, .returned (some (.int w)), hrun, hended, hq _ hT hW, locs, ⟨⟨_, rfl⟩, hW, hframe⟩, hf⟩
  jvm_step X.here [X.here.top, hexec, hb, hdg, hmeth', hr, hn]
  (try refine ⟨rfl, ?_⟩); (try refine ⟨rfl, ?_⟩)
  first | (intro acts; rw [hret _ acts rfl rfl rfl]) | rw [hret _ _ rfl rfl rfl]
  exact Steps.refl _
theorem r_zreturn {x : Int32} (hd : decode Y.cc pc = .ok (.ireturn, 1)) (hr : Y.rt = some .boolean) (hω : ω = (.inl (some (.inl (j_z x))), M)) : RW Γ Y d ω pc lv [.inl x] M := by
  subst hω
  refine ⟨Nat.le_refl _, Nat.le_refl _, fun p e R s m args below meth c H locs ls u0 v0 C h1 h2 h3 h4 hR hS hl => x_end hR hS ?_⟩
  exact W.zretN C.1 C.2.1 (C.2.2.1.trans hr) (j_z_eq x) (fun t ht hW => ⟨rfl, by rw [ht]; exact hR, hS.F ht⟩) hS.2.2 hd C.2.2.2.2.2.2.1
theorem j_z0 : j_z 0 = 0 := rfl
theorem j_z1 : j_z 1 = 1 := rfl
end R9
