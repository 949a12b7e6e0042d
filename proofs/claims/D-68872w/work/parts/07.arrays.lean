/-! part 07: rows for arrays, new, constants, statics, switches, ends -/
theorem xtys_at {Γ : XG} {U : State} (hK : Kn Γ U) {t : Nat} (h1 : 100 < t) (h2 : t < 108) : ArrOfT U (Γ.A t) (aT t) ∧ va_RA U (Γ.A t) (aT t) := by
  have h := hK.1.2
  rcases (by omega : t = 101 ∨ t = 102 ∨ t = 103 ∨ t = 104 ∨ t = 105 ∨ t = 106 ∨ t = 107) with z | z | z | z | z | z | z <;> subst z
  · exact h 0 _ rfl
  · exact h 1 _ rfl
  · exact h 2 _ rfl
  · exact h 3 _ rfl
  · exact h 4 _ rfl
  · exact h 5 _ rfl
  · exact h 6 _ rfl
theorem xarr {Γ : XG} {M : XM} {H : Heap} (hR : Rel Γ M H) {t r : Nat} (h1 : 100 < t) (h2 : t < 108) (hT : mT M r = t) : 100 ≤ r ∧ H[ad Γ r]? = some (arrV (Γ.A t) (mN M r) (ev Γ M t r)) := by
  obtain ⟨a, b⟩ := hR.tag (r := r) (by omega) (by omega)
  have h := (hR.1 r a).2.1 (by omega) (by omega)
  rw [hT] at h
  exact ⟨a, h⟩
theorem ev_wV {Γ : XG} {M : XM} {t r k : Nat} {v : XV} (h : (t < 104 ∧ ∃ x, v = .inl x) ∨ (t = 104 ∧ ∃ x, v = .inr (.inl x)) ∨ (104 < t ∧ ∃ x, v = .inr (.inr x))) : ev Γ (wV M r k v) t r = updV (ev Γ M t r) k (cv Γ v) := by
  funext j
  unfold updV ev
  by_cases e : j = k
  · subst e
    rw [if_pos rfl]
    rcases h with ⟨z, x, rfl⟩ | ⟨z, x, rfl⟩ | ⟨z, x, rfl⟩
    · rw [if_neg (by omega), if_pos z]; show Value.int (mI (wI M r j x) r j) = _; rw [mI_wI, if_pos ⟨rfl, rfl⟩]; rfl
    · rw [if_pos z]; show Value.long (mL (wL M r j x) r j) = _; rw [mL_wL, if_pos ⟨rfl, rfl⟩]; rfl
    · rw [if_neg (by omega), if_neg (by omega)]; show rv Γ (mR (wR M r j x) r j) = _; rw [mR_wR, if_pos ⟨rfl, rfl⟩]; rfl
  · rw [if_neg e]
    obtain ⟨a, b, c⟩ := wV_ne M (a := r) (j := j) (r := r) (k := k) v (fun z => e z.2)
    rw [a, b, c]
section R7
variable {Γ : XG} {Y : XY} {d pc : Nat} {ω : XO × XM} {lv : XL} {st : List XV} {M : XM}
theorem arr_in {cA : ClassId} {n : Nat} {f : Nat → Value} {i : Int32} (h : vp_in i n) : ¬ (i < 0 ∨ (arrV cA n f).slots.size ≤ i.toNatClampNeg) := by rw [arrV_size]; exact h
theorem arr_lt {n : Nat} {i : Int32} (h : vp_in i n) : i.toNatClampNeg < n := Nat.not_le.mp fun q => h (Or.inr q)
theorem r_iaload {r : Nat} {i : Int32} (hd : decode Y.cc pc = .ok (.iaload, 1)) (hT : mT M r = 103) (hi : vp_in i (mN M r)) (kk : RW Γ Y d ω (pc + 1) lv (.inl (mI M r i.toNatClampNeg) :: st) M) : RW Γ Y d ω pc lv (.inl i :: .inr (.inr r) :: st) M := ⟨kk.1, kk.2.1, fun p e R s m args below meth c H locs ls u0 v0 C h1 h2 h3 h4 hR hS hl => by
  obtain ⟨hr, hc⟩ := xarr hR (by decide) (by decide) hT
  obtain ⟨hx, hb, -, -, hown, hts, -, -, -, -, hK, -⟩ := id C
  rw [List.map_cons, List.map_cons, cv_ref (by omega)]
  exact W.iald hx hb hc ((xtys_at hK (t := 103) (by decide) (by decide)).1 _ _) (fun h => by cases h) (arr_in hi) (arrV_read _ _ (arr_lt hi)) rfl rfl hd (kk.2.2 p e R s m args below meth c H locs ls u0 v0 C h1 h2 h3 h4 hR hS hl)⟩
theorem r_laload {r : Nat} {i : Int32} (hd : decode Y.cc pc = .ok (.laload, 1)) (hT : mT M r = 104) (hi : vp_in i (mN M r)) (kk : RW Γ Y d ω (pc + 1) lv (.inr (.inl (mL M r i.toNatClampNeg)) :: st) M) : RW Γ Y d ω pc lv (.inl i :: .inr (.inr r) :: st) M := ⟨kk.1, kk.2.1, fun p e R s m args below meth c H locs ls u0 v0 C h1 h2 h3 h4 hR hS hl => by
  obtain ⟨hr, hc⟩ := xarr hR (by decide) (by decide) hT
  obtain ⟨hx, hb, -, -, hown, hts, -, -, -, -, hK, -⟩ := id C
  rw [List.map_cons, List.map_cons, cv_ref (by omega)]
  exact W.lald hx hb hc ((xtys_at hK (t := 104) (by decide) (by decide)).1 _ _) (fun h => by cases h) (arr_in hi) (arrV_read _ _ (arr_lt hi)) rfl rfl hd (kk.2.2 p e R s m args below meth c H locs ls u0 v0 C h1 h2 h3 h4 hR hS hl)⟩
theorem r_baload {r : Nat} {i : Int32} (hd : decode Y.cc pc = .ok (.baload, 1)) (hT : mT M r = 101 ∨ mT M r = 102) (hi : vp_in i (mN M r)) (kk : RW Γ Y d ω (pc + 1) lv (.inl (mI M r i.toNatClampNeg) :: st) M) : RW Γ Y d ω pc lv (.inl i :: .inr (.inr r) :: st) M := ⟨kk.1, kk.2.1, fun p e R s m args below meth c H locs ls u0 v0 C h1 h2 h3 h4 hR hS hl => by
  obtain ⟨hx, hb, -, -, hown, hts, -, -, -, -, hK, -⟩ := id C
  rcases hT with hT | hT
  · obtain ⟨hr, hc⟩ := xarr hR (by decide) (by decide) hT
    rw [List.map_cons, List.map_cons, cv_ref (by omega)]
    exact W.zald hx hb hc ((xtys_at hK (t := 101) (by decide) (by decide)).1 _ _) (fun h => by cases h) (arr_in hi) (arrV_read _ _ (arr_lt hi)) rfl rfl hd (kk.2.2 p e R s m args below meth c H locs ls u0 v0 C h1 h2 h3 h4 hR hS hl)
  · obtain ⟨hr, hc⟩ := xarr hR (by decide) (by decide) hT
    rw [List.map_cons, List.map_cons, cv_ref (by omega)]
    exact W.bald hx hb hc ((xtys_at hK (t := 102) (by decide) (by decide)).1 _ _) (fun h => by cases h) (arr_in hi) (arrV_read _ _ (arr_lt hi)) rfl rfl hd (kk.2.2 p e R s m args below meth c H locs ls u0 v0 C h1 h2 h3 h4 hR hS hl)⟩
theorem r_aaload {r : Nat} {i : Int32} (hd : decode Y.cc pc = .ok (.aaload, 1)) (h1 : 104 < mT M r) (h2 : mT M r < 108) (hi : vp_in i (mN M r)) (kk : RW Γ Y d ω (pc + 1) lv (.inr (.inr (mR M r i.toNatClampNeg)) :: st) M) : RW Γ Y d ω pc lv (.inl i :: .inr (.inr r) :: st) M := ⟨kk.1, kk.2.1, fun p e R s m args below meth c H locs ls u0 v0 C h1' h2' h3 h4 hR hS hl => by
  obtain ⟨hr, hc⟩ := xarr hR (by omega) h2 rfl
  obtain ⟨hx, hb, -, -, hown, hts, -, -, -, -, hK, -⟩ := id C
  rw [List.map_cons, List.map_cons, cv_ref (by omega)]
  have hty : (aT (mT M r)).isReference = true := by
    rcases (by omega : mT M r = 105 ∨ mT M r = 106 ∨ mT M r = 107) with z | z | z <;> rw [z] <;> rfl
  refine W.aald hx hb hc ((xtys_at hK (by omega) h2).1 _ _) hty (fun h => by cases h) (arr_in hi) (arrV_read _ _ (arr_lt hi)) rfl rfl hd ?_
  have he : ev Γ M (mT M r) r i.toNatClampNeg = rv Γ (mR M r i.toNatClampNeg) := by unfold ev; rw [if_neg (by omega), if_neg (by omega)]
  rw [he]
  exact kk.2.2 p e R s m args below meth c H locs ls u0 v0 C h1' h2' h3 h4 hR hS hl⟩
/-- the script -/
theorem r_ialoadS {i : Int32} (hd : decode Y.cc pc = .ok (.iaload, 1)) (hi : vp_in i Γ.n) (kk : RW Γ Y d ω (pc + 1) lv (.inl (Γ.x i.toNatClampNeg) :: st) M) : RW Γ Y d ω pc lv (.inl i :: .inr (.inr 13) :: st) M := ⟨kk.1, kk.2.1, fun p e R s m args below meth c H locs ls u0 v0 C h1 h2 h3 h4 hR hS hl => by
  obtain ⟨hx, hb, -, -, hown, hts, -, -, -, -, hK, hX, hB, -⟩ := id C
  exact va_sld hx hb hX.1 (Nat.lt_of_lt_of_le hX.2.1 hB) (Nat.not_le.mpr hX.2.1) hS hi hd (kk.2.2 p e R s m args below meth c H locs ls u0 v0 C h1 h2 h3 h4 hR hS hl)⟩
theorem r_arraylengthS (hd : decode Y.cc pc = .ok (.arraylength, 1)) (kk : RW Γ Y d ω (pc + 1) lv (.inl (Int32.ofNat Γ.n) :: st) M) : RW Γ Y d ω pc lv (.inr (.inr 13) :: st) M := ⟨kk.1, kk.2.1, fun p e R s m args below meth c H locs ls u0 v0 C h1 h2 h3 h4 hR hS hl => by
  obtain ⟨hx, hb, -, -, hown, hts, -, -, -, -, hK, hX, hB, -⟩ := id C
  exact va_slen hx hb hX.1 (Nat.lt_of_lt_of_le hX.2.1 hB) (Nat.not_le.mpr hX.2.1) hS hd (kk.2.2 p e R s m args below meth c H locs ls u0 v0 C h1 h2 h3 h4 hR hS hl)⟩
theorem r_arraylength {r : Nat} (hd : decode Y.cc pc = .ok (.arraylength, 1)) (h1 : 100 < mT M r) (h2 : mT M r < 108) (kk : RW Γ Y d ω (pc + 1) lv (.inl (Int32.ofNat (mN M r)) :: st) M) : RW Γ Y d ω pc lv (.inr (.inr r) :: st) M := ⟨kk.1, kk.2.1, fun p e R s m args below meth c H locs ls u0 v0 C h1' h2' h3 h4 hR hS hl => by
  obtain ⟨hr, hc⟩ := xarr hR h1 h2 rfl
  obtain ⟨hx, hb, -, -, hown, hts, -, -, -, -, hK, -⟩ := id C
  rw [List.map_cons, cv_ref (by omega)]
  exact W.alen hx hb hc ((xtys_at hK h1 h2).1 _ _) (by rw [arrV_size]) rfl rfl hd (kk.2.2 p e R s m args below meth c H locs ls u0 v0 C h1' h2' h3 h4 hR hS hl)⟩
/-- behind a store into an array -/
theorem arr_put {p : Program} {e : Env} {R : Room} {s : State} {m : MethodId} {args : Array Value} {below : List Frame} {meth : Method} {c : Code} {H : Heap} {locs : List Loc} {ls : Array Slot} {u0 v0 t r k : Nat} {v : XV}
    (C : XC Γ Y d p R s m args meth c) (h1 : u0 ≤ mC M) (h2 : v0 ≤ mS M) (h3 : mC ω.2 - u0 ≤ R.cells) (h4 : mS ω.2 - v0 ≤ R.slots) (hR : Rel Γ M H) (hS : va_S (XA Γ) s.heap H locs) (hl : lv_has ls Y.mL (lvp Γ lv))
    (ht1 : 100 < t) (ht2 : t < 108) (hT : mT M r = t) (hv : (t < 104 ∧ ∃ x, v = .inl x) ∨ (t = 104 ∧ ∃ x, v = .inr (.inl x)) ∨ (104 < t ∧ ∃ x, v = .inr (.inr x))) (kk : RW Γ Y d ω (pc + 1) lv st (wV M r k v))
    {H' : Heap} (g1 : H'[ad Γ r]? = some ((arrV (Γ.A t) (mN M r) (ev Γ M t r)).setSlot k (cv Γ v))) (g2 : H'.size = H.size) (g3 : ∀ q, q ≠ ad Γ r → H'[q]? = H[q]?) :
    W p Γ.l e R s m args below meth c H' (locs ++ [⟨ad Γ r, k⟩]) (mC M - u0) (mS M - v0) (XE Γ s below ω (mC ω.2 - u0) (mS ω.2 - v0)) (F0 m (pc + 1) ls (st.map (cv Γ))) := by
  obtain ⟨e1, e2⟩ := (wV_T M r k r v).2.2
  have hr := (xarr hR ht1 ht2 hT).1
  rw [← e1, ← e2]
  refine kk.2.2 p e R s m args below meth c H' _ ls u0 v0 C (by rw [e1]; exact h1) (by rw [e2]; exact h2) h3 h4 ?_ (hS.put g2 g3 (ad_A hr)) hl
  refine hR.set hr (fun a => (wV_T M r k a v).1) (fun a => (wV_T M r k a v).2.1) e1 (fun a j z => wV_ne M v (fun w => z w.1)) g2 g3 ?_
  unfold xcell
  rw [(wV_T M r k r v).1, (wV_T M r k r v).2.1, hT]
  refine ⟨fun _ z => absurd z (by omega), fun _ _ => ?_, fun z => absurd z (by omega)⟩
  rw [ev_wV hv, g1, arrV_store]
theorem r_iastore {r : Nat} {i x : Int32} (hd : decode Y.cc pc = .ok (.iastore, 1)) (hT : mT M r = 103) (hi : vp_in i (mN M r)) (kk : RW Γ Y d ω (pc + 1) lv st (wI M r i.toNatClampNeg x)) : RW Γ Y d ω pc lv (.inl x :: .inl i :: .inr (.inr r) :: st) M := ⟨kk.1, kk.2.1, fun p e R s m args below meth c H locs ls u0 v0 C h1 h2 h3 h4 hR hS hl => by
  obtain ⟨hr, hc⟩ := xarr hR (by decide) (by decide) hT
  obtain ⟨hx, hb, -, -, hown, hts, -, -, -, -, hK, -⟩ := id C
  rw [List.map_cons, List.map_cons, List.map_cons, cv_ref (by omega)]
  exact W.iast hx hb hc ((xtys_at hK (t := 103) (by decide) (by decide)).1 _ _) (fun h => by cases h) (arr_in hi) rfl rfl hd (fun H' g1 g2 g3 => arr_put (v := .inl x) C h1 h2 h3 h4 hR hS hl (by decide) (by decide) hT (Or.inl ⟨by decide, x, rfl⟩) kk g1 g2 g3)⟩
theorem r_lastore {r : Nat} {i : Int32} {x : Int64} (hd : decode Y.cc pc = .ok (.lastore, 1)) (hT : mT M r = 104) (hi : vp_in i (mN M r)) (kk : RW Γ Y d ω (pc + 1) lv st (wL M r i.toNatClampNeg x)) : RW Γ Y d ω pc lv (.inr (.inl x) :: .inl i :: .inr (.inr r) :: st) M := ⟨kk.1, kk.2.1, fun p e R s m args below meth c H locs ls u0 v0 C h1 h2 h3 h4 hR hS hl => by
  obtain ⟨hr, hc⟩ := xarr hR (by decide) (by decide) hT
  obtain ⟨hx, hb, -, -, hown, hts, -, -, -, -, hK, -⟩ := id C
  rw [List.map_cons, List.map_cons, List.map_cons, cv_ref (by omega)]
  exact W.last hx hb hc ((xtys_at hK (t := 104) (by decide) (by decide)).1 _ _) (fun h => by cases h) (arr_in hi) rfl rfl hd (fun H' g1 g2 g3 => arr_put (v := .inr (.inl x)) C h1 h2 h3 h4 hR hS hl (by decide) (by decide) hT (Or.inr (Or.inl ⟨rfl, x, rfl⟩)) kk g1 g2 g3)⟩
theorem r_bastoreB {r : Nat} {i x : Int32} (hd : decode Y.cc pc = .ok (.bastore, 1)) (hT : mT M r = 102) (hi : vp_in i (mN M r)) (kk : RW Γ Y d ω (pc + 1) lv st (wI M r i.toNatClampNeg (j_i2b x))) : RW Γ Y d ω pc lv (.inl x :: .inl i :: .inr (.inr r) :: st) M := ⟨kk.1, kk.2.1, fun p e R s m args below meth c H locs ls u0 v0 C h1 h2 h3 h4 hR hS hl => by
  obtain ⟨hr, hc⟩ := xarr hR (by decide) (by decide) hT
  obtain ⟨hx, hb, -, -, hown, hts, -, -, -, -, hK, -⟩ := id C
  rw [List.map_cons, List.map_cons, List.map_cons, cv_ref (by omega)]
  exact W.bast hx hb hc ((xtys_at hK (t := 102) (by decide) (by decide)).1 _ _) (fun h => by cases h) (arr_in hi) rfl rfl hd (fun H' g1 g2 g3 => arr_put (v := .inl (j_i2b x)) C h1 h2 h3 h4 hR hS hl (by decide) (by decide) hT (Or.inl ⟨by decide, _, rfl⟩) kk g1 g2 g3)⟩
def j_z (x : Int32) : Int32 := vp_nar .boolean x
theorem j_z_eq (x : Int32) : narrow .boolean (.int x) = .int (j_z x) := rfl
theorem r_bastoreZ {r : Nat} {i x : Int32} (hd : decode Y.cc pc = .ok (.bastore, 1)) (hT : mT M r = 101) (hi : vp_in i (mN M r)) (kk : RW Γ Y d ω (pc + 1) lv st (wI M r i.toNatClampNeg (j_z x))) : RW Γ Y d ω pc lv (.inl x :: .inl i :: .inr (.inr r) :: st) M := ⟨kk.1, kk.2.1, fun p e R s m args below meth c H locs ls u0 v0 C h1 h2 h3 h4 hR hS hl => by
  obtain ⟨hr, hc⟩ := xarr hR (by decide) (by decide) hT
  obtain ⟨hx, hb, -, -, hown, hts, -, -, -, -, hK, -⟩ := id C
  rw [List.map_cons, List.map_cons, List.map_cons, cv_ref (by omega)]
  exact W.zast hx hb hc ((xtys_at hK (t := 101) (by decide) (by decide)).1 _ _) (fun h => by cases h) (arr_in hi) rfl rfl hd (fun H' g1 g2 g3 => arr_put (v := .inl (j_z x)) C h1 h2 h3 h4 hR hS hl (by decide) (by decide) hT (Or.inl ⟨by decide, _, rfl⟩) kk g1 g2 g3)⟩
/-- may an object of a tag be stored into an array of a tag -/
def XAs (ta t : Nat) : Prop := 104 < ta ∧ ta < 108 ∧ 1 ≤ t ∧ ∃ q : vw_C, xcl[t - 1]? = some q ∧ (aT ta = .object q.1 ∨ ∃ E, aT ta = .object E ∧ Cond.castable q.1 E ∈ xnest)
theorem r_aastore {r x t : Nat} {i : Int32} (hd : decode Y.cc pc = .ok (.aastore, 1)) (hA : XAs (mT M r) t) (hx0 : mT M x = t) (hi : vp_in i (mN M r)) (kk : RW Γ Y d ω (pc + 1) lv st (wR M r i.toNatClampNeg x)) : RW Γ Y d ω pc lv (.inr (.inr x) :: .inl i :: .inr (.inr r) :: st) M := ⟨kk.1, kk.2.1, fun p e R s m args below meth c H locs ls u0 v0 C h1 h2 h3 h4 hR hS hl => by
  obtain ⟨ha1, ha2, ht1, q, hq, hcast⟩ := hA
  obtain ⟨hr, hc⟩ := xarr hR (by omega) ha2 rfl
  obtain ⟨hx, hb, -, -, hown, hts, -, -, -, -, hK, -⟩ := id C
  obtain ⟨hxr, cell, q1, q2, q3, q4⟩ := xobj hR hq ht1 hx0
  rw [List.map_cons, List.map_cons, List.map_cons, cv_ref (r := r) (by omega), cv_ref (r := x) (by omega)]
  obtain ⟨hSl, hfc, kC, hkC, hkind⟩ := hK.1.1 _ _ hq
  have hRA := (xtys_at hK (t := mT M r) (by omega) ha2).2
  have hlt := arr_lt hi
  have hn0 : ¬ i < 0 := fun z => hi (Or.inl z)
  obtain ⟨E, hE, hasg⟩ : ∃ E, aT (mT M r) = .object E ∧ ∀ comp, s.vm.findClass E = some comp → s.vm.assignable (Γ.D.1 (t - 1)) comp = true := by
    rcases hcast with z | ⟨E, z, zc⟩
    · refine ⟨_, z, fun comp h => ?_⟩
      cases hfc.symm.trans h
      exact va_assign ⟨hfc, kC, hkC, hkind⟩
    · refine ⟨E, z, fun comp h => ?_⟩
      have := hK.2.1 _ zc
      unfold va_Nw at this
      simp only [Cond.before, Cond.holds, Cond.value, hfc, h] at this
      simpa using this
  rw [hE] at hRA
  obtain ⟨kA, comp, k1, k2, k3, -⟩ := hRA
  obtain ⟨kE, hkE, -⟩ := Vm.findClass_spec k3
  refine W.aast hx hb hc (fun q h => by cases h) (fun h => by cases h) k1 k2 rfl hkE ⟨hn0, by rw [arrV_size]; exact hlt⟩ q1 (fun q h => by rw [q3] at h; cases h) (by rw [q2]; exact hkC) (by rw [q2]; exact hasg _ k3) rfl rfl hd (fun H' g1 g2 g3 => arr_put (v := .inr (.inr x)) C h1 h2 h3 h4 hR hS hl (by omega) ha2 rfl (Or.inr (Or.inr ⟨ha1, x, rfl⟩)) kk (by rw [g1, cv_ref (by omega)]) g2 g3)⟩
end R7
