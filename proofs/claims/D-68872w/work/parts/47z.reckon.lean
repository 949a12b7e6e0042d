/-! part 47z: the component's Reckoner on memory (gen/tpl.py) -/
def Fr (J : Nat → Prop) (M M' : XM) : Prop := M'.2.2 = M.2.2 ∧ ∀ r, ¬ J r → ∀ i, mI M' r i = mI M r i ∧ mL M' r i = mL M r i
theorem Fr.rf {J : Nat → Prop} {M : XM} : Fr J M M := ⟨rfl, fun _ _ _ => ⟨rfl, rfl⟩⟩
theorem Fr.trans {J : Nat → Prop} {M M1 M2 : XM} (h : Fr J M M1) (h' : Fr J M1 M2) : Fr J M M2 := ⟨h'.1.trans h.1, fun r hr i => ⟨(h'.2 r hr i).1.trans (h.2 r hr i).1, (h'.2 r hr i).2.trans (h.2 r hr i).2⟩⟩
theorem Fr.weak {J J' : Nat → Prop} {M M1 : XM} (h : Fr J M M1) (hJ : ∀ r, J r → J' r) : Fr J' M M1 := ⟨h.1, fun r hr i => h.2 r (fun z => hr (hJ r z)) i⟩
theorem Fr.sv {J : Nat → Prop} {M : XM} {r : Nat} {w : AV} (hr : J r) : Fr J M (sV M r w) := ⟨rfl, fun q hq i => ⟨rfl, mL_sVne M r w i (fun e => hq (e ▸ hr))⟩⟩
theorem Fr.wi {J : Nat → Prop} {M : XM} {r k : Nat} {v : Int32} (hr : J r) : Fr J M (wI M r k v) := ⟨rfl, fun q hq i => ⟨by rw [mI_wI, if_neg (fun (e : q = r ∧ i = k) => hq (e.1 ▸ hr))], rfl⟩⟩
theorem Fr.gv {J : Nat → Prop} {M M' : XM} {r : Nat} (h : Fr J M M') (hr : ¬ J r) : gv6 M' r = gv6 M r := by
  unfold gv6
  rw [(h.2 r hr 0).2, (h.2 r hr 1).2, (h.2 r hr 2).2, (h.2 r hr 3).2, (h.2 r hr 4).2, (h.2 r hr 5).2]
theorem Fr.sh {J : Nat → Prop} {M M' : XM} (h : Fr J M M') (hs : Sh M) : Sh M' := hs.kept h.1
/-- no bit is both known and unknown -/
def bu (w : AV) : Prop := w.b &&& w.u = 0
theorem bu_say {w : AV} {a u : Int64} : bu (w.say a u) := clear_0 a u
theorem bu_uns {w : AV} {a u : Int64} (h : bu w) : bu (w.uns a u) := h
theorem bu_sgn {w : AV} {a u : Int64} (h : bu w) : bu (w.sgn a u) := h
theorem bu_unsIf {w : AV} {c : Prop} [Decidable c] {a u : Int64} (h : bu w) : bu (w.unsIf c a u) := by unfold AV.unsIf; split <;> exact h
theorem bu_sgnIf {w : AV} {c : Prop} [Decidable c] {a u : Int64} (h : bu w) : bu (w.sgnIf c a u) := by unfold AV.sgnIf; split <;> exact h
theorem bu_free : bu vFree := by unfold bu; decide
theorem bu_one (v : Int64) : bu (vOne v) := and_0.mpr fun j ⟨_, h⟩ => by rw [show (vOne v).u = 0 from rfl, tb_zero] at h; cases h
theorem bu_tt {w : AV} (h : bu w) : bu (tite w) := by
  by_cases c : ∃ t, IsT (vin w) t
  · obtain ⟨t, ht⟩ := c
    rw [ht.tte]; exact ht.2.2.2.2.2.1
  · unfold tite; rw [dif_neg c]; exact h
theorem bu_shift {k : Nat} {most : Int32} {w x y : AV} (h : bu w) : bu (oShift k most w x y) := by
  unfold oShift shlBy shlTo shrBy shrTo sarBy sarTo
  split
  · split
    · exact bu_sgnIf (bu_unsIf bu_say)
    · split
      · exact bu_uns bu_say
      · exact bu_sgn bu_say
  · split
    · split
      · exact bu_say
      · split
        · exact bu_uns h
        · exact bu_sgn h
    · split
      · exact bu_say
      · split
        · exact bu_uns h
        · exact bu_sgn h
theorem bu_raw {k : Nat} {most : Int32} {w x y : AV} (h : bu w) (hx : bu x) (hy : bu y) : bu (oRaw k most w x y) := by
  unfold oRaw oAdd oSub oMul oDiv oRest oAnd oOr oXor
  split
  · exact bu_sgnIf (bu_unsIf bu_say)
  split
  · exact bu_sgnIf (bu_unsIf bu_say)
  split
  · exact bu_sgnIf (bu_unsIf bu_say)
  split
  · split <;> exact h
  split
  · split
    · split <;> exact h
    · exact hx
  split
  · exact bu_uns bu_say
  split
  · exact bu_uns bu_say
  split
  · exact bu_say
  split
  · exact hy
  · exact bu_shift h
theorem bu_cut0 {n : Int32} {x : AV} (hx : bu x) : bu (rCut n x) := by
  unfold rCut
  split
  · exact hx
  · exact bu_unsIf bu_say
theorem bu_cut {n : Int32} {x : AV} (hx : bu x) : bu (vCut n x) := bu_tt (bu_cut0 hx)
theorem bu_ext0 {n : Int32} {x : AV} : bu (rExt n x) := bu_sgn bu_say
theorem bu_ext {n : Int32} {x : AV} : bu (vExt n x) := bu_tt bu_ext0
theorem bu_join0 {n : Int32} {x y : AV} : bu (rJoin n x y) := by
  unfold rJoin
  split
  · exact bu_sgn (bu_uns bu_say)
  · exact bu_sgn (bu_uns bu_say)
def J0 (q : Nat) : Prop := q = 112 ∨ q = 113 ∨ q = 132
def JR (q : Nat) : Prop := q = 112 ∨ q = 113 ∨ q = 130 ∨ q = 131 ∨ q = 132
theorem r_press {M : XM} (h : Sh M) {r : Nat} (tr : mT M r = 10) (hb : bu (gv6 M r)) : K_Press_tighten 111 r M ∧ Fr (fun q => q = r ∨ q = 112 ∨ q = 113) M (g_Press_tighten 111 r M).2 ∧ gv6 (g_Press_tighten 111 r M).2 r = tite (gv6 M r) ∧ (((g_Press_tighten 111 r M).1 = 1 ∧ IsT (vin (gv6 M r)) (tite (gv6 M r))) ∨ (g_Press_tighten 111 r M).1 = 0 ∧ ∀ x, ¬ vin (gv6 M r) x) := by
  obtain ⟨k1, k2, k3⟩ := press_ok (x0 := 111) (x1 := r) (p := 112) (q := 113) (M := M) h.R111_0 h.R111_1 h.T111 h.T112 h.T113 tr (by decide) rfl hb
  refine ⟨k1, ⟨k2.1, fun q hq i => ?_⟩, ?_⟩
  · have h1 : q ≠ r := fun e => hq (Or.inl e)
    have h2 : q ≠ 112 := fun e => hq (Or.inr (Or.inl e))
    have h3 : q ≠ 113 := fun e => hq (Or.inr (Or.inr e))
    exact ⟨k2.2.1 q i h2 h3, k2.2.2 q i h2 h3 h1⟩
  · rcases k3 with ⟨a1, a2⟩ | ⟨a1, a2, a3⟩
    · rw [a2.tte]
      exact ⟨rfl, Or.inl ⟨a1, a2⟩⟩
    · rw [tt_none a2]
      exact ⟨a3, Or.inr ⟨a1, a2⟩⟩
/-- tighten, and copy from there -/
theorem r_fin {M : XM} (h : Sh M) {t : Nat} (ht : mT M t = 10) (hb : bu (gv6 M 132)) : K_Reckoner_tighten 110 132 M ∧ mT (g_Reckoner_tighten 110 132 M) 110 = 6 ∧ mR (g_Reckoner_tighten 110 132 M) 110 5 = 132 ∧ mT (g_Reckoner_tighten 110 132 M) t = 10 ∧ K_Value_copy t 132 (g_Reckoner_tighten 110 132 M) ∧ Fr (fun q => q = t ∨ J0 q) M (g_Value_copy t 132 (g_Reckoner_tighten 110 132 M)) ∧ gv6 (g_Value_copy t 132 (g_Reckoner_tighten 110 132 M)) t = tite (gv6 M 132) := by
  obtain ⟨k1, k2, k3, -⟩ := r_press h h.T132 hb
  have e : g_Reckoner_tighten 110 132 M = (g_Press_tighten 111 132 M).2 := by
    unfold g_Reckoner_tighten g_Reckoner_tighten_0 g_Reckoner_tighten_8
    rw [h.R110_0]
  rw [e]
  have s1 := k2.sh h
  have t1 : mT (g_Press_tighten 111 132 M).2 t = 10 := (eT k2.1 t).trans ht
  refine ⟨?_, s1.T110, s1.R110_5, t1, kv_copy s1.T132 t1, ?_, ?_⟩
  · unfold K_Reckoner_tighten K_Reckoner_tighten_0
    rw [h.R110_0]
    exact ⟨h.T110, h.T111, k1⟩
  · rw [v_copy]
    exact (k2.weak fun q hq => Or.inr (by unfold J0; omega)).trans (Fr.sv (Or.inl rfl))
  · rw [v_copy, gv6_sV, k3]
theorem cut_90 {M : XM} (s : Sh M) {t : Nat} (ht : mT M t = 10) (hb : bu (gv6 M 132)) : K_Reckoner_cut_90 110 t M ∧ Fr (fun q => q = t ∨ J0 q) M (g_Reckoner_cut_90 110 t M) ∧ gv6 (g_Reckoner_cut_90 110 t M) t = tite (gv6 M 132) := by
  obtain ⟨f1, f2, f3, f4, f5, f6, f7⟩ := r_fin s (t := t) ht hb
  unfold g_Reckoner_cut_90 K_Reckoner_cut_90 g_Reckoner_cut_98 K_Reckoner_cut_98
  rw [s.R110_5, f3]
  exact ⟨⟨s.T110, s.T110, f1, f2, f4, f5⟩, f6, f7⟩
theorem ext_213 {M : XM} (s : Sh M) {t : Nat} (ht : mT M t = 10) (hb : bu (gv6 M 132)) : K_Reckoner_extend_213 110 t M ∧ Fr (fun q => q = t ∨ J0 q) M (g_Reckoner_extend_213 110 t M) ∧ gv6 (g_Reckoner_extend_213 110 t M) t = tite (gv6 M 132) := by
  obtain ⟨f1, f2, f3, f4, f5, f6, f7⟩ := r_fin s (t := t) ht hb
  unfold g_Reckoner_extend_213 K_Reckoner_extend_213 g_Reckoner_extend_221 K_Reckoner_extend_221
  rw [s.R110_5, f3]
  exact ⟨⟨s.T110, s.T110, f1, f2, f4, f5⟩, f6, f7⟩
theorem swap_46 {M : XM} (s : Sh M) {t : Nat} (ht : mT M t = 10) (hb : bu (gv6 M 132)) : K_Reckoner_swap_46 110 t M ∧ Fr (fun q => q = t ∨ J0 q) M (g_Reckoner_swap_46 110 t M) ∧ gv6 (g_Reckoner_swap_46 110 t M) t = tite (gv6 M 132) := by
  obtain ⟨f1, f2, f3, f4, f5, f6, f7⟩ := r_fin s (t := t) ht hb
  unfold g_Reckoner_swap_46 K_Reckoner_swap_46 g_Reckoner_swap_54 K_Reckoner_swap_54
  rw [s.R110_5, f3]
  exact ⟨⟨s.T110, s.T110, f1, f2, f4, f5⟩, f6, f7⟩
theorem join_199 {M : XM} (s : Sh M) {t : Nat} (ht : mT M t = 10) (hb : bu (gv6 M 132)) : K_Reckoner_join_199 110 t M ∧ Fr (fun q => q = t ∨ J0 q) M (g_Reckoner_join_199 110 t M) ∧ gv6 (g_Reckoner_join_199 110 t M) t = tite (gv6 M 132) := by
  obtain ⟨f1, f2, f3, f4, f5, f6, f7⟩ := r_fin s (t := t) ht hb
  unfold g_Reckoner_join_199 K_Reckoner_join_199 g_Reckoner_join_207 K_Reckoner_join_207
  rw [s.R110_5, f3]
  exact ⟨⟨s.T110, s.T110, f1, f2, f4, f5⟩, f6, f7⟩
theorem j132 {t : Nat} : (fun q => q = t ∨ J0 q) 132 := Or.inr (Or.inr (Or.inr rfl))
theorem r_cut {M : XM} (h : Sh M) {v t : Nat} {n : Int32} (hv : mT M v = 10) (ht : mT M t = 10) (hne : v ≠ 132) (hb : bu (gv6 M v)) :
    K_Reckoner_cut 110 v n t M ∧ Fr (fun q => q = t ∨ J0 q) M (g_Reckoner_cut 110 v n t M) ∧ gv6 (g_Reckoner_cut 110 v n t M) t = vCut n (gv6 M v) := by
  obtain ⟨k1, k2, k3⟩ := cut_90 (M := sV M 132 (rCut n (gv6 M v))) (h.kept rfl) (t := t) ht (by rw [gv6_sV]; exact bu_cut0 hb)
  rw [gv6_sV] at k3
  unfold g_Reckoner_cut K_Reckoner_cut g_Reckoner_cut_0 K_Reckoner_cut_0 g_Reckoner_cut_7 K_Reckoner_cut_7 g_Reckoner_cut_49 K_Reckoner_cut_49
  have t5 := h.T132
  have t1 := h.T110
  have kf : K_Value_free 132 M := kv_free t5
  simp only [h.R110_5, v_free, v_copy, v_say, v_uns, mR_sV, mT_sV, gv6_sV, sV_sV, mL_sVne _ _ _ _ hne, gv6_sVne _ _ _ hne]
  unfold vCut
  unfold rCut AV.unsIf at k1 k2 k3 ⊢
  simp only [gvb, gvu, gvlo, gvhi] at k1 k2 k3 ⊢
  by_cases c1 : n = 64
  · simp only [c1, if_true] at k1 k2 k3 ⊢
    refine ⟨⟨t1, t5, kf, fun _ => ⟨t1, t5, kv_copy (M := sV M 132 vFree) hv t5, k1⟩, fun z => absurd trivial z⟩, (Fr.sv j132).trans k2, k3⟩
  · simp only [c1, if_false] at k1 k2 k3 ⊢
    by_cases c2 : lg_cmp (j_lushr (mL M v 2) n) (j_lushr (mL M v 3) n) = 0
    · simp only [c2, if_true] at k1 k2 k3 ⊢
      exact ⟨⟨t1, t5, kf, fun z => False.elim z, fun _ => ⟨t1, hv, hv, t5, kv_say (M := sV M 132 vFree) _ _ t5, hv, hv, fun _ => ⟨t1, hv, hv, t5, kv_uns (M := sV M 132 _) _ _ t5, k1⟩, fun z => absurd trivial z⟩⟩, (Fr.sv j132).trans k2, k3⟩
    · simp only [c2, if_false] at k1 k2 k3 ⊢
      exact ⟨⟨t1, t5, kf, fun z => False.elim z, fun _ => ⟨t1, hv, hv, t5, kv_say (M := sV M 132 vFree) _ _ t5, hv, hv, fun z => False.elim z, fun _ => k1⟩⟩, (Fr.sv j132).trans k2, k3⟩
