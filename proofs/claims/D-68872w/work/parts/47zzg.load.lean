/-! part 47zzg: the component's Transfer: loads and stores (gen/tpl.py) -/
theorem bit32 (w : Int32) (j : Nat) (hj : j < 8) : (j_ishr w (Int32.ofNat j) &&& 1 = 1) ↔ w.toBitVec.getLsbD j = true := by
  have e : ∀ j : Fin 8, ((Int32.ofNat j.val &&& 31).toBitVec.smod 32).toNat = j.val := by decide +kernel
  have e' := e ⟨j, hj⟩
  simp only at e'
  unfold j_ishr
  rw [← Int32.toBitVec_inj, Int32.toBitVec_and, Int32.toBitVec_shiftRight, BitVec.sshiftRight_eq', e']
  have one : (1 : Int32).toBitVec = 1#32 := rfl
  rw [one]
  constructor
  · intro z
    have := congrArg (fun b => BitVec.getLsbD b 0) z
    simp only [BitVec.getLsbD_and, BitVec.getLsbD_sshiftRight] at this
    have hj2 : j < 32 := by omega
    simp [hj2] at this
    exact this
  · intro z
    apply BitVec.eq_of_getLsbD_eq
    intro i hi
    rw [BitVec.getLsbD_and, BitVec.getLsbD_sshiftRight]
    by_cases i0 : i = 0
    · subst i0
      have hj2 : j < 32 := by omega
      simp [hj2, z]
    · have : (1#32).getLsbD i = false := by
        rw [BitVec.getLsbD_ofNat]
        have t1 : Nat.testBit 1 i = false := by
          cases q : Nat.testBit 1 i
          · rfl
          · exact absurd (Nat.testBit_one_eq_true_iff_self_eq_zero.mp q) i0
        rw [t1, Bool.and_false]
      rw [this, Bool.and_false]
theorem msk_bits : ∀ b : Fin 9, b.val = 1 ∨ b.val = 2 ∨ b.val = 4 ∨ b.val = 8 → ∀ r : Fin 8, r.val + b.val ≤ 8 → ∀ j : Fin 32, (msk (Int32.ofNat b.val) r.val).toBitVec.getLsbD j.val = decide (r.val ≤ j.val ∧ j.val < r.val + b.val) := by decide +kernel
theorem msk_all {w : Int32} {b r : Nat} (hb : b = 1 ∨ b = 2 ∨ b = 4 ∨ b = 8) (hr : r + b ≤ 8) : w &&& msk (Int32.ofNat b) r = msk (Int32.ofNat b) r ↔ ∀ k, k < b → j_ishr w (Int32.ofNat (r + k)) &&& 1 = 1 := by
  have m := fun (j : Nat) (hj : j < 32) => msk_bits ⟨b, by omega⟩ hb ⟨r, by omega⟩ hr ⟨j, hj⟩
  simp only at m
  rw [← Int32.toBitVec_inj, Int32.toBitVec_and]
  constructor
  · intro z k hk
    rw [bit32 w (r + k) (by omega)]
    have := congrArg (fun x => BitVec.getLsbD x (r + k)) z
    simp only [BitVec.getLsbD_and] at this
    rw [m (r + k) (by omega), decide_eq_true ⟨by omega, by omega⟩, Bool.and_true] at this
    exact this
  · intro z
    apply BitVec.eq_of_getLsbD_eq
    intro j hj
    rw [BitVec.getLsbD_and, m j hj]
    by_cases q : r ≤ j ∧ j < r + b
    · have := z (j - r) (by omega)
      rw [show r + (j - r) = j from by omega, bit32 w j (by omega)] at this
      rw [this, Bool.true_and]
    · rw [decide_eq_false q, Bool.and_false]
theorem hasN_al {σ : Sg} {q b : Nat} (hb : b = 1 ∨ b = 2 ∨ b = 4 ∨ b = 8) (hq : q % b = 0) : hasN σ q b ↔ wrT (σ (slo q)) &&& msk (Int32.ofNat b) (q % 8) = msk (Int32.ofNat b) (q % 8) := by
  have r8 : q % 8 + b ≤ 8 := by rcases hb with e | e | e | e <;> rw [e] at hq ⊢ <;> omega
  rw [msk_all hb r8]
  unfold hasN wb slo
  constructor
  · intro z k hk
    have := z k hk
    rw [show (q + k) / 8 = q / 8 from by omega, show (q + k) % 8 = q % 8 + k from by omega] at this
    exact this
  · intro z k hk
    have := z k hk
    rw [show (q + k) / 8 = q / 8 from by omega, show (q + k) % 8 = q % 8 + k from by omega]
    exact this
theorem slot_ix : ∀ q : Fin 512, ix (11 + j_ishr (Int32.ofNat q.val) 3) = 11 + q.val / 8 ∧ Int32.ofNat q.val &&& 7 = Int32.ofNat (q.val % 8) ∧ vp_in (11 + j_ishr (Int32.ofNat q.val) 3) 75 := by unfold vp_in; decide +kernel
theorem a512 {a : Int32} (h1 : -512 ≤ a.toInt) (h2 : a.toInt < 0) : a + 512 = Int32.ofNat (q5 a.toInt) ∧ q5 a.toInt < 512 := by
  unfold q5
  refine ⟨?_, by omega⟩
  apply Int32.toInt_inj.mp
  rw [toInt_ofNat32 (by omega), Int32.toInt_add]
  have : (512 : Int32).toInt = 512 := rfl
  rw [this, Int.bmod_eq_of_le (by omega) (by omega)]
  omega
theorem c_slotAt {M : XM} (h : Sh M) {a : Int32} (h1 : -512 ≤ a.toInt) (h2 : a.toInt < 0) : K_Transfer_slotAt 133 a M ∧ g_Transfer_slotAt 133 a M = (136 + 2 * slo (q5 a.toInt), wI M 133 9 (Int32.ofNat (q5 a.toInt % 8))) := by
  obtain ⟨e1, e2⟩ := a512 h1 h2
  have s := slot_ix ⟨q5 a.toInt, e2⟩
  simp only at s
  unfold g_Transfer_slotAt K_Transfer_slotAt g_Transfer_slotAt_0 K_Transfer_slotAt_0
  rw [h.R133_3, h.St134.2.1, h.St134.2.2.2.1, e1, s.1, s.2.1, (h.St134.2.2.2.2 (11 + q5 a.toInt / 8) (by omega)).1]
  exact ⟨⟨h.T133, h.T133, h.St134.1, h.St134.2.2.1, s.2.2⟩, rfl⟩
theorem vwC_wI9 {M : XM} {v : Int32} {r : Nat} (hr : 133 < r + 2) : vwC (wI M 133 9 v) r = vwC M r := by
  funext n
  unfold vwC
  by_cases h : n < 75
  · simp only [if_pos h]; exact thC_wIst (by omega)
  · simp only [if_neg h]
theorem TS.wI9 {M : XM} {v : Int32} : TS M (wI M 133 9 v) := ⟨Fr.wi (Or.inr (Or.inl rfl)), by rw [mI_wI, if_neg (by omega)], by rw [mI_wI, if_neg (by omega)]⟩
theorem TQ.mv {M M1 : XM} {w : Int32 × Sg × Int32} {r : Int32 × XM} (h : TQ M1 w r) (t : TS M M1) : TQ M w r := ⟨t.trans h.1, h.2.1, h.2.2⟩
theorem PQ.tq1 {n : Nat} {M : XM} {w : Int32 × TH} {r : Int32 × XM} (hn : n < 75) (h : PQ (136 + 2 * n) M w r) : TQ M (w.1, up (vwC M 134) n w.2, mI M 134 1) r := h.tq hn Fr.rf (fun _ => rfl)
theorem TQ.st {n : Nat} {M : XM} (hn : n < 75) (t : TH) : TQ M (0, up (vwC M 134) n t, mI M 134 1) (0, sT M (136 + 2 * n) t) :=
  PQ.tq1 (w := (0, t)) hn ⟨rfl, (OX.st _).oy, fun _ => thC_sT _ _ _⟩
theorem TQ.no {M : XM} {w : Int32} (hw : w ≠ 0) (σ : Sg) (kn : Int32) : TQ M (w, σ, kn) (w, M) := ⟨TS.rf, rfl, fun z => absurd z hw⟩
theorem TQ.id {M : XM} : TQ M (0, vwC M 134, mI M 134 1) (0, M) := ⟨TS.rf, rfl, fun _ => ⟨rfl, rfl⟩⟩
theorem c_loadAny {M : XM} (h : Sh M) {t : Nat} (ht : ShTh M t) (t1 : 134 ≤ t) (b m : Int32) : K_Transfer_loadAny 133 t b (if m = 4 then 1 else 0) M ∧ OX t M (g_Transfer_loadAny 133 t b (if m = 4 then 1 else 0) M) ∧ thC (g_Transfer_loadAny 133 t b (if m = 4 then 1 else 0) M) t = tNu (ldA b m) := by
  obtain ⟨k1, k2, k3⟩ := c_any h ht t1 b
  unfold g_Transfer_loadAny K_Transfer_loadAny g_Transfer_loadAny_0 K_Transfer_loadAny_0 g_Transfer_loadAny_6 K_Transfer_loadAny_6 ldA
  have s1 := k2.sh h
  have ht1 : ShTh (g_Transfer_any 133 t b M) t := ht.kept k2.1
  rw [s1.R133_2, ht1.2.1]
  obtain ⟨k4, k5, k6⟩ := c_ext (n := 8 * b) s1 ht1 ht1 t1 t1 (by rw [k3]; exact bu_cut bu_free)
  rw [k3] at k6
  by_cases c : m = 4
  · rw [if_pos c, if_neg i1_0, if_pos c]
    exact ⟨⟨h.T133, k1, fun _ => ⟨s1.T133, ht1.1, ht1.1, s1.T110, k4⟩⟩, k2.trans k5, k6⟩
  · rw [if_neg c, if_pos rfl, if_neg c]
    exact ⟨⟨h.T133, k1, fun z => absurd rfl z⟩, k2, k3⟩
theorem TQ.ox {n : Nat} {M M' : XM} (hn : n < 75) (h : OX (136 + 2 * n) M M') {t : TH} (e : thC M' (136 + 2 * n) = t) : TQ M (0, up (vwC M 134) n t, mI M 134 1) (0, M') :=
  PQ.tq1 (w := (0, t)) hn ⟨rfl, h.oy, fun _ => e⟩
/-- a load of a slot -/
theorem c_loadSlot {M : XM} (h : Sh M) {n : Nat} (hn : n < 11) {a : Int32} {b m : Int32} (hb : b = 1 ∨ b = 2 ∨ b = 4 ∨ b = 8) (h1 : -512 ≤ a.toInt) (h2 : a.toInt ≤ -b.toInt) (h3 : a.toInt % b.toInt = 0) :
    K_Transfer_loadSlot 133 (136 + 2 * n) a b (if m = 4 then 1 else 0) M ∧ TQ M ((if b = 8 ∧ (vwC M 134 (slo (q5 a.toInt))).so ≠ 9 then ((0 : Int32), up (vwC M 134) n (vwC M 134 (slo (q5 a.toInt)))) else cif (hasN (vwC M 134) (q5 a.toInt) (ix b)) (0, up (vwC M 134) n (tNu (ldA b m))) (5, vwC M 134)).1, (if b = 8 ∧ (vwC M 134 (slo (q5 a.toInt))).so ≠ 9 then ((0 : Int32), up (vwC M 134) n (vwC M 134 (slo (q5 a.toInt)))) else cif (hasN (vwC M 134) (q5 a.toInt) (ix b)) (0, up (vwC M 134) n (tNu (ldA b m))) (5, vwC M 134)).2, mI M 134 1) (g_Transfer_loadSlot 133 (136 + 2 * n) a b (if m = 4 then 1 else 0) M) := by
  have h2' : a.toInt < 0 := by
    rcases hb with e | e | e | e <;> rw [e] at h2 <;> simp at h2 <;> omega
  obtain ⟨k1, e1⟩ := c_slotAt h h1 h2'
  have q512 := (a512 h1 h2').2
  have sl : slo (q5 a.toInt) < 75 := by unfold slo; omega
  have sl2 : 11 ≤ slo (q5 a.toInt) := by unfold slo; omega
  unfold g_Transfer_loadSlot K_Transfer_loadSlot g_Transfer_loadSlot_0 K_Transfer_loadSlot_0 g_Transfer_loadSlot_5 K_Transfer_loadSlot_5
  rw [e1]
  have e9 : mI (wI M 133 9 (Int32.ofNat (q5 a.toInt % 8))) 133 9 = Int32.ofNat (q5 a.toInt % 8) := by rw [mI_wI, if_pos ⟨rfl, rfl⟩]
  show (mT M 133 = 23 ∧ K_Transfer_slotAt 133 a M ∧ mT (wI M 133 9 (Int32.ofNat (q5 a.toInt % 8))) 133 = 23 ∧ K_Transfer_loadSlot_17 133 (136 + 2 * n) b (if m = 4 then 1 else 0) (136 + 2 * slo (q5 a.toInt)) (g_Transfer_maskOf (mI (wI M 133 9 (Int32.ofNat (q5 a.toInt % 8))) 133 9) b) (wI M 133 9 (Int32.ofNat (q5 a.toInt % 8)))) ∧ TQ M _ (g_Transfer_loadSlot_17 133 (136 + 2 * n) b (if m = 4 then 1 else 0) (136 + 2 * slo (q5 a.toInt)) (g_Transfer_maskOf (mI (wI M 133 9 (Int32.ofNat (q5 a.toInt % 8))) 133 9) b) (wI M 133 9 (Int32.ofNat (q5 a.toInt % 8))))
  rw [e9]
  have tv : vwC (wI M 133 9 (Int32.ofNat (q5 a.toInt % 8))) 134 = vwC M 134 := vwC_wI9 (by omega)
  have tk : mI (wI M 133 9 (Int32.ofNat (q5 a.toInt % 8))) 134 1 = mI M 134 1 := by rw [mI_wI, if_neg (by omega)]
  have ts : TS M (wI M 133 9 (Int32.ofNat (q5 a.toInt % 8))) := TS.wI9
  have s1 := ts.sh h
  refine kq_and h.T133 (kq_and k1 (kq_and s1.T133 ?_))
  rw [← tv, ← tk]
  generalize wI M 133 9 (Int32.ofNat (q5 a.toInt % 8)) = M1 at s1 ts
  refine And.imp_right (fun z => TQ.mv z ts) ?_
  have hn75 : n < 75 := by omega
  have tS := s1.now sl
  have tD := s1.now hn75
  have eS : thC M1 (136 + 2 * slo (q5 a.toInt)) = vwC M1 134 (slo (q5 a.toInt)) := (vwC_at sl).symm
  have eS0 : mI M1 (136 + 2 * slo (q5 a.toInt)) 0 = (vwC M1 134 (slo (q5 a.toInt))).so := by rw [← eS]; rfl
  have bN : ∃ bn : Nat, (bn = 1 ∨ bn = 2 ∨ bn = 4 ∨ bn = 8) ∧ b = Int32.ofNat bn ∧ ix b = bn ∧ b.toInt = bn := by
    rcases hb with e | e | e | e <;> rw [e]
    · exact ⟨1, by decide⟩
    · exact ⟨2, by decide⟩
    · exact ⟨4, by decide⟩
    · exact ⟨8, by decide⟩
  obtain ⟨bn, hbn, eb1, eb2, eb3⟩ := bN
  have hq : q5 a.toInt % bn = 0 := by
    unfold q5
    rw [eb3] at h3
    rcases hbn with e | e | e | e <;> rw [e] at h3 ⊢ <;> omega
  have hN : hasN (vwC M1 134) (q5 a.toInt) (ix b) ↔ wrT (vwC M1 134 (slo (q5 a.toInt))) &&& msk (Int32.ofNat bn) (q5 a.toInt % 8) = msk (Int32.ofNat bn) (q5 a.toInt % 8) := by
    rw [eb2]; exact hasN_al (σ := vwC M1 134) hbn hq
  have em : g_Transfer_maskOf (Int32.ofNat (q5 a.toInt % 8)) b = msk (Int32.ofNat bn) (q5 a.toInt % 8) := by rw [eb1]; rfl
  rw [em]
  obtain ⟨u1, u2⟩ := h_written tS.1
  rw [eS] at u1
  obtain ⟨l1, l2, l3⟩ := c_loadAny s1 tD (by omega) b m
  have P41 : ¬ (b = 8 ∧ (vwC M1 134 (slo (q5 a.toInt))).so ≠ 9) → K_Transfer_loadSlot_41 133 (136 + 2 * n) b (if m = 4 then 1 else 0) (136 + 2 * slo (q5 a.toInt)) (msk (Int32.ofNat bn) (q5 a.toInt % 8)) M1 ∧ TQ M1 ((if b = 8 ∧ (vwC M1 134 (slo (q5 a.toInt))).so ≠ 9 then ((0 : Int32), up (vwC M1 134) n (vwC M1 134 (slo (q5 a.toInt)))) else cif (hasN (vwC M1 134) (q5 a.toInt) (ix b)) (0, up (vwC M1 134) n (tNu (ldA b m))) (5, vwC M1 134)).1, (if b = 8 ∧ (vwC M1 134 (slo (q5 a.toInt))).so ≠ 9 then ((0 : Int32), up (vwC M1 134) n (vwC M1 134 (slo (q5 a.toInt)))) else cif (hasN (vwC M1 134) (q5 a.toInt) (ix b)) (0, up (vwC M1 134) n (tNu (ldA b m))) (5, vwC M1 134)).2, mI M1 134 1) (g_Transfer_loadSlot_41 133 (136 + 2 * n) b (if m = 4 then 1 else 0) (136 + 2 * slo (q5 a.toInt)) (msk (Int32.ofNat bn) (q5 a.toInt % 8)) M1) := by
    intro nc
    rw [if_neg nc]
    unfold g_Transfer_loadSlot_41 K_Transfer_loadSlot_41 g_Transfer_loadSlot_64
    rw [u1]
    refine kq_and tS.1 (kq_and u2 (kq_ifp (fun c => ?_) (fun c => ?_)))
    · rw [cif_pos (hN.mpr c)]
      exact ⟨⟨s1.T133, l1⟩, TQ.ox hn75 l2 l3⟩
    · rw [cif_neg (fun z => c (hN.mp z))]
      exact TQ.no (w := 5) (by decide) _ _
  unfold g_Transfer_loadSlot_17 K_Transfer_loadSlot_17 g_Transfer_loadSlot_39
  rw [eS0]
  refine kq_if (fun c1 => kq_and tS.1 (kq_if (fun c2 => P41 (fun z => z.2 c2)) (fun c2 => ?_))) (fun c1 => P41 (fun z => c1 z.1))
  rw [if_pos ⟨c1, c2⟩]
  obtain ⟨v1, v2⟩ := h_copy tD tS
  rw [v1, eS]
  exact ⟨⟨tD.1, v2⟩, TQ.st hn75 _⟩
theorem rch_cases (mp : Mp) (kn : Int32) (t : TH) (o b w : Int32) : rch mp kn t o b w = 0 ∨ rch mp kn t o b w = 3 ∨ rch mp kn t o b w = 4 := by
  unfold rch
  split
  · split
    · exact Or.inl rfl
    · exact Or.inr (Or.inr rfl)
  · split
    · by_cases q : (adr t o % b.toInt = 0 ∧ 0 ≤ adr t o ∧ adr t o ≤ 64 - b.toInt) ∧ (if w = 0 then (b = 8 ∧ adr t o < 16) ∨ 16 ≤ adr t o else 32 ≤ adr t o)
      · rw [if_pos q]; exact Or.inl rfl
      · rw [if_neg q]; exact Or.inr (Or.inr rfl)
    · split
      · split
        · exact Or.inl rfl
        · exact Or.inr (Or.inr rfl)
      · split
        · split
          · exact Or.inl rfl
          · exact Or.inr (Or.inr rfl)
        · exact Or.inr (Or.inl rfl)
theorem rch_le {mp : Mp} {kn : Int32} {t : TH} {o b w : Int32} : rch mp kn t o b w ≤ 0 ↔ rch mp kn t o b w = 0 := by
  rcases rch_cases mp kn t o b w with e | e | e <;> rw [e] <;> decide
