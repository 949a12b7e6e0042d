/-! part 14: System.arraycopy of bytes; the ordinal of a constant -/
def wB (M : XM) (r : Nat) (f : Nat → Int32) : XM := (fun a j => if a = r then f j else M.1 a j, M.2)
def wCp (M : XM) (src : Nat) (sp : Int32) (dst : Nat) (dp n : Int32) : XM := wB M dst (va_cpy (mI M src) (mI M dst) sp.toNatClampNeg dp.toNatClampNeg n.toNatClampNeg)
def K_copy (src : Nat) (sp : Int32) (dst : Nat) (dp n : Int32) (M : XM) : Prop := mT M src = 102 ∧ mT M dst = 102 ∧ ¬ sp < 0 ∧ ¬ dp < 0 ∧ ¬ n < 0 ∧ sp.toNatClampNeg + n.toNatClampNeg ≤ mN M src ∧ dp.toNatClampNeg + n.toNatClampNeg ≤ mN M dst ∧ ∀ i, i < n.toNatClampNeg → fits .byte (.int (mI M src (sp.toNatClampNeg + i))) = true
def MCp (own : String) (idx : Nat) : Prop := Cond.methodLink own idx arraycopyName ∈ xgood ∧ Cond.native arraycopyName ∈ xgood ∧ Cond.static arraycopyName ∈ xgood ∧ Cond.initialized "java/lang/System" ∈ xgood
section R14
variable {Γ : XG} {Y : XY} {d pc : Nat} {ω : XO × XM} {lv : XL} {st : List XV} {M : XM}
theorem r_arraycopy {idx src dst : Nat} {sp dp n : Int32} (hd : decode Y.cc pc = .ok (.invokestatic idx, 3)) (hM : MCp Y.nm.cls idx) (hd1 : 1 ≤ d) (hw : wdL st ≤ 8) (hk : K_copy src sp dst dp n M) (kk : RW Γ Y d ω (pc + 3) lv st (wCp M src sp dst dp n)) : RW Γ Y d ω pc lv (.inl n :: .inl dp :: .inr (.inr dst) :: .inl sp :: .inr (.inr src) :: st) M := ⟨kk.1, kk.2.1, fun p e R s m args below meth c H locs ls u0 v0 C h1 h2 h3 h4 hR hS hl => by
  obtain ⟨hx, hb, -, hml, hown, hts, -, -, hfr, hlo, hK, hX, hB, -⟩ := id C
  obtain ⟨k1, k2, k3, k4, k5, k6, k7, k8⟩ := hk
  obtain ⟨hr0, hc0⟩ := xarr hR (by decide) (by decide) k1
  obtain ⟨hr1, hc1⟩ := xarr hR (by decide) (by decide) k2
  have nn : ∀ z : Int32, ¬ z < 0 → z.toInt = (z.toNatClampNeg : Int) := by
    intro z hz
    have hz0 : (0 : Int) ≤ z.toInt := by
      have := Int32.not_lt.mp hz
      simpa using Int32.le_iff_toInt_le.mp this
    show z.toInt = ((z.toInt.toNat : Nat) : Int)
    omega
  rw [List.map_cons, List.map_cons, List.map_cons, List.map_cons, List.map_cons, cv_ref (r := dst) (by omega), cv_ref (r := src) (by omega)]
  have hev : ∀ r, ev Γ M 102 r = fun j => Value.int (mI M r j) := fun r => rfl
  rw [hev] at hc0 hc1
  have hfw : nativeFrameWords "java/lang/System" "arraycopy" 5 ≤ 20 := by decide +kernel
  intro T hT X
  obtain ⟨-, q0, hk0, cm0, hkk0⟩ := (xtys_at hK (t := 102) (by decide) (by decide)).1 (mN M src) (fun j => .int (mI M src j))
  obtain ⟨-, q1, hk1, cm1, hkk1⟩ := (xtys_at hK (t := 102) (by decide) (by decide)).1 (mN M dst) (fun j => .int (mI M dst j))
  obtain ⟨vm', X', step⟩ := X.arraycopy hx hown (hts _ hM.1) (hts _ hM.2.1) (hts _ hM.2.2.1) (hts _ hM.2.2.2) (src := ad Γ src) (dst := ad Γ dst) (srcPos := sp) (destPos := dp) (n := n) (by rw [hT]; exact hc0) (by rw [hT]; exact hc1)
    (fun _ h => by cases h) (fun _ h => by cases h) (fun h => by cases h) (fun h => by cases h) hk0 hk1 hkk0 hkk1 (by simp [aT, refKind]) k3 k4 k5
    (by rw [nn sp k3, nn n k5, arrV_size]; omega)
    (by rw [nn dp k4, nn n k5, arrV_size]; omega)
    (fun vm₁ _ i hi => by
      have e : (arrV (Γ.A 102) (mN M src) (fun j => Value.int (mI M src j))).slots.getD (sp.toNatClampNeg + i) .null = .int (mI M src (sp.toNatClampNeg + i)) := by
        rw [Array.getD_eq_getD_getElem?, arrV_read _ _ (by omega)]
        rfl
      refine ⟨?_, ?_⟩
      · rw [e]
        exact k8 i hi
      · rw [e]
        exact trivial)
    (g := F0 m pc ls (.int n :: .int dp :: .ref (ad Γ dst) :: .int sp :: .ref (ad Γ src) :: st.map (cv Γ))) rfl (by rw [hml]; exact hl.1) (rest := st.map (cv Γ)) rfl (by rw [hb]; exact hd) (by omega) (by rw [wdL_sum]; show 2 * 0 + _ + _ ≤ _; omega)
  have e1 : copied (arrV (Γ.A 102) (mN M src) (fun j => Value.int (mI M src j))) (arrV (Γ.A 102) (mN M dst) (fun j => Value.int (mI M dst j))) sp dp n = arrV (Γ.A 102) (mN M dst) (fun j => Value.int (va_cpy (mI M src) (mI M dst) sp.toNatClampNeg dp.toNatClampNeg n.toNatClampNeg j)) := va_copied (fun z => .int z) _ _ _ _ k6
  rw [e1] at X' step
  have hlt : ad Γ dst < H.size := (Array.getElem?_eq_some_iff.mp hc1).1
  generalize hG : arrV (Γ.A 102) (mN M dst) (fun j => Value.int (va_cpy (mI M src) (mI M dst) sp.toNatClampNeg dp.toNatClampNeg n.toNatClampNeg j)) = G at X' step
  have hheap : ((T.setVm vm').setCell (ad Γ dst) G).heap = H.setIfInBounds (ad Γ dst) G := by rw [← hT]; rfl
  have oq : ∀ q : Nat, q ≠ ad Γ dst → (H.setIfInBounds (ad Γ dst) G)[q]? = H[q]? := fun q hq => by simp [Array.getElem?_setIfInBounds, Ne.symm hq]
  have hme : ∀ a j, a ≠ dst → mI (wCp M src sp dst dp n) a j = mI M a j ∧ mL (wCp M src sp dst dp n) a j = mL M a j ∧ mR (wCp M src sp dst dp n) a j = mR M a j := fun a j ha => ⟨if_neg ha, rfl, rfl⟩
  have hcell : xcell Γ (wCp M src sp dst dp n) dst (H.setIfInBounds (ad Γ dst) G) := by
    unfold xcell
    rw [show mT (wCp M src sp dst dp n) dst = 102 from k2]
    refine ⟨fun _ z => absurd z (by decide), fun _ _ => ?_, fun z => absurd z (by decide)⟩
    rw [show (H.setIfInBounds (ad Γ dst) G)[ad Γ dst]? = some G by simp [Array.getElem?_setIfInBounds, hlt], ← hG]
    congr 2
    funext j
    show _ = Value.int (mI (wCp M src sp dst dp n) dst j)
    rw [show mI (wCp M src sp dst dp n) dst j = va_cpy (mI M src) (mI M dst) sp.toNatClampNeg dp.toNatClampNeg n.toNatClampNeg j from if_pos rfl]
  obtain ⟨t, a1, b1⟩ := kk.2.2 p e R s m args below meth c _ _ ls u0 v0 C h1 h2 h3 h4 (hR.set hr1 (fun _ => rfl) (fun _ => rfl) rfl hme (by simp) oq hcell) ⟨by simp; exact hS.1, fun q g1 g2 => by
      rw [oq q (fun e => g2 (by rw [e]; exact ad_A hr1))]
      exact hS.2.1 q g1 g2, fun q hq => by
      rcases List.mem_append.mp hq with h | h
      · exact hS.2.2 q h
      · obtain ⟨z, -, hz⟩ := List.mem_map.mp h
        rw [← hz]
        exact ad_A hr1⟩ hl _ hheap X'
  exact ⟨t, step t a1, b1⟩⟩
end R14
