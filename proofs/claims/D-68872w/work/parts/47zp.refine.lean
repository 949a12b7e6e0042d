/-! part 47zp: refining: the component's Refiner (gen/tpl.py) -/
def AV.loTo (w : AV) (l : Int64) : AV := (w.b, w.u, l, w.hi, w.le, w.gr)
def AV.hiTo (w : AV) (l : Int64) : AV := (w.b, w.u, w.lo, l, w.le, w.gr)
def AV.leTo (w : AV) (l : Int64) : AV := (w.b, w.u, w.lo, w.hi, l, w.gr)
def AV.grTo (w : AV) (l : Int64) : AV := (w.b, w.u, w.lo, w.hi, w.le, l)
def lvOk (w o : AV) : Bool := !(decide (lg_cmp o.u 0 = 0) && decide (lg_cmp w.u 0 = 0) && decide (lg_cmp w.b o.b = 0))
def lvV (w o : AV) : AV := if lg_cmp o.u 0 = 0 then (if lg_cmp w.u 0 = 0 then w else (w.uns (if lg_cmp w.lo o.b = 0 then o.b + 1 else w.lo) (if lg_cmp w.hi o.b = 0 then o.b - 1 else w.hi)).sgn (if lg_cmp w.le o.b = 0 then o.b + 1 else w.le) (if lg_cmp w.gr o.b = 0 then o.b - 1 else w.gr)) else w
def stV (w o : AV) : AV := if lg_cmp o.u 0 = 0 ∧ g_Long_bitCount o.b = 1 then w.say (w.b ||| o.b) (w.u &&& (o.b ^^^ (-1))) else w
def clV (w o : AV) : AV := if lg_cmp o.u 0 = 0 then w.say w.b (w.u &&& (o.b ^^^ (-1))) else w
def bothV (a b : AV) : AV := ((a.say (a.b ||| b.b) (a.u &&& b.u)).uns (g_Sieve_greater a.lo b.lo) (g_Sieve_lesser a.hi b.hi)).sgn (g_Math_max a.le b.le) (g_Math_min_JJ a.gr b.gr)
def rfOk (c : Nat) (a b : AV) : Bool :=
  if c = 0 then decide (lg_cmp (((a.b ^^^ b.b) &&& (a.u ^^^ (-1))) &&& (b.u ^^^ (-1))) 0 = 0) else if c = 1 then lvOk a b && lvOk b a
  else if c = 2 then !(decide (lg_cmp b.hi 0 = 0) || decide (lg_cmp a.lo (-1) = 0)) else if c = 3 then true
  else if c = 4 then !(decide (lg_cmp a.hi 0 = 0) || decide (lg_cmp b.lo (-1) = 0)) else if c = 5 then true
  else if c = 6 then !(decide (lg_cmp b.gr (-9223372036854775808) = 0) || decide (lg_cmp a.le 9223372036854775807 = 0)) else if c = 7 then true
  else if c = 8 then !(decide (lg_cmp a.gr (-9223372036854775808) = 0) || decide (lg_cmp b.le 9223372036854775807 = 0)) else if c = 9 then true
  else if c = 10 then !decide (lg_cmp ((a.b ||| a.u) &&& (b.b ||| b.u)) 0 = 0) else decide (lg_cmp (a.b &&& b.b) 0 = 0)
def rfX (c : Nat) (a b : AV) : AV :=
  if c = 0 then bothV a b else if c = 1 then lvV a b else if c = 2 then a.hiTo (g_Sieve_lesser a.hi (b.hi - 1)) else if c = 3 then a.hiTo (g_Sieve_lesser a.hi (b.hi - 0))
  else if c = 4 then a.loTo (g_Sieve_greater a.lo (b.lo + 1)) else if c = 5 then a.loTo (g_Sieve_greater a.lo (b.lo + 0)) else if c = 6 then a.grTo (g_Math_min_JJ a.gr (b.gr - 1)) else if c = 7 then a.grTo (g_Math_min_JJ a.gr (b.gr - 0))
  else if c = 8 then a.leTo (g_Math_max a.le (b.le + 1)) else if c = 9 then a.leTo (g_Math_max a.le (b.le + 0)) else if c = 10 then stV a b else clV a b
def rfY (c : Nat) (a b : AV) : AV :=
  if c = 0 then bothV a b else if c = 1 then lvV b a else if c = 2 then b.loTo (g_Sieve_greater b.lo (a.lo + 1)) else if c = 3 then b.loTo (g_Sieve_greater b.lo (a.lo + 0))
  else if c = 4 then b.hiTo (g_Sieve_lesser b.hi (a.hi - 1)) else if c = 5 then b.hiTo (g_Sieve_lesser b.hi (a.hi - 0)) else if c = 6 then b.leTo (g_Math_max b.le (a.le + 1)) else if c = 7 then b.leTo (g_Math_max b.le (a.le + 0))
  else if c = 8 then b.grTo (g_Math_min_JJ b.gr (a.gr - 1)) else if c = 9 then b.grTo (g_Math_min_JJ b.gr (a.gr - 0)) else if c = 10 then stV b a else clV b a
theorem bu_lv {w o : AV} (h : bu w) : bu (lvV w o) := by
  unfold lvV
  split
  · split <;> exact h
  · exact h
theorem bu_st {w o : AV} (h : bu w) : bu (stV w o) := by
  unfold stV
  split
  · exact bu_say
  · exact h
theorem bu_cl {w o : AV} (h : bu w) : bu (clV w o) := by
  unfold clV
  split
  · exact bu_say
  · exact h
theorem bu_loTo {w : AV} {l : Int64} (h : bu w) : bu (w.loTo l) := h
theorem bu_hiTo {w : AV} {l : Int64} (h : bu w) : bu (w.hiTo l) := h
theorem bu_leTo {w : AV} {l : Int64} (h : bu w) : bu (w.leTo l) := h
theorem bu_grTo {w : AV} {l : Int64} (h : bu w) : bu (w.grTo l) := h
theorem bu_rfX {c : Nat} {a b : AV} (ha : bu a) : bu (rfX c a b) := by
  unfold rfX
  split
  · exact bu_sgn (bu_uns bu_say)
  split
  · exact bu_lv ha
  split
  · exact bu_hiTo ha
  split
  · exact bu_hiTo ha
  split
  · exact bu_loTo ha
  split
  · exact bu_loTo ha
  split
  · exact bu_grTo ha
  split
  · exact bu_grTo ha
  split
  · exact bu_leTo ha
  split
  · exact bu_leTo ha
  split
  · exact bu_st ha
  · exact bu_cl ha
theorem bu_rfY {c : Nat} {a b : AV} (hb : bu b) : bu (rfY c a b) := by
  unfold rfY
  split
  · exact bu_sgn (bu_uns bu_say)
  split
  · exact bu_lv hb
  split
  · exact bu_loTo hb
  split
  · exact bu_loTo hb
  split
  · exact bu_hiTo hb
  split
  · exact bu_hiTo hb
  split
  · exact bu_leTo hb
  split
  · exact bu_leTo hb
  split
  · exact bu_grTo hb
  split
  · exact bu_grTo hb
  split
  · exact bu_st hb
  · exact bu_cl hb
theorem sV_comm {M : XM} {r q : Nat} {w v : AV} (h : r ≠ q) : sV (sV M r w) q v = sV (sV M q v) r w := by
  unfold sV
  refine Prod.ext rfl (Prod.ext ?_ rfl)
  funext a j
  show (if a = q ∧ j < 6 then sel v j else if a = r ∧ j < 6 then sel w j else M.2.1 a j) = if a = r ∧ j < 6 then sel w j else if a = q ∧ j < 6 then sel v j else M.2.1 a j
  by_cases h1 : a = q ∧ j < 6
  · have h2 : ¬ (a = r ∧ j < 6) := fun z => h (z.1.symm.trans h1.1)
    rw [if_pos h1, if_neg h2, if_pos h1]
  · rw [if_neg h1, if_neg h1]
section RF
variable {M : XM}
theorem sVr0 {r : Nat} (w : AV) : mL (sV M r w) r 0 = w.b := by rw [mL_sV, if_pos ⟨rfl, by decide⟩]; rfl
theorem sVr1 {r : Nat} (w : AV) : mL (sV M r w) r 1 = w.u := by rw [mL_sV, if_pos ⟨rfl, by decide⟩]; rfl
theorem sVr2 {r : Nat} (w : AV) : mL (sV M r w) r 2 = w.lo := by rw [mL_sV, if_pos ⟨rfl, by decide⟩]; rfl
theorem sVr3 {r : Nat} (w : AV) : mL (sV M r w) r 3 = w.hi := by rw [mL_sV, if_pos ⟨rfl, by decide⟩]; rfl
theorem sVr4 {r : Nat} (w : AV) : mL (sV M r w) r 4 = w.le := by rw [mL_sV, if_pos ⟨rfl, by decide⟩]; rfl
theorem sVr5 {r : Nat} (w : AV) : mL (sV M r w) r 5 = w.gr := by rw [mL_sV, if_pos ⟨rfl, by decide⟩]; rfl
theorem v_leaves {r o : Nat} : g_Refiner_leaves r o M = (bI (lvOk (gv6 M r) (gv6 M o)), sV M r (lvV (gv6 M r) (gv6 M o))) := by
  have sg := sV_gv M r
  unfold g_Refiner_leaves g_Refiner_leaves_0 g_Refiner_leaves_14 g_Refiner_leaves_56 g_Refiner_leaves_75 g_Refiner_leaves_78 g_Refiner_leaves_98 g_Refiner_leaves_117 g_Refiner_leaves_120 g_Value_isSingle g_Value_isSingle_0 lvOk lvV
  simp only [v_uns, v_sgn, gv6_sV, sV_sV, sVr4, sVr5]
  unfold AV.uns AV.sgn
  simp only [gvb, gvu, gvlo, gvhi, gvle, gvgr]
  have i1 : ¬ (1 : Int32) = 0 := by decide
  by_cases c1 : lg_cmp (mL M o 1) 0 = 0
  · by_cases c2 : lg_cmp (mL M r 1) 0 = 0
    · by_cases c3 : lg_cmp (mL M r 0) (mL M o 0) = 0
      · simp only [c1, c2, c3, if_true, i1, if_false, decide_true, Bool.and_self, Bool.not_true, sg]; rfl
      · simp only [c1, c2, c3, if_true, i1, if_false, decide_true, decide_false, Bool.and_false, Bool.not_false, sg]; rfl
    · by_cases c4 : lg_cmp (mL M r 2) (mL M o 0) = 0 <;> by_cases c5 : lg_cmp (mL M r 3) (mL M o 0) = 0 <;> by_cases c6 : lg_cmp (mL M r 4) (mL M o 0) = 0 <;> by_cases c7 : lg_cmp (mL M r 5) (mL M o 0) = 0 <;> simp only [c1, c2, c4, c5, c6, c7, if_true, i1, if_false, decide_true, decide_false, Bool.and_false, Bool.false_and, Bool.true_and, Bool.not_false] <;> rfl
  · simp only [c1, if_true, if_false, decide_false, Bool.false_and, Bool.not_false, sg]; rfl
theorem kv_leaves {r o : Nat} (hr : mT M r = 10) (ho : mT M o = 10) : K_Refiner_leaves r o M := by
  unfold K_Refiner_leaves K_Refiner_leaves_0 K_Refiner_leaves_14 K_Refiner_leaves_56 K_Refiner_leaves_75 K_Refiner_leaves_78 K_Refiner_leaves_98 K_Refiner_leaves_117 K_Value_isSingle K_Value_isSingle_0
  simp only [v_uns, v_sgn]
  simp [hr, ho, mT_sV, kv_uns, kv_sgn]
theorem v_sets {r o : Nat} : g_Refiner_sets r o M = (1, sV M r (stV (gv6 M r) (gv6 M o))) := by
  have sg := sV_gv M r
  unfold g_Refiner_sets g_Refiner_sets_0 g_Refiner_sets_22 g_Refiner_sets_23 g_Refiner_sets_54 g_Value_isSingle g_Value_isSingle_0 stV
  simp only [v_say, gvb, gvu]
  have i1 : ¬ (1 : Int32) = 0 := by decide
  by_cases c1 : lg_cmp (mL M o 1) 0 = 0 <;> by_cases c2 : g_Long_bitCount (mL M o 0) = 1 <;> simp only [c1, c2, i1, if_true, if_false, and_true, and_false, true_and, false_and, sg]
theorem kv_sets {r o : Nat} (hr : mT M r = 10) (ho : mT M o = 10) : K_Refiner_sets r o M := by
  unfold K_Refiner_sets K_Refiner_sets_0 K_Refiner_sets_22 K_Refiner_sets_23 K_Value_isSingle K_Value_isSingle_0
  simp [hr, ho, kv_say]
theorem v_clears {r o : Nat} : g_Refiner_clears r o M = (1, sV M r (clV (gv6 M r) (gv6 M o))) := by
  have sg := sV_gv M r
  unfold g_Refiner_clears g_Refiner_clears_0 g_Refiner_clears_28 g_Value_isSingle g_Value_isSingle_0 clV
  simp only [v_say, gvb, gvu]
  have i1 : ¬ (1 : Int32) = 0 := by decide
  by_cases c1 : lg_cmp (mL M o 1) 0 = 0 <;> simp only [c1, i1, if_true, if_false, sg]
theorem kv_clears {r o : Nat} (hr : mT M r = 10) (ho : mT M o = 10) : K_Refiner_clears r o M := by
  unfold K_Refiner_clears K_Refiner_clears_0 K_Value_isSingle K_Value_isSingle_0
  simp [hr, ho, kv_say]
theorem v_below {l g a b : Nat} (hal : a ≠ l) (hbl : b ≠ l) (hlg : g ≠ l) (t : Int32) : g_Refiner_below l g a b t M = if (¬ t = 0 ∧ (lg_cmp (mL M b 3) 0 = 0 ∨ lg_cmp (mL M a 2) (-1) = 0)) then (0, M) else (1, sV (sV M l ((gv6 M l).hiTo (g_Sieve_lesser (mL M a 3) (mL M b 3 - (if t = 0 then 0 else 1))))) g ((gv6 M g).loTo (g_Sieve_greater (mL M b 2) (mL M a 2 + (if t = 0 then 0 else 1))))) := by
  unfold g_Refiner_below g_Refiner_below_0 g_Refiner_below_27 g_Refiner_below_37 g_Refiner_below_57 AV.hiTo AV.loTo
  simp only [sV2, sV3, mL_sVne _ _ _ _ hal, mL_sVne _ _ _ _ hbl, gv6_sVne _ _ _ hlg]
  by_cases c1 : t = 0 <;> by_cases c2 : lg_cmp (mL M b 3) 0 = 0 <;> by_cases c3 : lg_cmp (mL M a 2) (-1) = 0 <;> simp [c1, c2, c3]
theorem kv_below {l g a b : Nat} {t : Int32} (h1 : mT M l = 10) (h2 : mT M g = 10) (h3 : mT M a = 10) (h4 : mT M b = 10) : K_Refiner_below l g a b t M := by
  unfold K_Refiner_below K_Refiner_below_0 K_Refiner_below_27 K_Refiner_below_37 K_Refiner_below_57
  simp [mT_wL, h1, h2, h3, h4]
theorem v_less {l g a b : Nat} (hal : a ≠ l) (hbl : b ≠ l) (hlg : g ≠ l) (t : Int32) : g_Refiner_less l g a b t M = if (¬ t = 0 ∧ (lg_cmp (mL M b 5) (-9223372036854775808) = 0 ∨ lg_cmp (mL M a 4) 9223372036854775807 = 0)) then (0, M) else (1, sV (sV M l ((gv6 M l).grTo (g_Math_min_JJ (mL M a 5) (mL M b 5 - (if t = 0 then 0 else 1))))) g ((gv6 M g).leTo (g_Math_max (mL M b 4) (mL M a 4 + (if t = 0 then 0 else 1))))) := by
  unfold g_Refiner_less g_Refiner_less_0 g_Refiner_less_29 g_Refiner_less_39 g_Refiner_less_59 AV.grTo AV.leTo
  simp only [sV4, sV5, mL_sVne _ _ _ _ hal, mL_sVne _ _ _ _ hbl, gv6_sVne _ _ _ hlg]
  by_cases c1 : t = 0 <;> by_cases c2 : lg_cmp (mL M b 5) (-9223372036854775808) = 0 <;> by_cases c3 : lg_cmp (mL M a 4) 9223372036854775807 = 0 <;> simp [c1, c2, c3]
theorem kv_less {l g a b : Nat} {t : Int32} (h1 : mT M l = 10) (h2 : mT M g = 10) (h3 : mT M a = 10) (h4 : mT M b = 10) : K_Refiner_less l g a b t M := by
  unfold K_Refiner_less K_Refiner_less_0 K_Refiner_less_29 K_Refiner_less_39 K_Refiner_less_59
  simp [mT_wL, h1, h2, h3, h4]
end RF
def JF (q : Nat) : Prop := q = 112 ∨ q = 113 ∨ q = 115 ∨ q = 116
theorem jz_bI (b : Bool) : j_z (bI b) = bI b := by cases b <;> decide
/-- what narrow comes to, out of copies of two values -/
theorem v_narrow {M : XM} (h : Sh M) {a b c : Nat} (hc : c < 12) (ta : mT M a = 10) (tb' : mT M b = 10) (na : ¬ JF a) (nb : ¬ JF b) :
    K_Refiner_narrow 114 (c + 1) a b (sV (sV M 115 (gv6 M a)) 116 (gv6 M b)) ∧ ∃ N, g_Refiner_narrow 114 (c + 1) a b (sV (sV M 115 (gv6 M a)) 116 (gv6 M b)) = (bI (rfOk c (gv6 M a) (gv6 M b)), N) ∧ Fr JF M N ∧ (rfOk c (gv6 M a) (gv6 M b) = true → N = sV (sV M 115 (rfX c (gv6 M a) (gv6 M b))) 116 (rfY c (gv6 M a) (gv6 M b))) := by
  have a5 : a ≠ 115 := fun e => na (by unfold JF; omega)
  have a6 : a ≠ 116 := fun e => na (by unfold JF; omega)
  have b5 : b ≠ 115 := fun e => nb (by unfold JF; omega)
  have b6 : b ≠ 116 := fun e => nb (by unfold JF; omega)
  have t5 := h.T115
  have t6 := h.T116
  have t4 := h.T114
  have n56 : (115 : Nat) ≠ 116 := by decide
  have n65 : (116 : Nat) ≠ 115 := by decide
  have j5 : JF 115 := by unfold JF; omega
  have j6 : JF 116 := by unfold JF; omega
  have fr : ∀ x y, Fr JF M (sV (sV M 115 x) 116 y) := fun x y => (Fr.sv j5).trans (Fr.sv j6)
  have eA : ∀ x y k, mL (sV (sV M 115 x) 116 y) a k = mL M a k := fun x y k => by rw [mL_sVne _ _ _ _ a6, mL_sVne _ _ _ _ a5]
  have eB : ∀ x y k, mL (sV (sV M 115 x) 116 y) b k = mL M b k := fun x y k => by rw [mL_sVne _ _ _ _ b6, mL_sVne _ _ _ _ b5]
  have gA : ∀ x y, gv6 (sV (sV M 115 x) 116 y) a = gv6 M a := fun x y => by rw [gv6_sVne _ _ _ a6, gv6_sVne _ _ _ a5]
  have gB : ∀ x y, gv6 (sV (sV M 115 x) 116 y) b = gv6 M b := fun x y => by rw [gv6_sVne _ _ _ b6, gv6_sVne _ _ _ b5]
  have g5 : ∀ x y, gv6 (sV (sV M 115 x) 116 y) 115 = x := fun x y => by rw [gv6_sVne _ _ _ n56, gv6_sV]
  have g6 : ∀ x y, gv6 (sV (sV M 115 x) 116 y) 116 = y := fun x y => gv6_sV _ _ _
  have w5 : ∀ x y x', sV (sV (sV M 115 x) 116 y) 115 x' = sV (sV M 115 x') 116 y := fun x y x' => by rw [← sV_comm n56, sV_sV]
  have w6 : ∀ x y y', sV (sV (sV M 115 x) 116 y) 116 y' = sV (sV M 115 x) 116 y' := fun x y y' => sV_sV _ _ _ _
  have tA : ∀ x y, mT (sV (sV M 115 x) 116 y) a = 10 := fun _ _ => ta
  have tB : ∀ x y, mT (sV (sV M 115 x) 116 y) b = 10 := fun _ _ => tb'
  have t5' : ∀ x y, mT (sV (sV M 115 x) 116 y) 115 = 10 := fun _ _ => t5
  have t6' : ∀ x y, mT (sV (sV M 115 x) 116 y) 116 = 10 := fun _ _ => t6
  have t4' : ∀ x y, mT (sV (sV M 115 x) 116 y) 114 = 9 := fun _ _ => t4
  have ko : (1 ≤ c + 1 ∧ c + 1 ≤ 12) := ⟨by omega, by omega⟩
  have ko' : K_Enum_ordinal (c + 1) := ko
  have ho : g_Enum_ordinal (c + 1) = Int32.ofNat c := by unfold g_Enum_ordinal; rw [Nat.add_sub_cancel]
  unfold g_Refiner_narrow K_Refiner_narrow g_Refiner_narrow_0 K_Refiner_narrow_0
  rw [ho]
  simp only [mR_sV, h.R114_1, h.R114_2]
  have : c = 0 ∨ c = 1 ∨ c = 2 ∨ c = 3 ∨ c = 4 ∨ c = 5 ∨ c = 6 ∨ c = 7 ∨ c = 8 ∨ c = 9 ∨ c = 10 ∨ c = 11 := by omega
  have i1 : ¬ (1 : Int32) = 0 := by decide
  rcases this with rfl | rfl | rfl | rfl | rfl | rfl | rfl | rfl | rfl | rfl | rfl | rfl
  · have ks : K_Refiner_same 114 a b (sV (sV M 115 (gv6 M a)) 116 (gv6 M b)) := by
      unfold K_Refiner_same K_Refiner_same_0 K_Refiner_same_59 K_Refiner_same_88 K_Refiner_same_117
      simp only [mR_sV, h.R114_1, h.R114_2, v_say, v_uns, v_sgn, v_copy, gv6_sV, w5, g5, eA, eB]
      simp [mT_sV, t4, t5, t6, ta, tb', kv_say, kv_uns, kv_sgn, kv_copy]
    have gs : g_Refiner_same 114 a b (sV (sV M 115 (gv6 M a)) 116 (gv6 M b)) = if lg_cmp (((mL M a 0 ^^^ mL M b 0) &&& (mL M a 1 ^^^ (-1))) &&& (mL M b 1 ^^^ (-1))) 0 = 0 then (1, sV (sV M 115 (bothV (gv6 M a) (gv6 M b))) 116 (bothV (gv6 M a) (gv6 M b))) else (0, sV (sV M 115 (gv6 M a)) 116 (gv6 M b)) := by
      unfold g_Refiner_same g_Refiner_same_0 g_Refiner_same_59 g_Refiner_same_88 g_Refiner_same_117 g_Refiner_same_128 bothV
      simp only [mR_sV, h.R114_1, h.R114_2, v_say, v_uns, v_sgn, v_copy, w5, w6, g5, eA, eB, gvb, gvu, gvlo, gvhi, gvle, gvgr]
    rw [if_pos (by decide : Int32.ofNat 0 = 0)]
    rw [gs]
    refine ⟨⟨ko, ko', fun _ => ⟨t4, ks⟩, fun z => absurd (by decide : Int32.ofNat 0 = 0) z⟩, ?_⟩
    unfold rfOk rfX rfY
    simp only [if_true, gvb, gvu]
    by_cases c1 : lg_cmp (((mL M a 0 ^^^ mL M b 0) &&& (mL M a 1 ^^^ (-1))) &&& (mL M b 1 ^^^ (-1))) 0 = 0
    · simp only [c1, if_true, decide_true]
      exact ⟨_, rfl, fr _ _, fun _ => rfl⟩
    · simp only [c1, if_false, decide_false]
      exact ⟨_, rfl, fr _ _, fun z => absurd z (by decide)⟩
  · rw [if_neg (by decide : ¬ Int32.ofNat 1 = 0), if_pos (by decide : Int32.ofNat 1 = 1)]
    have e1 := v_leaves (M := sV (sV M 115 (gv6 M a)) 116 (gv6 M b)) (r := 115) (o := b)
    rw [g5, gB, w5] at e1
    have e2 := v_leaves (M := sV (sV M 115 (lvV (gv6 M a) (gv6 M b))) 116 (gv6 M b)) (r := 116) (o := a)
    rw [g6, gA, w6] at e2
    have k1 := kv_leaves (M := sV (sV M 115 (gv6 M a)) 116 (gv6 M b)) (r := 115) (o := b) t5 tb'
    have k2 := kv_leaves (M := sV (sV M 115 (lvV (gv6 M a) (gv6 M b))) 116 (gv6 M b)) (r := 116) (o := a) t6 ta
    rw [e1]
    unfold g_Refiner_narrow_79 K_Refiner_narrow_79 g_Refiner_narrow_90
    simp only [mR_sV, h.R114_2, e2]
    unfold rfOk rfX rfY
    simp only [Nat.reduceEqDiff, if_true, if_false]
    cases q1 : lvOk (gv6 M a) (gv6 M b) <;> cases q2 : lvOk (gv6 M b) (gv6 M a)
    · refine ⟨⟨ko, ko', fun z => absurd z (by decide : ¬ Int32.ofNat 1 = 0), fun _ => ⟨fun _ => ⟨t4, k1, fun z => absurd rfl z⟩, fun z => absurd (by decide : Int32.ofNat 1 = 1) z⟩⟩, _, rfl, fr _ _, fun z => absurd z (by decide)⟩
    · refine ⟨⟨ko, ko', fun z => absurd z (by decide : ¬ Int32.ofNat 1 = 0), fun _ => ⟨fun _ => ⟨t4, k1, fun z => absurd rfl z⟩, fun z => absurd (by decide : Int32.ofNat 1 = 1) z⟩⟩, _, rfl, fr _ _, fun z => absurd z (by decide)⟩
    · refine ⟨⟨ko, ko', fun z => absurd z (by decide : ¬ Int32.ofNat 1 = 0), fun _ => ⟨fun _ => ⟨t4, k1, fun _ => ⟨t4, k2⟩⟩, fun z => absurd (by decide : Int32.ofNat 1 = 1) z⟩⟩, _, rfl, fr _ _, fun z => absurd z (by decide)⟩
    · refine ⟨⟨ko, ko', fun z => absurd z (by decide : ¬ Int32.ofNat 1 = 0), fun _ => ⟨fun _ => ⟨t4, k1, fun _ => ⟨t4, k2⟩⟩, fun z => absurd (by decide : Int32.ofNat 1 = 1) z⟩⟩, _, rfl, fr _ _, fun _ => rfl⟩
  · rw [if_neg (by decide : ¬ Int32.ofNat 2 = 0), if_neg (by decide : ¬ Int32.ofNat 2 = 1), if_pos (by decide : Int32.ofNat 2 = 2)]
    have e1 := v_below (M := sV (sV M 115 (gv6 M a)) 116 (gv6 M b)) (l := 115) (g := 116) (a := a) (b := b) a5 b5 n65 1
    have k1 := kv_below (M := sV (sV M 115 (gv6 M a)) 116 (gv6 M b)) (l := 115) (g := 116) (a := a) (b := b) (t := 1) t5 t6 ta tb'
    simp only [g5, g6, eA, eB, w5, w6, i1, if_false, if_true, not_true, not_false_iff, true_and, false_and] at e1
    rw [e1]
    refine ⟨⟨ko, ko', fun z => absurd z (by decide : ¬ Int32.ofNat 2 = 0), fun _ => ⟨fun z => absurd z (by decide : ¬ Int32.ofNat 2 = 1), fun _ => ⟨fun _ => ⟨t4, t4, k1⟩, fun z => absurd (by decide : Int32.ofNat 2 = 2) z⟩⟩⟩, ?_⟩
    unfold rfOk rfX rfY
    simp only [Nat.reduceEqDiff, if_true, if_false, gvlo, gvhi, gvle, gvgr]
    by_cases c1 : lg_cmp (mL M b 3) 0 = 0 <;> by_cases c2 : lg_cmp (mL M a 2) (-1) = 0 <;> simp only [c1, c2, or_true, true_or, or_self, if_true, if_false, decide_true, decide_false, Bool.or_true, Bool.true_or, Bool.or_self, Bool.not_true, Bool.not_false]
    · exact ⟨_, rfl, fr _ _, fun z => absurd z (by decide)⟩
    · exact ⟨_, rfl, fr _ _, fun z => absurd z (by decide)⟩
    · exact ⟨_, rfl, fr _ _, fun z => absurd z (by decide)⟩
    · exact ⟨_, rfl, fr _ _, fun _ => rfl⟩
  · rw [if_neg (by decide : ¬ Int32.ofNat 3 = 0), if_neg (by decide : ¬ Int32.ofNat 3 = 1), if_neg (by decide : ¬ Int32.ofNat 3 = 2), if_pos (by decide : Int32.ofNat 3 = 3)]
    have e1 := v_below (M := sV (sV M 115 (gv6 M a)) 116 (gv6 M b)) (l := 115) (g := 116) (a := a) (b := b) a5 b5 n65 0
    have k1 := kv_below (M := sV (sV M 115 (gv6 M a)) 116 (gv6 M b)) (l := 115) (g := 116) (a := a) (b := b) (t := 0) t5 t6 ta tb'
    simp only [g5, g6, eA, eB, w5, w6, i1, if_false, if_true, not_true, not_false_iff, true_and, false_and] at e1
    rw [e1]
    refine ⟨⟨ko, ko', fun z => absurd z (by decide : ¬ Int32.ofNat 3 = 0), fun _ => ⟨fun z => absurd z (by decide : ¬ Int32.ofNat 3 = 1), fun _ => ⟨fun z => absurd z (by decide : ¬ Int32.ofNat 3 = 2), fun _ => ⟨fun _ => ⟨t4, t4, k1⟩, fun z => absurd (by decide : Int32.ofNat 3 = 3) z⟩⟩⟩⟩, ?_⟩
    unfold rfOk rfX rfY
    simp only [Nat.reduceEqDiff, if_true, if_false, gvlo, gvhi, gvle, gvgr]
    exact ⟨_, rfl, fr _ _, fun _ => rfl⟩
  · rw [if_neg (by decide : ¬ Int32.ofNat 4 = 0), if_neg (by decide : ¬ Int32.ofNat 4 = 1), if_neg (by decide : ¬ Int32.ofNat 4 = 2), if_neg (by decide : ¬ Int32.ofNat 4 = 3), if_pos (by decide : Int32.ofNat 4 = 4)]
    have e1 := v_below (M := sV (sV M 115 (gv6 M a)) 116 (gv6 M b)) (l := 116) (g := 115) (a := b) (b := a) b6 a6 n56 1
    have k1 := kv_below (M := sV (sV M 115 (gv6 M a)) 116 (gv6 M b)) (l := 116) (g := 115) (a := b) (b := a) (t := 1) t6 t5 tb' ta
    simp only [g5, g6, eA, eB, w5, w6, i1, if_false, if_true, not_true, not_false_iff, true_and, false_and] at e1
    rw [e1]
    refine ⟨⟨ko, ko', fun z => absurd z (by decide : ¬ Int32.ofNat 4 = 0), fun _ => ⟨fun z => absurd z (by decide : ¬ Int32.ofNat 4 = 1), fun _ => ⟨fun z => absurd z (by decide : ¬ Int32.ofNat 4 = 2), fun _ => ⟨fun z => absurd z (by decide : ¬ Int32.ofNat 4 = 3), fun _ => ⟨fun _ => ⟨t4, t4, k1⟩, fun z => absurd (by decide : Int32.ofNat 4 = 4) z⟩⟩⟩⟩⟩, ?_⟩
    unfold rfOk rfX rfY
    simp only [Nat.reduceEqDiff, if_true, if_false, gvlo, gvhi, gvle, gvgr]
    by_cases c1 : lg_cmp (mL M a 3) 0 = 0 <;> by_cases c2 : lg_cmp (mL M b 2) (-1) = 0 <;> simp only [c1, c2, or_true, true_or, or_self, if_true, if_false, decide_true, decide_false, Bool.or_true, Bool.true_or, Bool.or_self, Bool.not_true, Bool.not_false]
    · exact ⟨_, rfl, fr _ _, fun z => absurd z (by decide)⟩
    · exact ⟨_, rfl, fr _ _, fun z => absurd z (by decide)⟩
    · exact ⟨_, rfl, fr _ _, fun z => absurd z (by decide)⟩
    · exact ⟨_, rfl, fr _ _, fun _ => rfl⟩
  · rw [if_neg (by decide : ¬ Int32.ofNat 5 = 0), if_neg (by decide : ¬ Int32.ofNat 5 = 1), if_neg (by decide : ¬ Int32.ofNat 5 = 2), if_neg (by decide : ¬ Int32.ofNat 5 = 3), if_neg (by decide : ¬ Int32.ofNat 5 = 4), if_pos (by decide : Int32.ofNat 5 = 5)]
    have e1 := v_below (M := sV (sV M 115 (gv6 M a)) 116 (gv6 M b)) (l := 116) (g := 115) (a := b) (b := a) b6 a6 n56 0
    have k1 := kv_below (M := sV (sV M 115 (gv6 M a)) 116 (gv6 M b)) (l := 116) (g := 115) (a := b) (b := a) (t := 0) t6 t5 tb' ta
    simp only [g5, g6, eA, eB, w5, w6, i1, if_false, if_true, not_true, not_false_iff, true_and, false_and] at e1
    rw [e1]
    refine ⟨⟨ko, ko', fun z => absurd z (by decide : ¬ Int32.ofNat 5 = 0), fun _ => ⟨fun z => absurd z (by decide : ¬ Int32.ofNat 5 = 1), fun _ => ⟨fun z => absurd z (by decide : ¬ Int32.ofNat 5 = 2), fun _ => ⟨fun z => absurd z (by decide : ¬ Int32.ofNat 5 = 3), fun _ => ⟨fun z => absurd z (by decide : ¬ Int32.ofNat 5 = 4), fun _ => ⟨fun _ => ⟨t4, t4, k1⟩, fun z => absurd (by decide : Int32.ofNat 5 = 5) z⟩⟩⟩⟩⟩⟩, ?_⟩
    unfold rfOk rfX rfY
    simp only [Nat.reduceEqDiff, if_true, if_false, gvlo, gvhi, gvle, gvgr]
    exact ⟨_, rfl, fr _ _, fun _ => rfl⟩
  · rw [if_neg (by decide : ¬ Int32.ofNat 6 = 0), if_neg (by decide : ¬ Int32.ofNat 6 = 1), if_neg (by decide : ¬ Int32.ofNat 6 = 2), if_neg (by decide : ¬ Int32.ofNat 6 = 3), if_neg (by decide : ¬ Int32.ofNat 6 = 4), if_neg (by decide : ¬ Int32.ofNat 6 = 5), if_pos (by decide : Int32.ofNat 6 = 6)]
    have e1 := v_less (M := sV (sV M 115 (gv6 M a)) 116 (gv6 M b)) (l := 115) (g := 116) (a := a) (b := b) a5 b5 n65 1
    have k1 := kv_less (M := sV (sV M 115 (gv6 M a)) 116 (gv6 M b)) (l := 115) (g := 116) (a := a) (b := b) (t := 1) t5 t6 ta tb'
    simp only [g5, g6, eA, eB, w5, w6, i1, if_false, if_true, not_true, not_false_iff, true_and, false_and] at e1
    rw [e1]
    refine ⟨⟨ko, ko', fun z => absurd z (by decide : ¬ Int32.ofNat 6 = 0), fun _ => ⟨fun z => absurd z (by decide : ¬ Int32.ofNat 6 = 1), fun _ => ⟨fun z => absurd z (by decide : ¬ Int32.ofNat 6 = 2), fun _ => ⟨fun z => absurd z (by decide : ¬ Int32.ofNat 6 = 3), fun _ => ⟨fun z => absurd z (by decide : ¬ Int32.ofNat 6 = 4), fun _ => ⟨fun z => absurd z (by decide : ¬ Int32.ofNat 6 = 5), fun _ => ⟨fun _ => ⟨t4, t4, k1⟩, fun z => absurd (by decide : Int32.ofNat 6 = 6) z⟩⟩⟩⟩⟩⟩⟩, ?_⟩
    unfold rfOk rfX rfY
    simp only [Nat.reduceEqDiff, if_true, if_false, gvlo, gvhi, gvle, gvgr]
    by_cases c1 : lg_cmp (mL M b 5) (-9223372036854775808) = 0 <;> by_cases c2 : lg_cmp (mL M a 4) 9223372036854775807 = 0 <;> simp only [c1, c2, or_true, true_or, or_self, if_true, if_false, decide_true, decide_false, Bool.or_true, Bool.true_or, Bool.or_self, Bool.not_true, Bool.not_false]
    · exact ⟨_, rfl, fr _ _, fun z => absurd z (by decide)⟩
    · exact ⟨_, rfl, fr _ _, fun z => absurd z (by decide)⟩
    · exact ⟨_, rfl, fr _ _, fun z => absurd z (by decide)⟩
    · exact ⟨_, rfl, fr _ _, fun _ => rfl⟩
  · rw [if_neg (by decide : ¬ Int32.ofNat 7 = 0), if_neg (by decide : ¬ Int32.ofNat 7 = 1), if_neg (by decide : ¬ Int32.ofNat 7 = 2), if_neg (by decide : ¬ Int32.ofNat 7 = 3), if_neg (by decide : ¬ Int32.ofNat 7 = 4), if_neg (by decide : ¬ Int32.ofNat 7 = 5), if_neg (by decide : ¬ Int32.ofNat 7 = 6), if_pos (by decide : Int32.ofNat 7 = 7)]
    have e1 := v_less (M := sV (sV M 115 (gv6 M a)) 116 (gv6 M b)) (l := 115) (g := 116) (a := a) (b := b) a5 b5 n65 0
    have k1 := kv_less (M := sV (sV M 115 (gv6 M a)) 116 (gv6 M b)) (l := 115) (g := 116) (a := a) (b := b) (t := 0) t5 t6 ta tb'
    simp only [g5, g6, eA, eB, w5, w6, i1, if_false, if_true, not_true, not_false_iff, true_and, false_and] at e1
    rw [e1]
    refine ⟨⟨ko, ko', fun z => absurd z (by decide : ¬ Int32.ofNat 7 = 0), fun _ => ⟨fun z => absurd z (by decide : ¬ Int32.ofNat 7 = 1), fun _ => ⟨fun z => absurd z (by decide : ¬ Int32.ofNat 7 = 2), fun _ => ⟨fun z => absurd z (by decide : ¬ Int32.ofNat 7 = 3), fun _ => ⟨fun z => absurd z (by decide : ¬ Int32.ofNat 7 = 4), fun _ => ⟨fun z => absurd z (by decide : ¬ Int32.ofNat 7 = 5), fun _ => ⟨fun z => absurd z (by decide : ¬ Int32.ofNat 7 = 6), fun _ => ⟨fun _ => ⟨t4, t4, k1⟩, fun z => absurd (by decide : Int32.ofNat 7 = 7) z⟩⟩⟩⟩⟩⟩⟩⟩, ?_⟩
    unfold rfOk rfX rfY
    simp only [Nat.reduceEqDiff, if_true, if_false, gvlo, gvhi, gvle, gvgr]
    exact ⟨_, rfl, fr _ _, fun _ => rfl⟩
  · rw [if_neg (by decide : ¬ Int32.ofNat 8 = 0), if_neg (by decide : ¬ Int32.ofNat 8 = 1), if_neg (by decide : ¬ Int32.ofNat 8 = 2), if_neg (by decide : ¬ Int32.ofNat 8 = 3), if_neg (by decide : ¬ Int32.ofNat 8 = 4), if_neg (by decide : ¬ Int32.ofNat 8 = 5), if_neg (by decide : ¬ Int32.ofNat 8 = 6), if_neg (by decide : ¬ Int32.ofNat 8 = 7), if_pos (by decide : Int32.ofNat 8 = 8)]
    have e1 := v_less (M := sV (sV M 115 (gv6 M a)) 116 (gv6 M b)) (l := 116) (g := 115) (a := b) (b := a) b6 a6 n56 1
    have k1 := kv_less (M := sV (sV M 115 (gv6 M a)) 116 (gv6 M b)) (l := 116) (g := 115) (a := b) (b := a) (t := 1) t6 t5 tb' ta
    simp only [g5, g6, eA, eB, w5, w6, i1, if_false, if_true, not_true, not_false_iff, true_and, false_and] at e1
    rw [e1]
    refine ⟨⟨ko, ko', fun z => absurd z (by decide : ¬ Int32.ofNat 8 = 0), fun _ => ⟨fun z => absurd z (by decide : ¬ Int32.ofNat 8 = 1), fun _ => ⟨fun z => absurd z (by decide : ¬ Int32.ofNat 8 = 2), fun _ => ⟨fun z => absurd z (by decide : ¬ Int32.ofNat 8 = 3), fun _ => ⟨fun z => absurd z (by decide : ¬ Int32.ofNat 8 = 4), fun _ => ⟨fun z => absurd z (by decide : ¬ Int32.ofNat 8 = 5), fun _ => ⟨fun z => absurd z (by decide : ¬ Int32.ofNat 8 = 6), fun _ => ⟨fun z => absurd z (by decide : ¬ Int32.ofNat 8 = 7), fun _ => ⟨fun _ => ⟨t4, t4, k1⟩, fun z => absurd (by decide : Int32.ofNat 8 = 8) z⟩⟩⟩⟩⟩⟩⟩⟩⟩, ?_⟩
    unfold rfOk rfX rfY
    simp only [Nat.reduceEqDiff, if_true, if_false, gvlo, gvhi, gvle, gvgr]
    by_cases c1 : lg_cmp (mL M a 5) (-9223372036854775808) = 0 <;> by_cases c2 : lg_cmp (mL M b 4) 9223372036854775807 = 0 <;> simp only [c1, c2, or_true, true_or, or_self, if_true, if_false, decide_true, decide_false, Bool.or_true, Bool.true_or, Bool.or_self, Bool.not_true, Bool.not_false]
    · exact ⟨_, rfl, fr _ _, fun z => absurd z (by decide)⟩
    · exact ⟨_, rfl, fr _ _, fun z => absurd z (by decide)⟩
    · exact ⟨_, rfl, fr _ _, fun z => absurd z (by decide)⟩
    · exact ⟨_, rfl, fr _ _, fun _ => rfl⟩
  · rw [if_neg (by decide : ¬ Int32.ofNat 9 = 0), if_neg (by decide : ¬ Int32.ofNat 9 = 1), if_neg (by decide : ¬ Int32.ofNat 9 = 2), if_neg (by decide : ¬ Int32.ofNat 9 = 3), if_neg (by decide : ¬ Int32.ofNat 9 = 4), if_neg (by decide : ¬ Int32.ofNat 9 = 5), if_neg (by decide : ¬ Int32.ofNat 9 = 6), if_neg (by decide : ¬ Int32.ofNat 9 = 7), if_neg (by decide : ¬ Int32.ofNat 9 = 8), if_pos (by decide : Int32.ofNat 9 = 9)]
    have e1 := v_less (M := sV (sV M 115 (gv6 M a)) 116 (gv6 M b)) (l := 116) (g := 115) (a := b) (b := a) b6 a6 n56 0
    have k1 := kv_less (M := sV (sV M 115 (gv6 M a)) 116 (gv6 M b)) (l := 116) (g := 115) (a := b) (b := a) (t := 0) t6 t5 tb' ta
    simp only [g5, g6, eA, eB, w5, w6, i1, if_false, if_true, not_true, not_false_iff, true_and, false_and] at e1
    rw [e1]
    refine ⟨⟨ko, ko', fun z => absurd z (by decide : ¬ Int32.ofNat 9 = 0), fun _ => ⟨fun z => absurd z (by decide : ¬ Int32.ofNat 9 = 1), fun _ => ⟨fun z => absurd z (by decide : ¬ Int32.ofNat 9 = 2), fun _ => ⟨fun z => absurd z (by decide : ¬ Int32.ofNat 9 = 3), fun _ => ⟨fun z => absurd z (by decide : ¬ Int32.ofNat 9 = 4), fun _ => ⟨fun z => absurd z (by decide : ¬ Int32.ofNat 9 = 5), fun _ => ⟨fun z => absurd z (by decide : ¬ Int32.ofNat 9 = 6), fun _ => ⟨fun z => absurd z (by decide : ¬ Int32.ofNat 9 = 7), fun _ => ⟨fun z => absurd z (by decide : ¬ Int32.ofNat 9 = 8), fun _ => ⟨fun _ => ⟨t4, t4, k1⟩, fun z => absurd (by decide : Int32.ofNat 9 = 9) z⟩⟩⟩⟩⟩⟩⟩⟩⟩⟩, ?_⟩
    unfold rfOk rfX rfY
    simp only [Nat.reduceEqDiff, if_true, if_false, gvlo, gvhi, gvle, gvgr]
    exact ⟨_, rfl, fr _ _, fun _ => rfl⟩
  · rw [if_neg (by decide : ¬ Int32.ofNat 10 = 0), if_neg (by decide : ¬ Int32.ofNat 10 = 1), if_neg (by decide : ¬ Int32.ofNat 10 = 2), if_neg (by decide : ¬ Int32.ofNat 10 = 3), if_neg (by decide : ¬ Int32.ofNat 10 = 4), if_neg (by decide : ¬ Int32.ofNat 10 = 5), if_neg (by decide : ¬ Int32.ofNat 10 = 6), if_neg (by decide : ¬ Int32.ofNat 10 = 7), if_neg (by decide : ¬ Int32.ofNat 10 = 8), if_neg (by decide : ¬ Int32.ofNat 10 = 9), if_pos (by decide : Int32.ofNat 10 = 10)]
    have e1 := v_sets (M := sV (sV M 115 (gv6 M a)) 116 (gv6 M b)) (r := 115) (o := b)
    rw [g5, gB, w5] at e1
    have e2 := v_sets (M := sV (sV M 115 (stV (gv6 M a) (gv6 M b))) 116 (gv6 M b)) (r := 116) (o := a)
    rw [g6, gA, w6] at e2
    have k1 := kv_sets (M := sV (sV M 115 (gv6 M a)) 116 (gv6 M b)) (r := 115) (o := b) t5 tb'
    have k2 := kv_sets (M := sV (sV M 115 (stV (gv6 M a) (gv6 M b))) 116 (gv6 M b)) (r := 116) (o := a) t6 ta
    simp only [e1, eA, eB]
    unfold g_Refiner_narrow_251 K_Refiner_narrow_251 g_Refiner_narrow_262
    simp only [mR_sV, h.R114_2, e2]
    unfold rfOk rfX rfY
    simp only [Nat.reduceEqDiff, if_true, if_false, gvb, gvu]
    by_cases c1 : lg_cmp ((mL M a 0 ||| mL M a 1) &&& (mL M b 0 ||| mL M b 1)) 0 = 0 <;> simp only [c1, i1, if_true, if_false, decide_true, decide_false, Bool.not_true, Bool.not_false, not_true, not_false_iff, true_implies, false_implies, mT_sV]
    · refine ⟨?_, _, rfl, fr _ _, fun z => absurd z (by decide)⟩
      simp [ko, ko', t4, ta, tb', k1, k2]
    · refine ⟨?_, _, rfl, fr _ _, rfl⟩
      simp [ko, ko', t4, ta, tb', k1, k2]
  · rw [if_neg (by decide : ¬ Int32.ofNat 11 = 0), if_neg (by decide : ¬ Int32.ofNat 11 = 1), if_neg (by decide : ¬ Int32.ofNat 11 = 2), if_neg (by decide : ¬ Int32.ofNat 11 = 3), if_neg (by decide : ¬ Int32.ofNat 11 = 4), if_neg (by decide : ¬ Int32.ofNat 11 = 5), if_neg (by decide : ¬ Int32.ofNat 11 = 6), if_neg (by decide : ¬ Int32.ofNat 11 = 7), if_neg (by decide : ¬ Int32.ofNat 11 = 8), if_neg (by decide : ¬ Int32.ofNat 11 = 9), if_neg (by decide : ¬ Int32.ofNat 11 = 10)]
    have e1 := v_clears (M := sV (sV M 115 (gv6 M a)) 116 (gv6 M b)) (r := 115) (o := b)
    rw [g5, gB, w5] at e1
    have e2 := v_clears (M := sV (sV M 115 (clV (gv6 M a) (gv6 M b))) 116 (gv6 M b)) (r := 116) (o := a)
    rw [g6, gA, w6] at e2
    have k1 := kv_clears (M := sV (sV M 115 (gv6 M a)) 116 (gv6 M b)) (r := 115) (o := b) t5 tb'
    have k2 := kv_clears (M := sV (sV M 115 (clV (gv6 M a) (gv6 M b))) 116 (gv6 M b)) (r := 116) (o := a) t6 ta
    simp only [e1, eA, eB]
    unfold g_Refiner_narrow_293 K_Refiner_narrow_293 g_Refiner_narrow_304
    simp only [mR_sV, h.R114_2, e2]
    unfold rfOk rfX rfY
    simp only [Nat.reduceEqDiff, if_true, if_false, gvb, gvu]
    by_cases c1 : lg_cmp (mL M a 0 &&& mL M b 0) 0 = 0 <;> simp only [c1, i1, if_true, if_false, decide_true, decide_false, Bool.not_true, Bool.not_false, not_true, not_false_iff, true_implies, false_implies, mT_sV]
    · refine ⟨?_, _, rfl, fr _ _, rfl⟩
      simp [ko, ko', t4, ta, tb', k1, k2]
    · refine ⟨?_, _, rfl, fr _ _, fun z => absurd z (by decide)⟩
      simp [ko, ko', t4, ta, tb', k1, k2]
theorem r_refine {M : XM} (h : Sh M) {a b c : Nat} (hc : c < 12) (ta : mT M a = 10) (tb' : mT M b = 10) (na : ¬ JF a) (nb : ¬ JF b) (ba : bu (gv6 M a)) (bb : bu (gv6 M b)) :
    K_Refiner_refine 114 (c + 1) a b M ∧ Fr JF M (g_Refiner_refine 114 (c + 1) a b M).2 ∧
    (((g_Refiner_refine 114 (c + 1) a b M).1 = 1 ∧ rfOk c (gv6 M a) (gv6 M b) = true ∧ IsT (vin (rfX c (gv6 M a) (gv6 M b))) (tite (rfX c (gv6 M a) (gv6 M b))) ∧ IsT (vin (rfY c (gv6 M a) (gv6 M b))) (tite (rfY c (gv6 M a) (gv6 M b))) ∧ gv6 (g_Refiner_refine 114 (c + 1) a b M).2 115 = tite (rfX c (gv6 M a) (gv6 M b)) ∧ gv6 (g_Refiner_refine 114 (c + 1) a b M).2 116 = tite (rfY c (gv6 M a) (gv6 M b))) ∨
     ((g_Refiner_refine 114 (c + 1) a b M).1 = 0 ∧ ¬ (rfOk c (gv6 M a) (gv6 M b) = true ∧ (∃ z, vin (rfX c (gv6 M a) (gv6 M b)) z) ∧ ∃ z, vin (rfY c (gv6 M a) (gv6 M b)) z))) := by
  obtain ⟨k1, N, e1, f1, e2⟩ := v_narrow h hc ta tb' na nb
  have a5 : b ≠ 115 := fun e => nb (by unfold JF; omega)
  unfold g_Refiner_refine K_Refiner_refine g_Refiner_refine_0 K_Refiner_refine_0 g_Refiner_refine_8 K_Refiner_refine_8 g_Refiner_refine_16 K_Refiner_refine_16 g_Refiner_refine_23 K_Refiner_refine_23 g_Refiner_refine_37 K_Refiner_refine_37 g_Refiner_refine_51
  rw [h.R114_1, v_copy]
  simp only [mR_sV, h.R114_2, v_copy, gv6_sVne _ _ _ a5, e1, mT_sV]
  have kc1 := kv_copy (M := M) (a := a) (r := 115) ta h.T115
  have kc2 := kv_copy (M := sV M 115 (gv6 M a)) (a := b) (r := 116) tb' h.T116
  have s1 := f1.sh h
  simp only [s1.R114_0, s1.R114_1]
  have i1 : ¬ (1 : Int32) = 0 := by decide
  cases q : rfOk c (gv6 M a) (gv6 M b)
  · have hb : bI false = 0 := rfl
    rw [hb, if_pos rfl]
    exact ⟨⟨h.T114, h.T115, kc1, h.T114, h.T116, kc2, h.T114, k1, fun z => absurd rfl z⟩, f1, Or.inr ⟨rfl, fun z => absurd z.1 (by decide)⟩⟩
  · have hb : bI true = 1 := rfl
    rw [hb, if_neg i1]
    have eN := e2 q
    have g5 : gv6 N 115 = rfX c (gv6 M a) (gv6 M b) := by rw [eN, gv6_sVne _ _ _ (by decide), gv6_sV]
    have g6 : gv6 N 116 = rfY c (gv6 M a) (gv6 M b) := by rw [eN, gv6_sV]
    obtain ⟨p1, p2, p3, p4⟩ := r_press s1 s1.T115 (by rw [g5]; exact bu_rfX ba)
    rw [g5] at p3 p4
    have s2 := p2.sh s1
    have g6' : gv6 (g_Press_tighten 111 115 N).2 116 = rfY c (gv6 M a) (gv6 M b) := (p2.gv (by omega)).trans g6
    have f2 : Fr JF M (g_Press_tighten 111 115 N).2 := f1.trans (p2.weak fun q hq => by unfold JF; omega)
    obtain ⟨q1, q2, q3, q4⟩ := r_press s2 s2.T116 (by rw [g6']; exact bu_rfY bb)
    rw [g6'] at q3 q4
    rw [s2.R114_0, s2.R114_2]
    rcases p4 with ⟨u1, u2⟩ | ⟨u1, u2⟩
    · rw [u1, if_neg i1]
      have f3 : Fr JF M (g_Press_tighten 111 116 (g_Press_tighten 111 115 N).2).2 := f2.trans (q2.weak fun q hq => by unfold JF; omega)
      have kk : K_Refiner_narrow 114 (c + 1) a b (sV (sV M 115 (gv6 M a)) 116 (gv6 M b)) := k1
      rcases q4 with ⟨v1, v2⟩ | ⟨v1, v2⟩
      · rw [v1, if_neg i1]
        refine ⟨⟨h.T114, h.T115, kc1, h.T114, h.T116, kc2, h.T114, k1, fun _ => ⟨s1.T114, s1.T114, s1.T111, p1, fun _ => ⟨s2.T114, s2.T114, s2.T111, q1⟩⟩⟩, f3, Or.inl ⟨rfl, rfl, u2, v2, ?_, q3⟩⟩
        exact (q2.gv (by omega)).trans p3
      · rw [v1, if_pos rfl]
        exact ⟨⟨h.T114, h.T115, kc1, h.T114, h.T116, kc2, h.T114, k1, fun _ => ⟨s1.T114, s1.T114, s1.T111, p1, fun _ => ⟨s2.T114, s2.T114, s2.T111, q1⟩⟩⟩, f3, Or.inr ⟨rfl, fun z => z.2.2.elim v2⟩⟩
    · rw [u1, if_pos rfl]
      exact ⟨⟨h.T114, h.T115, kc1, h.T114, h.T116, kc2, h.T114, k1, fun _ => ⟨s1.T114, s1.T114, s1.T111, p1, fun z => absurd rfl z⟩⟩, f2, Or.inr ⟨rfl, fun z => z.2.1.elim u2⟩⟩
