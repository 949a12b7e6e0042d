/-! part 47w: values as they are put together; the operations of the component as functions of six-tuples -/
abbrev vFree : AV := (0, -1, 0, -1, -9223372036854775808, 9223372036854775807)
abbrev vOne (v : Int64) : AV := (v, 0, v, v, v, v)
def AV.say (w : AV) (a u : Int64) : AV := (a &&& (u ^^^ (-1)), u, w.lo, w.hi, w.le, w.gr)
def AV.uns (w : AV) (l h : Int64) : AV := (w.b, w.u, l, h, w.le, w.gr)
def AV.sgn (w : AV) (l h : Int64) : AV := (w.b, w.u, w.lo, w.hi, l, h)
def AV.unsIf (w : AV) (c : Prop) [Decidable c] (l h : Int64) : AV := if c then w.uns l h else w
def AV.sgnIf (w : AV) (c : Prop) [Decidable c] (l h : Int64) : AV := if c then w.sgn l h else w
def oAdd (w x y : AV) : AV := ((w.say (x.b + y.b) (sumU x y)).unsIf (g_Sieve_isLess (x.lo + y.lo) x.lo = g_Sieve_isLess (x.hi + y.hi) x.hi) (x.lo + y.lo) (x.hi + y.hi)).sgnIf (¬ g_Add_isSum x.le y.le = 0 ∧ ¬ g_Add_isSum x.gr y.gr = 0) (x.le + y.le) (x.gr + y.gr)
def oSub (w x y : AV) : AV := ((w.say (x.b - y.b) (subU x y)).unsIf (g_Sieve_isLess x.lo y.hi = g_Sieve_isLess x.hi y.lo) (x.lo - y.hi) (x.hi - y.lo)).sgnIf (¬ g_Subtract_isDifference x.le y.gr = 0 ∧ ¬ g_Subtract_isDifference x.gr y.le = 0) (x.le - y.gr) (x.gr - y.le)
def mulK (x y : AV) : Int32 := g_Math_min_II 64 (g_Math_min_II (g_Long_numberOfTrailingZeros x.u + g_Long_numberOfTrailingZeros (y.u ||| y.b)) (g_Long_numberOfTrailingZeros y.u + g_Long_numberOfTrailingZeros (x.u ||| x.b)))
def oMul (w x y : AV) : AV := ((w.say (x.b * y.b) (g_Sieve_mask (mulK x y) ^^^ (-1))).unsIf (lg_cmp (g_Sieve_upper x.hi y.hi) 0 = 0) (x.lo * y.lo) (x.hi * y.hi)).sgnIf (¬ g_Sieve_fits x.le y.le = 0 ∧ ¬ g_Sieve_fits x.le y.gr = 0 ∧ ¬ g_Sieve_fits x.gr y.le = 0 ∧ ¬ g_Sieve_fits x.gr y.gr = 0)
  (g_Math_min_JJ (g_Math_min_JJ (x.le * y.le) (x.le * y.gr)) (g_Math_min_JJ (x.gr * y.le) (x.gr * y.gr))) (g_Math_max (g_Math_max (x.le * y.le) (x.le * y.gr)) (g_Math_max (x.gr * y.le) (x.gr * y.gr)))
def oDiv (w x y : AV) : AV := if lg_cmp y.lo 0 = 0 then w.uns 0 x.hi else w.uns (g_Sieve_divide x.lo y.hi) (g_Sieve_divide x.hi y.lo)
def oRest (w x y : AV) : AV := if g_Sieve_isLess x.hi y.lo = 0 then (if lg_cmp y.lo 0 = 0 then w.uns 0 x.hi else w.uns 0 (g_Sieve_lesser x.hi (y.hi - 1))) else x
def oAnd (w x y : AV) : AV := (w.say (x.b &&& y.b) (((x.b ||| x.u) &&& (y.b ||| y.u)) &&& ((x.b &&& y.b) ^^^ (-1)))).uns 0 (g_Sieve_lesser x.hi y.hi)
def oOr (w x y : AV) : AV := (w.say (x.b ||| y.b) ((x.u ||| y.u) &&& ((x.b ||| y.b) ^^^ (-1)))).uns (g_Sieve_greater x.lo y.lo) (-1)
def oXor (w x y : AV) : AV := w.say (x.b ^^^ y.b) (x.u ||| y.u)
def shlBy (w x : AV) (s : Int32) : AV := ((w.say (j_lshl x.b s) (j_lshl x.u s)).unsIf (lg_cmp (j_lushr (j_lshl x.hi s) s) x.hi = 0) (j_lshl x.lo s) (j_lshl x.hi s)).sgnIf (lg_cmp (j_lshr (j_lshl x.le s) s) x.le = 0 ∧ lg_cmp (j_lshr (j_lshl x.gr s) s) x.gr = 0) (j_lshl x.le s) (j_lshl x.gr s)
def shlTo (w x : AV) (f : Int32) : AV := w.say 0 (g_Sieve_mask (g_Math_min_II 64 (g_Long_numberOfTrailingZeros (x.u ||| x.b) + f)) ^^^ (-1))
def shrBy (w x : AV) (s : Int32) : AV := (w.say (j_lushr x.b s) (j_lushr x.u s)).uns (j_lushr x.lo s) (j_lushr x.hi s)
def shrTo (w x : AV) (f t : Int32) : AV := w.uns (j_lushr x.lo t) (j_lushr x.hi f)
def sarBy (w x : AV) (s : Int32) : AV := (w.say (j_lshr x.b s) (j_lshr x.u s)).sgn (j_lshr x.le s) (j_lshr x.gr s)
def sarTo (w x : AV) (f t : Int32) : AV := w.sgn (g_Math_min_JJ (j_lshr x.le f) (j_lshr x.le t)) (g_Math_max (j_lshr x.gr f) (j_lshr x.gr t))
def oShift (k : Nat) (most : Int32) (w x y : AV) : AV :=
  if lg_cmp y.u 0 = 0 then (if k = 8 then shlBy w x (Int64.toInt32 y.b &&& most) else if k = 9 then shrBy w x (Int64.toInt32 y.b &&& most) else sarBy w x (Int64.toInt32 y.b &&& most))
  else if g_Sieve_isLess (Int32.toInt64 most) y.hi = 0 then (if k = 8 then shlTo w x (Int64.toInt32 y.lo) else if k = 9 then shrTo w x (Int64.toInt32 y.lo) (Int64.toInt32 y.hi) else sarTo w x (Int64.toInt32 y.lo) (Int64.toInt32 y.hi))
  else (if k = 8 then shlTo w x 0 else if k = 9 then shrTo w x 0 most else sarTo w x 0 most)
def oRaw (k : Nat) (most : Int32) (w x y : AV) : AV :=
  if k = 0 then oAdd w x y else if k = 1 then oSub w x y else if k = 2 then oMul w x y else if k = 3 then oDiv w x y else if k = 4 then oRest w x y else if k = 5 then oAnd w x y else if k = 6 then oOr w x y else if k = 7 then oXor w x y else if k = 11 then y else oShift k most w x y
def rCut (n : Int32) (x : AV) : AV := if n = 64 then x else (vFree.say (x.b &&& g_Sieve_mask n) (x.u &&& g_Sieve_mask n)).unsIf (lg_cmp (j_lushr x.lo n) (j_lushr x.hi n) = 0) (x.lo &&& g_Sieve_mask n) (x.hi &&& g_Sieve_mask n)
noncomputable def vCut (n : Int32) (x : AV) : AV := tite (rCut n x)
def rExt (n : Int32) (x : AV) : AV := (vFree.say (if lg_cmp (x.b &&& j_lshl 1 (n - 1)) 0 = 0 then x.b else x.b ||| (g_Sieve_mask n ^^^ (-1))) (if lg_cmp (x.u &&& j_lshl 1 (n - 1)) 0 = 0 then x.u else x.u ||| (g_Sieve_mask n ^^^ (-1)))).sgn
  (if 0 ≤ lg_cmp x.hi (j_lshl 1 (n - 1)) then (if lg_cmp x.lo (j_lshl 1 (n - 1)) < 0 then -(j_lshl 1 (n - 1)) else x.lo - 2 * j_lshl 1 (n - 1)) else x.lo)
  (if 0 ≤ lg_cmp x.hi (j_lshl 1 (n - 1)) then (if lg_cmp x.lo (j_lshl 1 (n - 1)) < 0 then j_lshl 1 (n - 1) - 1 else x.hi - 2 * j_lshl 1 (n - 1)) else x.hi)
noncomputable def vExt (n : Int32) (x : AV) : AV := tite (rExt n (vCut n x))
noncomputable def rSwap (n : Int32) (x : AV) : AV := vFree.say (g_Reckoner_swapped x.b n) (g_Reckoner_swapped x.u n)
noncomputable def vSwap (n : Int32) (x : AV) : AV := tite (rSwap n (vCut n x))
noncomputable def vOp (k : Nat) (n : Int32) (x y : AV) : AV := vCut n (tite (oRaw k (n - 1) vFree (if k = 10 ∧ n = 32 then vExt n x else vCut n x) (vCut n y)))
def rJoin (wd : Int32) (x y : AV) : AV := if wd = 0 then ((vFree.say x.b ((x.u ||| y.u) ||| (x.b ^^^ y.b))).uns (g_Sieve_lesser x.lo y.lo) (g_Sieve_greater x.hi y.hi)).sgn (g_Math_min_JJ x.le y.le) (g_Math_max x.gr y.gr)
  else ((vFree.say x.b ((x.u ||| y.u) ||| (x.b ^^^ y.b))).uns (if g_Sieve_isLess y.lo x.lo = 0 then x.lo else 0) (if g_Sieve_isLess x.hi y.hi = 0 then x.hi else -1)).sgn (if 0 ≤ lg_cmp y.le x.le then x.le else -9223372036854775808) (if lg_cmp y.gr x.gr ≤ 0 then x.gr else 9223372036854775807)
noncomputable def vJoin (wd : Int32) (x y : AV) : AV := tite (rJoin wd x y)
/-! the memory of the component's values -/
def sel (w : AV) (j : Nat) : Int64 := if j = 0 then w.b else if j = 1 then w.u else if j = 2 then w.lo else if j = 3 then w.hi else if j = 4 then w.le else w.gr
def sV (M : XM) (r : Nat) (w : AV) : XM := (M.1, fun a j => if a = r ∧ j < 6 then sel w j else M.2.1 a j, M.2.2)
theorem sV_one {M : XM} {r i : Nat} {v : Int64} {w : AV} (hi : i < 6) (hw : ∀ j, j < 6 → sel w j = if j = i then v else mL M r j) : wL M r i v = sV M r w := by
  unfold wL sV
  refine Prod.ext rfl (Prod.ext ?_ rfl)
  funext a j
  show (if a = r ∧ j = i then v else M.2.1 a j) = if a = r ∧ j < 6 then sel w j else M.2.1 a j
  by_cases h1 : a = r
  · by_cases h2 : j < 6
    · have e2 : (if a = r ∧ j < 6 then sel w j else M.2.1 a j) = sel w j := if_pos ⟨h1, h2⟩
      rw [e2, hw j h2]
      by_cases h3 : j = i
      · rw [if_pos ⟨h1, h3⟩, if_pos h3]
      · rw [if_neg (fun z => h3 z.2), if_neg h3, h1]; rfl
    · rw [if_neg (fun z => h2 (by have := z.2; omega)), if_neg (fun z => h2 z.2)]
  · rw [if_neg (fun z => h1 z.1), if_neg (fun z => h1 z.1)]
theorem six {P : Nat → Prop} (h0 : P 0) (h1 : P 1) (h2 : P 2) (h3 : P 3) (h4 : P 4) (h5 : P 5) : ∀ j, j < 6 → P j
  | 0, _ => h0
  | 1, _ => h1
  | 2, _ => h2
  | 3, _ => h3
  | 4, _ => h4
  | 5, _ => h5
  | _ + 6, h => absurd h (by omega)
section SV
variable (M : XM) (r : Nat) (v : Int64)
theorem sV0 : wL M r 0 v = sV M r (v, (gv6 M r).2) := sV_one (by decide) (six rfl rfl rfl rfl rfl rfl)
theorem sV1 : wL M r 1 v = sV M r ((gv6 M r).b, v, (gv6 M r).2.2) := sV_one (by decide) (six rfl rfl rfl rfl rfl rfl)
theorem sV2 : wL M r 2 v = sV M r ((gv6 M r).b, (gv6 M r).u, v, (gv6 M r).2.2.2) := sV_one (by decide) (six rfl rfl rfl rfl rfl rfl)
theorem sV3 : wL M r 3 v = sV M r ((gv6 M r).b, (gv6 M r).u, (gv6 M r).lo, v, (gv6 M r).2.2.2.2) := sV_one (by decide) (six rfl rfl rfl rfl rfl rfl)
theorem sV4 : wL M r 4 v = sV M r ((gv6 M r).b, (gv6 M r).u, (gv6 M r).lo, (gv6 M r).hi, v, (gv6 M r).gr) := sV_one (by decide) (six rfl rfl rfl rfl rfl rfl)
theorem sV5 : wL M r 5 v = sV M r ((gv6 M r).b, (gv6 M r).u, (gv6 M r).lo, (gv6 M r).hi, (gv6 M r).le, v) := sV_one (by decide) (six rfl rfl rfl rfl rfl rfl)
variable (w w' : AV) (a k : Nat)
theorem gv6_sV : gv6 (sV M r w) r = w := by
  show (if r = r ∧ 0 < 6 then sel w 0 else _, if r = r ∧ 1 < 6 then sel w 1 else _, if r = r ∧ 2 < 6 then sel w 2 else _, if r = r ∧ 3 < 6 then sel w 3 else _, if r = r ∧ 4 < 6 then sel w 4 else _, if r = r ∧ 5 < 6 then sel w 5 else _) = w
  rw [if_pos ⟨rfl, by decide⟩, if_pos ⟨rfl, by decide⟩, if_pos ⟨rfl, by decide⟩, if_pos ⟨rfl, by decide⟩, if_pos ⟨rfl, by decide⟩, if_pos ⟨rfl, by decide⟩]
  rfl
theorem mL_sV : mL (sV M r w) a k = if a = r ∧ k < 6 then sel w k else mL M a k := rfl
theorem mL_sVne {a : Nat} (h : a ≠ r) : mL (sV M r w) a k = mL M a k := if_neg (fun z => h z.1)
theorem gv6_sVne {a : Nat} (h : a ≠ r) : gv6 (sV M r w) a = gv6 M a := by
  unfold gv6
  simp only [mL_sVne M r w _ h]
theorem sV_sV : sV (sV M r w) r w' = sV M r w' := by
  unfold sV
  refine Prod.ext rfl (Prod.ext ?_ rfl)
  funext a j
  show (if a = r ∧ j < 6 then sel w' j else if a = r ∧ j < 6 then sel w j else M.2.1 a j) = if a = r ∧ j < 6 then sel w' j else M.2.1 a j
  by_cases h : a = r ∧ j < 6
  · rw [if_pos h, if_pos h]
  · rw [if_neg h, if_neg h, if_neg h]
theorem sV_gv : sV M r (gv6 M r) = M := by
  have := sV0 M r (mL M r 0)
  refine this.symm.trans ?_
  unfold wL
  refine Prod.ext rfl (Prod.ext ?_ rfl)
  funext a j
  show (if a = r ∧ j = 0 then M.2.1 r 0 else M.2.1 a j) = M.2.1 a j
  by_cases h : a = r ∧ j = 0
  · rw [if_pos h, h.1, h.2]
  · rw [if_neg h]
theorem mI_sV : mI (sV M r w) a k = mI M a k := rfl
theorem mR_sV : mR (sV M r w) a k = mR M a k := rfl
theorem mT_sV : mT (sV M r w) a = mT M a := rfl
theorem mN_sV : mN (sV M r w) a = mN M a := rfl
variable (o : Nat)
theorem v_say (x u : Int64) : g_Value_say r x u M = sV M r ((gv6 M r).say x u) := by
  unfold g_Value_say g_Value_say_0
  rw [sV1, sV0, gv6_sV, sV_sV]; rfl
theorem v_uns (x u : Int64) : g_Value_unsigned r x u M = sV M r ((gv6 M r).uns x u) := by
  unfold g_Value_unsigned g_Value_unsigned_0
  rw [sV2, sV3, gv6_sV, sV_sV]; rfl
theorem v_sgn (x u : Int64) : g_Value_signed r x u M = sV M r ((gv6 M r).sgn x u) := by
  unfold g_Value_signed g_Value_signed_0
  rw [sV4, sV5, gv6_sV, sV_sV]; rfl
theorem v_free : g_Value_free r M = sV M r vFree := by
  unfold g_Value_free g_Value_free_0
  rw [sV0, sV1, gv6_sV, sV_sV, sV2, gv6_sV, sV_sV, sV3, gv6_sV, sV_sV, sV4, gv6_sV, sV_sV, sV5, gv6_sV, sV_sV]
theorem v_only (x : Int64) : g_Value_only r x M = sV M r (vOne x) := by
  unfold g_Value_only g_Value_only_0
  rw [sV0, sV1, gv6_sV, sV_sV, sV2, gv6_sV, sV_sV, sV3, gv6_sV, sV_sV, sV4, gv6_sV, sV_sV, sV5, gv6_sV, sV_sV]
theorem v_copy : g_Value_copy r o M = sV M r (gv6 M o) := by
  unfold g_Value_copy g_Value_copy_0 g_Value_copy_8 g_Value_copy_16 g_Value_copy_24 g_Value_copy_32 g_Value_copy_40
  by_cases h : o = r
  · subst h
    have : ∀ i (v : Int64), v = mL M o i → wL M o i v = M := fun i v hv => by
      unfold wL
      refine Prod.ext rfl (Prod.ext ?_ rfl)
      funext a j
      show (if a = o ∧ j = i then v else M.2.1 a j) = M.2.1 a j
      by_cases h : a = o ∧ j = i
      · rw [if_pos h, hv, h.1, h.2]; rfl
      · rw [if_neg h]
    rw [this 0 _ rfl, this 1 _ rfl, this 2 _ rfl, this 3 _ rfl, this 4 _ rfl, this 5 _ rfl, sV_gv]
  · have e : ∀ (M : XM) i (v : Int64) k, mL (wL M r i v) o k = mL M o k := fun M i v k => by rw [mL_wL, if_neg (fun z => h z.1)]
    simp only [e]
    rw [sV0, sV1, gv6_sV, sV_sV, sV2, gv6_sV, sV_sV, sV3, gv6_sV, sV_sV, sV4, gv6_sV, sV_sV, sV5, gv6_sV, sV_sV]
    rfl
end SV
