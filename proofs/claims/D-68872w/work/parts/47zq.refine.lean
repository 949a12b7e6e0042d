/-! part 47zq: refining: the twin's both, lose, order, orderLongs, force (gen/tpl.py) -/
theorem sR_comm {M : XM} {k q : Nat} {w v : AV} {e f : Int32} (h : k ≠ q) : sR (sR M k w e) q v f = sR (sR M q v f) k w e := by
  unfold sR
  refine Prod.ext ?_ (Prod.ext ?_ rfl)
  · funext a j
    show (if a = 467 ∧ j = q then f else if a = 467 ∧ j = k then e else M.1 a j) = if a = 467 ∧ j = k then e else if a = 467 ∧ j = q then f else M.1 a j
    by_cases h1 : a = 467 ∧ j = q
    · have h2 : ¬ (a = 467 ∧ j = k) := fun z => h (z.2.symm.trans h1.2)
      rw [if_pos h1, if_neg h2, if_pos h1]
    · rw [if_neg h1, if_neg h1]
  · funext a j
    show (if 461 ≤ a ∧ a < 467 ∧ j = q then sel v (a - 461) else if 461 ≤ a ∧ a < 467 ∧ j = k then sel w (a - 461) else M.2.1 a j) = if 461 ≤ a ∧ a < 467 ∧ j = k then sel w (a - 461) else if 461 ≤ a ∧ a < 467 ∧ j = q then sel v (a - 461) else M.2.1 a j
    by_cases h1 : 461 ≤ a ∧ a < 467 ∧ j = q
    · have h2 : ¬ (461 ≤ a ∧ a < 467 ∧ j = k) := fun z => h (z.2.2.symm.trans h1.2.2)
      rw [if_pos h1, if_neg h2, if_pos h1]
    · rw [if_neg h1, if_neg h1]
section TB
variable {M : XM}
theorem rr0 {k : Nat} (w : AV) (e : Int32) : mL (sR M k w e) 461 k = w.b := congrArg (fun q : AV => q.b) (tvk_sR M k w e)
theorem rr1 {k : Nat} (w : AV) (e : Int32) : mL (sR M k w e) 462 k = w.u := congrArg (fun q : AV => q.u) (tvk_sR M k w e)
theorem rr2 {k : Nat} (w : AV) (e : Int32) : mL (sR M k w e) 463 k = w.lo := congrArg (fun q : AV => q.lo) (tvk_sR M k w e)
theorem rr3 {k : Nat} (w : AV) (e : Int32) : mL (sR M k w e) 464 k = w.hi := congrArg (fun q : AV => q.hi) (tvk_sR M k w e)
theorem rr4 {k : Nat} (w : AV) (e : Int32) : mL (sR M k w e) 465 k = w.le := congrArg (fun q : AV => q.le) (tvk_sR M k w e)
theorem rr5 {k : Nat} (w : AV) (e : Int32) : mL (sR M k w e) 466 k = w.gr := congrArg (fun q : AV => q.gr) (tvk_sR M k w e)
theorem re6 {k : Nat} (w : AV) (e : Int32) : mI (sR M k w e) 467 k = e := tek_sR M k w e
theorem tke {k : Nat} : mI M 467 k = tek M k := rfl
def bothT (x y : AV) : AV := (x.b ||| y.b, x.u &&& y.u, g_Sieve_greater x.lo y.lo, g_Sieve_lesser x.hi y.hi, if lg_cmp x.le y.le ≤ 0 then y.le else x.le, if 0 ≤ lg_cmp x.gr y.gr then y.gr else x.gr)
theorem t_both (h : Sh M) {p q : Int32} (hp : rk p) (hq : rk q) (hne : ix q ≠ ix p) (he : tek M (ix p) = 0) : K_Sets_both 460 p q M ∧ g_Sets_both 460 p q M = sR M (ix p) (bothT (tvk M (ix p)) (tvk M (ix q))) (bI (!decide (lg_cmp (((tvk M (ix p)).b ^^^ (tvk M (ix q)).b) &&& (((tvk M (ix p)).u ^^^ (-1)) &&& ((tvk M (ix q)).u ^^^ (-1)))) 0 = 0))) := by
  have hp' : vp_in p 77200 := hp
  have hq' : vp_in q 77200 := hq
  have rQ : ∀ w e a, mL (sR M (ix p) w e) a (ix q) = mL M a (ix q) := fun w e a => mL_sRne _ _ _ hne
  unfold g_Sets_both g_Sets_both_0 g_Sets_both_22 g_Sets_both_56 g_Sets_both_61 g_Sets_both_81 g_Sets_both_100 g_Sets_both_121 g_Sets_both_142 g_Sets_both_178 g_Sets_both_179 g_Sets_both_215 K_Sets_both K_Sets_both_0 K_Sets_both_22 K_Sets_both_56 K_Sets_both_61 K_Sets_both_81 K_Sets_both_100 K_Sets_both_121 K_Sets_both_142 K_Sets_both_178 K_Sets_both_179 K_Sets_both_215 bothT
  simp only [mR_sR, mR_wL, mR_wI, mT_sR, mT_wL, mT_wI, mN_sR, mN_wL, mN_wI, h.R460_0, h.R460_1, h.R460_2, h.R460_3, h.R460_4, h.R460_5, h.R460_6, sR_wI, sR461, sR462, sR463, sR464, sR465, sR466, tvk_sR, tek_sR, sR_sR, prB, prU, prLo, prHi, prLe, prGr, rQ, rr0, rr1, rr2, rr3, rr4, rr5, larger_eq, lesser_eq, tke, he, jz0, jz1, if_true]
  simp only [tkb, tku, tklo, tkhi, tkle, tkgr]
  constructor
  · simp [h.R460_0, h.R460_1, h.R460_2, h.R460_3, h.R460_4, h.R460_5, h.R460_6, h.T460, h.T461, h.T462, h.T463, h.T464, h.T465, h.T466, h.T467, h.N461, h.N462, h.N463, h.N464, h.N465, h.N466, h.N467, hp', hq']
  · by_cases c1 : lg_cmp ((mL M 461 (ix p) ^^^ mL M 461 (ix q)) &&& ((mL M 462 (ix p) ^^^ (-1)) &&& (mL M 462 (ix q) ^^^ (-1)))) 0 = 0 <;> by_cases c2 : lg_cmp (mL M 465 (ix p)) (mL M 465 (ix q)) ≤ 0 <;> by_cases c3 : 0 ≤ lg_cmp (mL M 466 (ix p)) (mL M 466 (ix q)) <;> simp only [c1, c2, c3, if_true, if_false, decide_true, decide_false, Bool.not_true, Bool.not_false] <;> rfl
theorem both_eq {x y : AV} (hx : bu x) (hy : bu y) : bothT x y = bothV x y := by
  unfold bothT bothV AV.say AV.uns AV.sgn
  have e1 : (x.b ||| y.b) &&& ((x.u &&& y.u) ^^^ (-1)) = x.b ||| y.b := clr_of fun j _ => by
    have := vb_f hx j
    have := vb_f hy j
    rw [tb_or, tb_and]
    cases c1 : tb x.b j <;> cases c2 : tb x.u j <;> cases c3 : tb y.b j <;> cases c4 : tb y.u j <;> simp_all
  have e2 : (if lg_cmp x.le y.le ≤ 0 then y.le else x.le) = g_Math_max x.le y.le := Int64.toInt_inj.mp (by
    rw [max_jj]
    by_cases c : lg_cmp x.le y.le ≤ 0
    · rw [if_pos c]; rw [cmp_le, le_un] at c; omega
    · rw [if_neg c]; rw [cmp_le, le_un] at c; omega)
  have e3 : (if 0 ≤ lg_cmp x.gr y.gr then y.gr else x.gr) = g_Math_min_JJ x.gr y.gr := Int64.toInt_inj.mp (by
    rw [min_jj]
    by_cases c : 0 ≤ lg_cmp x.gr y.gr
    · rw [if_pos c]; rw [cmp_ge, le_un] at c; omega
    · rw [if_neg c]; rw [cmp_ge, le_un] at c; omega)
  rw [e1, e2, e3]
theorem both_comm (x y : AV) : bothV x y = bothV y x := by
  unfold bothV AV.say AV.uns AV.sgn
  have e1 : x.b ||| y.b = y.b ||| x.b := tb_ext fun j _ => by rw [tb_or, tb_or, Bool.or_comm]
  have e2 : x.u &&& y.u = y.u &&& x.u := tb_ext fun j _ => by rw [tb_and, tb_and, Bool.and_comm]
  have e3 : g_Sieve_greater x.lo y.lo = g_Sieve_greater y.lo x.lo := un_inj (by rw [greater_un, greater_un]; split <;> split <;> omega)
  have e4 : g_Sieve_lesser x.hi y.hi = g_Sieve_lesser y.hi x.hi := un_inj (by rw [lesser_un, lesser_un]; split <;> split <;> omega)
  have e5 : g_Math_max x.le y.le = g_Math_max y.le x.le := Int64.toInt_inj.mp (by rw [max_jj, max_jj]; omega)
  have e6 : g_Math_min_JJ x.gr y.gr = g_Math_min_JJ y.gr x.gr := Int64.toInt_inj.mp (by rw [min_jj, min_jj]; omega)
  rw [e1, e2, e3, e4, e5, e6]
def lsV (w : AV) (n : Int64) : AV := (w.b, w.u, if lg_cmp w.lo n = 0 then n + 1 else w.lo, if lg_cmp w.hi n = 0 then n - 1 else w.hi, if lg_cmp w.le n = 0 then n + 1 else w.le, if lg_cmp w.gr n = 0 then n - 1 else w.gr)
theorem t_lose (h : Sh M) {p : Int32} (hp : rk p) (is : Int32) (n : Int64) : K_Sets_lose 460 p is n M ∧ g_Sets_lose 460 p is n M = if is = 0 then M else if (lg_cmp (tvk M (ix p)).lo (tvk M (ix p)).hi = 0 ∧ lg_cmp (tvk M (ix p)).lo n = 0) then sR M (ix p) (tvk M (ix p)) 1 else sR M (ix p) (lsV (tvk M (ix p)) n) (tek M (ix p)) := by
  have hp' : vp_in p 77200 := hp
  have i1 : ¬ (1 : Int32) = 0 := by decide
  unfold g_Sets_lose g_Sets_lose_0 g_Sets_lose_32 g_Sets_lose_60 g_Sets_lose_61 g_Sets_lose_89 g_Sets_lose_90 g_Sets_lose_118 g_Sets_lose_119 g_Sets_lose_147 g_Sets_isSingle g_Sets_isSingle_0 K_Sets_lose K_Sets_lose_0 K_Sets_lose_32 K_Sets_lose_60 K_Sets_lose_61 K_Sets_lose_89 K_Sets_lose_90 K_Sets_lose_118 K_Sets_lose_119 K_Sets_lose_147 K_Sets_isSingle K_Sets_isSingle_0 lsV
  simp only [mR_sR, mR_wL, mR_wI, mT_sR, mT_wL, mT_wI, mN_sR, mN_wL, mN_wI, h.R460_0, h.R460_1, h.R460_2, h.R460_3, h.R460_4, h.R460_5, h.R460_6, sR_wI, sR461, sR462, sR463, sR464, sR465, sR466, tvk_sR, tek_sR, sR_sR, prB, prU, prLo, prHi, prLe, prGr, rr0, rr1, rr2, rr3, rr4, rr5]
  simp only [tkb, tku, tklo, tkhi, tkle, tkgr]
  constructor
  · simp [h.R460_0, h.R460_1, h.R460_2, h.R460_3, h.R460_4, h.R460_5, h.R460_6, h.T460, h.T461, h.T462, h.T463, h.T464, h.T465, h.T466, h.T467, h.N461, h.N462, h.N463, h.N464, h.N465, h.N466, h.N467, hp']
  · by_cases c0 : is = 0 <;> by_cases c1 : lg_cmp (mL M 463 (ix p)) (mL M 464 (ix p)) = 0 <;> by_cases c2 : lg_cmp (mL M 463 (ix p)) n = 0 <;> by_cases c3 : lg_cmp (mL M 464 (ix p)) n = 0 <;> by_cases c4 : lg_cmp (mL M 465 (ix p)) n = 0 <;> by_cases c5 : lg_cmp (mL M 466 (ix p)) n = 0 <;> simp only [c0, c1, c2, c3, c4, c5, i1, if_true, if_false, and_true, and_false, true_and, false_and]
theorem t_order (h : Sh M) {p q : Int32} (hp : rk p) (hq : rk q) (hne : ix p ≠ ix q) (hi lo : Int64) (st : Int32) (ep : tek M (ix p) = 0) (eq : tek M (ix q) = 0) : K_Sets_order 460 p q hi lo st M ∧ g_Sets_order 460 p q hi lo st M = sR (sR M (ix p) ((tvk M (ix p)).hiTo (g_Sieve_lesser (tvk M (ix p)).hi (if st = 0 ∨ lg_cmp hi 0 = 0 then hi else hi - 1))) (bI (!decide (st = 0) && decide (lg_cmp hi 0 = 0)))) (ix q) ((tvk M (ix q)).loTo (g_Sieve_greater (tvk M (ix q)).lo (if st = 0 ∨ lg_cmp lo (-1) = 0 then lo else lo + 1))) (bI (!decide (st = 0) && decide (lg_cmp lo (-1) = 0))) := by
  have hp' : vp_in p 77200 := hp
  have hq' : vp_in q 77200 := hq
  have hne' : ix q ≠ ix p := fun z => hne z.symm
  have i1 : ¬ (1 : Int32) = 0 := by decide
  have rP : ∀ (N : XM) w e a, mL (sR N (ix q) w e) a (ix p) = mL N a (ix p) := fun N w e a => mL_sRne _ _ _ hne
  have rQ : ∀ (N : XM) w e a, mL (sR N (ix p) w e) a (ix q) = mL N a (ix q) := fun N w e a => mL_sRne _ _ _ hne'
  have vP : ∀ (N : XM) w e, tvk (sR N (ix q) w e) (ix p) = tvk N (ix p) := fun N w e => tvk_sRne _ _ _ hne
  have vQ : ∀ (N : XM) w e, tvk (sR N (ix p) w e) (ix q) = tvk N (ix q) := fun N w e => tvk_sRne _ _ _ hne'
  have xP : ∀ (N : XM) w e, tek (sR N (ix q) w e) (ix p) = tek N (ix p) := fun N w e => tek_sRne _ _ _ hne
  have xQ : ∀ (N : XM) w e, tek (sR N (ix p) w e) (ix q) = tek N (ix q) := fun N w e => tek_sRne _ _ _ hne'
  have cm : ∀ (N : XM) w e v f w' e', sR (sR (sR N (ix p) w e) (ix q) v f) (ix p) w' e' = sR (sR N (ix p) w' e') (ix q) v f := fun N w e v f w' e' => by rw [sR_comm hne', sR_sR]
  unfold g_Sets_order g_Sets_order_0 g_Sets_order_29 g_Sets_order_25 g_Sets_order_30 g_Sets_order_31 g_Sets_order_63 g_Sets_order_59 g_Sets_order_64 g_Sets_order_93 g_Sets_order_94 g_Sets_order_98 g_Sets_order_130 g_Sets_order_132 K_Sets_order K_Sets_order_0 K_Sets_order_29 K_Sets_order_25 K_Sets_order_30 K_Sets_order_31 K_Sets_order_63 K_Sets_order_59 K_Sets_order_64 K_Sets_order_93 K_Sets_order_94 K_Sets_order_98 K_Sets_order_130 K_Sets_order_132 AV.hiTo AV.loTo
  simp only [mR_sR, mR_wL, mR_wI, mT_sR, mT_wL, mT_wI, mN_sR, mN_wL, mN_wI, h.R460_0, h.R460_1, h.R460_2, h.R460_3, h.R460_4, h.R460_5, h.R460_6, sR_wI, sR463, sR464, tvk_sR, tek_sR, sR_sR, prB, prU, prLo, prHi, prLe, prGr, rP, rQ, vP, vQ, xP, xQ, cm, rr0, rr1, rr2, rr3, rr4, rr5, re6, larger_eq, lesser_eq, tke, ep, eq, jz0, jz1, if_true]
  simp only [tkb, tku, tklo, tkhi, tkle, tkgr]
  constructor
  · simp [h.R460_0, h.R460_1, h.R460_2, h.R460_3, h.R460_4, h.R460_5, h.R460_6, h.T460, h.T461, h.T462, h.T463, h.T464, h.T465, h.T466, h.T467, h.N461, h.N462, h.N463, h.N464, h.N465, h.N466, h.N467, hp', hq']
  · by_cases c0 : st = 0 <;> by_cases c1 : lg_cmp hi 0 = 0 <;> by_cases c2 : lg_cmp lo (-1) = 0 <;> simp only [c0, c1, c2, i1, if_true, if_false, or_true, true_or, or_self, or_false, false_or, decide_true, decide_false, Bool.not_true, Bool.not_false, Bool.and_true, Bool.and_false, Bool.true_and, Bool.false_and] <;> rfl
theorem t_orderL (h : Sh M) {p q : Int32} (hp : rk p) (hq : rk q) (hne : ix p ≠ ix q) (la fi : Int64) (st : Int32) (ep : tek M (ix p) = 0) (eq : tek M (ix q) = 0) : K_Sets_orderLongs 460 p q la fi st M ∧ g_Sets_orderLongs 460 p q la fi st M = sR (sR M (ix p) ((tvk M (ix p)).grTo (g_Math_min_JJ (tvk M (ix p)).gr (if st = 0 ∨ lg_cmp la (-9223372036854775808) = 0 then la else la - 1))) (bI (!decide (st = 0) && decide (lg_cmp la (-9223372036854775808) = 0)))) (ix q) ((tvk M (ix q)).leTo (g_Math_max (tvk M (ix q)).le (if st = 0 ∨ lg_cmp fi 9223372036854775807 = 0 then fi else fi + 1))) (bI (!decide (st = 0) && decide (lg_cmp fi 9223372036854775807 = 0))) := by
  have hp' : vp_in p 77200 := hp
  have hq' : vp_in q 77200 := hq
  have hne' : ix q ≠ ix p := fun z => hne z.symm
  have i1 : ¬ (1 : Int32) = 0 := by decide
  have rP : ∀ (N : XM) w e a, mL (sR N (ix q) w e) a (ix p) = mL N a (ix p) := fun N w e a => mL_sRne _ _ _ hne
  have rQ : ∀ (N : XM) w e a, mL (sR N (ix p) w e) a (ix q) = mL N a (ix q) := fun N w e a => mL_sRne _ _ _ hne'
  have vP : ∀ (N : XM) w e, tvk (sR N (ix q) w e) (ix p) = tvk N (ix p) := fun N w e => tvk_sRne _ _ _ hne
  have vQ : ∀ (N : XM) w e, tvk (sR N (ix p) w e) (ix q) = tvk N (ix q) := fun N w e => tvk_sRne _ _ _ hne'
  have xP : ∀ (N : XM) w e, tek (sR N (ix q) w e) (ix p) = tek N (ix p) := fun N w e => tek_sRne _ _ _ hne
  have xQ : ∀ (N : XM) w e, tek (sR N (ix p) w e) (ix q) = tek N (ix q) := fun N w e => tek_sRne _ _ _ hne'
  have cm : ∀ (N : XM) w e v f w' e', sR (sR (sR N (ix p) w e) (ix q) v f) (ix p) w' e' = sR (sR N (ix p) w' e') (ix q) v f := fun N w e v f w' e' => by rw [sR_comm hne', sR_sR]
  have mn : ∀ a b : Int64, g_Math_min_JJ a b = if 0 ≤ lg_cmp a b then b else a := fun a b => (jmin (fun z => z) a b).symm
  have mx : ∀ a b : Int64, g_Math_max a b = if lg_cmp a b ≤ 0 then b else a := fun a b => Int64.toInt_inj.mp (by
    rw [max_jj]
    by_cases c : lg_cmp a b ≤ 0
    · rw [if_pos c]; rw [cmp_le, le_un] at c; omega
    · rw [if_neg c]; rw [cmp_le, le_un] at c; omega)
  unfold g_Sets_orderLongs g_Sets_orderLongs_0 g_Sets_orderLongs_31 g_Sets_orderLongs_27 g_Sets_orderLongs_32 g_Sets_orderLongs_33 g_Sets_orderLongs_65 g_Sets_orderLongs_61 g_Sets_orderLongs_66 g_Sets_orderLongs_86 g_Sets_orderLongs_87 g_Sets_orderLongs_110 g_Sets_orderLongs_112 g_Sets_orderLongs_142 g_Sets_orderLongs_143 g_Sets_orderLongs_171 K_Sets_orderLongs K_Sets_orderLongs_0 K_Sets_orderLongs_31 K_Sets_orderLongs_27 K_Sets_orderLongs_32 K_Sets_orderLongs_33 K_Sets_orderLongs_65 K_Sets_orderLongs_61 K_Sets_orderLongs_66 K_Sets_orderLongs_86 K_Sets_orderLongs_87 K_Sets_orderLongs_110 K_Sets_orderLongs_112 K_Sets_orderLongs_142 K_Sets_orderLongs_143 K_Sets_orderLongs_171 AV.grTo AV.leTo
  simp only [mn, mx]
  simp only [mR_sR, mR_wL, mR_wI, mT_sR, mT_wL, mT_wI, mN_sR, mN_wL, mN_wI, h.R460_0, h.R460_1, h.R460_2, h.R460_3, h.R460_4, h.R460_5, h.R460_6, sR_wI, sR465, sR466, tvk_sR, tek_sR, sR_sR, prB, prU, prLo, prHi, prLe, prGr, rP, rQ, vP, vQ, xP, xQ, cm, rr0, rr1, rr2, rr3, rr4, rr5, re6, tke, ep, eq, jz0, jz1, if_true]
  simp only [tkb, tku, tklo, tkhi, tkle, tkgr]
  constructor
  · simp [h.R460_0, h.R460_1, h.R460_2, h.R460_3, h.R460_4, h.R460_5, h.R460_6, h.T460, h.T461, h.T462, h.T463, h.T464, h.T465, h.T466, h.T467, h.N461, h.N462, h.N463, h.N464, h.N465, h.N466, h.N467, hp', hq']
  · by_cases c0 : st = 0 <;> by_cases c1 : lg_cmp la (-9223372036854775808) = 0 <;> by_cases c2 : lg_cmp fi 9223372036854775807 = 0 <;> by_cases d1 : 0 ≤ lg_cmp (mL M 466 (ix p)) la <;> by_cases d2 : 0 ≤ lg_cmp (mL M 466 (ix p)) (la - 1) <;> by_cases d3 : lg_cmp (mL M 465 (ix q)) fi ≤ 0 <;> by_cases d4 : lg_cmp (mL M 465 (ix q)) (fi + 1) ≤ 0 <;> simp only [c0, c1, c2, d1, d2, d3, d4, i1, if_true, if_false, or_true, true_or, or_self, or_false, false_or, decide_true, decide_false, Bool.not_true, Bool.not_false, Bool.and_true, Bool.and_false, Bool.true_and, Bool.false_and] <;> rfl
theorem t_force (h : Sh M) {p : Int32} (hp : rk p) (on ze : Int64) : K_Sets_force 460 p on ze M ∧ g_Sets_force 460 p on ze M = sR M (ix p) ((tvk M (ix p)).b ||| on, (tvk M (ix p)).u &&& ((on ||| ze) ^^^ (-1)), (tvk M (ix p)).lo, (tvk M (ix p)).hi, (tvk M (ix p)).le, (tvk M (ix p)).gr) (if tek M (ix p) = 0 then bI (!decide (lg_cmp ((tvk M (ix p)).b &&& ze) 0 = 0) || !decide (lg_cmp ((((tvk M (ix p)).b ||| (tvk M (ix p)).u) ^^^ (-1)) &&& on) 0 = 0)) else 1) := by
  have hp' : vp_in p 77200 := hp
  unfold g_Sets_force g_Sets_force_0 g_Sets_force_52 g_Sets_force_57 g_Sets_force_72 K_Sets_force K_Sets_force_0 K_Sets_force_52 K_Sets_force_57 K_Sets_force_72
  simp only [mR_sR, mR_wL, mR_wI, mT_sR, mT_wL, mT_wI, mN_sR, mN_wL, mN_wI, h.R460_0, h.R460_1, h.R460_2, h.R460_3, h.R460_4, h.R460_5, h.R460_6, sR_wI, sR461, sR462, tvk_sR, tek_sR, sR_sR, prB, prU, prLo, prHi, prLe, prGr, rr0, rr1, tke, jz0, jz1]
  simp only [tkb, tku, tklo, tkhi, tkle, tkgr]
  constructor
  · simp [h.R460_0, h.R460_1, h.R460_2, h.R460_3, h.R460_4, h.R460_5, h.R460_6, h.T460, h.T461, h.T462, h.T463, h.T464, h.T465, h.T466, h.T467, h.N461, h.N462, h.N463, h.N464, h.N465, h.N466, h.N467, hp']
  · by_cases c0 : tek M (ix p) = 0 <;> by_cases c1 : lg_cmp (mL M 461 (ix p) &&& ze) 0 = 0 <;> by_cases c2 : lg_cmp (((mL M 461 (ix p) ||| mL M 462 (ix p)) ^^^ (-1)) &&& on) 0 = 0 <;> simp only [c0, c1, c2, if_true, if_false, decide_true, decide_false, Bool.not_true, Bool.not_false, Bool.or_true, Bool.true_or, Bool.or_self, Bool.or_false, Bool.false_or] <;> rfl
end TB
