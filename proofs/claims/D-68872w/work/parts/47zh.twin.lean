/-! part 47zh: the twin's Sets: copy, nothingSaid, single, cutRow (gen/tpl.py) -/
section PR
variable (a b c d e f : Int64)
theorem prB : AV.b (a, b, c, d, e, f) = a := rfl
theorem prU : AV.u (a, b, c, d, e, f) = b := rfl
theorem prLo : AV.lo (a, b, c, d, e, f) = c := rfl
theorem prHi : AV.hi (a, b, c, d, e, f) = d := rfl
theorem prLe : AV.le (a, b, c, d, e, f) = e := rfl
theorem prGr : AV.gr (a, b, c, d, e, f) = f := rfl
end PR
theorem wL_self {M : XM} {a k : Nat} : wL M a k (mL M a k) = M := by
  unfold wL
  refine Prod.ext rfl (Prod.ext ?_ rfl)
  funext b j
  show (if b = a ∧ j = k then M.2.1 a k else M.2.1 b j) = M.2.1 b j
  by_cases h : b = a ∧ j = k
  · rw [if_pos h, h.1, h.2]
  · rw [if_neg h]
theorem t_copy {M : XM} (h : Sh M) (i j : Int32) : g_Sets_copy 460 i j M = sR M (ix j) (tvk M (ix i)) (j_z (tek M (ix i))) := by
  unfold g_Sets_copy g_Sets_copy_0 g_Sets_copy_12 g_Sets_copy_24 g_Sets_copy_36 g_Sets_copy_48 g_Sets_copy_60
  simp only [mR_wL, h.R460_0, h.R460_1, h.R460_2, h.R460_3, h.R460_4, h.R460_5, h.R460_6]
  by_cases e : ix i = ix j
  · rw [e]
    simp only [wL_self]
    rw [sR_wI]; rfl
  · have q : ∀ (M : XM) a v b, mL (wL M a (ix j) v) b (ix i) = mL M b (ix i) := fun M a v b => by rw [mL_wL, if_neg (fun z => e z.2)]
    simp only [q, mI_wL]
    simp only [sR461, sR462, sR463, sR464, sR465, sR466, tvk_sR, tek_sR, sR_sR, prB, prU, prLo, prHi, prLe, prGr, sR_wI]
    rfl
theorem kt_copy {M : XM} (h : Sh M) {i j : Int32} (hi : rk i) (hj : rk j) : K_Sets_copy 460 i j M := by
  have hi' : vp_in i 77200 := hi
  have hj' : vp_in j 77200 := hj
  unfold K_Sets_copy K_Sets_copy_0 K_Sets_copy_12 K_Sets_copy_24 K_Sets_copy_36 K_Sets_copy_48 K_Sets_copy_60
  simp [mR_wL, mT_wL, mN_wL, h.R460_0, h.R460_1, h.R460_2, h.R460_3, h.R460_4, h.R460_5, h.R460_6, h.T460, h.T461, h.T462, h.T463, h.T464, h.T465, h.T466, h.T467, h.N461, h.N462, h.N463, h.N464, h.N465, h.N466, h.N467, hi', hj']
theorem t_free {M : XM} (h : Sh M) (i : Int32) : g_Sets_nothingSaid 460 i M = sR M (ix i) vFree 0 := by
  unfold g_Sets_nothingSaid g_Sets_nothingSaid_0
  simp only [h.R460_0, h.R460_1, h.R460_2, h.R460_3, h.R460_4, h.R460_5, h.R460_6, sR461, sR462, sR463, sR464, sR465, sR466, tvk_sR, tek_sR, sR_sR, prB, prU, prLo, prHi, prLe, prGr, sR_wI]
theorem kt_free {M : XM} (h : Sh M) {i : Int32} (hi : rk i) : K_Sets_nothingSaid 460 i M := by
  have hi' : vp_in i 77200 := hi
  unfold K_Sets_nothingSaid K_Sets_nothingSaid_0
  simp [h.R460_0, h.R460_1, h.R460_2, h.R460_3, h.R460_4, h.R460_5, h.R460_6, h.T460, h.T461, h.T462, h.T463, h.T464, h.T465, h.T466, h.T467, h.N461, h.N462, h.N463, h.N464, h.N465, h.N466, h.N467, hi']
theorem t_single {M : XM} (h : Sh M) (i : Int32) (v : Int64) : g_Sets_single 460 i v M = sR M (ix i) (vOne v) 0 := by
  unfold g_Sets_single g_Sets_single_0
  simp only [h.R460_0, h.R460_1, h.R460_2, h.R460_3, h.R460_4, h.R460_5, h.R460_6, sR461, sR462, sR463, sR464, sR465, sR466, tvk_sR, tek_sR, sR_sR, prB, prU, prLo, prHi, prLe, prGr, sR_wI]
theorem kt_single {M : XM} (h : Sh M) {i : Int32} (hi : rk i) {v : Int64} : K_Sets_single 460 i v M := (single_ok (h.ss hi) h.sd).1
theorem and_ones (x : Int64) : x &&& (-1) = x := tb_ext fun j hj => by rw [tb_and, tb_ones]; simp [hj]
theorem keep_b {x m : Int64} {w : AV} (h : bu w) : (w.b &&& m) &&& ((w.u &&& m) ^^^ (-1)) = w.b &&& m := tb_ext fun j hj => by
  have := vb_f h j
  rw [tb_and, tb_cpl, tb_and, tb_and]
  cases c1 : tb w.b j <;> cases c2 : tb w.u j <;> cases c3 : tb m j <;> simp_all
/-- what the twin's cutRow says -/
def tCut (n : Int32) (x : AV) : AV := AV.sgnIf (AV.unsIf (x.b &&& g_Sets_mask n, x.u &&& g_Sets_mask n, 0, -1, -9223372036854775808, 9223372036854775807) (lg_cmp (x.lo &&& (g_Sets_mask n ^^^ (-1))) (x.hi &&& (g_Sets_mask n ^^^ (-1))) = 0) (x.lo &&& g_Sets_mask n) (x.hi &&& g_Sets_mask n)) (n = 64) x.le x.gr
theorem tCut_eq {x : AV} (hb : bu x) {n : Nat} (hn : n ≤ 64) : tCut (Int32.ofNat n) x = rCut (Int32.ofNat n) x := by
  have em : g_Sets_mask (Int32.ofNat n) = g_Sieve_mask (Int32.ofNat n) := rfl
  unfold tCut rCut
  rw [em]
  have hm := mask_tb' hn
  by_cases h : n = 64
  · have h' : Int32.ofNat n = 64 := by rw [h]; rfl
    have e1 : g_Sieve_mask (Int32.ofNat n) = -1 := by rw [h']; rfl
    rw [e1]
    simp only [and_ones]
    rw [if_pos h']
    have c : lg_cmp (x.lo &&& ((-1 : Int64) ^^^ (-1))) (x.hi &&& ((-1 : Int64) ^^^ (-1))) = 0 := by
      rw [cmp_eq]
      refine tb_ext fun j hj => ?_
      rw [tb_and, tb_and, tb_cpl, tb_ones]; simp
    unfold AV.unsIf AV.sgnIf
    rw [if_pos c, if_pos h']
    rfl
  · have hc : ¬ Int32.ofNat n = 64 := fun z => h (by
      have := congrArg u3 z
      rw [u3_ofNat (by omega)] at this
      exact this)
    have hn' : n < 64 := by omega
    rw [if_neg hc]
    unfold AV.sgnIf
    rw [if_neg hc]
    have e : (lg_cmp (x.lo &&& (g_Sieve_mask (Int32.ofNat n) ^^^ (-1))) (x.hi &&& (g_Sieve_mask (Int32.ofNat n) ^^^ (-1))) = 0) ↔ (lg_cmp (j_lushr x.lo (Int32.ofNat n)) (j_lushr x.hi (Int32.ofNat n)) = 0) := by
      rw [cmp_eq, cmp_eq]
      constructor
      · intro z
        refine tb_ext fun j hj => ?_
        rw [tb_shr hn', tb_shr hn']
        have := congrArg (fun q => tb q (n + j)) z
        simp only [tb_and, tb_cpl, hm] at this
        by_cases h2 : n + j < 64
        · have h3 : ¬ n + j < n := by omega
          simp [h2, h3] at this; exact this
        · rw [tb_ge (by omega), tb_ge (by omega)]
      · intro z
        refine tb_ext fun j hj => ?_
        rw [tb_and, tb_and, tb_cpl, hm]
        by_cases h2 : j < n
        · simp [h2]
        · have := congrArg (fun q => tb q (j - n)) z
          simp only [tb_shr hn'] at this
          rw [show n + (j - n) = j by omega] at this
          rw [this]
    unfold AV.unsIf AV.say
    rw [keep_b (x := 0) hb]
    by_cases c : lg_cmp (j_lushr x.lo (Int32.ofNat n)) (j_lushr x.hi (Int32.ofNat n)) = 0
    · rw [if_pos (e.mpr c), if_pos c]
    · rw [if_neg (fun z => c (e.mp z)), if_neg c]
theorem t_cut {M : XM} (h : Sh M) {i j : Int32} (hi : rk i) (hj : rk j) (j3 : ix j ≠ 3) {n : Nat} (hn : n ≤ 64) (hx : Tt (tvk M (ix i))) : K_Sets_cutRow 460 i j (Int32.ofNat n) M ∧ g_Sets_cutRow 460 i j (Int32.ofNat n) M = sR (sR M 3 (tvk M (ix i)) (j_z (tek M (ix i)))) (ix j) (vCut (Int32.ofNat n) (tvk M (ix i))) 0 := by
  have hj' : vp_in j 77200 := hj
  have h3 : rk 3 := by unfold rk vp_in; decide
  have h3' : vp_in 3 77200 := h3
  have i3 : ix (3 : Int32) = 3 := by decide
  have kc := kt_copy h hi h3
  have tc := t_copy h i 3
  rw [i3] at tc
  have s1 : Sh (sR M 3 (tvk M (ix i)) (j_z (tek M (ix i)))) := h.kept rfl
  have kf := kt_free s1 hj
  have tf := t_free s1 j
  obtain ⟨a, ha⟩ := hx.ex
  have nc := ne_cut ha hn
  have tcut := tCut_eq hx.bu hn
  have tt3 : tvk (sR M 3 (tvk M (ix i)) (j_z (tek M (ix i)))) 3 = tvk M (ix i) := tvk_sR _ _ _ _
  have ev : vCut (Int32.ofNat n) (tvk M (ix i)) = tite (tCut (Int32.ofNat n) (tvk M (ix i))) := by rw [tcut]; rfl
  rw [ev]
  generalize sR M 3 (tvk M (ix i)) (j_z (tek M (ix i))) = M1 at tc s1 kf tf tt3 ⊢
  have j3' : 3 ≠ ix j := fun z => j3 z.symm
  -- the row as it is put together
  have fin := t_tight (M := sR M1 (ix j) (rCut (Int32.ofNat n) (tvk M (ix i))) 0) (s1.kept rfl) hj (by rw [tvk_sR]; exact bu_cut0 hx.bu) (tek_sR _ _ _ _) (x := a &&& g_Sieve_mask (Int32.ofNat n)) (by rw [tvk_sR]; exact nc)
  rw [tvk_sR, sR_sR] at fin
  have r0 : ∀ w e b, mL (sR M1 (ix j) w e) b 3 = mL M1 b 3 := fun w e b => mL_sRne _ _ _ j3'
  have b0 : mL M1 461 3 = (tvk M (ix i)).b := by rw [← tt3]; rfl
  have b1 : mL M1 462 3 = (tvk M (ix i)).u := by rw [← tt3]; rfl
  have b2 : mL M1 463 3 = (tvk M (ix i)).lo := by rw [← tt3]; rfl
  have b3 : mL M1 464 3 = (tvk M (ix i)).hi := by rw [← tt3]; rfl
  have b4 : mL M1 465 3 = (tvk M (ix i)).le := by rw [← tt3]; rfl
  have b5 : mL M1 466 3 = (tvk M (ix i)).gr := by rw [← tt3]; rfl
  rw [← tcut] at fin
  unfold tCut AV.unsIf AV.sgnIf AV.uns AV.sgn at fin ⊢
  unfold g_Sets_cutRow g_Sets_cutRow_0 g_Sets_cutRow_6 g_Sets_cutRow_12 g_Sets_cutRow_17 g_Sets_cutRow_32 g_Sets_cutRow_47 g_Sets_cutRow_92 g_Sets_cutRow_107 g_Sets_cutRow_125 g_Sets_cutRow_137 K_Sets_cutRow K_Sets_cutRow_0 K_Sets_cutRow_6 K_Sets_cutRow_12 K_Sets_cutRow_17 K_Sets_cutRow_32 K_Sets_cutRow_47 K_Sets_cutRow_92 K_Sets_cutRow_107 K_Sets_cutRow_125 K_Sets_cutRow_137
  rw [tc, tf]
  simp only [mR_sR, s1.R460_0, s1.R460_1, s1.R460_2, s1.R460_3, s1.R460_4, s1.R460_5, i3, sR461, sR462, sR463, sR464, sR465, sR466, tvk_sR, tek_sR, sR_sR, prB, prU, prLo, prHi, prLe, prGr, r0, b0, b1, b2, b3, b4, b5, mT_sR, mN_sR]
  generalize g_Sets_mask (Int32.ofNat n) = mm at fin ⊢
  by_cases c1 : lg_cmp ((tvk M (ix i)).lo &&& (mm ^^^ (-1))) ((tvk M (ix i)).hi &&& (mm ^^^ (-1))) = 0 <;> by_cases c2 : Int32.ofNat n = 64 <;> simp only [c1, c2, if_true, if_false] at fin ⊢ <;> (refine ⟨?_, fin.2⟩; simp [h.T460, s1.T460, s1.T461, s1.T462, s1.T463, s1.T464, s1.T465, s1.T466, s1.N461, s1.N462, s1.N463, s1.N464, s1.N465, s1.N466, hj', h3', kc, kf, fin.1])
