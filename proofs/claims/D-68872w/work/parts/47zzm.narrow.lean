/-! part 47zzm: the component's Transfer: what jumps do to states (gen/tpl.py) -/
def SF (r : Nat) (M M' : XM) : Prop := Fr (fun q => JX q ∨ (r ≤ q ∧ q < r + 152)) M M'
theorem SF.trans {r : Nat} {M M1 M2 : XM} (h : SF r M M1) (h' : SF r M1 M2) : SF r M M2 := Fr.trans h h'
theorem SF.sh {r : Nat} {M M' : XM} (h : SF r M M') (s : Sh M) : Sh M' := s.kept h.1
theorem SF.oth {r r' : Nat} {M M' : XM} (h : SF r M M') (hr : r = 134 ∨ r = 286) (hr' : r' = 134 ∨ r' = 286) (ne : r' ≠ r) : vwC M' r' = vwC M r' ∧ mI M' r' 1 = mI M r' 1 := by
  constructor
  · funext n
    unfold vwC
    by_cases q : n < 75
    · simp only [if_pos q]
      exact Fr.th h (by unfold JX; omega) (by unfold JX; omega)
    · simp only [if_neg q]
  · exact (h.2 r' (by unfold JX; omega) 1).1
theorem SF.tmp {r t : Nat} {M M' : XM} (h : SF r M M') (hr : r = 134 ∨ r = 286) (ht : t = 438 ∨ t = 440) : thC M' t = thC M t := Fr.th h (by unfold JX; omega) (by unfold JX; omega)
theorem SF.tj {r : Nat} {M M' : XM} (h : SF r M M') (hr : r = 134 ∨ r = 286) : Fr TJ M M' := Fr.weak h (fun q z => by unfold TJ; rcases z with z | z; exact Or.inl z; exact Or.inr (Or.inr (by omega)))
theorem SF.f {r : Nat} {M M' : XM} (h : SF r M M') (hr : r = 134 ∨ r = 286) (i : Nat) : mI M' 133 i = mI M 133 i := (h.2 133 (by unfold JX; omega) i).1
theorem Sh.stT {M : XM} (h : Sh M) {r : Nat} (hr : r = 134 ∨ r = 286) : ShSt M r := by
  rcases hr with e | e <;> rw [e]
  · exact h.St134
  · exact h.St286
theorem SF.st {r n : Nat} {M : XM} (hr : r = 134 ∨ r = 286) (hn : n < 75) (t : TH) : SF r M (sT M (r + 2 + 2 * n) t) ∧ vwC (sT M (r + 2 + 2 * n) t) r = up (vwC M r) n t ∧ mI (sT M (r + 2 + 2 * n) t) r 1 = mI M r 1 := by
  refine ⟨Fr.st (Or.inr (by omega)) (Or.inr (by omega)), ?_, mI_sTne _ _ _ (by omega) 1⟩
  funext m
  unfold vwC up
  by_cases e : m = n
  · rw [if_pos e, e, if_pos hn, thC_sT]
  · rw [if_neg e]
    by_cases q : m < 75
    · simp only [if_pos q]; exact thC_sTne _ _ _ (by omega)
    · simp only [if_neg q]
/-- what narrow leaves -/
def NQ (r : Nat) (M : XM) (x : Option St) (w : Int32 × XM) : Prop := SF r M w.2 ∧ ((∃ s, x = some s ∧ w.1 = 1 ∧ vwC w.2 r = s.1 ∧ mI w.2 r 1 = s.2) ∨ (x = none ∧ w.1 = 0))
theorem IsT.exx {S : Int64 → Prop} {w : AV} (h : IsT S w) : ∃ z, S z := ⟨_, h.1.1⟩
theorem c_narrow {M : XM} (h : Sh M) {k : Int32} {I : In} (hI : InC M k I) (w : WI I) {r : Nat} (hr : r = 134 ∨ r = 286) {c : Nat} (hc : c < 12) {σ : Sg} (hσ : vwC M r = σ) (ws : WS σ) (hd : (σ I.d).so = 1) (hs : rg I.c ≠ 0 → (σ I.s).so = 1 ∧ I.d ≠ I.s) {x y : AV} (ex : (thC M 440).va = x) (ey : (thC M 438).va = y) (tx : Tt x) (ty : Tt y) :
    K_Transfer_narrow 133 r k (c + 1) 441 439 M ∧ NQ r M (nar I c σ (mI M r 1) x y) (g_Transfer_narrow 133 r k (c + 1) 441 439 M) := by
  have d75 : I.d < 75 := by have := w.2.1; omega
  have s75 : I.s < 75 := by have := w.2.2.1; omega
  have gx : gv6 M 441 = x := ex
  have gy : gv6 M 439 = y := ey
  obtain ⟨k1, f1, res⟩ := r_refine h hc (a := 441) (b := 439) h.Th440.2.2 h.Th438.2.2 (by unfold JF; omega) (by unfold JF; omega) (by rw [gx]; exact tx.bu) (by rw [gy]; exact ty.bu)
  rw [gx, gy] at res
  unfold g_Transfer_narrow K_Transfer_narrow g_Transfer_narrow_0 K_Transfer_narrow_0 g_Transfer_narrow_15 K_Transfer_narrow_15
  rw [h.R133_2, h.R110_1]
  generalize g_Refiner_refine 114 (c + 1) 441 439 M = R at f1 res ⊢
  obtain ⟨v, M1⟩ := R
  have f1' : Fr JF M M1 := f1
  have s1 : Sh M1 := h.kept f1'.1
  have hI1 : InC M1 k I := hI.kept h f1'.1 (fun i => (f1'.2 103 (by unfold JF; omega) i).1)
  have sf1 : SF r M M1 := Fr.weak f1' (fun q z => Or.inl (by unfold JF at z; unfold JX; omega))
  have vw1 : vwC M1 r = σ := by
    rw [← hσ]
    funext n
    unfold vwC
    by_cases q : n < 75
    · simp only [if_pos q]
      exact Fr.th f1' (by unfold JF; omega) (by unfold JF; omega)
    · simp only [if_neg q]
  have kn1 : mI M1 r 1 = mI M r 1 := (f1'.2 r (by unfold JF; omega) 1).1
  refine kq_and h.T133 (kq_and h.T110 (kq_and h.T114 (kq_and k1 ?_)))
  rcases res with ⟨e1, ok, i1, i2, e2, e3⟩ | ⟨e1, no⟩
  · have e1' : v = 1 := e1
    have e2' : gv6 M1 115 = tite (rfX c x y) := e2
    have e3' : gv6 M1 116 = tite (rfY c x y) := e3
    subst e1'
    have G : rfG c x y := ⟨ok, i1.exx, i2.exx⟩
    have en : nar I c σ (mI M r 1) x y = some (if rg I.c = 0 then up σ I.d (tNu (tite (rfX c x y))) else up (up σ I.d (tNu (tite (rfX c x y)))) I.s (tNu (tite (rfY c x y))), mI M r 1) := by
      unfold nar; rw [cif_pos G]
    rw [en]
    refine kq_ifn (fun z => absurd z i1_0) (fun _ => ?_)
    obtain ⟨d1, d2⟩ := hI1.2.1
    have st1 := s1.stT hr
    rw [s1.R133_0, s1.R133_2, s1.R110_1, s1.R114_1, d1, st1.2.1, st1.2.2.2.1, ixN (by omega), (st1.2.2.2.2 I.d d75).1]
    have tD := (st1.2.2.2.2 I.d d75).2
    rw [tD.2.1, v_copy, e2', sTv]
    have wd : thC M1 (r + 2 + 2 * I.d) = σ I.d := by rw [← vw1, vwC_at d75]
    have nD : ((thC M1 (r + 2 + 2 * I.d)).so, (thC M1 (r + 2 + 2 * I.d)).de, (thC M1 (r + 2 + 2 * I.d)).og, tite (rfX c x y)) = tNu (tite (rfX c x y)) := by
      rw [wd]
      have := (ws I.d).num hd
      rw [this]
    rw [nD]
    obtain ⟨sf2, vw2, kn2⟩ := SF.st (M := M1) hr d75 (tNu (tite (rfX c x y)))
    have kc : K_Value_copy (r + 2 + 2 * I.d + 1) 115 M1 := kv_copy s1.T115 tD.2.2
    refine kq_and st1.1 (kq_and s1.T133 (kq_and s1.T102 (kq_and d2 (kq_and st1.2.2.1 (kq_and (vpN d75 (by omega)) (kq_and tD.1 (kq_and s1.T133 (kq_and s1.T110 (kq_and s1.T114 (kq_and tD.2.2 (kq_and kc ?_)))))))))))
    have s2 : Sh (sT M1 (r + 2 + 2 * I.d) (tNu (tite (rfX c x y)))) := s1.kept rfl
    have hI2 : InC (sT M1 (r + 2 + 2 * I.d) (tNu (tite (rfX c x y)))) k I := hI1.kept s1 rfl (fun i => mI_sTne _ _ _ (by omega) i)
    have g116 : gv6 (sT M1 (r + 2 + 2 * I.d) (tNu (tite (rfX c x y)))) 116 = tite (rfY c x y) := by rw [gv6_sTne _ _ _ (by omega), e3']
    have sfA : SF r M (sT M1 (r + 2 + 2 * I.d) (tNu (tite (rfX c x y)))) := sf1.trans sf2
    rw [vw1] at vw2
    rw [kn1] at kn2
    generalize sT M1 (r + 2 + 2 * I.d) (tNu (tite (rfX c x y))) = M2 at s2 hI2 g116 sfA vw2 kn2 ⊢
    obtain ⟨r1, r2⟩ := hI2.reg s2
    obtain ⟨q1, q2⟩ := hI2.2.2.1
    have st2 := s2.stT hr
    have tS := (st2.2.2.2.2 I.s s75).2
    unfold g_Transfer_narrow_49 K_Transfer_narrow_49 g_Transfer_narrow_89
    rw [s2.R133_0, s2.R133_2, s2.R110_1, s2.R114_2, r1, q1, st2.2.1, st2.2.2.2.1, ixN (by omega), (st2.2.2.2.2 I.s s75).1, tS.2.1, v_copy, g116, sTv]
    refine kq_and s2.T133 (kq_and s2.T102 (kq_and r2 (kq_ifn (fun c0 => ?_) (fun c0 => ?_))))
    · rw [if_pos c0]
      exact ⟨sfA, Or.inl ⟨_, rfl, rfl, vw2, kn2⟩⟩
    · rw [if_neg c0]
      obtain ⟨hs1, hs2⟩ := hs c0
      have wS : thC M2 (r + 2 + 2 * I.s) = σ I.s := by
        have := congrFun vw2 I.s
        rw [vwC_at s75, up_ne _ _ (fun z => hs2 z.symm)] at this; exact this
      have nS : ((thC M2 (r + 2 + 2 * I.s)).so, (thC M2 (r + 2 + 2 * I.s)).de, (thC M2 (r + 2 + 2 * I.s)).og, tite (rfY c x y)) = tNu (tite (rfY c x y)) := by
        rw [wS]
        have := (ws I.s).num hs1
        rw [this]
      rw [nS]
      obtain ⟨sf3, vw3, kn3⟩ := SF.st (M := M2) hr s75 (tNu (tite (rfY c x y)))
      rw [vw2] at vw3
      have kc2 : K_Value_copy (r + 2 + 2 * I.s + 1) 116 M2 := kv_copy s2.T116 tS.2.2
      exact ⟨⟨st2.1, s2.T133, s2.T102, q2, st2.2.2.1, vpN s75 (by omega), tS.1, s2.T133, s2.T110, s2.T114, tS.2.2, kc2⟩, sfA.trans sf3, Or.inl ⟨_, rfl, rfl, vw3, kn3.trans kn2⟩⟩
  · have e1' : v = 0 := e1
    subst e1'
    have en : nar I c σ (mI M r 1) x y = none := by
      unfold nar; exact cif_neg no
    rw [en]
    exact kq_ifn (fun _ => ⟨sf1, Or.inr ⟨rfl, rfl⟩⟩) (fun z => absurd rfl z)
theorem c_isHalf {M : XM} {t : Nat} (h : mT M t = 10) : g_Transfer_isHalf t M = (if hlf (gv6 M t) then 1 else 0) ∧ K_Transfer_isHalf t M := by
  refine ⟨?_, h, fun _ => h⟩
  show (if lg_cmp (mL M t 4) 0 < 0 then (0 : Int32) else if 0 < lg_cmp (mL M t 5) 2147483647 then 0 else 1) = if (0 : Int64) ≤ mL M t 4 ∧ mL M t 5 ≤ 2147483647 then 1 else 0
  simp only [cmp_ltN, cmp_gtN]
  by_cases c1 : (0 : Int64) ≤ mL M t 4 <;> by_cases c2 : mL M t 5 ≤ 2147483647 <;> simp only [c1, c2, if_true, if_false, not_true, not_false_iff, and_self, and_true, true_and, and_false, false_and, or_true, true_or, or_false, false_or, or_self, i32_10, eq_self, true_implies, false_implies, implies_true, ite_self, ne_eq]
theorem rel_ok : ∀ m : Fin 256, (nm (Int32.ofNat m.val) = 1 ∨ nm (Int32.ofNat m.val) = 2 ∨ nm (Int32.ofNat m.val) = 3 ∨ nm (Int32.ofNat m.val) = 4 ∨ nm (Int32.ofNat m.val) = 5 ∨ nm (Int32.ofNat m.val) = 6 ∨ nm (Int32.ofNat m.val) = 7 ∨ nm (Int32.ofNat m.val) = 10 ∨ nm (Int32.ofNat m.val) = 11 ∨ nm (Int32.ofNat m.val) = 12 ∨ nm (Int32.ofNat m.val) = 13) → (if nm (Int32.ofNat m.val) = 1 then 1 else (if nm (Int32.ofNat m.val) = 2 then 5 else (if nm (Int32.ofNat m.val) = 3 then 6 else (if nm (Int32.ofNat m.val) = 4 then 11 else (if nm (Int32.ofNat m.val) = 5 then 2 else (if nm (Int32.ofNat m.val) = 6 then 9 else (if nm (Int32.ofNat m.val) = 7 then 10 else (if nm (Int32.ofNat m.val) = 8 then 8 else (if nm (Int32.ofNat m.val) = 9 then 8 else (if nm (Int32.ofNat m.val) = 10 then 3 else (if nm (Int32.ofNat m.val) = 11 then 4 else (if nm (Int32.ofNat m.val) = 12 then 7 else 8)))))))))))) = cmpN (nm (Int32.ofNat m.val)) + 1 ∧ cmpN (nm (Int32.ofNat m.val)) < 11 := by decide +kernel
theorem opp_ok (M : XM) : ∀ c, c < 11 → g_Relation_opposite (c + 1) M = oppN c + 1 ∧ oppN c < 12 ∧ K_Relation_opposite (c + 1) M := by
  intro c hc
  unfold g_Relation_opposite g_Relation_opposite_0 K_Relation_opposite K_Relation_opposite_0
  have : ∀ c : Fin 11, ((if (g_Enum_ordinal (c.val + 1)) = 0 then 2 else (if (g_Enum_ordinal (c.val + 1)) = 1 then 1 else (if (g_Enum_ordinal (c.val + 1)) = 2 then 6 else (if (g_Enum_ordinal (c.val + 1)) = 3 then 5 else (if (g_Enum_ordinal (c.val + 1)) = 4 then 4 else (if (g_Enum_ordinal (c.val + 1)) = 5 then 3 else (if (g_Enum_ordinal (c.val + 1)) = 6 then 10 else (if (g_Enum_ordinal (c.val + 1)) = 7 then 9 else (if (g_Enum_ordinal (c.val + 1)) = 8 then 8 else (if (g_Enum_ordinal (c.val + 1)) = 9 then 7 else (if (g_Enum_ordinal (c.val + 1)) = 10 then 12 else 11))))))))))) = oppN c.val + 1 ∧ oppN c.val < 12) ∧ ((1 ≤ c.val + 1 ∧ c.val + 1 ≤ 12) ∧ K_Enum_ordinal (c.val + 1)) := by unfold K_Enum_ordinal; decide +kernel
  have t := this ⟨c, hc⟩
  exact ⟨t.1.1, t.1.2, t.2⟩
