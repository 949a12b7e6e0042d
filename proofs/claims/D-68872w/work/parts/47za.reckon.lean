/-! part 47za: extend, swap, join, operate (gen/tpl.py) -/
def J1 (q : Nat) : Prop := q = 112 ∨ q = 113 ∨ q = 131 ∨ q = 132
theorem ext_10 {M : XM} (h : Sh M) {t : Nat} {n : Int32} (ht : mT M t = 10) : g_Reckoner_extend_10 110 n t M = g_Reckoner_extend_213 110 t (sV M 132 (rExt n (gv6 M 131))) ∧ K_Reckoner_extend_10 110 n t M := by
  have ne : (131 : Nat) ≠ 132 := by decide
  have t5 := h.T132
  have t4 := h.T131
  have t1 := h.T110
  have kf : ∀ w : AV, ∀ a u x y, K_Reckoner_extend_213 110 t (sV M 132 ((w.say a u).sgn x y)) := fun w a u x y => (ext_213 (M := sV M 132 ((w.say a u).sgn x y)) (h.kept rfl) ht (by rw [gv6_sV]; exact bu_sgn bu_say)).1
  constructor
  · unfold g_Reckoner_extend_10 g_Reckoner_extend_17 g_Reckoner_extend_27 g_Reckoner_extend_34 g_Reckoner_extend_73 g_Reckoner_extend_108 g_Reckoner_extend_111
    simp only [h.R110_5, h.R110_4, v_free, v_say, v_sgn, mR_sV, gv6_sV, sV_sV, mL_sVne _ _ _ _ ne]
    unfold rExt
    simp only [gvb, gvu, gvlo, gvhi]
    by_cases c1 : lg_cmp (mL M 131 0 &&& j_lshl 1 (n - 1)) 0 = 0 <;> by_cases c2 : lg_cmp (mL M 131 1 &&& j_lshl 1 (n - 1)) 0 = 0 <;> by_cases c3 : 0 ≤ lg_cmp (mL M 131 3) (j_lshl 1 (n - 1)) <;> by_cases c4 : lg_cmp (mL M 131 2) (j_lshl 1 (n - 1)) < 0 <;> simp only [c1, c2, c3, c4, if_true, if_false]
  · unfold K_Reckoner_extend_10 K_Reckoner_extend_17 K_Reckoner_extend_27 K_Reckoner_extend_34 K_Reckoner_extend_73 K_Reckoner_extend_108 K_Reckoner_extend_111
    simp only [h.R110_5, h.R110_4, v_free, v_say, v_sgn, mR_sV, mT_sV, gv6_sV, sV_sV, mL_sVne _ _ _ _ ne]
    simp [t1, t4, t5, kv_free, kv_say, kv_sgn, mT_sV, kf]
theorem r_ext {M : XM} (h : Sh M) {v t : Nat} {n : Int32} (hv : mT M v = 10) (ht : mT M t = 10) (hne : v ≠ 132) (hb : bu (gv6 M v)) :
    K_Reckoner_extend 110 v n t M ∧ Fr (fun q => q = t ∨ J1 q) M (g_Reckoner_extend 110 v n t M) ∧ gv6 (g_Reckoner_extend 110 v n t M) t = vExt n (gv6 M v) := by
  obtain ⟨k1, k2, k3⟩ := r_cut (n := n) h hv h.T131 hne hb
  unfold g_Reckoner_extend g_Reckoner_extend_0 K_Reckoner_extend K_Reckoner_extend_0
  rw [h.R110_4]
  have s1 := k2.sh h
  generalize g_Reckoner_cut 110 v n 131 M = M1 at k2 k3 s1 ⊢
  obtain ⟨e1, e2⟩ := ext_10 (n := n) s1 ((eT k2.1 t).trans ht)
  obtain ⟨f1, f2, f3⟩ := ext_213 (M := sV M1 132 (rExt n (gv6 M1 131))) (s1.kept rfl) (t := t) ((eT k2.1 t).trans ht) (by rw [gv6_sV]; exact bu_ext0)
  replace f3 := f3.trans (congrArg tite (gv6_sV M1 132 _))
  rw [e1]
  refine ⟨⟨h.T110, h.T110, k1, e2⟩, ?_, f3.trans (by rw [k3]; rfl)⟩
  refine (k2.weak fun q hq => ?_).trans ((Fr.sv (Or.inr (by unfold J1; omega))).trans (f2.weak fun q hq => ?_))
  · rcases hq with e | e
    · exact Or.inr (by unfold J1; omega)
    · exact Or.inr (by unfold J1; unfold J0 at e; omega)
  · rcases hq with e | e
    · exact Or.inl e
    · exact Or.inr (by unfold J1; unfold J0 at e; omega)
theorem K_swapped (v : Int64) (n : Int32) (hn : n = 16 ∨ n = 32 ∨ n = 64) : K_Reckoner_swapped v n := by
  unfold K_Reckoner_swapped K_Reckoner_swapped_0
  obtain ⟨f, hf⟩ := xF_9
  rw [hf]
  have step : ∀ (m : Nat) (x3 : Int64) (k : Int32), ¬ n ≤ k → (∀ y, K_Reckoner_swapped_5 m v n y (k + 8)) → K_Reckoner_swapped_5 (m + 1) v n x3 k := fun m x3 k _ h2 _ => h2 _
  have stop : ∀ (m : Nat) (x3 : Int64) (k : Int32), n ≤ k → K_Reckoner_swapped_5 (m + 1) v n x3 k := fun m x3 k h1 h2 => absurd h1 h2
  rcases hn with rfl | rfl | rfl
  · exact step _ _ _ (by decide) fun _ => step _ _ _ (by decide) fun _ => stop _ _ _ (by decide)
  · exact step _ _ _ (by decide) fun _ => step _ _ _ (by decide) fun _ => step _ _ _ (by decide) fun _ => step _ _ _ (by decide) fun _ => stop _ _ _ (by decide)
  · exact step _ _ _ (by decide) fun _ => step _ _ _ (by decide) fun _ => step _ _ _ (by decide) fun _ => step _ _ _ (by decide) fun _ => step _ _ _ (by decide) fun _ => step _ _ _ (by decide) fun _ => step _ _ _ (by decide) fun _ => step _ _ _ (by decide) fun _ => stop _ _ _ (by decide)
theorem r_swap {M : XM} (h : Sh M) {v t : Nat} {n : Int32} (hn : n = 16 ∨ n = 32 ∨ n = 64) (hv : mT M v = 10) (ht : mT M t = 10) (hne : v ≠ 132) (hb : bu (gv6 M v)) :
    K_Reckoner_swap 110 v n t M ∧ Fr (fun q => q = t ∨ J1 q) M (g_Reckoner_swap 110 v n t M) ∧ gv6 (g_Reckoner_swap 110 v n t M) t = vSwap n (gv6 M v) := by
  obtain ⟨k1, k2, k3⟩ := r_cut (n := n) h hv h.T131 hne hb
  unfold g_Reckoner_swap g_Reckoner_swap_0 K_Reckoner_swap K_Reckoner_swap_0
  rw [h.R110_4]
  have s1 := k2.sh h
  generalize g_Reckoner_cut 110 v n 131 M = M1 at k2 k3 s1 ⊢
  have ne : (131 : Nat) ≠ 132 := by decide
  obtain ⟨f1, f2, f3⟩ := swap_46 (M := sV M1 132 (rSwap n (gv6 M1 131))) (s1.kept rfl) (t := t) ((eT k2.1 t).trans ht) (by rw [gv6_sV]; exact bu_say)
  replace f3 := f3.trans (congrArg tite (gv6_sV M1 132 _))
  have e1 : g_Reckoner_swap_10 110 n t M1 = g_Reckoner_swap_46 110 t (sV M1 132 (rSwap n (gv6 M1 131))) := by
    unfold g_Reckoner_swap_10 g_Reckoner_swap_17
    simp only [s1.R110_5, s1.R110_4, v_free, v_say, mR_sV, gv6_sV, sV_sV, mL_sVne _ _ _ _ ne]
    rfl
  have e2 : K_Reckoner_swap_10 110 n t M1 := by
    unfold K_Reckoner_swap_10 K_Reckoner_swap_17
    simp only [s1.R110_5, s1.R110_4, v_free, v_say, mR_sV, mT_sV, gv6_sV, sV_sV, mL_sVne _ _ _ _ ne]
    exact ⟨s1.T110, s1.T132, kv_free s1.T132, s1.T110, s1.T110, s1.T131, K_swapped _ _ hn, s1.T110, s1.T131, K_swapped _ _ hn, s1.T132, kv_say (M := sV M1 132 vFree) _ _ s1.T132, f1⟩
  rw [e1]
  refine ⟨⟨h.T110, h.T110, k1, e2⟩, ?_, f3.trans (by rw [k3]; rfl)⟩
  refine (k2.weak fun q hq => ?_).trans ((Fr.sv (Or.inr (by unfold J1; omega))).trans (f2.weak fun q hq => ?_))
  · rcases hq with e | e
    · exact Or.inr (by unfold J1; omega)
    · exact Or.inr (by unfold J1; unfold J0 at e; omega)
  · rcases hq with e | e
    · exact Or.inl e
    · exact Or.inr (by unfold J1; unfold J0 at e; omega)
theorem r_join {M : XM} (h : Sh M) {a b t : Nat} {wd : Int32} (ha : mT M a = 10) (hb : mT M b = 10) (ht : mT M t = 10) (na : a ≠ 132) (nb : b ≠ 132) :
    K_Reckoner_join 110 a b wd t M ∧ Fr (fun q => q = t ∨ J0 q) M (g_Reckoner_join 110 a b wd t M) ∧ gv6 (g_Reckoner_join 110 a b wd t M) t = vJoin wd (gv6 M a) (gv6 M b) := by
  have t5 := h.T132
  have t1 := h.T110
  have kf : ∀ w : AV, ∀ c u x y z q, K_Reckoner_join_199 110 t (sV M 132 (((w.say c u).uns x y).sgn z q)) := fun w c u x y z q => (join_199 (M := sV M 132 (((w.say c u).uns x y).sgn z q)) (h.kept rfl) ht (by rw [gv6_sV]; exact bu_sgn (bu_uns bu_say))).1
  have e1 : g_Reckoner_join 110 a b wd t M = g_Reckoner_join_199 110 t (sV M 132 (rJoin wd (gv6 M a) (gv6 M b))) := by
    unfold g_Reckoner_join g_Reckoner_join_0 g_Reckoner_join_30 g_Reckoner_join_60 g_Reckoner_join_84 g_Reckoner_join_87 g_Reckoner_join_113 g_Reckoner_join_135 g_Reckoner_join_170
    simp only [h.R110_5, v_say, v_uns, v_sgn, mR_sV, gv6_sV, sV_sV, mL_sVne _ _ _ _ na, mL_sVne _ _ _ _ nb]
    unfold rJoin
    simp only [gvb, gvu, gvlo, gvhi, gvle, gvgr]
    have sy : ∀ (w : AV) a u l hh c d, ((w.say a u).uns l hh).sgn c d = ((vFree.say a u).uns l hh).sgn c d := fun _ _ _ _ _ _ _ => rfl
    by_cases c0 : wd = 0 <;> by_cases c1 : g_Sieve_isLess (mL M b 2) (mL M a 2) = 0 <;> by_cases c2 : g_Sieve_isLess (mL M a 3) (mL M b 3) = 0 <;> by_cases c3 : 0 ≤ lg_cmp (mL M b 4) (mL M a 4) <;> by_cases c4 : lg_cmp (mL M b 5) (mL M a 5) ≤ 0 <;> simp only [c0, c1, c2, c3, c4, if_true, if_false] <;> rw [sy]
  have e2 : K_Reckoner_join 110 a b wd t M := by
    unfold K_Reckoner_join K_Reckoner_join_0 K_Reckoner_join_30 K_Reckoner_join_60 K_Reckoner_join_84 K_Reckoner_join_87 K_Reckoner_join_113 K_Reckoner_join_135 K_Reckoner_join_170
    simp only [h.R110_5, v_say, v_uns, v_sgn, mR_sV, mT_sV, gv6_sV, sV_sV, mL_sVne _ _ _ _ na, mL_sVne _ _ _ _ nb]
    simp [t1, t5, ha, hb, kv_say, kv_uns, kv_sgn, mT_sV, kf]
  obtain ⟨f1, f2, f3⟩ := join_199 (M := sV M 132 (rJoin wd (gv6 M a) (gv6 M b))) (h.kept rfl) (t := t) ht (by rw [gv6_sV]; exact bu_join0)
  rw [gv6_sV] at f3
  rw [e1]
  exact ⟨e2, (Fr.sv j132).trans f2, f3⟩
