/-! part 47zzl: the component's Transfer: calls, whole (gen/tpl.py) -/
theorem c_trim {M : XM} (h : Sh M) : K_Transfer_trim 133 M ∧ TQ M (if (vwC M 134 1).so = 0 then 1 else if (vwC M 134 1).so ≠ 2 ∨ (vwC M 134 1).de ≠ 0 then 8 else numb (vwC M 134 2), fl (fun t => t.so = 4 ∨ t.so = 5) (vwC M 134) 75, 0) (g_Transfer_trim 133 M) := by
  obtain ⟨n1, n2⟩ := c_num h (n := 2) (by decide)
  obtain ⟨p1, p2⟩ := c_own h (n := 1) (by decide)
  obtain ⟨q1, q2⟩ := c_isRead h (n := 1) (by decide)
  have e1 : Int32.ofNat 1 = 1 := rfl
  have e2 : Int32.ofNat 2 = 2 := rfl
  rw [e1] at p1 p2 q1 q2
  rw [e2] at n1 n2
  have tN := h.now (n := 1) (by decide)
  have eN : thC M (136 + 2 * 1) = vwC M 134 1 := (vwC_at (by decide)).symm
  have eN0 : mI M (136 + 2 * 1) 0 = (vwC M 134 1).so := by rw [← eN]; rfl
  have eN1 : mI M (136 + 2 * 1) 1 = (vwC M 134 1).de := by rw [← eN]; rfl
  unfold g_Transfer_trim K_Transfer_trim g_Transfer_trim_0 K_Transfer_trim_0 g_Transfer_trim_6 K_Transfer_trim_6 g_Transfer_trim_31 g_Transfer_trim_40 K_Transfer_trim_40
  rw [p1, q1, eN0, eN1, n1]
  simp only [f01]
  refine kq_and h.T133 (kq_and p2 (kq_and h.T133 (kq_and q2 (kq_ifn (fun c0 => ?_) (fun c0 => kq_and tN.1 (kq_ifp (fun c1 => kq_and tN.1 (kq_ifp (fun c2 => kq_and h.T133 (kq_and n2 (kq_ifp (fun c3 => ?_) (fun c3 => ?_)))) (fun c2 => ?_))) (fun c1 => ?_)))))))
  · rw [if_pos c0]; exact TQ.no (w := 1) (by decide) _ _
  · rw [if_neg c0, if_neg (fun z => z.elim (fun q => q c1) (fun q => q c2)), c3]
    exact trim_loop h 75 0 xF M (by omega) xF_75 Fr.rf fl_0.symm
  · rw [if_neg c0, if_neg (fun z => z.elim (fun q => q c1) (fun q => q c2))]
    exact TQ.no c3 _ _
  · rw [if_neg c0, if_pos (Or.inr c2)]; exact TQ.no (w := 8) (by decide) _ _
  · rw [if_neg c0, if_pos (Or.inl c1)]; exact TQ.no (w := 8) (by decide) _ _
/-- behind the arguments -/
def agS (i : Int32) (σ : Sg) : Sg := if i = 6 then fl (fun t => t.so = 4 ∨ t.so = 5) σ 75 else σ
def agK (i kn : Int32) : Int32 := if i = 6 then 0 else kn
theorem AQ.tq {M : XM} {w : Int32} {r : Int32 × XM} (h : AQ M w r) : TQ M (w, vwC M 134, mI M 134 1) r := ⟨h.2.ts, h.1, fun _ => ⟨h.2.vw, h.2.kn⟩⟩
theorem c_args {M : XM} (h : Sh M) (ws : WS (vwC M 134)) (wm : WM (mpC M)) (i : Int32) : K_Transfer_arguments 133 i M ∧ TQ M (args (mpC M) i (vwC M 134) (mI M 134 1), agS i (vwC M 134), agK i (mI M 134 1)) (g_Transfer_arguments 133 i M) := by
  obtain ⟨m1, m2⟩ := c_map h ws 1 2
  obtain ⟨m3, m4⟩ := c_map h ws 2 2
  have T : ∀ {w : Int32} {r : Int32 × XM}, i ≠ 6 → AQ M w r → TQ M (w, agS i (vwC M 134), agK i (mI M 134 1)) r := fun i6 a => by
    unfold agS agK; rw [if_neg i6, if_neg i6]; exact a.tq
  unfold g_Transfer_arguments K_Transfer_arguments g_Transfer_arguments_0 K_Transfer_arguments_0 args
  refine kq_if (fun c1 => ?_) (fun c1 => kq_if (fun c2 => ?_) (fun c2 => kq_if (fun c3 => ?_) (fun c3 => kq_if (fun c4 => ?_) (fun c4 => kq_ifn (fun c5 => ?_) (fun c5 => kq_ifp (fun c6 => ?_) (fun c6 => ?_))))))
  · rw [if_pos c1]
    have i6 : i ≠ 6 := by rw [c1]; decide
    rw [m1]
    unfold g_Transfer_arguments_47 K_Transfer_arguments_47 thn
    simp only [mpk_le]
    refine kq_and h.T133 (kq_and m2 (kq_ifp (fun a => ?_) (fun a => ?_)))
    · rw [if_pos a]
      obtain ⟨k1, k2⟩ := c_key h ws wm (mpk_0 a)
      exact ⟨⟨h.T133, k1⟩, T i6 k2⟩
    · rw [if_neg a]; exact T i6 (AQ.id _)
  · rw [if_neg c1, if_pos c2]
    have i6 : i ≠ 6 := by rw [c2]; decide
    rw [m1]
    unfold g_Transfer_arguments_67 K_Transfer_arguments_67 g_Transfer_arguments_79 K_Transfer_arguments_79 g_Transfer_arguments_109 K_Transfer_arguments_109 thn
    simp only [mpk_le]
    refine kq_and h.T133 (kq_and m2 (kq_if (fun a => ?_) (fun a => ?_)))
    · rw [if_pos a]
      obtain ⟨k1, k2, k3⟩ := c_key h ws wm (mpk_0 a)
      generalize g_Transfer_key 133 M = r at k2 k3 ⊢
      obtain ⟨r1, M1⟩ := r
      have k2' : r1 = _ := k2
      have k3' : B9 M M1 := k3
      subst k2'
      simp only [tel_le]
      have s1 := k3'.ts.sh h
      have v1 := k3'.vw
      have ws1 : WS (vwC M1 134) := by rw [v1]; exact ws
      have wm1 : WM (mpC M1) := by rw [k3'.mp]; exact wm
      obtain ⟨y1, y2, y3, y4, y5, y6, y7⟩ := c_tellsV s1 ws1 wm1 (by rw [v1]; exact mpk_0 a)
      rw [v1] at y4 y5 y6 y7
      rw [s1.R133_1, s1.R106_2, y2, y4, s1.N109]
      refine kq_and h.T133 (kq_and k1 (kq_if (fun b => ?_) (fun b => ?_)))
      · rw [if_pos b]
        refine kq_and s1.T133 (kq_and s1.T106 (kq_and s1.T133 (kq_and y1 (kq_and y3 (kq_and s1.T109 (kq_and y5 (kq_and s1.T133 (kq_and y6 ?_))))))))
        obtain ⟨z1, z2⟩ := y7
        rw [k3'.mp, k3'.kn] at z1
        generalize g_Transfer_tells 133 3 (mI M1 109 (ix (vwC M 134 1).de)) M1 = r at z1 z2 ⊢
        obtain ⟨r2, M2⟩ := r
        have z1' : r2 = _ := z1
        have z2' : B9 M M2 := k3'.trans z2
        subst z1'
        simp only [tel_le]
        have s2 := z2'.ts.sh h
        obtain ⟨n1, n2⟩ := c_num s2 (n := 4) (by decide)
        have e4 : Int32.ofNat 4 = 4 := rfl
        rw [e4, z2'.vw] at n1
        rw [e4] at n2
        refine kq_ifp (fun d => ?_) (fun d => ?_)
        · rw [if_pos d, n1]
          exact ⟨⟨s2.T133, n2⟩, T i6 ⟨rfl, z2'⟩⟩
        · rw [if_neg d]; exact T i6 ⟨rfl, z2'⟩
      · rw [if_neg b]
        exact kq_ifp (fun z => absurd z b) (fun _ => T i6 ⟨rfl, k3'⟩)
    · rw [if_neg a]
      exact kq_if (fun z => absurd z a) (fun _ => kq_ifp (fun z => absurd z a) (fun _ => T i6 (AQ.id _)))
  · rw [if_neg c1, if_neg c2, if_pos c3]
    have i6 : i ≠ 6 := by rw [c3]; decide
    rw [m3]
    unfold g_Transfer_arguments_131 K_Transfer_arguments_131 thn
    simp only [mpk_le]
    refine kq_and h.T133 (kq_and m4 (kq_ifp (fun a => ?_) (fun a => ?_)))
    · rw [if_pos a]
      obtain ⟨k1, k2⟩ := c_key h ws wm (mpk_0 a)
      exact ⟨⟨h.T133, k1⟩, T i6 k2⟩
    · rw [if_neg a]; exact T i6 (AQ.id _)
  · rw [if_neg c1, if_neg c2, if_neg c3, if_pos c4]
    have i6 : i ≠ 6 := by rw [c4]; decide
    obtain ⟨k1, k2⟩ := c_send h ws
    exact ⟨⟨h.T133, k1⟩, T i6 k2⟩
  · rw [if_neg c1, if_neg c2, if_neg c3, if_neg c4, if_pos c5]
    have i6 : i ≠ 6 := by rw [c5]; decide
    exact T i6 (AQ.id 0)
  · rw [if_neg c1, if_neg c2, if_neg c3, if_neg c4, if_neg c5, if_pos c6]
    unfold agS agK
    rw [if_pos c6, if_pos c6]
    obtain ⟨k1, k2⟩ := c_trim h
    exact ⟨⟨h.T133, k1⟩, k2⟩
  · rw [if_neg c1, if_neg c2, if_neg c3, if_neg c4, if_neg c5, if_neg c6]
    exact TQ.no (w := 7) (by decide) _ _
theorem args_le {mp : Mp} {i : Int32} {σ : Sg} {kn : Int32} : args mp i σ kn ≤ 0 ↔ args mp i σ kn = 0 := by
  have T : ∀ a b : Int32, (a ≤ 0 ↔ a = 0) → (b ≤ 0 ↔ b = 0) → (thn a b ≤ 0 ↔ thn a b = 0) := fun a b ha hb => by
    unfold thn; split
    · exact hb
    · exact ha
  unfold args
  split
  · exact T _ _ mpk_le tel_le
  · split
    · exact T _ _ mpk_le (T _ _ tel_le (T _ _ tel_le numb_le))
    · split
      · exact T _ _ mpk_le tel_le
      · split
        · refine T _ _ mpk_le (T _ _ numb_le ?_)
          split
          · decide
          · exact tel_le
        · split
          · decide
          · split
            · split
              · decide
              · split
                · decide
                · exact numb_le
            · decide
/-- registers 1 to 5 have nothing -/
def nx5 (σ : Sg) (k : Nat) : Sg := fun n => if 1 ≤ n ∧ n < k then tNo else σ n
theorem i32_6le : ∀ k : Fin 7, ((6 : Int32) ≤ Int32.ofNat k.val ↔ 6 ≤ k.val) := by decide +kernel
theorem call_loop {M : XM} (h : Sh M) : ∀ (m k f : Nat) (M1 : XM), k + m = 6 → 1 ≤ k → m < f → NF M M1 → vwC M1 134 = nx5 (vwC M 134) k →
    K_Transfer_call_71 f 133 (Int32.ofNat k) M1 ∧ TQ M (0, nx5 (vwC M 134) 6, mI M 134 1) (g_Transfer_call_71 f 133 (Int32.ofNat k) M1) := by
  intro m
  induction m with
  | zero =>
    intro k f M1 hk h1 hf nf hv
    obtain rfl : k = 6 := by omega
    obtain ⟨f, rfl⟩ : ∃ f', f = f' + 1 := ⟨f - 1, by omega⟩
    conv => unfold K_Transfer_call_71 g_Transfer_call_71
    have i1 : (6 : Int32) ≤ Int32.ofNat 6 := by decide
    rw [if_pos i1]
    exact ⟨fun z => absurd i1 z, nf.ts, rfl, fun _ => ⟨hv, nf.kn⟩⟩
  | succ m ih =>
    intro k f M1 hk h1 hf nf hv
    obtain ⟨f, rfl⟩ : ∃ f', f = f' + 1 := ⟨f - 1, by omega⟩
    have i1 : ¬ (6 : Int32) ≤ Int32.ofNat k := fun z => by have := (i32_6le ⟨k, by omega⟩).mp z; simp only at this; omega
    have ia : Int32.ofNat k + 1 = Int32.ofNat (k + 1) := i32_1add ⟨k, by omega⟩
    conv => unfold K_Transfer_call_71 g_Transfer_call_71
    rw [if_neg i1]
    have s1 := nf.ts.sh h
    obtain ⟨p1, p2⟩ := c_own s1 (n := k) (by omega)
    have tK := s1.now (n := k) (by omega)
    obtain ⟨u1, u2⟩ := h_nothing tK
    unfold g_Transfer_call_87 K_Transfer_call_87
    rw [p1, u1, ia]
    obtain ⟨n1, n2⟩ := NF.st (n := k) (by omega) nf (0, 0, -1, vOne 0)
    have nx := ih (k + 1) f _ (by omega) (by omega) (by omega) n1 (by
      rw [n2, hv]
      funext n
      unfold up nx5
      by_cases e : n = k
      · rw [if_pos e, if_pos ⟨by omega, by omega⟩]
      · rw [if_neg e]
        by_cases q : 1 ≤ n ∧ n < k
        · rw [if_pos q, if_pos ⟨q.1, by omega⟩]
        · rw [if_neg q, if_neg (fun z => q ⟨z.1, by omega⟩)])
    exact ⟨fun _ => ⟨s1.T133, p2, tK.1, u2, nx.1⟩, nx.2⟩
theorem vwC_hi {M : XM} {r n : Nat} (h : ¬ n < 75) : vwC M r n = tNo := if_neg h
theorem TQ.le {M : XM} {w w' : Int32 × Sg × Int32} {r : Int32 × XM} (h : TQ M w r) (e : w.1 = w'.1) (e2 : w'.1 = 0 → w.2 = w'.2) : TQ M w' r := ⟨h.1, h.2.1.trans e, fun z => by rw [← e2 z]; exact h.2.2 (e.trans z)⟩
theorem fr_of {M M1 : XM} {t : Nat} (h : OX t M M1) (h1 : 136 ≤ t) (h2 : t + 1 < 286) : ∃ J : Nat → Prop, Fr J M M1 ∧ ∀ q, J q → JX q ∨ (136 ≤ q ∧ q < 286) := ⟨_, h, fun q z => by rcases z with z | z | z; exact Or.inr (by omega); exact Or.inr (by omega); exact Or.inl z⟩
theorem c_call {M : XM} (h : Sh M) {k : Int32} {I : In} (hI : InC M k I) (ws : WS (vwC M 134)) (wm : WM (mpC M)) : K_Transfer_call 133 k M ∧ TQ M (args (mpC M) I.i (vwC M 134) (mI M 134 1), cls I.i k (vwC M 134), if I.i = 6 then 0 else mI M 134 1) (g_Transfer_call 133 k M) := by
  obtain ⟨m1, m2⟩ := hI.2.2.2.2.1
  obtain ⟨a1, a2, a3, a4⟩ := c_args h ws wm I.i
  unfold g_Transfer_call K_Transfer_call g_Transfer_call_0 K_Transfer_call_0 g_Transfer_call_9 K_Transfer_call_9 g_Transfer_call_14 K_Transfer_call_14
  rw [h.R133_0, m1]
  generalize g_Transfer_arguments 133 I.i M = r at a2 a3 a4 ⊢
  obtain ⟨r1, M1⟩ := r
  have a3' : r1 = args (mpC M) I.i (vwC M 134) (mI M 134 1) := a3
  have a2' : TS M M1 := a2
  subst a3'
  have s1 := a2'.sh h
  refine kq_and h.T133 (kq_and h.T102 (kq_and m2 (kq_and h.T133 (kq_and a1 ?_))))
  simp only [args_le]
  refine kq_ifp (fun c => ?_) (fun c => ⟨a2', rfl, fun z => absurd z c⟩)
  have v1 : vwC M1 134 = agS I.i (vwC M 134) := (a4 c).1
  have v2 : mI M1 134 1 = agK I.i (mI M 134 1) := (a4 c).2
  obtain ⟨p1, p2⟩ := c_own s1 (n := 1) (by decide)
  obtain ⟨p3, p4⟩ := c_own s1 (n := 0) (by decide)
  have e1 : Int32.ofNat 1 = 1 := rfl
  have e0 : Int32.ofNat 0 = 0 := rfl
  rw [e1] at p1 p2
  rw [e0] at p3 p4
  have t1 := s1.now (n := 1) (by decide)
  have t0 := s1.now (n := 0) (by decide)
  refine And.imp_right (fun z => TQ.mv z a2') ?_
  -- out of the loop
  have fin : ∀ (M2 : XM) (σ2 : Sg), TS M1 M2 → mI M2 134 1 = mI M1 134 1 → vwC M2 134 = σ2 → nx5 σ2 6 = cls I.i k (vwC M 134) → K_Transfer_call_68 133 M2 ∧ TQ M1 (args (mpC M) I.i (vwC M 134) (mI M 134 1), cls I.i k (vwC M 134), if I.i = 6 then 0 else mI M 134 1) (g_Transfer_call_68 133 M2) := by
    intro M2 σ2 f1 f2 f3 f4
    unfold g_Transfer_call_68 K_Transfer_call_68
    have s2 := f1.sh s1
    obtain ⟨l1, l2⟩ := call_loop s2 5 1 xF M2 (by omega) (by omega) (by have := xF_75; omega) Fr.rf (by
      funext n; unfold nx5; rw [if_neg (fun z => by omega)])
    rw [e1] at l1 l2
    refine ⟨l1, TQ.mv (TQ.le l2 c.symm (fun _ => ?_)) f1⟩
    show (nx5 (vwC M2 134) 6, mI M2 134 1) = (cls I.i k (vwC M 134), if I.i = 6 then 0 else mI M 134 1)
    rw [f3, f4, f2, v2]; rfl
  refine kq_if (fun c1 => ?_) (fun c1 => ?_)
  · -- SEEK
    have i6 : ¬ I.i = 6 := by rw [c1]; decide
    have v1' : vwC M1 134 = vwC M 134 := by rw [v1]; unfold agS; rw [if_neg i6]
    have eN : thC M1 (136 + 2 * 1) = vwC M1 134 1 := (vwC_at (by decide)).symm
    have eN1 : mI M1 (136 + 2 * 1) 1 = (vwC M 134 1).de := by rw [← v1', ← eN]; rfl
    unfold g_Transfer_call_36 K_Transfer_call_36 g_Transfer_call_41 K_Transfer_call_41
    rw [p1, eN1]
    obtain ⟨k1, k2, k3⟩ := c_forget s1 k
    have s2 := k2.ts.sh s1
    obtain ⟨p5, p6⟩ := c_own s2 (n := 0) (by decide)
    rw [e0] at p5 p6
    have t0' := s2.now (n := 0) (by decide)
    obtain ⟨u1, u2⟩ := h_become t0' 8 (vwC M 134 1).de k
    rw [p5, u1]
    obtain ⟨n1, n2⟩ := NF.st (n := 0) (by decide) k2 (8, (vwC M 134 1).de, k, vOne 0)
    rw [k3] at n2
    refine kq_and s1.T133 (kq_and p2 (kq_and t1.1 (kq_and s1.T133 (kq_and k1 (kq_and s2.T133 (kq_and p6 (kq_and t0'.1 (kq_and u2 (fin _ _ n1.ts n1.kn n2 ?_)))))))))
    funext n
    unfold nx5 cls up fl
    rw [v1']
    by_cases n0 : n = 0
    · rw [if_pos n0, if_neg (fun z => by omega), if_pos n0, if_pos c1]
    · rw [if_neg n0, if_neg n0]
      by_cases n6 : n < 6
      · rw [if_pos ⟨by omega, n6⟩, if_pos n6]
      · rw [if_neg (fun z => n6 z.2), if_neg n6]
        unfold drp
        by_cases n75 : n < 75
        · by_cases q : (vwC M 134 n).so = 8 ∧ (vwC M 134 n).og = k
          · rw [if_pos ⟨n75, q⟩, if_pos (Or.inr ⟨c1, q⟩)]
          · rw [if_neg (fun z => q z.2), if_neg (fun z => z.elim (fun y => i6 y.1) (fun y => q y.2))]
        · rw [if_neg (fun z => n75 z.1), if_neg]
          rw [vwC_hi n75]
          rintro (⟨y, _⟩ | ⟨_, y, _⟩)
          · exact i6 y
          · exact absurd y (by decide)
  · obtain ⟨y1, y2, y3⟩ := c_any s1 t0 (by omega) 8
    rw [p3]
    obtain ⟨n1, n2, n3⟩ := OX.now (n := 0) (by decide) y2
    rw [y3] at n1
    refine kq_and s1.T133 (kq_and p4 (kq_and s1.T133 (kq_and y1 (fin _ _ n3 n2 n1 ?_))))
    have e64 : vCut (8 * 8) vFree = vFree := cut_64 free_T
    rw [e64]
    funext n
    unfold nx5 cls up
    rw [v1]
    by_cases n0 : n = 0
    · rw [if_pos n0, if_neg (fun z => by omega), if_pos n0, if_neg c1]
    · rw [if_neg n0, if_neg n0]
      by_cases n6 : n < 6
      · rw [if_pos ⟨by omega, n6⟩, if_pos n6]
      · rw [if_neg (fun z => n6 z.2), if_neg n6]
        unfold drp agS
        by_cases i6 : I.i = 6
        · rw [if_pos i6]
          unfold fl
          by_cases n75 : n < 75
          · by_cases q : (vwC M 134 n).so = 4 ∨ (vwC M 134 n).so = 5
            · rw [if_pos ⟨n75, q⟩, if_pos (Or.inl ⟨i6, q⟩)]
            · rw [if_neg (fun z => q z.2), if_neg (fun z => z.elim (fun y => q y.2) (fun y => c1 y.1))]
          · rw [if_neg (fun z => n75 z.1), if_neg]
            rw [vwC_hi n75]
            rintro (⟨_, y | y⟩ | ⟨y, _⟩)
            · exact absurd y (by decide)
            · exact absurd y (by decide)
            · exact c1 y
        · rw [if_neg i6, if_neg (fun z => z.elim (fun y => i6 y.1) (fun y => c1 y.1))]
