/-! part 47zzk: the component's Transfer: calls (gen/tpl.py) -/
/-- things below k that C holds of are cleared -/
def fl (C : TH → Prop) [DecidablePred C] (σ : Sg) (k : Nat) : Sg := fun n => if n < k ∧ C (σ n) then clr n else σ n
def NF (M M' : XM) : Prop := Fr (fun q => 136 ≤ q ∧ q < 286) M M'
theorem NF.ts {M M' : XM} (h : NF M M') : TS M M' := ⟨Fr.weak h (fun q z => by unfold TJ; omega), (h.2 133 (by omega) 5).1, (h.2 133 (by omega) 6).1⟩
theorem NF.kn {M M' : XM} (h : NF M M') : mI M' 134 1 = mI M 134 1 := (h.2 134 (by omega) 1).1
theorem NF.st {M M1 : XM} {n : Nat} (hn : n < 75) (h : NF M M1) (t : TH) : NF M (sT M1 (136 + 2 * n) t) ∧ vwC (sT M1 (136 + 2 * n) t) 134 = up (vwC M1 134) n t := by
  refine ⟨Fr.trans h (Fr.st (by omega) (by omega)), ?_⟩
  have := (OX.now hn (OX.st (M := M1) (t := 136 + 2 * n) t)).1
  rw [thC_sT] at this; exact this
theorem fl_0 {C : TH → Prop} [DecidablePred C] {σ : Sg} : fl C σ 0 = σ := by
  funext n; unfold fl; rw [if_neg (fun z => absurd z.1 (Nat.not_lt_zero n))]
theorem fl_at {C : TH → Prop} [DecidablePred C] {σ : Sg} (k : Nat) : fl C σ k k = σ k := by unfold fl; rw [if_neg (fun z => absurd z.1 (Nat.lt_irrefl k))]
theorem fl_yes {C : TH → Prop} [DecidablePred C] {σ : Sg} {k : Nat} (h : C (σ k)) : up (fl C σ k) k (clr k) = fl C σ (k + 1) := by
  funext n
  unfold up fl
  by_cases e : n = k
  · rw [if_pos e, e, if_pos ⟨by omega, h⟩]
  · rw [if_neg e]
    by_cases q : n < k ∧ C (σ n)
    · rw [if_pos q, if_pos ⟨by omega, q.2⟩]
    · rw [if_neg q, if_neg (fun z => q ⟨by omega, z.2⟩)]
theorem fl_no {C : TH → Prop} [DecidablePred C] {σ : Sg} {k : Nat} (h : ¬ C (σ k)) : fl C σ k = fl C σ (k + 1) := by
  funext n
  unfold fl
  by_cases q : n < k ∧ C (σ n)
  · rw [if_pos q, if_pos ⟨by omega, q.2⟩]
  · rw [if_neg q, if_neg]
    rintro ⟨z1, z2⟩
    by_cases e : n = k
    · rw [e] at z2; exact h z2
    · exact q ⟨by omega, z2⟩
theorem i32_11le : ∀ k : Fin 75, ((11 : Int32) ≤ Int32.ofNat k.val ↔ ¬ k.val < 11) := by decide +kernel
theorem i32_1add : ∀ k : Fin 75, Int32.ofNat k.val + 1 = Int32.ofNat (k.val + 1) := by decide +kernel
theorem clr_lo {k : Nat} (h : k < 11) : clr k = (0, 0, -1, vOne 0) := if_pos h
theorem clr_hi {k : Nat} (h : ¬ k < 11) : clr k = (9, 0, -1, vOne 0) := if_neg h
theorem trim_loop {M : XM} (h : Sh M) : ∀ (m k f : Nat) (M1 : XM), k + m = 75 → m < f → NF M M1 → vwC M1 134 = fl (fun t => t.so = 4 ∨ t.so = 5) (vwC M 134) k →
    K_Transfer_trim_46 f 133 0 (Int32.ofNat k) M1 ∧ TQ M (0, fl (fun t => t.so = 4 ∨ t.so = 5) (vwC M 134) 75, 0) (g_Transfer_trim_46 f 133 0 (Int32.ofNat k) M1) := by
  intro m
  induction m with
  | zero =>
    intro k f M1 hk hf nf hv
    obtain rfl : k = 75 := by omega
    obtain ⟨f, rfl⟩ : ∃ f', f = f' + 1 := ⟨f - 1, by omega⟩
    conv => unfold K_Transfer_trim_46 g_Transfer_trim_46
    have i1 : (75 : Int32) ≤ Int32.ofNat 75 := by decide
    rw [if_pos i1]
    have s1 := nf.ts.sh h
    refine ⟨⟨fun _ => ⟨s1.T133, by rw [s1.R133_3]; exact s1.St134.1⟩, fun z => absurd i1 z⟩, ?_⟩
    unfold g_Transfer_trim_149
    rw [s1.R133_3]
    refine ⟨nf.ts.trans ⟨Fr.wi (Or.inr (Or.inr (by omega))), by rw [mI_wI, if_neg (by omega)], by rw [mI_wI, if_neg (by omega)]⟩, rfl, fun _ => ⟨?_, ?_⟩⟩
    · rw [← hv]
      funext n
      unfold vwC
      by_cases q : n < 75
      · simp only [if_pos q]; exact thC_wIst (by omega)
      · simp only [if_neg q]
    · rw [mI_wI, if_pos ⟨rfl, rfl⟩]
  | succ m ih =>
    intro k f M1 hk hf nf hv
    obtain ⟨f, rfl⟩ : ∃ f', f = f' + 1 := ⟨f - 1, by omega⟩
    have hk75 : k < 75 := by omega
    have i1 : ¬ (75 : Int32) ≤ Int32.ofNat k := i32_le75 ⟨k, hk75⟩
    have ik : ix (Int32.ofNat k) = k := ix75 ⟨k, by omega⟩
    have vk : vp_in (Int32.ofNat k) 75 := vp75 ⟨k, hk75⟩
    have l11 : (11 : Int32) ≤ Int32.ofNat k ↔ ¬ k < 11 := i32_11le ⟨k, hk75⟩
    have ia : Int32.ofNat k + 1 = Int32.ofNat (k + 1) := i32_1add ⟨k, hk75⟩
    have s1 := nf.ts.sh h
    have tK := s1.now hk75
    have eK : thC M1 (136 + 2 * k) = vwC M 134 k := by
      have := congrFun hv k
      rw [fl_at, vwC_at hk75] at this; exact this
    have eK0 : mI M1 (136 + 2 * k) 0 = (vwC M 134 k).so := by rw [← eK]; rfl
    conv => unfold K_Transfer_trim_46 g_Transfer_trim_46
    rw [if_neg i1]
    unfold g_Transfer_trim_84 K_Transfer_trim_84 g_Transfer_trim_89 K_Transfer_trim_89 g_Transfer_trim_117 K_Transfer_trim_117 g_Transfer_trim_135 K_Transfer_trim_135
    rw [s1.R133_3, s1.St134.2.1, s1.St134.2.2.2.1, ik, (s1.St134.2.2.2.2 k hk75).1]
    rw [show 134 + 2 + 2 * k = 136 + 2 * k from rfl, eK0, ia]
    obtain ⟨u1, u2⟩ := h_nothing tK
    obtain ⟨u3, u4⟩ := h_bytes tK 0
    rw [u1, u3]
    -- one that is cleared
    have Y : ∀ t, t = clr k → ((vwC M 134 k).so = 4 ∨ (vwC M 134 k).so = 5) → K_Transfer_trim_46 f 133 0 (Int32.ofNat (k + 1)) (sT M1 (136 + 2 * k) t) ∧ TQ M (0, fl (fun t => t.so = 4 ∨ t.so = 5) (vwC M 134) 75, 0) (g_Transfer_trim_46 f 133 0 (Int32.ofNat (k + 1)) (sT M1 (136 + 2 * k) t)) := by
      intro t et hc
      obtain ⟨n1, n2⟩ := NF.st hk75 nf t
      exact ih (k + 1) f _ (by omega) (by omega) n1 (by rw [n2, hv, et]; exact fl_yes (C := fun t => t.so = 4 ∨ t.so = 5) hc)
    have B : ((vwC M 134 k).so = 4 ∨ (vwC M 134 k).so = 5) → ((((1 : Int32) = 0 → ((1 : Int32) = 0 → K_Transfer_trim_46 f 133 0 (Int32.ofNat (k + 1)) M1) ∧ (¬ (1 : Int32) = 0 → mT M1 133 = 23 ∧ mT M1 134 = 24 ∧ mT M1 (134 + 1) = 106 ∧ vp_in (Int32.ofNat k) 75 ∧ mT M1 (136 + 2 * k) = 25 ∧ K_Thing_bytes (136 + 2 * k) 0 M1 ∧ K_Transfer_trim_46 f 133 0 (Int32.ofNat (k + 1)) (sT M1 (136 + 2 * k) (9, 0, -1, vOne 0)))) ∧ (¬ (1 : Int32) = 0 → ((11 : Int32) ≤ Int32.ofNat k → ((1 : Int32) = 0 → K_Transfer_trim_46 f 133 0 (Int32.ofNat (k + 1)) M1) ∧ (¬ (1 : Int32) = 0 → mT M1 133 = 23 ∧ mT M1 134 = 24 ∧ mT M1 (134 + 1) = 106 ∧ vp_in (Int32.ofNat k) 75 ∧ mT M1 (136 + 2 * k) = 25 ∧ K_Thing_bytes (136 + 2 * k) 0 M1 ∧ K_Transfer_trim_46 f 133 0 (Int32.ofNat (k + 1)) (sT M1 (136 + 2 * k) (9, 0, -1, vOne 0)))) ∧ (¬ (11 : Int32) ≤ Int32.ofNat k → mT M1 133 = 23 ∧ mT M1 134 = 24 ∧ mT M1 (134 + 1) = 106 ∧ vp_in (Int32.ofNat k) 75 ∧ mT M1 (136 + 2 * k) = 25 ∧ K_Thing_nothing (136 + 2 * k) M1 ∧ K_Transfer_trim_46 f 133 0 (Int32.ofNat (k + 1)) (sT M1 (136 + 2 * k) (0, 0, -1, vOne 0))))) ∧ TQ M (0, fl (fun t => t.so = 4 ∨ t.so = 5) (vwC M 134) 75, 0) (if (1 : Int32) = 0 then (if (1 : Int32) = 0 then g_Transfer_trim_46 f 133 0 (Int32.ofNat (k + 1)) M1 else g_Transfer_trim_46 f 133 0 (Int32.ofNat (k + 1)) (sT M1 (136 + 2 * k) (9, 0, -1, vOne 0))) else if (11 : Int32) ≤ Int32.ofNat k then (if (1 : Int32) = 0 then g_Transfer_trim_46 f 133 0 (Int32.ofNat (k + 1)) M1 else g_Transfer_trim_46 f 133 0 (Int32.ofNat (k + 1)) (sT M1 (136 + 2 * k) (9, 0, -1, vOne 0))) else g_Transfer_trim_46 f 133 0 (Int32.ofNat (k + 1)) (sT M1 (136 + 2 * k) (0, 0, -1, vOne 0)))) := by
      intro hc
      refine kq_if (fun z => absurd z i1_0) (fun _ => kq_if (fun a => kq_if (fun z => absurd z i1_0) (fun _ => ?_)) (fun a => ?_))
      · exact kq_and s1.T133 (kq_and s1.St134.1 (kq_and s1.St134.2.2.1 (kq_and vk (kq_and tK.1 (kq_and u4 (Y _ (clr_hi (l11.mp a)).symm hc))))))
      · exact kq_and s1.T133 (kq_and s1.St134.1 (kq_and s1.St134.2.2.1 (kq_and vk (kq_and tK.1 (kq_and u2 (Y _ (clr_lo (by rw [l11] at a; omega)).symm hc))))))
    have N : ¬ ((vwC M 134 k).so = 4 ∨ (vwC M 134 k).so = 5) → K_Transfer_trim_46 f 133 0 (Int32.ofNat (k + 1)) M1 ∧ TQ M (0, fl (fun t => t.so = 4 ∨ t.so = 5) (vwC M 134) 75, 0) (g_Transfer_trim_46 f 133 0 (Int32.ofNat (k + 1)) M1) := fun hc =>
      ih (k + 1) f M1 (by omega) (by omega) nf (by rw [hv]; exact fl_no (C := fun t => t.so = 4 ∨ t.so = 5) hc)
    refine And.imp_left (fun x => ⟨fun z => absurd z i1, fun _ => x⟩) ?_
    refine kq_and s1.T133 (kq_and s1.St134.1 (kq_and s1.St134.2.2.1 (kq_and vk (kq_and tK.1 (kq_if (fun c4 => B (Or.inl c4)) (fun c4 => ?_))))))
    refine kq_and s1.T133 (kq_and s1.St134.1 (kq_and s1.St134.2.2.1 (kq_and vk (kq_and tK.1 (kq_if (fun c5 => B (Or.inr c5)) (fun c5 => ?_))))))
    exact kq_if (fun _ => kq_if (fun _ => N (fun z => z.elim c4 c5)) (fun z => absurd rfl z)) (fun z => absurd rfl z)
def FQ (M : XM) (p : Int32) (X : XM) : Prop := NF M X ∧ vwC X 134 = fl (fun t => t.so = 8 ∧ t.og = p) (vwC M 134) 75
theorem forget_loop {M : XM} (h : Sh M) (p : Int32) : ∀ (m k f : Nat) (M1 : XM), k + m = 75 → m < f → NF M M1 → vwC M1 134 = fl (fun t => t.so = 8 ∧ t.og = p) (vwC M 134) k →
    K_Transfer_forget_2 f 133 p (Int32.ofNat k) M1 ∧ FQ M p (g_Transfer_forget_2 f 133 p (Int32.ofNat k) M1) := by
  intro m
  induction m with
  | zero =>
    intro k f M1 hk hf nf hv
    obtain rfl : k = 75 := by omega
    obtain ⟨f, rfl⟩ : ∃ f', f = f' + 1 := ⟨f - 1, by omega⟩
    conv => unfold K_Transfer_forget_2 g_Transfer_forget_2
    have i1 : (75 : Int32) ≤ Int32.ofNat 75 := by decide
    rw [if_pos i1]
    exact ⟨fun z => absurd i1 z, nf, hv⟩
  | succ m ih =>
    intro k f M1 hk hf nf hv
    obtain ⟨f, rfl⟩ : ∃ f', f = f' + 1 := ⟨f - 1, by omega⟩
    have hk75 : k < 75 := by omega
    have i1 : ¬ (75 : Int32) ≤ Int32.ofNat k := i32_le75 ⟨k, hk75⟩
    have ik : ix (Int32.ofNat k) = k := ix75 ⟨k, by omega⟩
    have vk : vp_in (Int32.ofNat k) 75 := vp75 ⟨k, hk75⟩
    have l11 : (11 : Int32) ≤ Int32.ofNat k ↔ ¬ k < 11 := i32_11le ⟨k, hk75⟩
    have ia : Int32.ofNat k + 1 = Int32.ofNat (k + 1) := i32_1add ⟨k, hk75⟩
    have s1 := nf.ts.sh h
    have tK := s1.now hk75
    have eK : thC M1 (136 + 2 * k) = vwC M 134 k := by
      have := congrFun hv k
      rw [fl_at, vwC_at hk75] at this; exact this
    have eK0 : mI M1 (136 + 2 * k) 0 = (vwC M 134 k).so := by rw [← eK]; rfl
    have eK2 : mI M1 (136 + 2 * k) 2 = (vwC M 134 k).og := by rw [← eK]; rfl
    conv => unfold K_Transfer_forget_2 g_Transfer_forget_2
    rw [if_neg i1]
    unfold g_Transfer_forget_18 K_Transfer_forget_18 g_Transfer_forget_53 K_Transfer_forget_53
    rw [s1.R133_3, s1.St134.2.1, s1.St134.2.2.2.1, ik, (s1.St134.2.2.2.2 k hk75).1]
    rw [show 134 + 2 + 2 * k = 136 + 2 * k from rfl, eK0, eK2, ia]
    obtain ⟨u1, u2⟩ := h_nothing tK
    obtain ⟨u3, u4⟩ := h_bytes tK 0
    rw [u1, u3]
    have Y : ∀ t, t = clr k → ((vwC M 134 k).so = 8 ∧ (vwC M 134 k).og = p) → K_Transfer_forget_2 f 133 p (Int32.ofNat (k + 1)) (sT M1 (136 + 2 * k) t) ∧ FQ M p (g_Transfer_forget_2 f 133 p (Int32.ofNat (k + 1)) (sT M1 (136 + 2 * k) t)) := by
      intro t et hc
      obtain ⟨n1, n2⟩ := NF.st hk75 nf t
      exact ih (k + 1) f _ (by omega) (by omega) n1 (by rw [n2, hv, et]; exact fl_yes (C := fun t => t.so = 8 ∧ t.og = p) hc)
    have N : ¬ ((vwC M 134 k).so = 8 ∧ (vwC M 134 k).og = p) → K_Transfer_forget_2 f 133 p (Int32.ofNat (k + 1)) M1 ∧ FQ M p (g_Transfer_forget_2 f 133 p (Int32.ofNat (k + 1)) M1) := fun hc =>
      ih (k + 1) f M1 (by omega) (by omega) nf (by rw [hv]; exact fl_no (C := fun t => t.so = 8 ∧ t.og = p) hc)
    refine And.imp_left (fun x => fun _ => x) ?_
    refine kq_and s1.T133 (kq_and s1.St134.1 (kq_and s1.St134.2.2.1 (kq_and vk (kq_and tK.1 (kq_if (fun c8 => kq_and tK.1 (kq_if (fun c9 => kq_if (fun a => ?_) (fun a => ?_)) (fun c9 => N (fun z => c9 z.2)))) (fun c8 => N (fun z => c8 z.1)))))))
    · exact kq_and tK.1 (kq_and u4 (Y _ (clr_hi (l11.mp a)).symm ⟨c8, c9⟩))
    · exact kq_and tK.1 (kq_and u2 (Y _ (clr_lo (by rw [l11] at a; omega)).symm ⟨c8, c9⟩))
theorem c_forget {M : XM} (h : Sh M) (p : Int32) : K_Transfer_forget 133 p M ∧ FQ M p (g_Transfer_forget 133 p M) :=
  forget_loop h p 75 0 xF M (by omega) xF_75 Fr.rf fl_0.symm
theorem nn256 {v : Int32} (h1 : 0 ≤ v) (h2 : v ≤ 256) : ∃ n, n ≤ 256 ∧ v = Int32.ofNat n := by
  rw [Int32.le_iff_toInt_le] at h1 h2
  have e0 : (0 : Int32).toInt = 0 := rfl
  have e8 : (256 : Int32).toInt = 256 := rfl
  rw [e0] at h1; rw [e8] at h2
  refine ⟨v.toInt.toNat, by omega, ?_⟩
  apply Int32.toInt_inj.mp
  rw [toInt_ofNat32 (by omega)]; omega
theorem le_trans32 {a b c : Int32} (h : a ≤ b) (h' : b ≤ c) : a ≤ c := by
  rw [Int32.le_iff_toInt_le] at *; omega
theorem c_tells' {M : XM} (h : Sh M) (ws : WS (vwC M 134)) {n : Nat} (hn : n < 75) {b : Int32} (b1 : 0 ≤ b) (b2 : b ≤ 256) : K_Transfer_tells 133 (Int32.ofNat n) b M ∧ AQ M (tel (mpC M) (vwC M 134) (mI M 134 1) (vwC M 134 n) b) (g_Transfer_tells 133 (Int32.ofNat n) b M) := by
  obtain ⟨bn, hb, e⟩ := nn256 b1 b2
  rw [e]; exact c_tells h ws hn hb
theorem mpk_0 {mp : Mp} {t : TH} {x y : Int32} (h : mpk mp t x y = 0) : t.so = 6 := by
  unfold mpk at h
  by_cases c : t.so = 0
  · rw [if_pos c] at h; exact absurd h (by decide)
  · rw [if_neg c] at h
    by_cases c2 : t.so = 6 ∧ (mp.1 (ix t.de) = x ∨ mp.1 (ix t.de) = y)
    · exact c2.1
    · rw [if_neg c2] at h; exact absurd h (by decide)
theorem mpk_le {mp : Mp} {t : TH} {x y : Int32} : mpk mp t x y ≤ 0 ↔ mpk mp t x y = 0 := by
  unfold mpk
  split
  · decide
  · split
    · decide
    · decide
theorem numb_le {t : TH} : numb t ≤ 0 ↔ numb t = 0 := by
  unfold numb
  split
  · decide
  · split
    · decide
    · decide
theorem tel_le {mp : Mp} {σ : Sg} {kn : Int32} {t : TH} {b : Int32} : tel mp σ kn t b ≤ 0 ↔ tel mp σ kn t b = 0 := by
  unfold tel
  split
  · decide
  · split
    · split
      · decide
      · by_cases q : hasN σ (q5 t.de.toInt) (ix b)
        · rw [cif_pos q]; decide
        · rw [cif_neg q]; decide
    · split
      · split
        · decide
        · decide
      · split
        · split
          · decide
          · decide
        · decide
theorem c_key {M : XM} (h : Sh M) (ws : WS (vwC M 134)) (wm : WM (mpC M)) (c6 : (vwC M 134 1).so = 6) : K_Transfer_key 133 M ∧ AQ M (tel (mpC M) (vwC M 134) (mI M 134 1) (vwC M 134 2) ((mpC M).2.1 (ix (vwC M 134 1).de))) (g_Transfer_key 133 M) := by
  obtain ⟨p1, p2⟩ := c_own h (n := 1) (by decide)
  have e1 : Int32.ofNat 1 = 1 := rfl
  rw [e1] at p1 p2
  have tN := h.now (n := 1) (by decide)
  have eN : thC M (136 + 2 * 1) = vwC M 134 1 := (vwC_at (by decide)).symm
  have eN1 : mI M (136 + 2 * 1) 1 = (vwC M 134 1).de := by rw [← eN]; rfl
  obtain ⟨w1, w2⟩ := (ws 1).2.2.2.2.1 (Or.inl c6)
  obtain ⟨i1, i2, i3⟩ := ix8 w1 w2
  obtain ⟨_, ⟨m1, m2⟩, _⟩ := wm (ix (vwC M 134 1).de) i1
  obtain ⟨k1, k2⟩ := c_tells' h ws (n := 2) (by decide) m1 (le_trans32 m2 (by decide))
  unfold g_Transfer_key K_Transfer_key g_Transfer_key_0 K_Transfer_key_0
  rw [h.R133_1, p1, h.R106_1, eN1]
  exact ⟨⟨h.T133, h.T106, h.T133, p2, tN.1, h.T108, by rw [h.N108]; exact i3, h.T133, k1⟩, k2⟩
theorem c_tellsV {M : XM} (h : Sh M) (ws : WS (vwC M 134)) (wm : WM (mpC M)) (c6 : (vwC M 134 1).so = 6) : K_Transfer_own 133 1 M ∧ g_Transfer_own 133 1 M = 138 ∧ mT M 138 = 25 ∧ mI M 138 1 = (vwC M 134 1).de ∧ vp_in (vwC M 134 1).de 8 ∧ K_Transfer_tells 133 3 (mI M 109 (ix (vwC M 134 1).de)) M ∧ AQ M (tel (mpC M) (vwC M 134) (mI M 134 1) (vwC M 134 3) ((mpC M).2.2 (ix (vwC M 134 1).de))) (g_Transfer_tells 133 3 (mI M 109 (ix (vwC M 134 1).de)) M) := by
  obtain ⟨p1, p2⟩ := c_own h (n := 1) (by decide)
  have tN := h.now (n := 1) (by decide)
  have eN : thC M (136 + 2 * 1) = vwC M 134 1 := (vwC_at (by decide)).symm
  have eN1 : mI M (136 + 2 * 1) 1 = (vwC M 134 1).de := by rw [← eN]; rfl
  obtain ⟨w1, w2⟩ := (ws 1).2.2.2.2.1 (Or.inl c6)
  obtain ⟨i1, i2, i3⟩ := ix8 w1 w2
  obtain ⟨_, _, ⟨m1, m2⟩⟩ := wm (ix (vwC M 134 1).de) i1
  obtain ⟨k1, k2⟩ := c_tells' h ws (n := 3) (by decide) m1 m2
  exact ⟨p2, p1, tN.1, eN1, i3, k1, k2⟩
theorem c_send {M : XM} (h : Sh M) (ws : WS (vwC M 134)) : K_Transfer_send 133 M ∧ AQ M (thn (mpk (mpC M) (vwC M 134 1) 3 3) (thn (numb (vwC M 134 3)) (if (vwC M 134 3).va.le < 1 ∨ 256 < (vwC M 134 3).va.gr then 8 else tel (mpC M) (vwC M 134) (mI M 134 1) (vwC M 134 2) (vwC M 134 3).va.gr.toInt32))) (g_Transfer_send 133 M) := by
  obtain ⟨m1, m2⟩ := c_map h ws 3 3
  obtain ⟨n1, n2⟩ := c_num h (n := 3) (by decide)
  obtain ⟨p1, p2⟩ := c_own h (n := 3) (by decide)
  have e3 : Int32.ofNat 3 = 3 := rfl
  rw [e3] at n1 n2 p1 p2
  have tN := h.now (n := 3) (by decide)
  have eN : thC M (136 + 2 * 3) = vwC M 134 3 := (vwC_at (by decide)).symm
  have eN4 : mL M (136 + 2 * 3 + 1) 4 = (vwC M 134 3).va.le := by rw [← eN]; rfl
  have eN5 : mL M (136 + 2 * 3 + 1) 5 = (vwC M 134 3).va.gr := by rw [← eN]; rfl
  unfold g_Transfer_send K_Transfer_send g_Transfer_send_0 K_Transfer_send_0 g_Transfer_send_7 K_Transfer_send_7 g_Transfer_send_20 K_Transfer_send_20 g_Transfer_send_36 K_Transfer_send_36 g_Transfer_send_56
  rw [m1, n1, p1, tN.2.1, eN4, eN5]
  simp only [mpk_le, numb_le, cmp_lt, cmp_le]
  unfold thn
  refine kq_and h.T133 (kq_and m2 (kq_if (fun c1 => kq_and h.T133 (kq_and n2 (kq_ifp (fun c2 => ?_) (fun c2 => ?_)))) (fun c1 => kq_ifp (fun z => absurd z c1) (fun _ => ?_))))
  · rw [if_pos c1, if_pos c2]
    refine kq_and h.T133 (kq_and p2 (kq_and tN.1 (kq_and tN.2.2 (kq_ifn (fun a1 => ?_) (fun a1 => kq_and tN.2.2 (kq_ifp (fun a2 => ?_) (fun a2 => ?_)))))))
    · rw [if_pos (Or.inl a1)]; exact AQ.id 8
    · have a2' : ¬ 256 < (vwC M 134 3).va.gr := by rw [lt_un]; rw [le_un] at a2; omega
      rw [if_neg (fun z => z.elim a1 a2')]
      have b : 0 ≤ (vwC M 134 3).va.gr.toInt32 ∧ (vwC M 134 3).va.gr.toInt32 ≤ 256 := by
        obtain ⟨x, hx⟩ := (ws 3).2.1.ex
        have l1 := hx.2.2.2.1
        have l2 := hx.2.2.2.2
        rw [lt_un] at a1; rw [le_un] at a2
        have e1 : (1 : Int64).toInt = 1 := rfl
        have e2 : (256 : Int64).toInt = 256 := rfl
        rw [e1] at a1; rw [e2] at a2
        have e : (vwC M 134 3).va.gr.toInt32.toInt = (vwC M 134 3).va.gr.toInt := by
          rw [Int64.toInt_toInt32]
          exact Int.bmod_eq_of_le (by omega) (by omega)
        rw [Int32.le_iff_toInt_le, Int32.le_iff_toInt_le, e]
        have e3 : (0 : Int32).toInt = 0 := rfl
        have e4 : (256 : Int32).toInt = 256 := rfl
        omega
      obtain ⟨k1, k2⟩ := c_tells' h ws (n := 2) (by decide) b.1 b.2
      exact ⟨⟨tN.2.2, h.T133, k1⟩, k2⟩
    · have a2' : 256 < (vwC M 134 3).va.gr := by rw [lt_un]; rw [le_un] at a2; omega
      rw [if_pos (Or.inr a2')]; exact AQ.id 8
  · rw [if_pos c1, if_neg c2]; exact AQ.id _
  · rw [if_neg c1]; exact AQ.id _
