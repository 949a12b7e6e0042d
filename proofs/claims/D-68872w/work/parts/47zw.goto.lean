/-! part 47zw: the component's goTo on a state that is (gen/tpl.py) -/
def GJ (t q : Nat) : Prop := (t + 2 ≤ q ∧ q < t + 152) ∨ JJ q
def slN (n : Nat) : Int32 := if n < 11 then 0 else 1
theorem i32_lt11 : ∀ k : Fin 75, Int32.ofNat k.val < 11 ↔ k.val < 11 := by decide +kernel
theorem goto_loop {M : XM} (h : Sh M) {s t : Nat} (hs : ShSt M s) (ht : ShSt M t) (hs1 : 134 ≤ s ∧ s + 152 ≤ 438) (ht1 : 469 ≤ t) (wd c0 : Int32) : ∀ (m k f : Nat) (M1 : XM) (c : Int32), k + m = 75 → m < f → Fr (GJ t) M M1 → (c = 0 ∨ c = 1) →
    (∀ n, n < k → thC M1 (t + 2 + 2 * n) = pJoin (slN n) wd (thC M (t + 2 + 2 * n)) (thC M (s + 2 + 2 * n))) → (∀ n, k ≤ n → n < 75 → thC M1 (t + 2 + 2 * n) = thC M (t + 2 + 2 * n)) →
    (c = 0 ↔ c0 = 0 ∧ ∀ n, n < k → pJoin (slN n) wd (thC M (t + 2 + 2 * n)) (thC M (s + 2 + 2 * n)) = thC M (t + 2 + 2 * n)) →
    K_Checker_goTo_104 f 101 s t wd c (Int32.ofNat k) M1 ∧ ∃ (M2 : XM) (c' : Int32), Fr (GJ t) M M2 ∧ (c' = 0 ∨ c' = 1) ∧ (∀ n, n < 75 → thC M2 (t + 2 + 2 * n) = pJoin (slN n) wd (thC M (t + 2 + 2 * n)) (thC M (s + 2 + 2 * n))) ∧
      (c' = 0 ↔ c0 = 0 ∧ ∀ n, n < 75 → pJoin (slN n) wd (thC M (t + 2 + 2 * n)) (thC M (s + 2 + 2 * n)) = thC M (t + 2 + 2 * n)) ∧
      g_Checker_goTo_104 f 101 s t wd c (Int32.ofNat k) M1 = if c' = 0 then M2 else wI (wI (wI M2 t 3 (mI M2 t 3 + 1)) t 4 0) 101 9 1 := by
  intro m
  induction m with
  | zero =>
    intro k f M1 c hk hf fr c01 e1 e2 e3
    obtain rfl : k = 75 := by omega
    obtain ⟨f, rfl⟩ : ∃ f', f = f' + 1 := ⟨f - 1, by omega⟩
    conv => unfold K_Checker_goTo_104 g_Checker_goTo_104
    have i1 : (75 : Int32) ≤ Int32.ofNat 75 := by decide
    rw [if_pos i1]
    have s1 := fr.sh h
    have t24 : mT M1 t = 24 := (eT fr.1 t).trans ht.1
    exact ⟨⟨fun _ _ => ⟨t24, t24, t24, s1.T101⟩, fun z => absurd i1 z⟩, M1, c, fr, c01, e1, e3, rfl⟩
  | succ m ih =>
    intro k f M1 c hk hf fr c01 e1 e2 e3
    obtain ⟨f, rfl⟩ : ∃ f', f = f' + 1 := ⟨f - 1, by omega⟩
    have hk75 : k < 75 := by omega
    have i1 : ¬ (75 : Int32) ≤ Int32.ofNat k := i32_le75 ⟨k, hk75⟩
    have ik : ix (Int32.ofNat k) = k := ix75 ⟨k, by omega⟩
    have vk : vp_in (Int32.ofNat k) 75 := vp75 ⟨k, hk75⟩
    have lt : Int32.ofNat k < 11 ↔ k < 11 := i32_lt11 ⟨k, hk75⟩
    have en : Int32.ofNat k + 1 = Int32.ofNat (k + 1) := by rw [Int32.ofNat_add]; rfl
    have i10 : ¬ (1 : Int32) = 0 := by decide
    have s1 := fr.sh h
    have hs' := hs.kept fr.1
    have ht' := ht.kept fr.1
    have rs := hs'.2.2.2.2 k hk75
    have rt := ht'.2.2.2.2 k hk75
    have es : mR M1 (mR M1 s 0) k = s + 2 + 2 * k := by rw [hs'.2.1, rs.1]
    have et : mR M1 (mR M1 t 0) k = t + 2 + 2 * k := by rw [ht'.2.1, rt.1]
    have va : thC M1 (t + 2 + 2 * k) = thC M (t + 2 + 2 * k) := e2 k (Nat.le_refl _) hk75
    have vb : thC M1 (s + 2 + 2 * k) = thC M (s + 2 + 2 * k) := fr.th (by unfold GJ JJ; omega) (by unfold GJ JJ; omega)
    have go : ∀ sl, sl = slN k → K_Checker_goTo_139 (g_Checker_goTo_104 f) (K_Checker_goTo_104 f) 101 s t wd c (Int32.ofNat k) 101 (t + 2 + 2 * k) (s + 2 + 2 * k) sl M1 ∧ ∃ (M2 : XM) (c' : Int32), Fr (GJ t) M M2 ∧ (c' = 0 ∨ c' = 1) ∧ (∀ n, n < 75 → thC M2 (t + 2 + 2 * n) = pJoin (slN n) wd (thC M (t + 2 + 2 * n)) (thC M (s + 2 + 2 * n))) ∧
      (c' = 0 ↔ c0 = 0 ∧ ∀ n, n < 75 → pJoin (slN n) wd (thC M (t + 2 + 2 * n)) (thC M (s + 2 + 2 * n)) = thC M (t + 2 + 2 * n)) ∧
      g_Checker_goTo_139 (g_Checker_goTo_104 f) 101 s t wd c (Int32.ofNat k) 101 (t + 2 + 2 * k) (s + 2 + 2 * k) sl M1 = if c' = 0 then M2 else wI (wI (wI M2 t 3 (mI M2 t 3 + 1)) t 4 0) 101 9 1 := by
      intro sl hsl
      obtain ⟨j1, j2, j3⟩ := c_join s1 rt.2 rs.2 (by omega) (by omega) sl wd
      rw [va, vb, hsl] at j3
      unfold g_Checker_goTo_139 K_Checker_goTo_139
      rw [hsl] at j1 j2 ⊢
      generalize g_Checker_join 101 (t + 2 + 2 * k) (s + 2 + 2 * k) (slN k) wd M1 = MJ at j2 j3 ⊢
      have sJ := j2.sh s1
      have tJ := ht'.kept j2.1
      have rJ := tJ.2.2.2.2 k hk75
      have eJ : mR MJ (mR MJ t 0) k = t + 2 + 2 * k := by rw [tJ.2.1, rJ.1]
      have frJ : Fr (GJ t) M MJ := fr.trans (j2.weak fun q hq => Or.inr hq)
      have vJ : ∀ n, n < 75 → thC MJ (t + 2 + 2 * n) = thC M1 (t + 2 + 2 * n) := fun n hn => j2.th (by unfold JJ; omega) (by unfold JJ; omega)
      obtain ⟨sm, ks⟩ := h_isSame sJ.Th443 rJ.2
      obtain ⟨cp1, cp2⟩ := h_copy rJ.2 sJ.Th443
      unfold g_Checker_goTo_144 K_Checker_goTo_144 g_Checker_goTo_177 K_Checker_goTo_177 g_Checker_goTo_180 K_Checker_goTo_180
      rw [ik, sJ.R101_6, eJ, en, cp1]
      have t24 : mT MJ t = 24 := tJ.1
      have t106 : mT MJ (mR MJ t 0) = 106 := by rw [tJ.2.1]; exact tJ.2.2.1
      have tvp : vp_in (Int32.ofNat k) (mN MJ (mR MJ t 0)) := by rw [tJ.2.1, tJ.2.2.2.1]; exact vk
      rcases sm with ⟨g1, g2⟩ | ⟨g1, g2⟩
      · -- the same
        rw [g1, if_neg i10]
        rw [j3, vJ k hk75, va] at g2
        have nx := ih (k + 1) f MJ c (by omega) (by omega) frJ c01 (fun n hn => ?_) (fun n h1 h2 => (vJ n h2).trans (e2 n (by omega) h2)) ?_
        · exact ⟨⟨s1.T101, j1, sJ.T101, t24, t106, tvp, sJ.Th443.1, ks, fun z => absurd z i10, fun _ => nx.1⟩, nx.2⟩
        · rw [vJ n (by omega)]
          by_cases q : n = k
          · rw [q, va]; exact g2.symm
          · exact e1 n (by omega)
        · rw [e3]
          constructor
          · rintro ⟨z1, z2⟩
            refine ⟨z1, fun n hn => ?_⟩
            by_cases q : n = k
            · rw [q]; exact g2
            · exact z2 n (by omega)
          · rintro ⟨z1, z2⟩
            exact ⟨z1, fun n hn => z2 n (by omega)⟩
      · rw [g1, if_pos rfl]
        rw [j3, vJ k hk75, va] at g2
        have frS : Fr (GJ t) M (sT MJ (t + 2 + 2 * k) (thC MJ 443)) := frJ.trans (Fr.st (by unfold GJ; omega) (by unfold GJ; omega))
        have nx := ih (k + 1) f (sT MJ (t + 2 + 2 * k) (thC MJ 443)) 1 (by omega) (by omega) frS (Or.inr rfl) (fun n hn => ?_) (fun n h1 h2 => ?_) ?_
        · exact ⟨⟨s1.T101, j1, sJ.T101, t24, t106, tvp, sJ.Th443.1, ks, fun _ => ⟨t24, t106, tvp, sJ.T101, rJ.2.1, cp2, nx.1⟩, fun z => absurd rfl z⟩, nx.2⟩
        · by_cases q : n = k
          · rw [q, thC_sT, j3]
          · rw [thC_sTne _ _ _ (by omega), vJ n (by omega)]; exact e1 n (by omega)
        · rw [thC_sTne _ _ _ (by omega), vJ n h2]; exact e2 n (by omega) h2
        · constructor
          · intro z; exact absurd z i10
          · rintro ⟨z1, z2⟩
            exact absurd (z2 k (by omega)) g2
    conv => unfold K_Checker_goTo_104 g_Checker_goTo_104
    rw [if_neg i1, ik, es, et]
    have a1 : mT M1 t = 24 := ht'.1
    have a2 : mT M1 (mR M1 t 0) = 106 := by rw [ht'.2.1]; exact ht'.2.2.1
    have a3 : vp_in (Int32.ofNat k) (mN M1 (mR M1 t 0)) := by rw [ht'.2.1, ht'.2.2.2.1]; exact vk
    have b1 : mT M1 s = 24 := hs'.1
    have b2 : mT M1 (mR M1 s 0) = 106 := by rw [hs'.2.1]; exact hs'.2.2.1
    have b3 : vp_in (Int32.ofNat k) (mN M1 (mR M1 s 0)) := by rw [hs'.2.1, hs'.2.2.2.1]; exact vk
    by_cases d : k < 11
    · obtain ⟨g1, g2⟩ := go 0 (by unfold slN; rw [if_pos d])
      rw [if_pos (lt.mpr d)]
      exact ⟨⟨fun z => absurd z i1, fun _ => ⟨a1, a2, a3, b1, b2, b3, fun _ => g1, fun z => absurd (lt.mpr d) z⟩⟩, g2⟩
    · obtain ⟨g1, g2⟩ := go 1 (by unfold slN; rw [if_neg d])
      rw [if_neg (fun z => d (lt.mp z))]
      exact ⟨⟨fun z => absurd z i1, fun _ => ⟨a1, a2, a3, b1, b2, b3, fun z => absurd (lt.mp z) d, fun _ => g1⟩⟩, g2⟩
