/-! part 47zzzk: what is taken in stays taken in (gen/tpl.py) -/
theorem and_self32 (a : Int32) : a &&& a = a := by
  apply Int32.toBitVec_inj.mp
  rw [Int32.toBitVec_and, BitVec.and_self]
theorem and_assoc32 (a b c : Int32) : a &&& b &&& c = a &&& (b &&& c) := by
  apply Int32.toBitVec_inj.mp
  simp only [Int32.toBitVec_and, BitVec.and_assoc]
theorem and_comm32 (a b : Int32) : a &&& b = b &&& a := by
  apply Int32.toBitVec_inj.mp
  rw [Int32.toBitVec_and, Int32.toBitVec_and, BitVec.and_comm]
abbrev sam (x y : TH) : Prop := (x.so = y.so ∧ x.de = y.de ∧ x.og = y.og) ∧ ¬ x.so = 9
theorem pJ_y {sl wd : Int32} {x y : TH} (h : sam x y) : pJoin sl wd x y = (x.so, x.de, x.og, if hvB x.so = true then vJoin wd x.va y.va else x.va) := if_pos h
theorem pJ_n {sl wd : Int32} {x y : TH} (h : ¬ sam x y) : pJoin sl wd x y = if sl = 0 then (0, 0, -1, vOne 0) else (9, wrT x &&& wrT y, -1, vOne 0) := if_neg h
theorem wr_same {x y : TH} (h : x.so = y.so ∧ x.de = y.de) : wrT x = wrT y := by unfold wrT; rw [h.1, h.2]
/-- being taken in doesn't hang on how one joins -/
theorem ab_wd {sl w0 wd : Int32} {t x : TH} (ht : WT t) (hx : WT x) (h : pJoin sl w0 t x = t) : pJoin sl wd t x = t := by
  by_cases c : sam t x
  · rw [pJ_y c] at h ⊢
    by_cases hv : hvB t.so = true
    · rw [if_pos hv] at h ⊢
      have e : vJoin w0 t.va x.va = t.va := congrArg TH.va h
      have sub : ∀ z, vin x.va z → vin t.va z := fun z hz => by
        rw [← e]; exact (join_in (wd := w0) ht.2.1 z).2 hz
      rw [absorb ht.2.1 hx.2.1 sub]
    · rw [if_neg hv]
  · rw [pJ_n c] at h ⊢
    exact h
theorem tNo_ab {wd : Int32} {x : TH} : pJoin 0 wd tNo x = tNo := by
  by_cases c : sam tNo x
  · rw [pJ_y c]; rfl
  · rw [pJ_n c]; rfl
/-- what was taken in, and what is joined now, is taken in by what comes out -/
theorem ab_step {sl w0 wd wd' : Int32} {t x x' : TH} (ht : WT t) (hx : WT x) (hx' : WT x') (h : x' = x ∨ pJoin sl w0 t x' = t) : pJoin sl wd' (pJoin sl wd t x) x' = pJoin sl wd t x := by
  by_cases c : sam t x
  · rw [pJ_y c]
    by_cases hv : hvB t.so = true
    · rw [if_pos hv]
      have tj : Tt (vJoin wd t.va x.va) := join_T ht.2.1
      have go : sam t x' → (∀ z, vin x'.va z → vin (vJoin wd t.va x.va) z) → pJoin sl wd' (t.so, t.de, t.og, vJoin wd t.va x.va) x' = (t.so, t.de, t.og, vJoin wd t.va x.va) := fun s sub => by
        have s' : sam (t.so, t.de, t.og, vJoin wd t.va x.va) x' := s
        have hv' : hvB (TH.so (t.so, t.de, t.og, vJoin wd t.va x.va)) = true := hv
        rw [pJ_y s', if_pos hv', show TH.va (t.so, t.de, t.og, vJoin wd t.va x.va) = vJoin wd t.va x.va from rfl, absorb tj hx'.2.1 sub]
      rcases h with e | e
      · rw [e]
        rw [e] at go
        exact go c (fun z hz => (join_in ht.2.1 z).2 hz)
      · by_cases c' : sam t x'
        · rw [pJ_y c', if_pos hv] at e
          have e' : vJoin w0 t.va x'.va = t.va := congrArg TH.va e
          exact go c' (fun z hz => (join_in ht.2.1 z).1 (by rw [← e']; exact (join_in (wd := w0) ht.2.1 z).2 hz))
        · rw [pJ_n c'] at e
          by_cases s0 : sl = 0
          · rw [if_pos s0] at e
            rw [← e] at hv
            exact absurd hv (by decide)
          · rw [if_neg s0] at e
            rw [← e] at hv
            exact absurd hv (show ¬ hvB 9 = true by decide)
    · rw [if_neg hv]
      have et : (t.so, t.de, t.og, t.va) = t := rfl
      rw [et]
      rcases h with e | e
      · rw [e, pJ_y c, if_neg hv]
      · exact ab_wd ht hx' e
  · rw [pJ_n c]
    by_cases s0 : sl = 0
    · rw [if_pos s0, s0]; exact tNo_ab
    · rw [if_neg s0]
      have n9 : ¬ sam ((9, wrT t &&& wrT x, -1, vOne 0) : TH) x' := fun z => z.2 rfl
      rw [pJ_n n9, if_neg s0]
      have ew : wrT ((9, wrT t &&& wrT x, -1, vOne 0) : TH) = wrT t &&& wrT x := if_pos rfl
      rw [ew]
      have key : wrT t &&& wrT x &&& wrT x' = wrT t &&& wrT x := by
        rcases h with e | e
        · rw [e, and_assoc32, and_self32]
        · have k : wrT t &&& wrT x' = wrT t := by
            by_cases c' : sam t x'
            · rw [wr_same ⟨c'.1.1, c'.1.2.1⟩, and_self32]
            · rw [pJ_n c', if_neg s0] at e
              have e2 : wrT ((9, wrT t &&& wrT x', -1, vOne 0) : TH) = wrT t := congrArg wrT e
              have e3 : wrT ((9, wrT t &&& wrT x', -1, vOne 0) : TH) = wrT t &&& wrT x' := if_pos rfl
              rw [← e3]; exact e2
          rw [and_assoc32, and_comm32 (wrT x), ← and_assoc32, k]
      rw [key]
theorem pJ_wt {sl wd : Int32} {x y : TH} (hx : WT x) (hy : WT y) : WT (pJoin sl wd x y) := by
  by_cases c : sam x y
  · rw [pJ_y c]
    by_cases hv : hvB x.so = true
    · rw [if_pos hv]
      refine ⟨fun z => ?_, join_T hx.2.1, fun z => hx.2.2.1 z, fun z => hx.2.2.2.1 z, fun z => hx.2.2.2.2.1 z, fun z => hx.2.2.2.2.2.1 z, fun z => ?_⟩
      · have : hvB x.so = false := z
        rw [hv] at this; exact absurd this (by decide)
      · intro cu
        have tj : Tt (vJoin wd x.va y.va) := join_T hx.2.1
        have e := tj.one_of cu
        have s : ∀ q, vin x.va q ↔ vin (vOne (vJoin wd x.va y.va).b) q := by
          intro q
          have f : ∀ r, vin x.va r → r = (vJoin wd x.va y.va).b := fun r hr => by
            have := (join_in (y := y.va) (wd := wd) hx.2.1 r).1 hr
            rw [e] at this
            exact vin_one1.mp this
          rw [vin_one1]
          constructor
          · exact f q
          · intro z'
            obtain ⟨r, hr⟩ := hx.2.1.ex
            rw [z', ← f r hr]; exact hr
        have ex : x.va = vOne (vJoin wd x.va y.va).b := IsT.one (hx.2.1.iff s) (one_T _)
        have n1 := hx.2.2.2.2.2.2 z (by rw [ex])
        show nearV (vJoin wd x.va y.va)
        rw [e]
        rw [ex] at n1
        exact n1
    · rw [if_neg hv]; exact hx
  · rw [pJ_n c]
    by_cases s0 : sl = 0
    · rw [if_pos s0]; exact WT.no
    · rw [if_neg s0]; exact WT.by _
theorem pJn_wf {wd : Int32} {τ σ : Sg} (ht : WF τ) (hs : WF σ) : WF (pJn wd τ σ) := by
  refine ⟨fun n => ?_, ?_, fun n hn => ?_, fun n hn => ?_⟩
  · unfold pJn
    by_cases q : n < 75
    · rw [if_pos q]; exact pJ_wt (ht.1 n) (hs.1 n)
    · rw [if_neg q]; exact WT.no
  · unfold pJn
    rw [if_pos (by decide), ht.2.1, hs.2.1]
    have s : sam tSt tSt := ⟨⟨rfl, rfl, rfl⟩, by decide⟩
    rw [pJ_y s]; rfl
  · unfold pJn
    rw [if_neg (by omega)]
  · unfold pJn
    rw [if_pos (by omega)]
    by_cases c : sam (τ n) (σ n)
    · rw [pJ_y c]; exact c.2
    · rw [pJ_n c, if_pos (show slN n = 0 from if_pos hn)]; exact (show ¬ (0 : Int32) = 9 by decide)
/-- a state is taken in at a place -/
def AbE (e : Option Ent) (s : St) : Prop := ∃ τ k c, e = some (τ, k, c) ∧ ¬ s.2 < k ∧ pJn 0 τ s.1 = τ
def WE (e : Option Ent) : Prop := ∀ τ k c, e = some (τ, k, c) → WF τ
theorem pJn_ab {w0 wd : Int32} {τ σ : Sg} (ht : WF τ) (hs : WF σ) (h : pJn w0 τ σ = τ) : pJn wd τ σ = τ := by
  funext n
  have := congrFun h n
  unfold pJn at this ⊢
  by_cases q : n < 75
  · rw [if_pos q] at this ⊢; exact ab_wd (ht.1 n) (hs.1 n) this
  · rw [if_neg q] at this ⊢; exact this
theorem pJn_step {w0 wd wd' : Int32} {τ σ σ' : Sg} (ht : WF τ) (hs : WF σ) (hs' : WF σ') (h : σ' = σ ∨ pJn w0 τ σ' = τ) : pJn wd' (pJn wd τ σ) σ' = pJn wd τ σ := by
  funext n
  unfold pJn
  by_cases q : n < 75
  · simp only [if_pos q]
    refine ab_step (ht.1 n) (hs.1 n) (hs'.1 n) (w0 := w0) ?_
    rcases h with e | e
    · left; rw [e]
    · right
      have := congrFun e n
      unfold pJn at this
      rw [if_pos q] at this
      exact this
  · simp only [if_neg q]
theorem pGo_s (b : Int32) (τ : Sg) (k c : Int32) (s : St) : pGo b (some (τ, k, c)) s = cif (¬ s.2 < k ∧ pJn (wdN b c) τ s.1 = τ) (some (τ, k, c), 0) (some (pJn (wdN b c) τ s.1, mnK k s.2, c + 1), 1) := rfl
theorem pGo_fix {b : Int32} {e : Option Ent} {s : St} (he : WE e) (hs : WF s.1) (h : AbE e s) : pGo b e s = (e, 0) := by
  obtain ⟨τ, k, c, e1, e2, e3⟩ := h
  rw [e1, pGo_s, cif_pos ⟨e2, pJn_ab (he τ k c e1) hs e3⟩]
theorem pGo_we {b : Int32} {e : Option Ent} {s : St} (he : WE e) (hs : WF s.1) : WE (pGo b e s).1 := by
  cases e with
  | none =>
    intro τ k c z
    have : some (s.1, s.2, (0 : Int32)) = some (τ, k, c) := z
    have := Option.some.inj this
    have e : s.1 = τ := congrArg Prod.fst this
    rw [← e]
    exact hs
  | some x =>
    obtain ⟨τ0, k0, c0⟩ := x
    intro τ k c z
    rw [pGo_s] at z
    by_cases q : ¬ s.2 < k0 ∧ pJn (wdN b c0) τ0 s.1 = τ0
    · rw [cif_pos q] at z; exact he τ k c z
    · rw [cif_neg q] at z
      have := Option.some.inj z
      have e : pJn (wdN b c0) τ0 s.1 = τ := congrArg Prod.fst this
      rw [← e]
      exact pJn_wf (he τ0 k0 c0 rfl) hs
theorem mnK_le (k s : Int32) : ¬ s < mnK k s ∧ ∀ s', ¬ s' < k → ¬ s' < mnK k s := by
  unfold mnK
  by_cases c : s < k
  · rw [if_pos c]
    refine ⟨fun z => Int32.lt_irrefl z, fun s' h => ?_⟩
    rw [lt_u3] at c h ⊢
    omega
  · rw [if_neg c]
    exact ⟨c, fun s' h => h⟩
theorem pGo_in {b : Int32} {e : Option Ent} {s : St} (he : WE e) (hs : WF s.1) : AbE (pGo b e s).1 s := by
  cases e with
  | none =>
    refine ⟨s.1, s.2, 0, rfl, fun z => Int32.lt_irrefl z, ?_⟩
    funext n
    unfold pJn
    by_cases q : n < 75
    · rw [if_pos q]
      by_cases c : sam (s.1 n) (s.1 n)
      · rw [pJ_y c]
        by_cases hv : hvB (s.1 n).so = true
        · rw [if_pos hv, absorb (hs.1 n).2.1 (hs.1 n).2.1 (fun _ h => h)]
        · rw [if_neg hv]
      · have n9 : (s.1 n).so = 9 := Decidable.not_not.mp (fun z => c ⟨⟨rfl, rfl, rfl⟩, z⟩)
        have n11 : ¬ n < 11 := fun z => hs.2.2.2 n z n9
        have s1 : ¬ slN n = 0 := by unfold slN; rw [if_neg n11]; decide
        rw [pJ_n c, if_neg s1, and_self32]
        have w1 : wrT (s.1 n) = (s.1 n).de := by unfold wrT; rw [if_pos n9]
        have o1 := (hs.1 n).2.2.2.1 (by rw [n9]; decide)
        have v1 := (hs.1 n).1 (by rw [n9]; decide)
        rw [w1]
        exact Prod.ext n9.symm (Prod.ext rfl (Prod.ext o1.symm v1.symm))
    · rw [if_neg q, hs.2.2.1 n (by omega)]
  | some x =>
    obtain ⟨τ0, k0, c0⟩ := x
    rw [pGo_s]
    by_cases q : ¬ s.2 < k0 ∧ pJn (wdN b c0) τ0 s.1 = τ0
    · rw [cif_pos q]
      exact ⟨τ0, k0, c0, rfl, q.1, pJn_ab (he τ0 k0 c0 rfl) hs q.2⟩
    · rw [cif_neg q]
      exact ⟨_, _, _, rfl, (mnK_le k0 s.2).1, pJn_step (he τ0 k0 c0 rfl) hs hs (w0 := 0) (Or.inl rfl)⟩
theorem pGo_keep {b : Int32} {e : Option Ent} {s s' : St} (he : WE e) (hs : WF s.1) (hs' : WF s'.1) (h : AbE e s') : AbE (pGo b e s).1 s' := by
  obtain ⟨τ, k, c, e1, e2, e3⟩ := h
  rw [e1, pGo_s]
  by_cases q : ¬ s.2 < k ∧ pJn (wdN b c) τ s.1 = τ
  · rw [cif_pos q]; exact ⟨τ, k, c, rfl, e2, e3⟩
  · rw [cif_neg q]
    exact ⟨_, _, _, rfl, (mnK_le k s.2).2 _ e2, pJn_step (he τ k c e1) hs hs' (w0 := 0) (Or.inr e3)⟩
