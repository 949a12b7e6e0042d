/-! part 47zzzl: a place that is done changes nothing (gen/tpl.py) -/
def PF (B : Nat → Int32) (all : Nat) (S : Nat → Prop) : Prop := all ≤ 1024 ∧ S 0 ∧ ∀ p, S p → p < all ∧ WI (IB B p) ∧ WJ (IB B p) ∧ ((IB B p).c ≠ 5 ∧ (IB B p).c ≠ 6 ∧ (IB B p).c ≠ 149 → S (nxN (IB B p) p)) ∧ ((kd (IB B p).c = 5 ∨ kd (IB B p).c = 6) ∧ (IB B p).c ≠ 133 ∧ (IB B p).c ≠ 149 → glI (IB B p) p = Int32.ofNat (ix (glI (IB B p) p)) ∧ S (ix (glI (IB B p) p)))
noncomputable def stB (mp : Mp) (B : Nat → Int32) (p : Nat) (e : Ent) : Rs := stp mp (IB B p) (Int32.ofNat p) e.1 e.2.1
def Fx (mp : Mp) (B : Nat → Int32) (T : Tb) (p : Nat) : Prop := ∀ e, T p = some e → (stB mp B p e).1 = 0 ∧ (∀ s, (stB mp B p e).2.1 = some s → AbE (T (nxN (IB B p) p)) s) ∧ ∀ s, (stB mp B p e).2.2 = some s → AbE (T (ix (glI (IB B p) p))) s
section FI
variable {mp : Mp} {B : Nat → Int32} {all : Nat} {S : Nat → Prop} {T : Tb} {p : Nat}
theorem PF.lt (h : PF B all S) (hp : S p) : p < 1024 := by
  have h1 := (h.2.2 p hp).1
  have h2 := h.1
  omega
theorem PF.wg (h : PF B all S) (hp : S p) : WG (IB B p) p := by
  obtain ⟨_, _, _, f1, f2⟩ := h.2.2 p hp
  exact ⟨fun z => h.lt (f1 z), fun z => ⟨h.lt (f2 z).2, (f2 z).1⟩⟩
/-- where a step goes -/
theorem stp_on {I : In} {q : Int32} {σ : Sg} {kn : Int32} {s : St} (e : (stp mp I q σ kn).2.1 = some s) : I.c ≠ 5 ∧ I.c ≠ 6 ∧ I.c ≠ 149 := by
  have no : ∀ c : Int32, I.c = c → (c = 5 ∨ c = 6 ∨ c = 149) → (stp mp I q σ kn).2.1 = none := by
    intro c hc h
    unfold stp jmp
    rcases h with z | z | z <;> rw [z] at hc
    · rw [if_neg (by rw [hc]; decide), if_neg (by rw [hc]; decide), if_neg (by rw [hc]; decide), if_neg (by rw [hc]; decide), if_pos (by rw [hc]; decide), if_neg (by rw [hc]; decide), if_neg (by rw [hc]; decide), if_pos (Or.inl hc)]
    · rw [if_neg (by rw [hc]; decide), if_neg (by rw [hc]; decide), if_neg (by rw [hc]; decide), if_neg (by rw [hc]; decide), if_pos (by rw [hc]; decide), if_neg (by rw [hc]; decide), if_neg (by rw [hc]; decide), if_pos (Or.inr hc)]
    · rw [if_neg (by rw [hc]; decide), if_neg (by rw [hc]; decide), if_neg (by rw [hc]; decide), if_neg (by rw [hc]; decide), if_pos (by rw [hc]; decide), if_neg (by rw [hc]; decide), if_pos hc]
  refine ⟨fun z => ?_, fun z => ?_, fun z => ?_⟩
  · rw [no 5 z (by decide)] at e; exact absurd e (by simp)
  · rw [no 6 z (by decide)] at e; exact absurd e (by simp)
  · rw [no 149 z (by decide)] at e; exact absurd e (by simp)
theorem stp_far {I : In} {q : Int32} {σ : Sg} {kn : Int32} {s : St} (e : (stp mp I q σ kn).2.2 = some s) : (kd I.c = 5 ∨ kd I.c = 6) ∧ I.c ≠ 133 ∧ I.c ≠ 149 := by
  by_cases k56 : kd I.c = 5 ∨ kd I.c = 6
  · refine ⟨k56, fun z => ?_, fun z => ?_⟩
    · unfold stp jmp at e
      rw [if_neg (by rw [z]; decide), if_neg (by rw [z]; decide), if_neg (by rw [z]; decide), if_neg (by rw [z]; decide), if_pos (by rw [z]; decide), if_pos z] at e
      exact absurd e (by simp)
    · unfold stp jmp at e
      rw [if_neg (by rw [z]; decide), if_neg (by rw [z]; decide), if_neg (by rw [z]; decide), if_neg (by rw [z]; decide), if_pos (by rw [z]; decide), if_neg (by rw [z]; decide), if_pos z] at e
      exact absurd e (by simp)
  · exfalso
    have : (stp mp I q σ kn).2.2 = none := by
      unfold stp on1
      by_cases c0 : kd I.c = 0
      · rw [if_pos c0]
      rw [if_neg c0]
      by_cases c1 : kd I.c = 1
      · rw [if_pos c1]
      rw [if_neg c1]
      by_cases c2 : kd I.c = 2
      · rw [if_pos c2]
      rw [if_neg c2]
      by_cases c3 : kd I.c = 3
      · rw [if_pos c3]
        by_cases c6 : md I.c = 6
        · rw [if_pos c6]
        · rw [if_neg c6]
      rw [if_neg c3, if_neg k56]
    rw [this] at e
    exact absurd e (by simp)
theorem pTo_fix {q : Nat} {o : Option St} (hw : ∀ s, o = some s → WE (T q) ∧ WF s.1 ∧ AbE (T q) s) : pTo p T q o = (T, 0) := by
  cases o with
  | none => rfl
  | some s =>
    obtain ⟨h1, h2, h3⟩ := hw s rfl
    have e := pGo_fix (b := bkN p q) h1 h2 h3
    show ((fun k => if k = q then (pGo (bkN p q) (T q) s).1 else T k), (pGo (bkN p q) (T q) s).2) = (T, 0)
    rw [e]
    refine Prod.ext ?_ rfl
    funext k
    show (if k = q then T q else T k) = T k
    by_cases c : k = q
    · rw [if_pos c, c]
    · rw [if_neg c]
theorem pTo_we {q : Nat} {o : Option St} (hT : ∀ k, k < 1024 → WE (T k)) (hw : ∀ s, o = some s → q < 1024 ∧ WF s.1) : ∀ k, k < 1024 → WE ((pTo p T q o).1 k) := by
  intro k hk
  cases o with
  | none => exact hT k hk
  | some s =>
    obtain ⟨h1, h2⟩ := hw s rfl
    show WE (if k = q then (pGo (bkN p q) (T q) s).1 else T k)
    by_cases c : k = q
    · rw [if_pos c]; exact pGo_we (hT q h1) h2
    · rw [if_neg c]; exact hT k hk
theorem pTo_S {q : Nat} {o : Option St} (hT : ∀ k, k < 1024 → T k ≠ none → S k) (hw : ∀ s, o = some s → S q) : ∀ k, k < 1024 → (pTo p T q o).1 k ≠ none → S k := by
  intro k hk
  cases o with
  | none => exact hT k hk
  | some s =>
    show (if k = q then (pGo (bkN p q) (T q) s).1 else T k) ≠ none → S k
    by_cases c : k = q
    · intro _; rw [c]; exact hw s rfl
    · rw [if_neg c]; exact hT k hk
theorem pTo_keep {q k : Nat} {o : Option St} {s' : St} (hq : ∀ s, o = some s → WE (T q) ∧ WF s.1) (hs' : WF s'.1) (h : AbE (T k) s') : AbE ((pTo p T q o).1 k) s' := by
  cases o with
  | none => exact h
  | some s =>
    obtain ⟨h1, h2⟩ := hq s rfl
    show AbE (if k = q then (pGo (bkN p q) (T q) s).1 else T k) s'
    by_cases c : k = q
    · rw [if_pos c]; rw [c] at h; exact pGo_keep h1 h2 hs' h
    · rw [if_neg c]; exact h
theorem pTo_in {q : Nat} {s : St} (h1 : WE (T q)) (h2 : WF s.1) : AbE ((pTo p T q (some s)).1 q) s := by
  show AbE (if q = q then (pGo (bkN p q) (T q) s).1 else T q) s
  rw [if_pos rfl]; exact pGo_in h1 h2
/-- what a table must be -/
def TOK (S : Nat → Prop) (T : Tb) : Prop := ∀ k, k < 1024 → WE (T k) ∧ (T k ≠ none → S k)
theorem st_go (h : PF B all S) (hp : S p) {e : Ent} (we : WF e.1) (h0 : (stB mp B p e).1 = 0) : (∀ s, (stB mp B p e).2.1 = some s → WF s.1 ∧ S (nxN (IB B p) p)) ∧ ∀ s, (stB mp B p e).2.2 = some s → WF s.1 ∧ S (ix (glI (IB B p) p)) := by
  obtain ⟨_, w, wj, f1, f2⟩ := h.2.2 p hp
  exact ⟨fun s z => ⟨stp_wf we w wj h0 (Or.inl z), f1 (stp_on z)⟩, fun s z => ⟨stp_wf we w wj h0 (Or.inr z), (f2 (stp_far z)).2⟩⟩
theorem pVi_fix (h : PF B all S) (hT : TOK S T) {e : Ent} (hp : p < 1024) (he : T p = some e) (f : Fx mp B T p) : pVi (IB B p) p T (stB mp B p e) = (0, T, 0) := by
  obtain ⟨h0, f1, f2⟩ := f e he
  have hS : S p := (hT p hp).2 (by rw [he]; simp)
  have we : WF e.1 := (hT p hp).1 e.1 e.2.1 e.2.2 he
  obtain ⟨g1, g2⟩ := st_go h hS we h0
  have a1 := pTo_fix (p := p) (T := T) (q := nxN (IB B p) p) (o := (stB mp B p e).2.1) (fun s z => ⟨(hT _ (h.lt (g1 s z).2)).1, (g1 s z).1, f1 s z⟩)
  have a2 := pTo_fix (p := p) (T := T) (q := ix (glI (IB B p) p)) (o := (stB mp B p e).2.2) (fun s z => ⟨(hT _ (h.lt (g2 s z).2)).1, (g2 s z).1, f2 s z⟩)
  unfold pVi
  rw [if_pos h0, a1, a2]
  rfl
theorem pVi_ok (h : PF B all S) (hT : TOK S T) {e : Ent} (hp : p < 1024) (he : T p = some e) : TOK S (pVi (IB B p) p T (stB mp B p e)).2.1 := by
  have hS : S p := (hT p hp).2 (by rw [he]; simp)
  have we : WF e.1 := (hT p hp).1 e.1 e.2.1 e.2.2 he
  unfold pVi
  by_cases h0 : (stB mp B p e).1 = 0
  · rw [if_pos h0]
    obtain ⟨g1, g2⟩ := st_go h hS we h0
    have b1 := pTo_we (p := p) (fun k hk => (hT k hk).1) (fun s z => ⟨h.lt (g1 s z).2, (g1 s z).1⟩)
    have b2 := pTo_we (p := p) b1 (fun s z => ⟨h.lt (g2 s z).2, (g2 s z).1⟩)
    have d1 := pTo_S (p := p) (fun k hk => (hT k hk).2) (fun s z => (g1 s z).2)
    have d2 := pTo_S (p := p) d1 (fun s z => (g2 s z).2)
    exact fun k hk => ⟨b2 k hk, d2 k hk⟩
  · rw [if_neg h0]; exact hT
theorem pVi_inv (h : PF B all S) (hT : TOK S T) {e : Ent} (hp : p < 1024) (he : T p = some e) (h0 : (stB mp B p e).1 = 0) {p' : Nat} (hp' : p' < 1024) (same : (pVi (IB B p) p T (stB mp B p e)).2.1 p' = T p') (or' : p' = p ∨ Fx mp B T p') : Fx mp B (pVi (IB B p) p T (stB mp B p e)).2.1 p' := by
  have hS : S p := (hT p hp).2 (by rw [he]; simp)
  have we : WF e.1 := (hT p hp).1 e.1 e.2.1 e.2.2 he
  obtain ⟨g1, g2⟩ := st_go h hS we h0
  have b1 := pTo_we (p := p) (fun k hk => (hT k hk).1) (fun s z => ⟨h.lt (g1 s z).2, (g1 s z).1⟩)
  have eT : (pVi (IB B p) p T (stB mp B p e)).2.1 = (pTo p (pTo p T (nxN (IB B p) p) (stB mp B p e).2.1).1 (ix (glI (IB B p) p)) (stB mp B p e).2.2).1 := by
    unfold pVi; rw [if_pos h0]
  -- what was taken in stays so
  have keep : ∀ {k : Nat} {s' : St}, WF s'.1 → AbE (T k) s' → AbE ((pVi (IB B p) p T (stB mp B p e)).2.1 k) s' := by
    intro k s' ws' ab
    rw [eT]
    exact pTo_keep (fun s z => ⟨b1 _ (h.lt (g2 s z).2), (g2 s z).1⟩) ws' (pTo_keep (fun s z => ⟨(hT _ (h.lt (g1 s z).2)).1, (g1 s z).1⟩) ws' ab)
  intro e' he'
  rw [same] at he'
  rcases or' with c | f
  · subst c
    rw [he] at he'
    have ee := Option.some.inj he'
    subst ee
    refine ⟨h0, fun s z => ?_, fun s z => ?_⟩
    · rw [eT]
      refine pTo_keep (fun s z => ⟨b1 _ (h.lt (g2 s z).2), (g2 s z).1⟩) (g1 s z).1 ?_
      rw [z]
      exact pTo_in (hT _ (h.lt (g1 s z).2)).1 (g1 s z).1
    · rw [eT, z]
      exact pTo_in (b1 _ (h.lt (g2 s z).2)) (g2 s z).1
  · obtain ⟨a0, a1, a2⟩ := f e' he'
    have hS' : S p' := (hT p' hp').2 (by rw [he']; simp)
    have we' : WF e'.1 := (hT p' hp').1 e'.1 e'.2.1 e'.2.2 he'
    obtain ⟨g3, g4⟩ := st_go h hS' we' a0
    exact ⟨a0, fun s z => keep (g3 s z).1 (a1 s z), fun s z => keep (g4 s z).1 (a2 s z)⟩
end FI
