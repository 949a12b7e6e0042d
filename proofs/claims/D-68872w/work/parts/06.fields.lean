/-! part 06: rows for fields, arrays, new. The first rows printed by gen/clsok.py -/
/-- the kind of a type -/
def kdT : FieldType → Nat
  | .int => 0
  | .long => 1
  | .boolean => 3
  | .object _ => 2
  | .array _ => 2
  | _ => 9
def XOK (q : vw_C) (ty : Nat → FieldType) (l : List Nat) : Prop := (∀ w ∈ u_ws q.1 q.2.1 q.2.2, w ∈ xgood) ∧ (∀ k, k < q.2.2 → parseFieldDescriptor (q.2.1 k).2.2.1 = some (ty k)) ∧ (∀ a, a < q.2.2 → ∀ b, b < q.2.2 → a ≠ b → (q.2.1 a).2.1 ≠ (q.2.1 b).2.1) ∧ ∀ k, k < q.2.2 → kdT (ty k) = l.getD k 0
theorem xk_ProgramChecker : ∀ k, k < 2 → kdT (xt_ProgramChecker k) = (xft.getD 0 []).getD k 0 := by decide +kernel
theorem xk_Checker : ∀ k, k < 10 → kdT (xt_Checker k) = (xft.getD 1 []).getD k 0 := by decide +kernel
theorem xk_Program : ∀ k, k < 4 → kdT (xt_Program k) = (xft.getD 2 []).getD k 0 := by decide +kernel
theorem xk_FormCheck : ∀ k, k < 1 → kdT (xt_FormCheck k) = (xft.getD 3 []).getD k 0 := by decide +kernel
theorem xk_Maps : ∀ k, k < 3 → kdT (xt_Maps k) = (xft.getD 4 []).getD k 0 := by decide +kernel
theorem xk_Reckoner : ∀ k, k < 6 → kdT (xt_Reckoner k) = (xft.getD 5 []).getD k 0 := by decide +kernel
theorem xk_Press : ∀ k, k < 2 → kdT (xt_Press k) = (xft.getD 6 []).getD k 0 := by decide +kernel
theorem xk_Piece : ∀ k, k < 4 → kdT (xt_Piece k) = (xft.getD 7 []).getD k 0 := by decide +kernel
theorem xk_Refiner : ∀ k, k < 3 → kdT (xt_Refiner k) = (xft.getD 8 []).getD k 0 := by decide +kernel
theorem xk_Value : ∀ k, k < 6 → kdT (xt_Value k) = (xft.getD 9 []).getD k 0 := by decide +kernel
theorem xk_Add : ∀ k, k < 0 → kdT (xt_Add k) = (xft.getD 10 []).getD k 0 := by decide +kernel
theorem xk_Subtract : ∀ k, k < 0 → kdT (xt_Subtract k) = (xft.getD 11 []).getD k 0 := by decide +kernel
theorem xk_Multiply : ∀ k, k < 0 → kdT (xt_Multiply k) = (xft.getD 12 []).getD k 0 := by decide +kernel
theorem xk_Divide : ∀ k, k < 0 → kdT (xt_Divide k) = (xft.getD 13 []).getD k 0 := by decide +kernel
theorem xk_Rest : ∀ k, k < 0 → kdT (xt_Rest k) = (xft.getD 14 []).getD k 0 := by decide +kernel
theorem xk_And : ∀ k, k < 0 → kdT (xt_And k) = (xft.getD 15 []).getD k 0 := by decide +kernel
theorem xk_Or : ∀ k, k < 0 → kdT (xt_Or k) = (xft.getD 16 []).getD k 0 := by decide +kernel
theorem xk_Xor : ∀ k, k < 0 → kdT (xt_Xor k) = (xft.getD 17 []).getD k 0 := by decide +kernel
theorem xk_Left : ∀ k, k < 0 → kdT (xt_Left k) = (xft.getD 18 []).getD k 0 := by decide +kernel
theorem xk_Right : ∀ k, k < 0 → kdT (xt_Right k) = (xft.getD 19 []).getD k 0 := by decide +kernel
theorem xk_SignedRight : ∀ k, k < 0 → kdT (xt_SignedRight k) = (xft.getD 20 []).getD k 0 := by decide +kernel
theorem xk_Move : ∀ k, k < 0 → kdT (xt_Move k) = (xft.getD 21 []).getD k 0 := by decide +kernel
theorem xk_Transfer : ∀ k, k < 10 → kdT (xt_Transfer k) = (xft.getD 22 []).getD k 0 := by decide +kernel
theorem xk_State : ∀ k, k < 5 → kdT (xt_State k) = (xft.getD 23 []).getD k 0 := by decide +kernel
theorem xk_Thing : ∀ k, k < 4 → kdT (xt_Thing k) = (xft.getD 24 []).getD k 0 := by decide +kernel
theorem xk_ProgramCheckerModel : ∀ k, k < 24 → kdT (xt_ProgramCheckerModel k) = (xft.getD 25 []).getD k 0 := by decide +kernel
theorem xk_Sets : ∀ k, k < 7 → kdT (xt_Sets k) = (xft.getD 26 []).getD k 0 := by decide +kernel
theorem xk_IllegalStateException : ∀ k, k < 0 → kdT (xt_IllegalStateException k) = (xft.getD 27 []).getD k 0 := by decide +kernel
theorem xk_IllegalArgumentException : ∀ k, k < 0 → kdT (xt_IllegalArgumentException k) = (xft.getD 28 []).getD k 0 := by decide +kernel
theorem xk_IndexOutOfBoundsException : ∀ k, k < 0 → kdT (xt_IndexOutOfBoundsException k) = (xft.getD 29 []).getD k 0 := by decide +kernel
theorem xcl_ok : ∀ (t : Nat) (q : vw_C), xcl[t]? = some q → ∃ ty, XOK q ty (xft.getD t [])
  | 0, q, h => by cases h; exact ⟨xt_ProgramChecker, xw_ProgramChecker, xty_ProgramChecker, xn_ProgramChecker, xk_ProgramChecker⟩
  | 1, q, h => by cases h; exact ⟨xt_Checker, xw_Checker, xty_Checker, xn_Checker, xk_Checker⟩
  | 2, q, h => by cases h; exact ⟨xt_Program, xw_Program, xty_Program, xn_Program, xk_Program⟩
  | 3, q, h => by cases h; exact ⟨xt_FormCheck, xw_FormCheck, xty_FormCheck, xn_FormCheck, xk_FormCheck⟩
  | 4, q, h => by cases h; exact ⟨xt_Maps, xw_Maps, xty_Maps, xn_Maps, xk_Maps⟩
  | 5, q, h => by cases h; exact ⟨xt_Reckoner, xw_Reckoner, xty_Reckoner, xn_Reckoner, xk_Reckoner⟩
  | 6, q, h => by cases h; exact ⟨xt_Press, xw_Press, xty_Press, xn_Press, xk_Press⟩
  | 7, q, h => by cases h; exact ⟨xt_Piece, xw_Piece, xty_Piece, xn_Piece, xk_Piece⟩
  | 8, q, h => by cases h; exact ⟨xt_Refiner, xw_Refiner, xty_Refiner, xn_Refiner, xk_Refiner⟩
  | 9, q, h => by cases h; exact ⟨xt_Value, xw_Value, xty_Value, xn_Value, xk_Value⟩
  | 10, q, h => by cases h; exact ⟨xt_Add, xw_Add, xty_Add, xn_Add, xk_Add⟩
  | 11, q, h => by cases h; exact ⟨xt_Subtract, xw_Subtract, xty_Subtract, xn_Subtract, xk_Subtract⟩
  | 12, q, h => by cases h; exact ⟨xt_Multiply, xw_Multiply, xty_Multiply, xn_Multiply, xk_Multiply⟩
  | 13, q, h => by cases h; exact ⟨xt_Divide, xw_Divide, xty_Divide, xn_Divide, xk_Divide⟩
  | 14, q, h => by cases h; exact ⟨xt_Rest, xw_Rest, xty_Rest, xn_Rest, xk_Rest⟩
  | 15, q, h => by cases h; exact ⟨xt_And, xw_And, xty_And, xn_And, xk_And⟩
  | 16, q, h => by cases h; exact ⟨xt_Or, xw_Or, xty_Or, xn_Or, xk_Or⟩
  | 17, q, h => by cases h; exact ⟨xt_Xor, xw_Xor, xty_Xor, xn_Xor, xk_Xor⟩
  | 18, q, h => by cases h; exact ⟨xt_Left, xw_Left, xty_Left, xn_Left, xk_Left⟩
  | 19, q, h => by cases h; exact ⟨xt_Right, xw_Right, xty_Right, xn_Right, xk_Right⟩
  | 20, q, h => by cases h; exact ⟨xt_SignedRight, xw_SignedRight, xty_SignedRight, xn_SignedRight, xk_SignedRight⟩
  | 21, q, h => by cases h; exact ⟨xt_Move, xw_Move, xty_Move, xn_Move, xk_Move⟩
  | 22, q, h => by cases h; exact ⟨xt_Transfer, xw_Transfer, xty_Transfer, xn_Transfer, xk_Transfer⟩
  | 23, q, h => by cases h; exact ⟨xt_State, xw_State, xty_State, xn_State, xk_State⟩
  | 24, q, h => by cases h; exact ⟨xt_Thing, xw_Thing, xty_Thing, xn_Thing, xk_Thing⟩
  | 25, q, h => by cases h; exact ⟨xt_ProgramCheckerModel, xw_ProgramCheckerModel, xty_ProgramCheckerModel, xn_ProgramCheckerModel, xk_ProgramCheckerModel⟩
  | 26, q, h => by cases h; exact ⟨xt_Sets, xw_Sets, xty_Sets, xn_Sets, xk_Sets⟩
  | 27, q, h => by cases h; exact ⟨xt_IllegalStateException, xw_IllegalStateException, xty_IllegalStateException, xn_IllegalStateException, xk_IllegalStateException⟩
  | 28, q, h => by cases h; exact ⟨xt_IllegalArgumentException, xw_IllegalArgumentException, xty_IllegalArgumentException, xn_IllegalArgumentException, xk_IllegalArgumentException⟩
  | 29, q, h => by cases h; exact ⟨xt_IndexOutOfBoundsException, xw_IndexOutOfBoundsException, xty_IndexOutOfBoundsException, xn_IndexOutOfBoundsException, xk_IndexOutOfBoundsException⟩
  | t + 30, q, h => by simp [xcl] at h
theorem xcl_lt {t : Nat} {q : vw_C} (h : xcl[t]? = some q) : t < 30 := (List.getElem?_eq_some_iff.mp h).1
/-- a field's value -/
def gv (M : XM) (t r k : Nat) : XV := match (xft.getD (t - 1) []).getD k 0 with
  | 1 => .inr (.inl (mL M r k))
  | 2 => .inr (.inr (mR M r k))
  | _ => .inl (mI M r k)
theorem cv_gv (Γ : XG) (M : XM) (t r k : Nat) : cv Γ (gv M t r k) = fv Γ M t r k := by
  unfold gv fv
  generalize (xft.getD (t - 1) []).getD k 0 = z
  rcases z with _ | _ | _ | z <;> rfl
/-- a field link: class, entry; the tag and the place of the field -/
def XF (own : String) (idx t k : Nat) : Prop := 1 ≤ t ∧ ∃ q : vw_C, xcl[t - 1]? = some q ∧ k < q.2.2 ∧ (Cond.fieldLink own idx (q.2.1 k).1 (q.2.1 k).2.1 (q.2.1 k).2.2.1 ∈ xgood ∨ ∃ host, Cond.fieldLinkNest own idx (q.2.1 k).1 (q.2.1 k).2.1 (q.2.1 k).2.2.1 host ∈ xnest)
theorem xobj {Γ : XG} {M : XM} {H : Heap} (hR : Rel Γ M H) {t r : Nat} {q : vw_C} (hq : xcl[t - 1]? = some q) (ht : 1 ≤ t) (hT : mT M r = t) : 100 ≤ r ∧ t_OB (ad Γ r) (Γ.D.1 (t - 1)) q.2.2 (Γ.D.2 (t - 1)) H (fv Γ M t r) := by
  have h30 := xcl_lt hq
  obtain ⟨h1, h2⟩ := hR.tag (r := r) (by omega) (by omega)
  obtain ⟨q', a, b⟩ := (hR.1 r h1).1 (by omega) (by omega)
  rw [hT] at a b
  cases hq.symm.trans a
  exact ⟨h1, b⟩
section R6
variable {Γ : XG} {Y : XY} {d pc : Nat} {ω : XO × XM} {lv : XL} {st : List XV} {M : XM}
theorem r_getfield {idx t k r : Nat} (hd : decode Y.cc pc = .ok (.getfield idx, 3)) (hF : XF Y.nm.cls idx t k) (hT : mT M r = t) (kk : RW Γ Y d ω (pc + 3) lv (gv M t r k :: st) M) : RW Γ Y d ω pc lv (.inr (.inr r) :: st) M := ⟨kk.1, kk.2.1, fun p e R s m args below meth c H locs ls u0 v0 C h1 h2 h3 h4 hR hS hl => by
  obtain ⟨ht1, q, hq, hk, hlk⟩ := hF
  obtain ⟨hr, cell, q1, q2, q3, q4⟩ := xobj hR hq ht1 hT
  obtain ⟨hx, hb, -, -, hown, hts, -, -, -, -, hK, -⟩ := id C
  obtain ⟨ty, hws, hty, hnm, -⟩ := xcl_ok _ _ hq
  obtain ⟨hSl, hfc, kC, hkC, hkind⟩ := hK.1.1 _ _ hq
  obtain ⟨cf, kf, fi, f, hi, hsl⟩ := hSl k hk
  have hst := (u_facts hfc hkC (u_lays hts hws hk) hi).1
  have K := kk.2.2 p e R s m args below meth c H locs ls u0 v0 C h1 h2 h3 h4 hR hS hl
  rw [List.map_cons, cv_gv] at K
  rw [List.map_cons, cv_ref (by omega)]
  have hv := q4 k hk
  rw [← hsl] at hv
  rcases hlk with hlk | ⟨host, hlk⟩
  · exact W.getf hx hb hown (hts _ hlk) hi hst q1 (by rw [q3]; exact fun h => by cases h) hv rfl rfl hd K
  · exact va_Wgetf hx hb hown (va_Nw.use rfl (hK.2.1 _ hlk)) hi hst q1 (by rw [q3]; exact fun h => by cases h) hv rfl rfl hd K⟩
/-- what fits a field -/
def vfit (l t k : Nat) (v : XV) : Prop := match (xft.getD (t - 1) []).getD k 0 with
  | 0 => ∃ x, v = .inl x
  | 1 => ∃ x, v = .inr (.inl x)
  | 2 => ∃ x, v = .inr (.inr x)
  | 3 => v = .inl 0 ∨ v = .inl 1
  | _ => False
def wV (M : XM) (r k : Nat) : XV → XM
  | .inl x => wI M r k x
  | .inr (.inl x) => wL M r k x
  | .inr (.inr x) => wR M r k x
theorem fit_ref (Γ : XG) (x : Nat) : (∀ C, narrow (.object C) (rv Γ x) = rv Γ x ∧ fits (.object C) (rv Γ x) = true) ∧ (∀ C, narrow (.array C) (rv Γ x) = rv Γ x ∧ fits (.array C) (rv Γ x) = true) := by
  unfold rv
  split <;> exact ⟨fun _ => ⟨rfl, rfl⟩, fun _ => ⟨rfl, rfl⟩⟩
theorem vfit_ok {Γ : XG} {t k : Nat} {v : XV} {ty : FieldType} (hk : kdT ty = (xft.getD (t - 1) []).getD k 0) (h : vfit 0 t k v) : narrow ty (cv Γ v) = cv Γ v ∧ fits ty (cv Γ v) = true := by
  unfold vfit at h
  rw [← hk] at h
  cases ty <;> simp only [kdT] at h
  case int => obtain ⟨x, rfl⟩ := h; exact ⟨rfl, rfl⟩
  case long => obtain ⟨x, rfl⟩ := h; exact ⟨rfl, rfl⟩
  case boolean => rcases h with rfl | rfl <;> exact ⟨rfl, rfl⟩
  case object C => obtain ⟨x, rfl⟩ := h; exact (fit_ref Γ x).1 C
  case array C => obtain ⟨x, rfl⟩ := h; exact (fit_ref Γ x).2 C
theorem wV_T (M : XM) (r k a : Nat) (v : XV) : mT (wV M r k v) a = mT M a ∧ mN (wV M r k v) a = mN M a ∧ mC (wV M r k v) = mC M ∧ mS (wV M r k v) = mS M := by
  rcases v with x | x | x <;> exact ⟨rfl, rfl, rfl, rfl⟩
theorem wV_ne (M : XM) {r k a j : Nat} (v : XV) (h : ¬ (a = r ∧ j = k)) : mI (wV M r k v) a j = mI M a j ∧ mL (wV M r k v) a j = mL M a j ∧ mR (wV M r k v) a j = mR M a j := by
  rcases v with x | x | x
  · exact ⟨by show mI (wI M r k x) a j = _; rw [mI_wI, if_neg h], rfl, rfl⟩
  · exact ⟨rfl, by show mL (wL M r k x) a j = _; rw [mL_wL, if_neg h], rfl⟩
  · exact ⟨rfl, rfl, by show mR (wR M r k x) a j = _; rw [mR_wR, if_neg h]⟩
theorem fv_wV {Γ : XG} {M : XM} {t r k : Nat} {v : XV} (h : vfit 0 t k v) : fv Γ (wV M r k v) t r = updV (fv Γ M t r) k (cv Γ v) := by
  funext j
  unfold updV
  by_cases e : j = k
  · subst e
    rw [if_pos rfl]
    unfold vfit at h
    unfold fv
    split at h
    · next z => rw [z]; obtain ⟨x, rfl⟩ := h; show Value.int (mI (wI M r j x) r j) = _; rw [mI_wI, if_pos ⟨rfl, rfl⟩]; rfl
    · next z => rw [z]; obtain ⟨x, rfl⟩ := h; show Value.long (mL (wL M r j x) r j) = _; rw [mL_wL, if_pos ⟨rfl, rfl⟩]; rfl
    · next z => rw [z]; obtain ⟨x, rfl⟩ := h; show rv Γ (mR (wR M r j x) r j) = _; rw [mR_wR, if_pos ⟨rfl, rfl⟩]; rfl
    · next z => rw [z]; rcases h with rfl | rfl <;> (show Value.int (mI (wI M r j _) r j) = _; rw [mI_wI, if_pos ⟨rfl, rfl⟩]; rfl)
    · exact h.elim
  · rw [if_neg e]
    unfold fv
    obtain ⟨a, b, c⟩ := wV_ne M (a := r) (j := j) (r := r) (k := k) v (fun z => e z.2)
    rw [a, b, c]
/-- a store: a field that is not final, or a final one in the constructor -/
def XP (own nm : String) (idx t k : Nat) : Prop := 1 ≤ t ∧ ∃ q : vw_C, xcl[t - 1]? = some q ∧ k < q.2.2 ∧
  ((Cond.fieldLink own idx (q.2.1 k).1 (q.2.1 k).2.1 (q.2.1 k).2.2.1 ∈ xgood ∧ ((q.2.1 k).2.2.2 = false ∨ ((q.2.1 k).2.2.2 = true ∧ nm = "<init>" ∧ (q.2.1 k).1 = own))) ∨ ∃ host, Cond.fieldLinkNest own idx (q.2.1 k).1 (q.2.1 k).2.1 (q.2.1 k).2.2.1 host ∈ xnest ∧ (q.2.1 k).2.2.2 = false)
theorem r_putfield {idx t k r : Nat} {v : XV} (hd : decode Y.cc pc = .ok (.putfield idx, 3)) (hF : XP Y.nm.cls Y.nm.name idx t k) (hT : mT M r = t) (hv : vfit 0 t k v) (kk : RW Γ Y d ω (pc + 3) lv st (wV M r k v)) : RW Γ Y d ω pc lv (v :: .inr (.inr r) :: st) M := by
  obtain ⟨e1, e2⟩ := (wV_T M r k r v).2.2
  refine ⟨by rw [← e1]; exact kk.1, by rw [← e2]; exact kk.2.1, fun p e R s m args below meth c H locs ls u0 v0 C h1 h2 h3 h4 hR hS hl => ?_⟩
  obtain ⟨ht1, q, hq, hk, hlk⟩ := hF
  obtain ⟨hr, cell, q1, q2, q3, q4⟩ := xobj hR hq ht1 hT
  obtain ⟨hx, hb, -, -, hown, hts, -, hnme, -, -, hK, -⟩ := id C
  obtain ⟨ty, hws, hty, hnm, hkd⟩ := xcl_ok _ _ hq
  obtain ⟨hSl, hfc, kC, hkC, hkind⟩ := hK.1.1 _ _ hq
  obtain ⟨cf, kf, fi, f, hi, hsl⟩ := hSl k hk
  have hst := (u_facts hfc hkC (u_lays hts hws hk) hi).1
  obtain ⟨hn, hfit⟩ := vfit_ok (Γ := Γ) (hkd k hk) hv
  have hap := va_apart (own := "") hts hws ty hty hnm hK.1 hq
  have hlay := hts _ (hws _ (u_in_lay hk))
  rw [List.map_cons, List.map_cons, cv_ref (by omega)]
  have fin : ∀ (H' : Heap), H'[ad Γ r]? = some (cell.setSlot f.slot (cv Γ v)) → H'.size = H.size → (∀ q, q ≠ ad Γ r → H'[q]? = H[q]?) → W p Γ.l e R s m args below meth c H' (locs ++ [⟨ad Γ r, f.slot⟩]) (mC M - u0) (mS M - v0) (XE Γ s below ω (mC ω.2 - u0) (mS ω.2 - v0)) (F0 m (pc + 3) ls (st.map (cv Γ))) := by
    intro H' g1 g2 g3
    rw [← e1, ← e2]
    refine kk.2.2 p e R s m args below meth c H' _ ls u0 v0 C (by rw [e1]; exact h1) (by rw [e2]; exact h2) h3 h4 ?_ (hS.put g2 g3 (ad_A hr)) hl
    refine hR.set hr (fun a => (wV_T M r k a v).1) (fun a => (wV_T M r k a v).2.1) e1 (fun a j z => wV_ne M v (fun w => z w.1)) g2 g3 ?_
    have h30 := xcl_lt hq
    unfold xcell
    rw [(wV_T M r k r v).1, hT, fv_wV hv]
    refine ⟨fun _ _ => ⟨q, hq, ?_⟩, fun z => absurd z (by omega), fun z => absurd z (by omega)⟩
    rw [hsl] at g1
    exact ⟨_, g1, q2, q3, t_set q4 hap hk _⟩
  have hslot : f.slot < cell.slots.size := by rw [hsl]; exact k2_hasslot (q4 k hk)
  rcases hlk with ⟨hlk, hf | ⟨hf, hin, hdecl⟩⟩ | ⟨host, hlk, hf⟩
  · unfold u_lay at hlay
    rw [if_neg (by rw [hf]; decide)] at hlay
    exact W.putK hx hb (f := f) ⟨hown, hts _ hlk, ⟨_, _, _, hi⟩, hst⟩ (by rw [q2]; exact u_store hfc hkC hkind hlay hi (hty k hk) hn hfit) q1 q3 hslot rfl rfl hd fin
  · unfold u_lay at hlay
    rw [if_pos hf] at hlay
    have hcf : m.cls = cf := by
      obtain ⟨_, _, c', _, _, _, -, -, hf', -, -, -, hown2, -⟩ := Cond.laysFinal_spec hlay
      have z1 : c' = cf := by have := hi.symm.trans hf'; simp at this; exact this.1.symm
      rw [hdecl] at hown2
      rw [← z1]; exact Option.some.inj (hown.symm.trans hown2)
    exact W.putFinK hx hb hown (hts _ hlk) hi hst hcf (hnme.trans hin) (by rw [q2]; exact u_fits hfc hkC hkind (Or.inr hlay) hi (hty k hk) hn hfit) q1 q3 hslot rfl rfl hd fin
  · unfold u_lay at hlay
    rw [if_neg (by rw [hf]; decide)] at hlay
    exact va_WputK hx hb (f := f) hown (va_Nw.use rfl (hK.2.1 _ hlk)) hi hst (by rw [q2]; exact u_store hfc hkC hkind hlay hi (hty k hk) hn hfit) q1 q3 hslot rfl rfl hd fin
end R6
