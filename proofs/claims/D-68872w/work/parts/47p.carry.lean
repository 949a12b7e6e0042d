/-! part 47p: carries: sums and differences bit by bit -/
/-- what is carried into bit k of a sum; what is borrowed at bit k of a difference -/
def cr (k : Nat) (x y : Int64) : Bool := BitVec.carry k x.toBitVec y.toBitVec false
def br (k : Nat) (x y : Int64) : Bool := cr k (~~~x) y
def maj (a b c : Bool) : Bool := (a && b) || (a && c) || (b && c)
theorem cr_zero (x y : Int64) : cr 0 x y = false := by
  unfold cr; simp [BitVec.carry_zero]
theorem cr_succ (k : Nat) (x y : Int64) : cr (k + 1) x y = maj (tb x k) (tb y k) (cr k x y) := by
  unfold cr tb maj
  rw [BitVec.carry_succ, Bool.atLeastTwo]
theorem tb_add {k : Nat} (hk : k < 64) (x y : Int64) : tb (x + y) k = Bool.xor (tb x k) (Bool.xor (tb y k) (cr k x y)) := by
  unfold tb cr
  rw [Int64.toBitVec_add, BitVec.getLsbD_add hk]
theorem br_zero (x y : Int64) : br 0 x y = false := cr_zero _ _
theorem br_succ {k : Nat} (hk : k < 64) (x y : Int64) : br (k + 1) x y = maj (!tb x k) (tb y k) (br k x y) := by
  unfold br
  rw [cr_succ, tb_not]
  simp [hk]
theorem sub_not (x y : Int64) : x - y = ~~~(~~~x + y) := by
  apply un_inj
  have hx := un_lt x
  have hy := un_lt y
  rw [un_not, un_add, un_not, un_sub]
  omega
theorem tb_sub {k : Nat} (hk : k < 64) (x y : Int64) : tb (x - y) k = Bool.xor (tb x k) (Bool.xor (tb y k) (br k x y)) := by
  rw [sub_not, tb_not, tb_add hk, tb_not]
  unfold br
  simp [hk]
theorem maj_mono {a b c a' b' c' : Bool} (h1 : a = true → a' = true) (h2 : b = true → b' = true) (h3 : c = true → c' = true) : maj a b c = true → maj a' b' c' = true := by
  cases a <;> cases b <;> cases c <;> simp_all [maj]
theorem cr_mono {x y x' y' : Int64} (hx : ∀ j, tb x j = true → tb x' j = true) (hy : ∀ j, tb y j = true → tb y' j = true) : ∀ k, cr k x y = true → cr k x' y' = true
  | 0, h => by rw [cr_zero] at h; cases h
  | k + 1, h => by
    rw [cr_succ] at h ⊢
    exact maj_mono (hx k) (hy k) (cr_mono hx hy k) h
theorem br_mono {x y x' y' : Int64} (hx : ∀ j, tb x' j = true → tb x j = true) (hy : ∀ j, tb y j = true → tb y' j = true) (k : Nat) : br k x y = true → br k x' y' = true := by
  unfold br
  refine cr_mono (fun j hj => ?_) hy k
  rw [tb_not, Bool.and_eq_true] at hj ⊢
  refine ⟨hj.1, ?_⟩
  cases h : tb x' j with
  | false => rfl
  | true => rw [hx j h] at hj; exact absurd hj.2 (by decide)
/-- disjoint bits are added as they are put together -/
theorem add_or {x u : Int64} (h : x &&& u = 0) : x + u = x ||| u := by
  have hc : ∀ k, k ≤ 64 → cr k x u = false := by
    intro k
    induction k with
    | zero => intro _; exact cr_zero _ _
    | succ k ih =>
      intro hk
      rw [cr_succ, ih (by omega)]
      have := and_0.mp h k
      cases a : tb x k <;> cases b : tb u k <;> simp_all [maj]
  refine tb_ext fun k hk => ?_
  rw [tb_add hk, hc k (by omega), tb_or]
  have := and_0.mp h k
  cases a : tb x k <;> cases b : tb u k <;> simp_all
/-- the unknown bits of a sum -/
def sumU (x y : AV) : Int64 := (((((x.b + y.b) + x.u) + y.u) ^^^ (x.b + y.b)) ||| x.u) ||| y.u
theorem sum_hi {x y : AV} (hx : x.b &&& x.u = 0) (hy : y.b &&& y.u = 0) : ((x.b + y.b) + x.u) + y.u = (x.b ||| x.u) + (y.b ||| y.u) := by
  rw [← add_or hx, ← add_or hy]
  apply un_inj
  simp only [un_add]
  omega
theorem tb_sumU {x y : AV} (hx : x.b &&& x.u = 0) (hy : y.b &&& y.u = 0) {k : Nat} (hk : k < 64) : tb (sumU x y) k = (tb x.u k || tb y.u k || Bool.xor (cr k x.b y.b) (cr k (x.b ||| x.u) (y.b ||| y.u))) := by
  unfold sumU
  rw [sum_hi hx hy, tb_or, tb_or, tb_xor, tb_add hk, tb_add hk, tb_or, tb_or]
  have h1 := and_0.mp hx k
  have h2 := and_0.mp hy k
  cases a : tb x.u k <;> cases b : tb y.u k <;> cases c : tb x.b k <;> cases d : tb y.b k <;> cases e : cr k x.b y.b <;> cases f : cr k (x.b ||| x.u) (y.b ||| y.u) <;> simp_all
/-- the unknown bits of a difference -/
def subU (x y : AV) : Int64 := ((((x.b - y.b) + x.u) ^^^ ((x.b - y.b) - y.u)) ||| x.u) ||| y.u
theorem sub_hi {x y : AV} (hx : x.b &&& x.u = 0) : (x.b - y.b) + x.u = (x.b ||| x.u) - y.b := by
  rw [← add_or hx]
  apply un_inj
  have := un_lt y.b
  have := un_lt x.b
  simp only [un_add, un_sub]
  omega
theorem sub_lo {x y : AV} (hy : y.b &&& y.u = 0) : (x.b - y.b) - y.u = x.b - (y.b ||| y.u) := by
  rw [← add_or hy]
  apply un_inj
  have := un_lt y.b
  have := un_lt y.u
  have := un_lt x.b
  simp only [un_add, un_sub]
  omega
theorem tb_subU {x y : AV} (hx : x.b &&& x.u = 0) (hy : y.b &&& y.u = 0) {k : Nat} (hk : k < 64) : tb (subU x y) k = (tb x.u k || tb y.u k || Bool.xor (br k (x.b ||| x.u) y.b) (br k x.b (y.b ||| y.u))) := by
  unfold subU
  rw [sub_hi hx, sub_lo hy, tb_or, tb_or, tb_xor, tb_sub hk, tb_sub hk, tb_or, tb_or]
  have h1 := and_0.mp hx k
  have h2 := and_0.mp hy k
  cases a : tb x.u k <;> cases b : tb y.u k <;> cases c : tb x.b k <;> cases d : tb y.b k <;> cases e : br k (x.b ||| x.u) y.b <;> cases f : br k x.b (y.b ||| y.u) <;> simp_all
theorem or_up {x u : Int64} (j : Nat) (h : tb x j = true) : tb (x ||| u) j = true := by rw [tb_or, h]; rfl
/-- a number of a pattern lies between its bits and those with the unknown ones -/
theorem Ag.up {u b a : Int64} (h : Ag u b a) (j : Nat) (hj : tb a j = true) : tb (b ||| u) j = true := by
  rw [tb_or]
  cases c : tb u j with
  | true => simp
  | false => rw [← h j c, hj]; rfl
theorem Ag.down {u b a : Int64} (h : Ag u b a) (hbu : b &&& u = 0) (j : Nat) (hj : tb b j = true) : tb a j = true := by
  cases c : tb u j with
  | true => exact absurd ⟨hj, c⟩ (and_0.mp hbu j)
  | false => rw [h j c, hj]
/-- sums of numbers of two patterns are of the pattern of the sum -/
theorem sum_ag {x y : AV} (hx : x.b &&& x.u = 0) (hy : y.b &&& y.u = 0) {a b : Int64} (ha : Ag x.u x.b a) (hb : Ag y.u y.b b) : Ag (sumU x y) ((x.b + y.b) &&& (sumU x y ^^^ (-1))) (a + b) := by
  intro k hk
  by_cases h64 : k < 64
  · rw [tb_and, tb_cpl, hk, tb_add h64, tb_add h64]
    rw [tb_sumU hx hy h64] at hk
    have m1 := cr_mono (ha.down hx) (hb.down hy) k
    have m2 := cr_mono ha.up hb.up k
    have e1 := ha k
    have e2 := hb k
    cases c1 : tb x.u k <;> cases c2 : tb y.u k <;> cases c3 : cr k x.b y.b <;> cases c4 : cr k (x.b ||| x.u) (y.b ||| y.u) <;> cases c5 : cr k a b <;> simp_all
  · rw [tb_ge (by omega), tb_ge (by omega)]
theorem sub_ag {x y : AV} (hx : x.b &&& x.u = 0) (hy : y.b &&& y.u = 0) {a b : Int64} (ha : Ag x.u x.b a) (hb : Ag y.u y.b b) : Ag (subU x y) ((x.b - y.b) &&& (subU x y ^^^ (-1))) (a - b) := by
  intro k hk
  by_cases h64 : k < 64
  · rw [tb_and, tb_cpl, hk, tb_sub h64, tb_sub h64]
    rw [tb_subU hx hy h64] at hk
    have m1 := br_mono (x := x.b ||| x.u) (y := y.b) ha.up (hb.down hy) k
    have m2 := br_mono (x := a) (y := b) (x' := x.b) (ha.down hx) hb.up k
    have m3 := br_mono (x := x.b ||| x.u) (y := y.b) (x' := x.b) (y' := y.b) (fun j => or_up j) (fun _ => id) k
    have m4 := br_mono (x := x.b) (y := y.b) (x' := x.b) (y' := y.b ||| y.u) (fun _ => id) (fun j => or_up j) k
    have e1 := ha k
    have e2 := hb k
    cases c1 : tb x.u k <;> cases c2 : tb y.u k <;> cases c3 : br k (x.b ||| x.u) y.b <;> cases c4 : br k x.b (y.b ||| y.u) <;> cases c5 : br k a b <;> cases c6 : br k x.b y.b <;> simp_all
  · rw [tb_ge (by omega), tb_ge (by omega)]
