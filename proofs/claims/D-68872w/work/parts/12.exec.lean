/-! part 12: the executor of a run of instructions. Printed by gen/exec.py -/
/-- an instruction: it, its length, three numbers, a constant, a switch's table -/
abbrev XI : Type := Instr × Nat × Nat × Nat × Nat × Int32 × List (Int32 × Nat)
def popN : Nat → List XV → List XV → Option (List XV × List XV)
  | 0, st, acc => some (acc, st)
  | n + 1, v :: st, acc => popN n st (v :: acc)
  | _ + 1, [], _ => none
theorem popN_spec : ∀ (n : Nat) (st acc as st' : List XV), popN n st acc = some (as, st') → ∃ pre, as = pre ++ acc ∧ st = pre.reverse ++ st' ∧ pre.length = n
  | 0, st, acc, as, st', h => by
    simp [popN] at h
    exact ⟨[], by simp [h.1], by simp [h.2], rfl⟩
  | n + 1, [], acc, as, st', h => by simp [popN] at h
  | n + 1, v :: st, acc, as, st', h => by
    obtain ⟨pre, h1, h2, h3⟩ := popN_spec n st (v :: acc) as st' (by simpa [popN] using h)
    exact ⟨pre ++ [v], by simp [h1], by simp [h2], by simp [h3]⟩
theorem popN_0 {n : Nat} {st as st' : List XV} (h : popN n st [] = some (as, st')) : st = as.reverse ++ st' ∧ as.length = n := by
  obtain ⟨pre, h1, h2, h3⟩ := popN_spec n st [] as st' h
  rw [List.append_nil] at h1
  subst h1
  exact ⟨h2, h3⟩
/-- a field link with the kind of the field: 0 int, 1 long, 2 reference, 3 boolean -/
def XFk (own : String) (idx t k e : Nat) : Prop := XF own idx t k ∧ (xft.getD (t - 1) []).getD k 0 = e
def XPk (own nm : String) (idx t k e : Nat) : Prop := XP own nm idx t k ∧ (xft.getD (t - 1) []).getD k 0 = e
/-- an abstract or inherited method: what the entry names and who runs it for an object of a tag -/
def XUp (own : String) (idx t : Nat) (Y : XY) (n : Nat) : Prop := 1 ≤ t ∧ ∃ (q : vw_C) (owner : String) (x : MethodName), xcl[t - 1]? = some q ∧ MU own idx q.1 owner x Y n
def XUpE (own : String) (idx : Nat) (Y : XY) (n : Nat) : Prop := ∃ (owner : String) (x : MethodName), MU own idx "ProgramChecker$Sieve$Relation" owner x Y n
/-- a switch -/
def swP (x : Int32) (P : Nat → Prop) (t0 : Nat) : List (Int32 × Nat) → Prop
  | [] => P t0
  | (k, t) :: l => (x = k → P t) ∧ (¬ x = k → swP x P t0 l)
theorem swP_swT {x : Int32} {P : Nat → Prop} {t0 : Nat} : ∀ (l : List (Int32 × Nat)), swP x P t0 l → P (swT x t0 l)
  | [], h => h
  | (k, t) :: l, h => by
    unfold swT
    by_cases z : x = k
    · rw [if_pos z]; exact h.1 z
    · rw [if_neg z]; exact swP_swT l (h.2 z)
def ilen : Instr → Nat → Nat
  | .bipush _, _ => 2
  | .sipush _, _ => 3
  | .iload _, _ => 2
  | .lload _, _ => 2
  | .aload _, _ => 2
  | .istore _, _ => 2
  | .astore _, _ => 2
  | .lstore _, _ => 2
  | .iinc _ _, _ => 3
  | .goto _, _ => 3
  | .ifCond _ _, _ => 3
  | .if_icmp _ _, _ => 3
  | .ifnull _, _ => 3
  | .ifnonnull _, _ => 3
  | .getfield _, _ => 3
  | .putfield _, _ => 3
  | .new _, _ => 3
  | .newarray _, _ => 2
  | .anewarray _, _ => 3
  | .ldc _, _ => 2
  | .ldc_w _, _ => 3
  | .ldc2_w _, _ => 3
  | .getstatic _, _ => 3
  | .invokestatic _, _ => 3
  | .invokespecial _, _ => 3
  | .invokevirtual _, _ => 3
  | .tableswitch _ _ _ _, n => n
  | .lookupswitch _ _, n => n
  | _, _ => 1
/-- what an instruction's numbers must be -/
def ichk (mL pc : Nat) (a b e : Nat) (c : Int32) (sw : List (Int32 × Nat)) : Instr → Bool
  | .iconst v => decide (Int32.ofInt v = c)
  | .bipush v => decide ((Int8.ofInt v).toInt32 = c)
  | .sipush v => decide ((Int16.ofInt v).toInt32 = c)
  | .lconst k => decide (k.val = b)
  | .istore_n k => decide (k.val < mL)
  | .istore k => decide (k < mL)
  | .astore_n k => decide (k.val < mL)
  | .astore k => decide (k < mL)
  | .lstore_n k => decide (k.val + 1 < mL)
  | .lstore k => decide (k + 1 < mL)
  | .iinc k v => decide (Int32.ofInt v = c) && decide (k < mL)
  | .goto off => decide ((pc : Int) + off = (a : Int))
  | .ifCond _ off => decide ((pc : Int) + off = (a : Int))
  | .if_icmp _ off => decide ((pc : Int) + off = (a : Int))
  | .ifnull off => decide ((pc : Int) + off = (a : Int))
  | .ifnonnull off => decide ((pc : Int) + off = (a : Int))
  | .tableswitch dflt lo hi offs => tsOK pc lo hi offs sw && decide ((pc : Int) + dflt = (a : Int))
  | .lookupswitch dflt ps => (ps.toList.zip (ps.toList.drop 1)).all (fun (a, next) => a.1 < next.1) && decide (ps.toList.length = sw.length) && (ps.toList.zip sw).all (fun q => decide (q.1.1 = q.2.1.toInt) && decide ((pc : Int) + q.1.2 = (q.2.2 : Int))) && decide ((pc : Int) + dflt = (a : Int))
  | .baload => decide (a = 101) || decide (a = 102)
  | .aaload => decide (104 < a) && decide (a < 108)
  | .arraylength => decide (e = 1) || (decide (100 < a) && decide (a < 108))
  | .newarray ty => decide (aTg ty ≠ 0)
  | .getstatic _ => decide (a < 12)
  | _ => true
def okd (cc : ByteArray) (mL : Nat) : Nat → List XI → Bool
  | _, [] => true
  | pc, (i, n, a, b, e, c, sw) :: xs => decide (decode cc pc = .ok (i, n)) && decide (n = ilen i n) && ichk mL pc a b e c sw i && okd cc mL (pc + n) xs
/-- what must be so for a run of instructions to come to the end ω; where it leaves the run, RW is left to show -/
def xx (Γ : XG) (Y : XY) (d : Nat) (ω : XO × XM) : Nat → List XI → XL → List XV → XM → Prop
  | pc, [], lv, st, M => RW Γ Y d ω pc lv st M
  | pc, (i, n, a, b, e, c, sw) :: xs, lv, st, M => match i with
    | .iconst v => xx Γ Y d ω (pc + n) xs lv (.inl c :: st) M
    | .bipush v => xx Γ Y d ω (pc + n) xs lv (.inl c :: st) M
    | .sipush v => xx Γ Y d ω (pc + n) xs lv (.inl c :: st) M
    | .lconst k => xx Γ Y d ω (pc + n) xs lv (.inr (.inl (match b with | 0 => 0 | _ => 1)) :: st) M
    | .aconst_null => xx Γ Y d ω (pc + n) xs lv (.inr (.inr 0) :: st) M
    | .iload_n k => (match gtL lv k.val with | some (.inl x) => xx Γ Y d ω (pc + n) xs lv (.inl x :: st) M | _ => False)
    | .iload k => (match gtL lv k with | some (.inl x) => xx Γ Y d ω (pc + n) xs lv (.inl x :: st) M | _ => False)
    | .lload_n k => (match gtL lv k.val with | some (.inr (.inl x)) => xx Γ Y d ω (pc + n) xs lv (.inr (.inl x) :: st) M | _ => False)
    | .lload k => (match gtL lv k with | some (.inr (.inl x)) => xx Γ Y d ω (pc + n) xs lv (.inr (.inl x) :: st) M | _ => False)
    | .aload_n k => (match gtL lv k.val with | some (.inr (.inr x)) => xx Γ Y d ω (pc + n) xs lv (.inr (.inr x) :: st) M | _ => False)
    | .aload k => (match gtL lv k with | some (.inr (.inr x)) => xx Γ Y d ω (pc + n) xs lv (.inr (.inr x) :: st) M | _ => False)
    | .istore_n k => (match st with | .inl x :: st => xx Γ Y d ω (pc + n) xs (stL lv k.val (.inl x)) st M | _ => False)
    | .astore_n k => (match st with | .inr (.inr x) :: st => xx Γ Y d ω (pc + n) xs (stL lv k.val (.inr (.inr x))) st M | _ => False)
    | .lstore_n k => (match st with | .inr (.inl x) :: st => xx Γ Y d ω (pc + n) xs (stJ lv k.val x) st M | _ => False)
    | .istore k => (match st with | .inl x :: st => xx Γ Y d ω (pc + n) xs (stL lv k (.inl x)) st M | _ => False)
    | .astore k => (match st with | .inr (.inr x) :: st => xx Γ Y d ω (pc + n) xs (stL lv k (.inr (.inr x))) st M | _ => False)
    | .lstore k => (match st with | .inr (.inl x) :: st => xx Γ Y d ω (pc + n) xs (stJ lv k x) st M | _ => False)
    | .iinc k v => (match gtL lv k with | some (.inl x) => xx Γ Y d ω (pc + n) xs (stL lv k (.inl (x + c))) st M | _ => False)
    | .iadd => (match st with | .inl y :: .inl x :: st => xx Γ Y d ω (pc + n) xs lv (.inl (x + y) :: st) M | _ => False)
    | .isub => (match st with | .inl y :: .inl x :: st => xx Γ Y d ω (pc + n) xs lv (.inl (x - y) :: st) M | _ => False)
    | .imul => (match st with | .inl y :: .inl x :: st => xx Γ Y d ω (pc + n) xs lv (.inl (x * y) :: st) M | _ => False)
    | .iand => (match st with | .inl y :: .inl x :: st => xx Γ Y d ω (pc + n) xs lv (.inl (x &&& y) :: st) M | _ => False)
    | .ior => (match st with | .inl y :: .inl x :: st => xx Γ Y d ω (pc + n) xs lv (.inl (x ||| y) :: st) M | _ => False)
    | .ixor => (match st with | .inl y :: .inl x :: st => xx Γ Y d ω (pc + n) xs lv (.inl (x ^^^ y) :: st) M | _ => False)
    | .ishl => (match st with | .inl y :: .inl x :: st => xx Γ Y d ω (pc + n) xs lv (.inl (j_ishl x y) :: st) M | _ => False)
    | .ishr => (match st with | .inl y :: .inl x :: st => xx Γ Y d ω (pc + n) xs lv (.inl (j_ishr x y) :: st) M | _ => False)
    | .iushr => (match st with | .inl y :: .inl x :: st => xx Γ Y d ω (pc + n) xs lv (.inl (j_iushr x y) :: st) M | _ => False)
    | .ladd => (match st with | .inr (.inl y) :: .inr (.inl x) :: st => xx Γ Y d ω (pc + n) xs lv (.inr (.inl (x + y)) :: st) M | _ => False)
    | .lsub => (match st with | .inr (.inl y) :: .inr (.inl x) :: st => xx Γ Y d ω (pc + n) xs lv (.inr (.inl (x - y)) :: st) M | _ => False)
    | .lmul => (match st with | .inr (.inl y) :: .inr (.inl x) :: st => xx Γ Y d ω (pc + n) xs lv (.inr (.inl (x * y)) :: st) M | _ => False)
    | .land => (match st with | .inr (.inl y) :: .inr (.inl x) :: st => xx Γ Y d ω (pc + n) xs lv (.inr (.inl (x &&& y)) :: st) M | _ => False)
    | .lor => (match st with | .inr (.inl y) :: .inr (.inl x) :: st => xx Γ Y d ω (pc + n) xs lv (.inr (.inl (x ||| y)) :: st) M | _ => False)
    | .lxor => (match st with | .inr (.inl y) :: .inr (.inl x) :: st => xx Γ Y d ω (pc + n) xs lv (.inr (.inl (x ^^^ y)) :: st) M | _ => False)
    | .idiv => (match st with | .inl y :: .inl x :: st => ¬ y = 0 ∧ xx Γ Y d ω (pc + n) xs lv (.inl (x / y) :: st) M | _ => False)
    | .irem => (match st with | .inl y :: .inl x :: st => ¬ y = 0 ∧ xx Γ Y d ω (pc + n) xs lv (.inl (j_irem x y) :: st) M | _ => False)
    | .ldiv => (match st with | .inr (.inl y) :: .inr (.inl x) :: st => ¬ y = 0 ∧ xx Γ Y d ω (pc + n) xs lv (.inr (.inl (x / y)) :: st) M | _ => False)
    | .lrem => (match st with | .inr (.inl y) :: .inr (.inl x) :: st => ¬ y = 0 ∧ xx Γ Y d ω (pc + n) xs lv (.inr (.inl (j_lrem x y)) :: st) M | _ => False)
    | .ineg => (match st with | .inl x :: st => xx Γ Y d ω (pc + n) xs lv (.inl (-x) :: st) M | _ => False)
    | .lneg => (match st with | .inr (.inl x) :: st => xx Γ Y d ω (pc + n) xs lv (.inr (.inl (-x)) :: st) M | _ => False)
    | .lushr => (match st with | .inl y :: .inr (.inl x) :: st => xx Γ Y d ω (pc + n) xs lv (.inr (.inl (j_lushr x y)) :: st) M | _ => False)
    | .lshl => (match st with | .inl y :: .inr (.inl x) :: st => xx Γ Y d ω (pc + n) xs lv (.inr (.inl (j_lshl x y)) :: st) M | _ => False)
    | .lshr => (match st with | .inl y :: .inr (.inl x) :: st => xx Γ Y d ω (pc + n) xs lv (.inr (.inl (j_lshr x y)) :: st) M | _ => False)
    | .i2l => (match st with | .inl x :: st => xx Γ Y d ω (pc + n) xs lv (.inr (.inl (x.toInt64)) :: st) M | _ => False)
    | .l2i => (match st with | .inr (.inl x) :: st => xx Γ Y d ω (pc + n) xs lv (.inl (x.toInt32) :: st) M | _ => False)
    | .i2b => (match st with | .inl x :: st => xx Γ Y d ω (pc + n) xs lv (.inl (j_i2b x) :: st) M | _ => False)
    | .i2s => (match st with | .inl x :: st => xx Γ Y d ω (pc + n) xs lv (.inl (j_i2s x) :: st) M | _ => False)
    | .lcmp => (match st with | .inr (.inl y) :: .inr (.inl x) :: st => xx Γ Y d ω (pc + n) xs lv (.inl (lg_cmp x y) :: st) M | _ => False)
    | .dup => (match st with | v :: st => isJ (some v) = false ∧ xx Γ Y d ω (pc + n) xs lv (v :: v :: st) M | _ => False)
    | .pop => (match st with | v :: st => isJ (some v) = false ∧ xx Γ Y d ω (pc + n) xs lv st M | _ => False)
    | .dup_x1 => (match st with | v :: w :: st => isJ (some v) = false ∧ isJ (some w) = false ∧ xx Γ Y d ω (pc + n) xs lv (v :: w :: v :: st) M | _ => False)
    | .dup2 => (match st with | v :: w :: st => isJ (some v) = false ∧ isJ (some w) = false ∧ xx Γ Y d ω (pc + n) xs lv (v :: w :: v :: w :: st) M | _ => False)
    | .goto off => RW Γ Y d ω a lv st M
    | .ifCond cd off => (match st with | .inl x :: st => (match cd with | .eq => (x = 0 → RW Γ Y d ω a lv st M) ∧ (¬ x = 0 → xx Γ Y d ω (pc + n) xs lv st M) | .lt => (x < 0 → RW Γ Y d ω a lv st M) ∧ (¬ x < 0 → xx Γ Y d ω (pc + n) xs lv st M) | .ge => (0 ≤ x → RW Γ Y d ω a lv st M) ∧ (¬ 0 ≤ x → xx Γ Y d ω (pc + n) xs lv st M) | .gt => (0 < x → RW Γ Y d ω a lv st M) ∧ (¬ 0 < x → xx Γ Y d ω (pc + n) xs lv st M) | .le => (x ≤ 0 → RW Γ Y d ω a lv st M) ∧ (¬ x ≤ 0 → xx Γ Y d ω (pc + n) xs lv st M) | .ne => (x = 0 → xx Γ Y d ω (pc + n) xs lv st M) ∧ (¬ x = 0 → RW Γ Y d ω a lv st M)) | _ => False)
    | .if_icmp cd off => (match st with | .inl y :: .inl x :: st => (match cd with | .eq => (x = y → RW Γ Y d ω a lv st M) ∧ (¬ x = y → xx Γ Y d ω (pc + n) xs lv st M) | .lt => (x < y → RW Γ Y d ω a lv st M) ∧ (¬ x < y → xx Γ Y d ω (pc + n) xs lv st M) | .ge => (y ≤ x → RW Γ Y d ω a lv st M) ∧ (¬ y ≤ x → xx Γ Y d ω (pc + n) xs lv st M) | .gt => (y < x → RW Γ Y d ω a lv st M) ∧ (¬ y < x → xx Γ Y d ω (pc + n) xs lv st M) | .le => (x ≤ y → RW Γ Y d ω a lv st M) ∧ (¬ x ≤ y → xx Γ Y d ω (pc + n) xs lv st M) | .ne => (x = y → xx Γ Y d ω (pc + n) xs lv st M) ∧ (¬ x = y → RW Γ Y d ω a lv st M)) | _ => False)
    | .ifnull off => (match st with | .inr (.inr x) :: st => (x = 0 → RW Γ Y d ω a lv st M) ∧ (¬ x = 0 → xx Γ Y d ω (pc + n) xs lv st M) | _ => False)
    | .ifnonnull off => (match st with | .inr (.inr x) :: st => (x = 0 → xx Γ Y d ω (pc + n) xs lv st M) ∧ (¬ x = 0 → RW Γ Y d ω a lv st M) | _ => False)
    | .tableswitch dflt lo hi offs => (match st with | .inl x :: st => swP x (fun t => RW Γ Y d ω t lv st M) a sw | _ => False)
    | .lookupswitch dflt ps => (match st with | .inl x :: st => swP x (fun t => RW Γ Y d ω t lv st M) a sw | _ => False)
    | .getfield idx => (match st with | .inr (.inr r) :: st => XFk Y.nm.cls idx a b e ∧ mT M r = a ∧ (match e with | 1 => xx Γ Y d ω (pc + n) xs lv (.inr (.inl (mL M r b)) :: st) M | 2 => xx Γ Y d ω (pc + n) xs lv (.inr (.inr (mR M r b)) :: st) M | _ => xx Γ Y d ω (pc + n) xs lv (.inl (mI M r b) :: st) M) | _ => False)
    | .putfield idx => (match e with | 0 => (match st with | .inl x :: .inr (.inr r) :: st => XPk Y.nm.cls Y.nm.name idx a b 0 ∧ mT M r = a ∧ xx Γ Y d ω (pc + n) xs lv st (wI M r b x) | _ => False) | 1 => (match st with | .inr (.inl x) :: .inr (.inr r) :: st => XPk Y.nm.cls Y.nm.name idx a b 1 ∧ mT M r = a ∧ xx Γ Y d ω (pc + n) xs lv st (wL M r b x) | _ => False) | 2 => (match st with | .inr (.inr x) :: .inr (.inr r) :: st => XPk Y.nm.cls Y.nm.name idx a b 2 ∧ mT M r = a ∧ xx Γ Y d ω (pc + n) xs lv st (wR M r b x) | _ => False) | _ => (match st with | .inl x :: .inr (.inr r) :: st => XPk Y.nm.cls Y.nm.name idx a b 3 ∧ mT M r = a ∧ (x = 0 ∨ x = 1) ∧ xx Γ Y d ω (pc + n) xs lv st (wI M r b x) | _ => False))
    | .iaload => (match st with | .inl i :: .inr (.inr r) :: st => (match e with | 0 => mT M r = 103 ∧ vp_in i (mN M r) ∧ xx Γ Y d ω (pc + n) xs lv (.inl (mI M r i.toNatClampNeg) :: st) M | _ => r = 13 ∧ vp_in i Γ.n ∧ xx Γ Y d ω (pc + n) xs lv (.inl (Γ.x i.toNatClampNeg) :: st) M) | _ => False)
    | .laload => (match st with | .inl i :: .inr (.inr r) :: st => mT M r = 104 ∧ vp_in i (mN M r) ∧ xx Γ Y d ω (pc + n) xs lv (.inr (.inl (mL M r i.toNatClampNeg)) :: st) M | _ => False)
    | .baload => (match st with | .inl i :: .inr (.inr r) :: st => mT M r = a ∧ vp_in i (mN M r) ∧ xx Γ Y d ω (pc + n) xs lv (.inl (mI M r i.toNatClampNeg) :: st) M | _ => False)
    | .aaload => (match st with | .inl i :: .inr (.inr r) :: st => mT M r = a ∧ vp_in i (mN M r) ∧ xx Γ Y d ω (pc + n) xs lv (.inr (.inr (mR M r i.toNatClampNeg)) :: st) M | _ => False)
    | .iastore => (match st with | .inl x :: .inl i :: .inr (.inr r) :: st => mT M r = 103 ∧ vp_in i (mN M r) ∧ xx Γ Y d ω (pc + n) xs lv st (wI M r i.toNatClampNeg x) | _ => False)
    | .lastore => (match st with | .inr (.inl x) :: .inl i :: .inr (.inr r) :: st => mT M r = 104 ∧ vp_in i (mN M r) ∧ xx Γ Y d ω (pc + n) xs lv st (wL M r i.toNatClampNeg x) | _ => False)
    | .bastore => (match st with | .inl x :: .inl i :: .inr (.inr r) :: st => (match e with | 0 => mT M r = 101 ∧ vp_in i (mN M r) ∧ xx Γ Y d ω (pc + n) xs lv st (wI M r i.toNatClampNeg (j_z x)) | _ => mT M r = 102 ∧ vp_in i (mN M r) ∧ xx Γ Y d ω (pc + n) xs lv st (wI M r i.toNatClampNeg (j_i2b x))) | _ => False)
    | .aastore => (match st with | .inr (.inr x) :: .inl i :: .inr (.inr r) :: st => XAs a b ∧ mT M r = a ∧ mT M x = b ∧ vp_in i (mN M r) ∧ xx Γ Y d ω (pc + n) xs lv st (wR M r i.toNatClampNeg x) | _ => False)
    | .arraylength => (match st with | .inr (.inr r) :: st => (match e with | 0 => mT M r = a ∧ xx Γ Y d ω (pc + n) xs lv (.inl (Int32.ofNat (mN M r)) :: st) M | _ => r = 13 ∧ xx Γ Y d ω (pc + n) xs lv (.inl (Int32.ofNat Γ.n) :: st) M) | _ => False)
    | .new idx => XN Y.nm.cls idx a b ∧ xx Γ Y d ω (pc + n) xs lv (.inr (.inr (mC M)) :: st) (wN M a b)
    | .newarray ty => (match st with | .inl x :: st => x.toNatClampNeg = b ∧ ¬ x < 0 ∧ b ≤ 1000000 ∧ aTg ty = a ∧ Cond.arrayClass (newarray.typeOf ty) ∈ xgood ∧ xx Γ Y d ω (pc + n) xs lv (.inr (.inr (mC M)) :: st) (wN M a b) | _ => False)
    | .anewarray idx => (match st with | .inl x :: st => x.toNatClampNeg = b ∧ ¬ x < 0 ∧ b ≤ 1000000 ∧ XAn Y.nm.cls idx a ∧ xx Γ Y d ω (pc + n) xs lv (.inr (.inr (mC M)) :: st) (wN M a b) | _ => False)
    | .ldc idx => Cond.constant Y.nm.cls idx c ∈ xgood ∧ xx Γ Y d ω (pc + n) xs lv (.inl c :: st) M
    | .ldc_w idx => Cond.constant Y.nm.cls idx c ∈ xgood ∧ xx Γ Y d ω (pc + n) xs lv (.inl c :: st) M
    | .ldc2_w idx => ∃ v : Int64, Cond.constantLong Y.nm.cls idx v ∈ xgood ∧ xx Γ Y d ω (pc + n) xs lv (.inr (.inl v) :: st) M
    | .getstatic idx => Cond.fieldLink Y.nm.cls idx "ProgramChecker$Sieve$Relation" (xrel.getD a "") "LProgramChecker$Sieve$Relation;" ∈ xgood ∧ xx Γ Y d ω (pc + n) xs lv (.inr (.inr (a + 1)) :: st) M
    | .invokestatic idx => (match popN b st [] with | some (as, st) => (match e % 10 with | 0 => ∃ (Y' : XY) (d' : Nat) (M1 : XM), MS Y.nm.cls idx Y' b ∧ d' + 1 ≤ d ∧ Nat.ble (wdL st) 8 = true ∧ CW Γ d' Y' as M (.inl (none), M1) ∧ xx Γ Y d ω (pc + n) xs lv (st) M1 | 1 => ∃ (Y' : XY) (d' : Nat) (M1 : XM) (v : Int32), MS Y.nm.cls idx Y' b ∧ d' + 1 ≤ d ∧ Nat.ble (wdL st) 8 = true ∧ CW Γ d' Y' as M (.inl (some (.inl v)), M1) ∧ xx Γ Y d ω (pc + n) xs lv (.inl v :: st) M1 | 2 => ∃ (Y' : XY) (d' : Nat) (M1 : XM) (v : Int64), MS Y.nm.cls idx Y' b ∧ d' + 1 ≤ d ∧ Nat.ble (wdL st) 8 = true ∧ CW Γ d' Y' as M (.inl (some (.inr (.inl v))), M1) ∧ xx Γ Y d ω (pc + n) xs lv (.inr (.inl v) :: st) M1 | _ => ∃ (Y' : XY) (d' : Nat) (M1 : XM) (v : Nat), MS Y.nm.cls idx Y' b ∧ d' + 1 ≤ d ∧ Nat.ble (wdL st) 8 = true ∧ CW Γ d' Y' as M (.inl (some (.inr (.inr v))), M1) ∧ xx Γ Y d ω (pc + n) xs lv (.inr (.inr v) :: st) M1) | none => False)
    | .invokespecial idx => (match popN b st [] with | some (as, .inr (.inr r) :: st) => (match e with | 9 => as = [] ∧ MO Y.nm.cls idx ∧ r ≠ 0 ∧ Nat.ble 1 d = true ∧ Nat.ble (wdL st) 8 = true ∧ xx Γ Y d ω (pc + n) xs lv st M | _ => ∃ (Y' : XY) (d' : Nat) (M1 : XM), MI Y.nm.cls idx Y' b ∧ r ≠ 0 ∧ d' + 1 ≤ d ∧ Nat.ble (wdL st) 8 = true ∧ CW Γ d' Y' (.inr (.inr r) :: as) M (.inl none, M1) ∧ xx Γ Y d ω (pc + n) xs lv st M1) | _ => False)
    | .invokevirtual idx => (match popN b st [] with | some (as, .inr (.inr r) :: st) => (match e / 10 with | 0 => (match e % 10 with | 0 => ∃ (Y' : XY) (d' : Nat) (M1 : XM), MV Y.nm.cls idx Y' b a ∧ mT M r = a ∧ d' + 1 ≤ d ∧ Nat.ble (wdL st) 8 = true ∧ CW Γ d' Y' (.inr (.inr r) :: as) M (.inl (none), M1) ∧ xx Γ Y d ω (pc + n) xs lv (st) M1 | 1 => ∃ (Y' : XY) (d' : Nat) (M1 : XM) (v : Int32), MV Y.nm.cls idx Y' b a ∧ mT M r = a ∧ d' + 1 ≤ d ∧ Nat.ble (wdL st) 8 = true ∧ CW Γ d' Y' (.inr (.inr r) :: as) M (.inl (some (.inl v)), M1) ∧ xx Γ Y d ω (pc + n) xs lv (.inl v :: st) M1 | 2 => ∃ (Y' : XY) (d' : Nat) (M1 : XM) (v : Int64), MV Y.nm.cls idx Y' b a ∧ mT M r = a ∧ d' + 1 ≤ d ∧ Nat.ble (wdL st) 8 = true ∧ CW Γ d' Y' (.inr (.inr r) :: as) M (.inl (some (.inr (.inl v))), M1) ∧ xx Γ Y d ω (pc + n) xs lv (.inr (.inl v) :: st) M1 | _ => ∃ (Y' : XY) (d' : Nat) (M1 : XM) (v : Nat), MV Y.nm.cls idx Y' b a ∧ mT M r = a ∧ d' + 1 ≤ d ∧ Nat.ble (wdL st) 8 = true ∧ CW Γ d' Y' (.inr (.inr r) :: as) M (.inl (some (.inr (.inr v))), M1) ∧ xx Γ Y d ω (pc + n) xs lv (.inr (.inr v) :: st) M1) | 1 => (match e % 10 with | 0 => ∃ (Y' : XY) (d' : Nat) (M1 : XM), XUp Y.nm.cls idx (mT M r) Y' b ∧ d' + 1 ≤ d ∧ Nat.ble (wdL st) 8 = true ∧ CW Γ d' Y' (.inr (.inr r) :: as) M (.inl (none), M1) ∧ xx Γ Y d ω (pc + n) xs lv (st) M1 | 1 => ∃ (Y' : XY) (d' : Nat) (M1 : XM) (v : Int32), XUp Y.nm.cls idx (mT M r) Y' b ∧ d' + 1 ≤ d ∧ Nat.ble (wdL st) 8 = true ∧ CW Γ d' Y' (.inr (.inr r) :: as) M (.inl (some (.inl v)), M1) ∧ xx Γ Y d ω (pc + n) xs lv (.inl v :: st) M1 | 2 => ∃ (Y' : XY) (d' : Nat) (M1 : XM) (v : Int64), XUp Y.nm.cls idx (mT M r) Y' b ∧ d' + 1 ≤ d ∧ Nat.ble (wdL st) 8 = true ∧ CW Γ d' Y' (.inr (.inr r) :: as) M (.inl (some (.inr (.inl v))), M1) ∧ xx Γ Y d ω (pc + n) xs lv (.inr (.inl v) :: st) M1 | _ => ∃ (Y' : XY) (d' : Nat) (M1 : XM) (v : Nat), XUp Y.nm.cls idx (mT M r) Y' b ∧ d' + 1 ≤ d ∧ Nat.ble (wdL st) 8 = true ∧ CW Γ d' Y' (.inr (.inr r) :: as) M (.inl (some (.inr (.inr v))), M1) ∧ xx Γ Y d ω (pc + n) xs lv (.inr (.inr v) :: st) M1) | 2 => (match e % 10 with | 0 => ∃ (Y' : XY) (d' : Nat) (M1 : XM), XUpE Y.nm.cls idx Y' b ∧ (∃ i, i < 12 ∧ r = i + 1) ∧ d' + 1 ≤ d ∧ Nat.ble (wdL st) 8 = true ∧ CW Γ d' Y' (.inr (.inr r) :: as) M (.inl (none), M1) ∧ xx Γ Y d ω (pc + n) xs lv (st) M1 | 1 => ∃ (Y' : XY) (d' : Nat) (M1 : XM) (v : Int32), XUpE Y.nm.cls idx Y' b ∧ (∃ i, i < 12 ∧ r = i + 1) ∧ d' + 1 ≤ d ∧ Nat.ble (wdL st) 8 = true ∧ CW Γ d' Y' (.inr (.inr r) :: as) M (.inl (some (.inl v)), M1) ∧ xx Γ Y d ω (pc + n) xs lv (.inl v :: st) M1 | 2 => ∃ (Y' : XY) (d' : Nat) (M1 : XM) (v : Int64), XUpE Y.nm.cls idx Y' b ∧ (∃ i, i < 12 ∧ r = i + 1) ∧ d' + 1 ≤ d ∧ Nat.ble (wdL st) 8 = true ∧ CW Γ d' Y' (.inr (.inr r) :: as) M (.inl (some (.inr (.inl v))), M1) ∧ xx Γ Y d ω (pc + n) xs lv (.inr (.inl v) :: st) M1 | _ => ∃ (Y' : XY) (d' : Nat) (M1 : XM) (v : Nat), XUpE Y.nm.cls idx Y' b ∧ (∃ i, i < 12 ∧ r = i + 1) ∧ d' + 1 ≤ d ∧ Nat.ble (wdL st) 8 = true ∧ CW Γ d' Y' (.inr (.inr r) :: as) M (.inl (some (.inr (.inr v))), M1) ∧ xx Γ Y d ω (pc + n) xs lv (.inr (.inr v) :: st) M1) | _ => (match e % 10 with | 0 => ∃ (Y' : XY) (d' : Nat) (M1 : XM), MVE Y.nm.cls idx Y' b ∧ (∃ i, i < 12 ∧ r = i + 1) ∧ d' + 1 ≤ d ∧ Nat.ble (wdL st) 8 = true ∧ CW Γ d' Y' (.inr (.inr r) :: as) M (.inl (none), M1) ∧ xx Γ Y d ω (pc + n) xs lv (st) M1 | 1 => ∃ (Y' : XY) (d' : Nat) (M1 : XM) (v : Int32), MVE Y.nm.cls idx Y' b ∧ (∃ i, i < 12 ∧ r = i + 1) ∧ d' + 1 ≤ d ∧ Nat.ble (wdL st) 8 = true ∧ CW Γ d' Y' (.inr (.inr r) :: as) M (.inl (some (.inl v)), M1) ∧ xx Γ Y d ω (pc + n) xs lv (.inl v :: st) M1 | 2 => ∃ (Y' : XY) (d' : Nat) (M1 : XM) (v : Int64), MVE Y.nm.cls idx Y' b ∧ (∃ i, i < 12 ∧ r = i + 1) ∧ d' + 1 ≤ d ∧ Nat.ble (wdL st) 8 = true ∧ CW Γ d' Y' (.inr (.inr r) :: as) M (.inl (some (.inr (.inl v))), M1) ∧ xx Γ Y d ω (pc + n) xs lv (.inr (.inl v) :: st) M1 | _ => ∃ (Y' : XY) (d' : Nat) (M1 : XM) (v : Nat), MVE Y.nm.cls idx Y' b ∧ (∃ i, i < 12 ∧ r = i + 1) ∧ d' + 1 ≤ d ∧ Nat.ble (wdL st) 8 = true ∧ CW Γ d' Y' (.inr (.inr r) :: as) M (.inl (some (.inr (.inr v))), M1) ∧ xx Γ Y d ω (pc + n) xs lv (.inr (.inr v) :: st) M1)) | _ => False)
    | .ireturn => (match e with | 0 => (match st with | [.inl x] => Y.rt = some .int ∧ ω = (.inl (some (.inl x)), M) | _ => False) | _ => (match st with | [.inl x] => Y.rt = some .boolean ∧ ω = (.inl (some (.inl (j_z x))), M) | _ => False))
    | .lreturn => (match st with | [.inr (.inl x)] => Y.rt = some .long ∧ ω = (.inl (some (.inr (.inl x))), M) | _ => False)
    | .areturn => (match st with | [.inr (.inr x)] => (∃ E, Y.rt = some (.object E)) ∧ ω = (.inl (some (.inr (.inr x))), M) | _ => False)
    | .return_ => (match st with | [] => Y.rt = none ∧ ω = (.inl none, M) | _ => False)
    | _ => False
set_option maxHeartbeats 4000000 in
theorem xx_sound {Γ : XG} {Y : XY} {d : Nat} {ω : XO × XM} : ∀ (xs : List XI) (pc : Nat) (lv : XL) (st : List XV) (M : XM), okd Y.cc Y.mL pc xs = true → xx Γ Y d ω pc xs lv st M → RW Γ Y d ω pc lv st M
  | [], pc, lv, st, M, _, h => h
  | (i, n, a, b, e, c, sw) :: xs, pc, lv, st, M, hok, h => by
    have ih0 := fun lv st M => xx_sound (Γ := Γ) (Y := Y) (d := d) (ω := ω) xs (pc + n) lv st M
    have ih : ∀ (_ : Unit) lv st M, okd Y.cc Y.mL (pc + n) xs = true → xx Γ Y d ω (pc + n) xs lv st M → RW Γ Y d ω (pc + n) lv st M := fun _ => ih0
    unfold okd at hok
    simp only [Bool.and_eq_true] at hok
    obtain ⟨⟨⟨hdec0, hln0⟩, hk⟩, hok⟩ := hok
    have hdec := of_decide_eq_true hdec0
    have hln := of_decide_eq_true hln0
    clear hdec0 hln0
    cases i <;> unfold xx at h <;> dsimp only at h <;> dsimp only [ilen] at hln <;> dsimp only [ichk] at hk
    case aaload  =>
      subst hln
      simp only [Bool.and_eq_true, decide_eq_true_eq] at hk
      split at h
      · exact r_aaload hdec (by rw [h.1]; exact hk.1) (by rw [h.1]; exact hk.2) h.2.1 (ih () _ _ _ hok h.2.2)
      · exact h.elim
    case aastore  =>
      subst hln
      split at h
      · exact r_aastore hdec (by rw [h.2.1]; exact h.1) h.2.2.1 h.2.2.2.1 (ih () _ _ _ hok h.2.2.2.2)
      · exact h.elim
    case aconst_null  =>
      subst hln
      exact r_aconst_null hdec (ih () _ _ _ hok h)
    case aload k =>
      subst hln
      split at h
      · next z => exact r_aload hdec z (ih () _ _ _ hok h)
      · exact h.elim
    case aload_n k =>
      subst hln
      split at h
      · next z => exact r_aload_n hdec z (ih () _ _ _ hok h)
      · exact h.elim
    case anewarray idx =>
      subst hln
      split at h
      · obtain ⟨h1, h2, h3, h5, h6⟩ := h
        subst h1
        exact r_anewarray hdec h5 h2 h3 (ih () _ _ _ hok h6)
      · exact h.elim
    case areturn  =>
      subst hln
      split at h
      · obtain ⟨⟨E, h1⟩, h2⟩ := h
        exact r_areturn hdec h1 h2
      · exact h.elim
    case arraylength  =>
      subst hln
      simp only [Bool.or_eq_true, Bool.and_eq_true, decide_eq_true_eq] at hk
      split at h
      · cases e with
        | zero =>
          rcases hk with hk | hk
          · exact absurd hk (by decide)
          · exact r_arraylength hdec (by rw [h.1]; exact hk.1) (by rw [h.1]; exact hk.2) (ih () _ _ _ hok h.2)
        | succ e =>
          obtain ⟨rfl, h3⟩ := h
          exact r_arraylengthS hdec (ih () _ _ _ hok h3)
      · exact h.elim
    case astore k =>
      subst hln
      split at h
      · next z => exact r_astore hdec (by simpa using hk) (ih () _ _ _ hok h)
      · exact h.elim
    case astore_n k =>
      subst hln
      split at h
      · next z => exact r_astore_n hdec (by simpa using hk) (ih () _ _ _ hok h)
      · exact h.elim
    case baload  =>
      subst hln
      simp only [Bool.or_eq_true, decide_eq_true_eq] at hk
      split at h
      · exact r_baload hdec (by rw [h.1]; exact hk) h.2.1 (ih () _ _ _ hok h.2.2)
      · exact h.elim
    case bastore  =>
      subst hln
      split at h
      · cases e with
        | zero => exact r_bastoreZ hdec h.1 h.2.1 (ih () _ _ _ hok h.2.2)
        | succ e => exact r_bastoreB hdec h.1 h.2.1 (ih () _ _ _ hok h.2.2)
      · exact h.elim
    case bipush v =>
      subst hln
      exact r_bipush hdec (by simpa using hk) (ih () _ _ _ hok h)
    case dup  =>
      subst hln
      split at h
      · exact r_dup hdec h.1 (ih () _ _ _ hok h.2)
      · exact h.elim
    case dup_x1  =>
      subst hln
      split at h
      · exact r_dup_x1 hdec h.1 h.2.1 (ih () _ _ _ hok h.2.2)
      · exact h.elim
    case dup2  =>
      subst hln
      split at h
      · exact r_dup2 hdec h.1 h.2.1 (ih () _ _ _ hok h.2.2)
      · exact h.elim
    case getfield idx =>
      subst hln
      split at h
      · obtain ⟨⟨h1, h2⟩, h3, h4⟩ := h
        refine r_getfield hdec h1 h3 ?_
        unfold gv
        rw [h2]
        rcases e with _ | _ | _ | e <;> exact ih () _ _ _ hok h4
      · exact h.elim
    case getstatic idx =>
      subst hln
      simp only [decide_eq_true_eq] at hk
      exact r_getstatic hdec hk h.1 (ih () _ _ _ hok h.2)
    case goto off =>
      subst hln
      exact r_goto hdec (by simpa using hk) h
    case i2b  =>
      subst hln
      split at h
      · exact r_i2b hdec (ih () _ _ _ hok h)
      · exact h.elim
    case i2l  =>
      subst hln
      split at h
      · exact r_i2l hdec (ih () _ _ _ hok h)
      · exact h.elim
    case i2s  =>
      subst hln
      split at h
      · exact r_i2s hdec (ih () _ _ _ hok h)
      · exact h.elim
    case iadd  =>
      subst hln
      split at h
      · exact r_iadd hdec (ih () _ _ _ hok h)
      · exact h.elim
    case iaload  =>
      subst hln
      split at h
      · cases e with
        | zero => exact r_iaload hdec h.1 h.2.1 (ih () _ _ _ hok h.2.2)
        | succ e =>
          obtain ⟨rfl, h2, h3⟩ := h
          exact r_ialoadS hdec h2 (ih () _ _ _ hok h3)
      · exact h.elim
    case iand  =>
      subst hln
      split at h
      · exact r_iand hdec (ih () _ _ _ hok h)
      · exact h.elim
    case iastore  =>
      subst hln
      split at h
      · exact r_iastore hdec h.1 h.2.1 (ih () _ _ _ hok h.2.2)
      · exact h.elim
    case iconst v =>
      subst hln
      exact r_iconst hdec (by simpa using hk) (ih () _ _ _ hok h)
    case idiv  =>
      subst hln
      split at h
      · exact r_idiv hdec h.1 (ih () _ _ _ hok h.2)
      · exact h.elim
    case if_icmp cd off =>
      subst hln
      simp only [decide_eq_true_eq] at hk
      split at h
      · cases cd
        · exact r_icmp_eq hdec hk h.1 (fun z => ih () _ _ _ hok (h.2 z))
        · exact r_icmp_ne hdec hk (fun z => ih () _ _ _ hok (h.1 z)) h.2
        · exact r_icmp_lt hdec hk h.1 (fun z => ih () _ _ _ hok (h.2 z))
        · exact r_icmp_ge hdec hk h.1 (fun z => ih () _ _ _ hok (h.2 z))
        · exact r_icmp_gt hdec hk h.1 (fun z => ih () _ _ _ hok (h.2 z))
        · exact r_icmp_le hdec hk h.1 (fun z => ih () _ _ _ hok (h.2 z))
      · exact h.elim
    case ifCond cd off =>
      subst hln
      simp only [decide_eq_true_eq] at hk
      split at h
      · cases cd
        · exact r_if_eq hdec hk h.1 (fun z => ih () _ _ _ hok (h.2 z))
        · exact r_if_ne hdec hk (fun z => ih () _ _ _ hok (h.1 z)) h.2
        · exact r_if_lt hdec hk h.1 (fun z => ih () _ _ _ hok (h.2 z))
        · exact r_if_ge hdec hk h.1 (fun z => ih () _ _ _ hok (h.2 z))
        · exact r_if_gt hdec hk h.1 (fun z => ih () _ _ _ hok (h.2 z))
        · exact r_if_le hdec hk h.1 (fun z => ih () _ _ _ hok (h.2 z))
      · exact h.elim
    case ifnonnull off =>
      subst hln
      split at h
      · exact r_ifnonnull hdec (by simpa using hk) (fun z => ih () _ _ _ hok (h.1 z)) h.2
      · exact h.elim
    case ifnull off =>
      subst hln
      split at h
      · exact r_ifnull hdec (by simpa using hk) h.1 (fun z => ih () _ _ _ hok (h.2 z))
      · exact h.elim
    case iinc k v =>
      subst hln
      simp only [Bool.and_eq_true, decide_eq_true_eq] at hk
      split at h
      · next z => exact r_iinc hdec z hk.1 hk.2 (ih () _ _ _ hok h)
      · exact h.elim
    case iload k =>
      subst hln
      split at h
      · next z => exact r_iload hdec z (ih () _ _ _ hok h)
      · exact h.elim
    case iload_n k =>
      subst hln
      split at h
      · next z => exact r_iload_n hdec z (ih () _ _ _ hok h)
      · exact h.elim
    case imul  =>
      subst hln
      split at h
      · exact r_imul hdec (ih () _ _ _ hok h)
      · exact h.elim
    case ineg  =>
      subst hln
      split at h
      · exact r_ineg hdec (ih () _ _ _ hok h)
      · exact h.elim
    case invokespecial idx =>
      subst hln
      split at h
      · next z =>
        obtain ⟨z1, z2⟩ := popN_0 z
        rw [z1]
        split at h
        · obtain ⟨rfl, h1, h2, h3, h4, h5⟩ := h
          exact r_objinit hdec h1 h2 (Nat.le_of_ble_eq_true h3) (Nat.le_of_ble_eq_true h4) (ih () _ _ _ hok h5)
        · obtain ⟨Y', d', M1, h1, h0, h2, h3, h4, h5⟩ := h
          exact r_init hdec h1 z2 h0 h2 (Nat.le_of_ble_eq_true h3) h4 (ih () _ _ _ hok h5)
      · exact h.elim
    case invokestatic idx =>
      subst hln
      split at h
      · next z =>
        obtain ⟨z1, z2⟩ := popN_0 z
        rw [z1]
        split at h
        · obtain ⟨Y', d', M1, h1, h2, h3, h4, h5⟩ := h
          exact r_static hdec h1 z2 h2 (Nat.le_of_ble_eq_true h3) h4 (ih () _ _ _ hok h5)
        · obtain ⟨Y', d', M1, v, h1, h2, h3, h4, h5⟩ := h
          exact r_static hdec h1 z2 h2 (Nat.le_of_ble_eq_true h3) h4 (ih () _ _ _ hok h5)
        · obtain ⟨Y', d', M1, v, h1, h2, h3, h4, h5⟩ := h
          exact r_static hdec h1 z2 h2 (Nat.le_of_ble_eq_true h3) h4 (ih () _ _ _ hok h5)
        · obtain ⟨Y', d', M1, v, h1, h2, h3, h4, h5⟩ := h
          exact r_static hdec h1 z2 h2 (Nat.le_of_ble_eq_true h3) h4 (ih () _ _ _ hok h5)
      · exact h.elim
    case invokevirtual idx =>
      subst hln
      split at h
      · next z =>
        obtain ⟨z1, z2⟩ := popN_0 z
        rw [z1]
        split at h
        · split at h
          · obtain ⟨Y', d', M1, h1, h0, h2, h3, h4, h5⟩ := h
            exact r_virtual hdec h1 h0 z2 h2 (Nat.le_of_ble_eq_true h3) h4 (ih () _ _ _ hok h5)
          · obtain ⟨Y', d', M1, v, h1, h0, h2, h3, h4, h5⟩ := h
            exact r_virtual hdec h1 h0 z2 h2 (Nat.le_of_ble_eq_true h3) h4 (ih () _ _ _ hok h5)
          · obtain ⟨Y', d', M1, v, h1, h0, h2, h3, h4, h5⟩ := h
            exact r_virtual hdec h1 h0 z2 h2 (Nat.le_of_ble_eq_true h3) h4 (ih () _ _ _ hok h5)
          · obtain ⟨Y', d', M1, v, h1, h0, h2, h3, h4, h5⟩ := h
            exact r_virtual hdec h1 h0 z2 h2 (Nat.le_of_ble_eq_true h3) h4 (ih () _ _ _ hok h5)
        · split at h
          · obtain ⟨Y', d', M1, ⟨t1, q, ow, x, hq, h1⟩, h2, h3, h4, h5⟩ := h
            exact r_up hdec t1 hq h1 rfl z2 h2 (Nat.le_of_ble_eq_true h3) h4 (ih () _ _ _ hok h5)
          · obtain ⟨Y', d', M1, v, ⟨t1, q, ow, x, hq, h1⟩, h2, h3, h4, h5⟩ := h
            exact r_up hdec t1 hq h1 rfl z2 h2 (Nat.le_of_ble_eq_true h3) h4 (ih () _ _ _ hok h5)
          · obtain ⟨Y', d', M1, v, ⟨t1, q, ow, x, hq, h1⟩, h2, h3, h4, h5⟩ := h
            exact r_up hdec t1 hq h1 rfl z2 h2 (Nat.le_of_ble_eq_true h3) h4 (ih () _ _ _ hok h5)
          · obtain ⟨Y', d', M1, v, ⟨t1, q, ow, x, hq, h1⟩, h2, h3, h4, h5⟩ := h
            exact r_up hdec t1 hq h1 rfl z2 h2 (Nat.le_of_ble_eq_true h3) h4 (ih () _ _ _ hok h5)
        · split at h
          · obtain ⟨Y', d', M1, ⟨ow, x, h1⟩, ⟨i, hi, rfl⟩, h2, h3, h4, h5⟩ := h
            exact r_upE hdec hi h1 z2 h2 (Nat.le_of_ble_eq_true h3) h4 (ih () _ _ _ hok h5)
          · obtain ⟨Y', d', M1, v, ⟨ow, x, h1⟩, ⟨i, hi, rfl⟩, h2, h3, h4, h5⟩ := h
            exact r_upE hdec hi h1 z2 h2 (Nat.le_of_ble_eq_true h3) h4 (ih () _ _ _ hok h5)
          · obtain ⟨Y', d', M1, v, ⟨ow, x, h1⟩, ⟨i, hi, rfl⟩, h2, h3, h4, h5⟩ := h
            exact r_upE hdec hi h1 z2 h2 (Nat.le_of_ble_eq_true h3) h4 (ih () _ _ _ hok h5)
          · obtain ⟨Y', d', M1, v, ⟨ow, x, h1⟩, ⟨i, hi, rfl⟩, h2, h3, h4, h5⟩ := h
            exact r_upE hdec hi h1 z2 h2 (Nat.le_of_ble_eq_true h3) h4 (ih () _ _ _ hok h5)
        · split at h
          · obtain ⟨Y', d', M1, h1, ⟨i, hi, rfl⟩, h2, h3, h4, h5⟩ := h
            exact r_virtualE hdec h1 hi z2 h2 (Nat.le_of_ble_eq_true h3) h4 (ih () _ _ _ hok h5)
          · obtain ⟨Y', d', M1, v, h1, ⟨i, hi, rfl⟩, h2, h3, h4, h5⟩ := h
            exact r_virtualE hdec h1 hi z2 h2 (Nat.le_of_ble_eq_true h3) h4 (ih () _ _ _ hok h5)
          · obtain ⟨Y', d', M1, v, h1, ⟨i, hi, rfl⟩, h2, h3, h4, h5⟩ := h
            exact r_virtualE hdec h1 hi z2 h2 (Nat.le_of_ble_eq_true h3) h4 (ih () _ _ _ hok h5)
          · obtain ⟨Y', d', M1, v, h1, ⟨i, hi, rfl⟩, h2, h3, h4, h5⟩ := h
            exact r_virtualE hdec h1 hi z2 h2 (Nat.le_of_ble_eq_true h3) h4 (ih () _ _ _ hok h5)
      · exact h.elim
    case ior  =>
      subst hln
      split at h
      · exact r_ior hdec (ih () _ _ _ hok h)
      · exact h.elim
    case irem  =>
      subst hln
      split at h
      · exact r_irem hdec h.1 (ih () _ _ _ hok h.2)
      · exact h.elim
    case ireturn  =>
      subst hln
      cases e with
      | zero =>
        simp only at h
        split at h
        · exact r_ireturn hdec h.1 h.2
        · exact h.elim
      | succ e =>
        simp only at h
        split at h
        · exact r_zreturn hdec h.1 h.2
        · exact h.elim
    case ishl  =>
      subst hln
      split at h
      · exact r_ishl hdec (ih () _ _ _ hok h)
      · exact h.elim
    case ishr  =>
      subst hln
      split at h
      · exact r_ishr hdec (ih () _ _ _ hok h)
      · exact h.elim
    case istore k =>
      subst hln
      split at h
      · next z => exact r_istore hdec (by simpa using hk) (ih () _ _ _ hok h)
      · exact h.elim
    case istore_n k =>
      subst hln
      split at h
      · next z => exact r_istore_n hdec (by simpa using hk) (ih () _ _ _ hok h)
      · exact h.elim
    case isub  =>
      subst hln
      split at h
      · exact r_isub hdec (ih () _ _ _ hok h)
      · exact h.elim
    case iushr  =>
      subst hln
      split at h
      · exact r_iushr hdec (ih () _ _ _ hok h)
      · exact h.elim
    case ixor  =>
      subst hln
      split at h
      · exact r_ixor hdec (ih () _ _ _ hok h)
      · exact h.elim
    case l2i  =>
      subst hln
      split at h
      · exact r_l2i hdec (ih () _ _ _ hok h)
      · exact h.elim
    case ladd  =>
      subst hln
      split at h
      · exact r_ladd hdec (ih () _ _ _ hok h)
      · exact h.elim
    case laload  =>
      subst hln
      split at h
      · exact r_laload hdec h.1 h.2.1 (ih () _ _ _ hok h.2.2)
      · exact h.elim
    case land  =>
      subst hln
      split at h
      · exact r_land hdec (ih () _ _ _ hok h)
      · exact h.elim
    case lastore  =>
      subst hln
      split at h
      · exact r_lastore hdec h.1 h.2.1 (ih () _ _ _ hok h.2.2)
      · exact h.elim
    case lcmp  =>
      subst hln
      split at h
      · exact r_lcmp hdec (ih () _ _ _ hok h)
      · exact h.elim
    case lconst k =>
      subst hln
      simp only [decide_eq_true_eq] at hk
      refine r_lconst hdec ?_ (ih () _ _ _ hok h)
      rw [← hk]
      rcases k with ⟨_ | _ | k, hk2⟩
      · rfl
      · rfl
      · omega
    case ldc idx =>
      subst hln
      exact r_ldc hdec h.1 (ih () _ _ _ hok h.2)
    case ldc_w idx =>
      subst hln
      exact r_ldc_w hdec h.1 (ih () _ _ _ hok h.2)
    case ldc2_w idx =>
      subst hln
      obtain ⟨v, h1, h2⟩ := h
      exact r_ldc2_w hdec h1 (ih () _ _ _ hok h2)
    case ldiv  =>
      subst hln
      split at h
      · exact r_ldiv hdec h.1 (ih () _ _ _ hok h.2)
      · exact h.elim
    case lload k =>
      subst hln
      split at h
      · next z => exact r_lload hdec z (ih () _ _ _ hok h)
      · exact h.elim
    case lload_n k =>
      subst hln
      split at h
      · next z => exact r_lload_n hdec z (ih () _ _ _ hok h)
      · exact h.elim
    case lmul  =>
      subst hln
      split at h
      · exact r_lmul hdec (ih () _ _ _ hok h)
      · exact h.elim
    case lneg  =>
      subst hln
      split at h
      · exact r_lneg hdec (ih () _ _ _ hok h)
      · exact h.elim
    case lookupswitch dflt ps =>
      simp only [Bool.and_eq_true, decide_eq_true_eq] at hk
      split at h
      · exact r_lookup hdec hk.1.1.1 ⟨hk.1.1.2, fun q hq => by simpa using List.all_eq_true.mp hk.1.2 q hq⟩ hk.2 (swP_swT _ h)
      · exact h.elim
    case lor  =>
      subst hln
      split at h
      · exact r_lor hdec (ih () _ _ _ hok h)
      · exact h.elim
    case lrem  =>
      subst hln
      split at h
      · exact r_lrem hdec h.1 (ih () _ _ _ hok h.2)
      · exact h.elim
    case lreturn  =>
      subst hln
      split at h
      · exact r_lreturn hdec h.1 h.2
      · exact h.elim
    case lshl  =>
      subst hln
      split at h
      · exact r_lshl hdec (ih () _ _ _ hok h)
      · exact h.elim
    case lshr  =>
      subst hln
      split at h
      · exact r_lshr hdec (ih () _ _ _ hok h)
      · exact h.elim
    case lstore k =>
      subst hln
      split at h
      · next z => exact r_lstore hdec (by simpa using hk) (ih () _ _ _ hok h)
      · exact h.elim
    case lstore_n k =>
      subst hln
      split at h
      · next z => exact r_lstore_n hdec (by simpa using hk) (ih () _ _ _ hok h)
      · exact h.elim
    case lsub  =>
      subst hln
      split at h
      · exact r_lsub hdec (ih () _ _ _ hok h)
      · exact h.elim
    case lushr  =>
      subst hln
      split at h
      · exact r_lushr hdec (ih () _ _ _ hok h)
      · exact h.elim
    case lxor  =>
      subst hln
      split at h
      · exact r_lxor hdec (ih () _ _ _ hok h)
      · exact h.elim
    case new idx =>
      subst hln
      exact r_new hdec h.1 (ih () _ _ _ hok h.2)
    case newarray ty =>
      subst hln
      simp only [decide_eq_true_eq] at hk
      split at h
      · obtain ⟨h1, h2, h3, h4, h5, h6⟩ := h
        subst h1; subst h4
        exact r_newarray hdec hk h5 h2 h3 (ih () _ _ _ hok h6)
      · exact h.elim
    case pop  =>
      subst hln
      split at h
      · exact r_pop hdec h.1 (ih () _ _ _ hok h.2)
      · exact h.elim
    case putfield idx =>
      subst hln
      rcases e with _ | _ | _ | e
      · simp only at h
        split at h
        · exact r_putfield hdec h.1.1 h.2.1 (by unfold vfit; rw [h.1.2]; exact ⟨_, rfl⟩) (ih () _ _ _ hok h.2.2)
        · exact h.elim
      · simp only at h
        split at h
        · exact r_putfield hdec h.1.1 h.2.1 (by unfold vfit; rw [h.1.2]; exact ⟨_, rfl⟩) (ih () _ _ _ hok h.2.2)
        · exact h.elim
      · simp only at h
        split at h
        · exact r_putfield hdec h.1.1 h.2.1 (by unfold vfit; rw [h.1.2]; exact ⟨_, rfl⟩) (ih () _ _ _ hok h.2.2)
        · exact h.elim
      · simp only at h
        split at h
        · exact r_putfield hdec h.1.1 h.2.1 (by unfold vfit; rw [h.1.2]; rcases h.2.2.1 with z | z; exact Or.inl (by rw [z]); exact Or.inr (by rw [z])) (ih () _ _ _ hok h.2.2.2)
        · exact h.elim
    case return_  =>
      subst hln
      split at h
      · exact r_return hdec h.1 h.2
      · exact h.elim
    case sipush v =>
      subst hln
      exact r_sipush hdec (by simpa using hk) (ih () _ _ _ hok h)
    case tableswitch dflt lo hi offs =>
      simp only [Bool.and_eq_true, decide_eq_true_eq] at hk
      split at h
      · exact r_table hdec hk.1 hk.2 (swP_swT _ h)
      · exact h.elim
