/-! part 47zza: what an instruction does, as a plain function of things (gen/tpl.py) -/
abbrev Sg : Type := Nat → TH
def up (σ : Sg) (n : Nat) (t : TH) : Sg := fun k => if k = n then t else σ k
abbrev tNo : TH := (0, 0, -1, vOne 0)
abbrev tBy (m : Int32) : TH := (9, m, -1, vOne 0)
abbrev tNu (w : AV) : TH := (1, 0, -1, w)
def clr (n : Nat) : TH := if n < 11 then tNo else tBy 0
abbrev Mp : Type := (Nat → Int32) × (Nat → Int32) × (Nat → Int32)
/-- code, d, s, offset, immediate, immediate of the next place -/
abbrev In : Type := Int32 × Nat × Nat × Int32 × Int32 × Int32
abbrev In.c (I : In) : Int32 := I.1
abbrev In.d (I : In) : Nat := I.2.1
abbrev In.s (I : In) : Nat := I.2.2.1
abbrev In.o (I : In) : Int32 := I.2.2.2.1
abbrev In.i (I : In) : Int32 := I.2.2.2.2.1
abbrev In.j (I : In) : Int32 := I.2.2.2.2.2
def kd (c : Int32) : Int32 := c &&& 7
def nm (c : Int32) : Int32 := j_ishr c 4
def rg (c : Int32) : Int32 := if c &&& 8 = 0 then 0 else 1
def md (c : Int32) : Int32 := j_ishr c 5
def sz (c : Int32) : Int32 := if j_ishr c 3 &&& 3 = 0 then 4 else if j_ishr c 3 &&& 3 = 1 then 2 else if j_ishr c 3 &&& 3 = 2 then 1 else 8
noncomputable def cif {α : Type} (p : Prop) (a b : α) : α := @ite α p (Classical.propDecidable p) a b
theorem cif_pos {α : Type} {p : Prop} {a b : α} (h : p) : cif p a b = a := if_pos h
theorem cif_neg {α : Type} {p : Prop} {a b : α} (h : ¬ p) : cif p a b = b := if_neg h
def opd (I : In) (hf : Int32) (σ : Sg) : TH := if rg I.c = 0 then tNu (vOne (if hf = 0 then I.i.toInt64 else I.i.toInt64 &&& 4294967295)) else σ I.s
def opN (n : Int32) : Nat := if n = 4 then 6 else if n = 5 then 5 else if n = 6 then 8 else if n = 7 then 9 else if n = 9 then 4 else if n = 10 then 7 else if n = 12 then 10 else ix n
def bw (hf : Int32) : Int32 := if hf = 0 then 64 else 32
noncomputable def rkV (I : In) (hf : Int32) (x y : AV) : AV := if nm I.c = 8 then vOp 1 (bw hf) (vOne 0) x else if nm I.c = 13 then (if hf = 0 then vSwap I.i x else if rg I.c = 0 then vCut I.i x else vSwap I.i x) else if I.o = 1 then vCut (bw hf) vFree else if I.o ≤ 1 then vOp (opN (nm I.c)) (bw hf) x y else vCut (bw hf) (vExt I.o y)
abbrev nearV (v : AV) : Prop := (-536870912 : Int64) ≤ v.le ∧ v.gr ≤ 536870912
/-- a pointer b, moved by a number v; t is what stood there -/
noncomputable def ptr1 (n : Int32) (b : TH) (v : AV) : Int32 × TH :=
  if b.so = 4 ∨ b.so = 7 then (if nearV (vOp (ix n) 64 b.va v) then 0 else 2, (b.so, b.de, b.og, vOp (ix n) 64 b.va v))
  else if (b.so = 2 ∨ b.so = 3) ∧ v.u = 0 ∧ (-1073741824 : Int64) ≤ v.le ∧ v.le ≤ 1073741824 then
    (if (-536870912 : Int64) ≤ (if n = 0 then b.de.toInt64 + v.le else b.de.toInt64 - v.le) ∧ (if n = 0 then b.de.toInt64 + v.le else b.de.toInt64 - v.le) ≤ 536870912 then 0 else 2, (b.so, (if n = 0 then b.de.toInt64 + v.le else b.de.toInt64 - v.le).toInt32, b.og, b.va))
  else (2, b)
noncomputable def ptr (n : Int32) (t y : TH) : Int32 × TH :=
  if 1 < n then (2, t) else if t.so = 1 then (if n = 1 then (2, t) else ptr1 n y t.va) else if y.so = 1 then ptr1 n t y.va else (2, t)
noncomputable def rck1 (I : In) (hf : Int32) (σ : Sg) (y : TH) : Int32 × Sg :=
  if nm I.c = 11 ∧ hf = 0 ∧ I.o = 0 then (0, up σ I.d y)
  else if (nm I.c = 11 ∨ (σ I.d).so = 1) ∧ y.so = 1 then (0, up σ I.d (tNu (rkV I hf (if nm I.c = 11 then y.va else (σ I.d).va) y.va)))
  else if hf = 0 then ((ptr (nm I.c) (σ I.d) y).1, up σ I.d (ptr (nm I.c) (σ I.d) y).2) else (2, σ)
noncomputable def rck (I : In) (hf : Int32) (σ : Sg) : Int32 × Sg :=
  if (nm I.c ≠ 11 ∧ (σ I.d).so = 0) ∨ (nm I.c ≠ 8 ∧ nm I.c ≠ 13 ∧ rg I.c ≠ 0 ∧ (σ I.s).so = 0) then (1, σ)
  else rck1 I hf σ (if nm I.c = 8 ∨ nm I.c = 13 then σ I.d else opd I hf σ)
/-- bytes -/
abbrev lie (v : AV) (o b z : Int32) : Prop := -(o.toInt64) ≤ v.le ∧ v.gr ≤ z.toInt64 - b.toInt64 - o.toInt64
def adr (t : TH) (o : Int32) : Int := t.de.toInt + o.toInt
def rch (mp : Mp) (kn : Int32) (t : TH) (o b w : Int32) : Int32 :=
  if t.so = 3 then (if adr t o % b.toInt = 0 ∧ -512 ≤ adr t o ∧ adr t o ≤ -b.toInt then 0 else 4)
  else if t.so = 2 then (if (adr t o % b.toInt = 0 ∧ 0 ≤ adr t o ∧ adr t o ≤ 64 - b.toInt) ∧ (if w = 0 then (b = 8 ∧ adr t o < 16) ∨ 16 ≤ adr t o else 32 ≤ adr t o) then 0 else 4)
  else if t.so = 4 then (if lie t.va o b kn then 0 else 4)
  else if t.so = 7 then (if lie t.va o b (mp.2.2 (ix t.de)) then 0 else 4)
  else 3
def slo (q : Nat) : Nat := 11 + q / 8
def wb (t : TH) (j : Nat) : Prop := j_ishr (wrT t) (Int32.ofNat j) &&& 1 = 1
def hasN (σ : Sg) (q b : Nat) : Prop := ∀ k, k < b → wb (σ (slo (q + k))) ((q + k) % 8)
def q5 (a : Int) : Nat := (a + 512).toNat
noncomputable def ldA (b : Int32) (m : Int32) : AV := if m = 4 then vExt (8 * b) (vCut (8 * b) vFree) else vCut (8 * b) vFree
noncomputable def lod (mp : Mp) (I : In) (σ : Sg) (kn : Int32) : Int32 × Sg :=
  if (σ I.s).so = 0 then (1, σ)
  else if rch mp kn (σ I.s) I.o (sz I.c) 0 ≠ 0 then (rch mp kn (σ I.s) I.o (sz I.c) 0, σ)
  else if (σ I.s).so = 3 then
    (if sz I.c = 8 ∧ (σ (slo (q5 (adr (σ I.s) I.o)))).so ≠ 9 then (0, up σ I.d (σ (slo (q5 (adr (σ I.s) I.o)))))
     else cif (hasN σ (q5 (adr (σ I.s) I.o)) (ix (sz I.c))) (0, up σ I.d (tNu (ldA (sz I.c) (md I.c)))) (5, σ))
  else if (σ I.s).so = 2 ∧ adr (σ I.s) I.o < 16 then (0, up σ I.d (if adr (σ I.s) I.o = 0 then 4 else 5, 0, -1, vOne 0))
  else (0, up σ I.d (tNu (ldA (sz I.c) (md I.c))))
def msk (b : Int32) (r : Nat) : Int32 := j_ishl (j_ishl 1 b - 1) (Int32.ofNat r)
def sto (mp : Mp) (I : In) (v : TH) (σ : Sg) (kn : Int32) : Int32 × Sg :=
  if (σ I.d).so = 0 ∨ v.so = 0 then (1, σ)
  else if rch mp kn (σ I.d) I.o (sz I.c) 1 ≠ 0 then (rch mp kn (σ I.d) I.o (sz I.c) 1, σ)
  else if ¬ ((σ I.d).so = 3 ∧ sz I.c = 8) ∧ v.so ≠ 1 then (6, σ)
  else if (σ I.d).so = 3 then
    (if sz I.c = 8 then (0, up σ (slo (q5 (adr (σ I.d) I.o))) v) else (0, up σ (slo (q5 (adr (σ I.d) I.o))) (tBy (wrT (σ (slo (q5 (adr (σ I.d) I.o)))) ||| msk (sz I.c) (q5 (adr (σ I.d) I.o) % 8)))))
  else (0, σ)
noncomputable def atm (mp : Mp) (I : In) (σ : Sg) : Int32 × Sg :=
  if (σ I.d).so = 0 ∨ (σ I.s).so = 0 ∨ (I.i = 241 ∧ (σ 0).so = 0) then (1, σ)
  else if (σ I.d).so ≠ 7 then (3, σ)
  else if ¬ (((σ I.d).va.u &&& ((sz I.c).toInt64 - 1) = 0 ∧ ((σ I.d).va.b + I.o.toInt64) &&& ((sz I.c).toInt64 - 1) = 0) ∧ lie (σ I.d).va I.o (sz I.c) (mp.2.2 (ix (σ I.d).de))) then (4, σ)
  else if (σ I.s).so ≠ 1 ∨ (I.i = 241 ∧ (σ 0).so ≠ 1) then (6, σ)
  else (0, if I.i = 241 then up σ 0 (tNu (vCut (8 * sz I.c) vFree)) else if I.i &&& 1 = 1 then up σ I.s (tNu (vCut (8 * sz I.c) vFree)) else σ)
def wid (mp : Mp) (I : In) (σ : Sg) : Int32 × Sg :=
  if I.s = 0 then (0, up σ I.d (tNu (vOne (j_lshl I.j.toInt64 32 ||| (I.i.toInt64 &&& 4294967295)))))
  else if 0 ≤ I.i ∧ I.i < 8 ∧ 0 < mp.1 (ix I.i) then (0, up σ I.d (6, I.i, -1, vOne 0)) else (8, σ)
/-- calls -/
def thn (a b : Int32) : Int32 := if a = 0 then b else a
def mpk (mp : Mp) (t : TH) (k k' : Int32) : Int32 := if t.so = 0 then 1 else if t.so = 6 ∧ (mp.1 (ix t.de) = k ∨ mp.1 (ix t.de) = k') then 0 else 8
def numb (t : TH) : Int32 := if t.so = 0 then 1 else if t.so = 1 then 0 else 8
noncomputable def tel (mp : Mp) (σ : Sg) (kn : Int32) (t : TH) (b : Int32) : Int32 :=
  if t.so = 0 then 1
  else if t.so = 3 then (if t.de.toInt < -512 ∨ -b.toInt < t.de.toInt then 4 else cif (hasN σ (q5 t.de.toInt) (ix b)) 0 5)
  else if t.so = 4 then (if lie t.va 0 b kn then 0 else 4)
  else if t.so = 7 then (if lie t.va 0 b (mp.2.2 (ix t.de)) then 0 else 4)
  else 3
noncomputable def args (mp : Mp) (i : Int32) (σ : Sg) (kn : Int32) : Int32 :=
  if i = 1 then thn (mpk mp (σ 1) 1 2) (tel mp σ kn (σ 2) (mp.2.1 (ix (σ 1).de)))
  else if i = 2 then thn (mpk mp (σ 1) 1 2) (thn (tel mp σ kn (σ 2) (mp.2.1 (ix (σ 1).de))) (thn (tel mp σ kn (σ 3) (mp.2.2 (ix (σ 1).de))) (numb (σ 4))))
  else if i = 3 then thn (mpk mp (σ 1) 2 2) (tel mp σ kn (σ 2) (mp.2.1 (ix (σ 1).de)))
  else if i = 4 then thn (mpk mp (σ 1) 3 3) (thn (numb (σ 3)) (if (σ 3).va.le < 1 ∨ 256 < (σ 3).va.gr then 8 else tel mp σ kn (σ 2) (σ 3).va.gr.toInt32))
  else if i = 5 then 0
  else if i = 6 then (if (σ 1).so = 0 then 1 else if (σ 1).so ≠ 2 ∨ (σ 1).de ≠ 0 then 8 else numb (σ 2))
  else 7
def drp (i p : Int32) (σ : Sg) : Sg := fun n => if (i = 6 ∧ ((σ n).so = 4 ∨ (σ n).so = 5)) ∨ (i = 1 ∧ (σ n).so = 8 ∧ (σ n).og = p) then clr n else σ n
def cls (i p : Int32) (σ : Sg) : Sg := fun n => if n = 0 then (if i = 1 then (8, (σ 1).de, p, vOne 0) else tNu vFree) else if n < 6 then tNo else drp i p σ n
abbrev St : Type := Sg × Int32
abbrev Rs : Type := Int32 × Option St × Option St
/-- jumps -/
def cmpN (n : Int32) : Nat := if n = 1 then 0 else if n = 2 then 4 else if n = 3 then 5 else if n = 4 then 10 else if n = 5 then 1 else if n = 6 then 8 else if n = 7 then 9 else if n = 10 then 2 else if n = 11 then 3 else if n = 12 then 6 else 7
def oppN (c : Nat) : Nat := if c = 0 then 1 else if c = 1 then 0 else if c = 2 then 5 else if c = 3 then 4 else if c = 4 then 3 else if c = 5 then 2 else if c = 6 then 9 else if c = 7 then 8 else if c = 8 then 7 else if c = 9 then 6 else if c = 10 then 11 else 10
def rfG (c : Nat) (x y : AV) : Prop := rfOk c x y = true ∧ (∃ z, vin (rfX c x y) z) ∧ ∃ z, vin (rfY c x y) z
noncomputable def nar (I : In) (c : Nat) (σ : Sg) (kn : Int32) (x y : AV) : Option St :=
  cif (rfG c x y) (some (if rg I.c = 0 then up σ I.d (tNu (tite (rfX c x y))) else up (up σ I.d (tNu (tite (rfX c x y)))) I.s (tNu (tite (rfY c x y))), kn)) none
abbrev hlf (v : AV) : Prop := (0 : Int64) ≤ v.le ∧ v.gr ≤ 2147483647
def stl (og : Int32) (z : Prop) [Decidable z] (σ : Sg) : Sg := fun n => if (σ n).so = 8 ∧ (σ n).og = og then (if z then tNu (vOne 0) else (7, (σ n).de, -1, vOne 0)) else σ n
def lrn (v : AV) (m : Int32) (kn : Int32) : Int32 := if v.u = 0 ∧ 0 ≤ v.b ∧ kn.toInt64 < v.b + m.toInt64 then v.b.toInt32 + m else kn
def mea (n : Int32) (v : AV) (σ : Sg) (kn : Int32) : Rs :=
  (0, some (σ, if n = 2 then lrn v 0 kn else if n = 3 then lrn v 1 kn else kn), some (σ, if n = 2 ∨ n = 3 then kn else if n = 10 then lrn v 1 kn else lrn v 0 kn))
def trn (n : Int32) : Int32 := if n = 2 then 10 else if n = 3 then 11 else if n = 10 then 2 else 3
noncomputable def bra (I : In) (hf : Int32) (σ : Sg) (kn : Int32) : Rs :=
  if (σ I.d).so = 0 ∨ (rg I.c ≠ 0 ∧ (σ I.s).so = 0) then (1, none, none)
  else if (σ I.d).so = 1 ∧ (opd I hf σ).so = 1 then
    (if (rg I.c ≠ 0 ∧ I.d = I.s) ∨ (hf ≠ 0 ∧ ¬ (hlf (σ I.d).va ∧ hlf (opd I hf σ).va)) then (0, some (σ, kn), some (σ, kn))
     else (0, nar I (oppN (cmpN (nm I.c))) σ kn (σ I.d).va (opd I hf σ).va, nar I (cmpN (nm I.c)) σ kn (σ I.d).va (opd I hf σ).va))
  else if hf = 0 ∧ (σ I.d).so = 8 ∧ ((opd I hf σ).so = 1 ∧ (opd I hf σ).va.u = 0 ∧ (opd I hf σ).va.b = 0) ∧ (nm I.c = 1 ∨ nm I.c = 5) then
    (0, some (stl (σ I.d).og (nm I.c = 5) σ, kn), some (stl (σ I.d).og (nm I.c = 1) σ, kn))
  else if hf = 0 ∧ (nm I.c = 2 ∨ nm I.c = 3 ∨ nm I.c = 10 ∨ nm I.c = 11) ∧ (σ I.d).so = 4 ∧ (opd I hf σ).so = 5 then mea (nm I.c) (σ I.d).va σ kn
  else if hf = 0 ∧ (nm I.c = 2 ∨ nm I.c = 3 ∨ nm I.c = 10 ∨ nm I.c = 11) ∧ (σ I.d).so = 5 ∧ (opd I hf σ).so = 4 then mea (trn (nm I.c)) (opd I hf σ).va σ kn
  else (2, none, none)
def on1 (r : Int32 × Sg) (kn : Int32) : Rs := (r.1, some (r.2, kn), none)
noncomputable def jmp (mp : Mp) (I : In) (p : Int32) (σ : Sg) (kn : Int32) : Rs :=
  if I.c = 133 then (args mp I.i σ kn, some (cls I.i p σ, if I.i = 6 then 0 else kn), none)
  else if I.c = 149 then (if (σ 0).so = 0 then 1 else if (σ 0).so = 1 then 0 else 6, none, none)
  else if I.c = 5 ∨ I.c = 6 then (0, none, some (σ, kn))
  else bra I (if kd I.c = 6 then 1 else 0) σ kn
noncomputable def stp (mp : Mp) (I : In) (p : Int32) (σ : Sg) (kn : Int32) : Rs :=
  if kd I.c = 0 then on1 (wid mp I σ) kn
  else if kd I.c = 1 then on1 (lod mp I σ kn) kn
  else if kd I.c = 2 then on1 (sto mp I (tNu (vOne I.i.toInt64)) σ kn) kn
  else if kd I.c = 3 then (if md I.c = 6 then on1 (atm mp I σ) kn else on1 (sto mp I (σ I.s) σ kn) kn)
  else if kd I.c = 5 ∨ kd I.c = 6 then jmp mp I p σ kn
  else on1 (rck I (if kd I.c = 4 then 1 else 0) σ) kn
/-- what holds of things -/
def WT (t : TH) : Prop := (hvB t.so = false → t.va = vOne 0) ∧ Tt t.va ∧ (t.so = 1 → t.de = 0) ∧ (t.so ≠ 8 → t.og = -1) ∧ (t.so = 6 ∨ t.so = 7 ∨ t.so = 8 → 0 ≤ t.de ∧ t.de < 8) ∧
  (t.so = 2 ∨ t.so = 3 → -536870912 ≤ t.de.toInt ∧ t.de.toInt ≤ 536870912) ∧ (t.so = 4 ∨ t.so = 7 → t.va.u = 0 → nearV t.va)
def WS (σ : Sg) : Prop := ∀ n, WT (σ n)
/-- what holds of an instruction that the form lets pass -/
def WI (I : In) : Prop := (∃ m, m < 256 ∧ I.c = Int32.ofNat m) ∧ I.d < 11 ∧ I.s < 11 ∧ (-32768 ≤ I.o.toInt ∧ I.o.toInt ≤ 32767) ∧
  (kd I.c = 4 ∨ kd I.c = 7 → I.d < 10 ∧ nm I.c ≤ 13 ∧ (nm I.c = 8 → rg I.c = 0 ∧ I.o = 0) ∧ (nm I.c = 13 → I.o = 0 ∧ (I.i = 16 ∨ I.i = 32 ∨ I.i = 64) ∧ (kd I.c = 7 → rg I.c = 0)) ∧ (I.o = 0 ∨ (I.o = 1 ∧ (nm I.c = 3 ∨ nm I.c = 9)) ∨ (nm I.c = 11 ∧ rg I.c = 1 ∧ (I.o = 8 ∨ I.o = 16 ∨ (I.o = 32 ∧ kd I.c = 7))))) ∧
  (kd I.c = 5 ∨ kd I.c = 6 → I.c = 5 ∨ I.c = 6 ∨ I.c = 133 ∨ I.c = 149 ∨ (nm I.c = 1 ∨ nm I.c = 2 ∨ nm I.c = 3 ∨ nm I.c = 4 ∨ nm I.c = 5 ∨ nm I.c = 6 ∨ nm I.c = 7 ∨ nm I.c = 10 ∨ nm I.c = 11 ∨ nm I.c = 12 ∨ nm I.c = 13)) ∧
  (kd I.c = 3 → md I.c = 6 → (sz I.c = 4 ∨ sz I.c = 8) ∧ (I.i = 0 ∨ I.i = 1 ∨ I.i = 64 ∨ I.i = 65 ∨ I.i = 80 ∨ I.i = 81 ∨ I.i = 160 ∨ I.i = 161 ∨ I.i = 225 ∨ I.i = 241)) ∧
  (kd I.c = 0 → I.s = 0 ∨ (I.s = 1 ∧ 0 ≤ I.i)) ∧ (kd I.c = 1 → md I.c = 3 ∨ (md I.c = 4 ∧ ¬ sz I.c = 8))
/-- what holds of maps -/
def WM (mp : Mp) : Prop := ∀ k, k < 8 → (0 ≤ mp.1 k ∧ mp.1 k < 4) ∧ (0 ≤ mp.2.1 k ∧ mp.2.1 k ≤ 32) ∧ (0 ≤ mp.2.2 k ∧ mp.2.2 k ≤ 256)
theorem up_same (σ : Sg) (n : Nat) (t : TH) : up σ n t n = t := if_pos rfl
theorem up_ne (σ : Sg) {n k : Nat} (t : TH) (h : k ≠ n) : up σ n t k = σ k := if_neg h
theorem up_up (σ : Sg) (n : Nat) (t t' : TH) : up (up σ n t) n t' = up σ n t' := by
  funext k
  by_cases h : k = n
  · rw [h, up_same, up_same]
  · rw [up_ne _ _ h, up_ne _ _ h, up_ne _ _ h]
theorem up_id (σ : Sg) (n : Nat) : up σ n (σ n) = σ := by
  funext k
  by_cases h : k = n
  · rw [h, up_same]
  · rw [up_ne _ _ h]
