/-! PURE: pictures, operations on them, what the printed functions use (moved out of the layer by tools/split.py) -/
set_option maxRecDepth 100000
/-- a thing: an object (class number, fields) or an array (type number, length and contents) -/
abbrev Ob : Type := (Nat × List Value) ⊕ (Nat × vp_A)
/-- the model's numbers: its int fields, its arrays of ints (and booleans), its arrays of longs, all by the field's number -/
abbrev Sg : Type := (Nat → Int32) × (Nat → Nat → Int32) × (Nat → Nat → Int64)
/-- a picture: things by address; the next address; how many cells and slots may still be made; the model; the statics' values -/
abbrev St : Type := (Nat → Option Ob) × Nat × Nat × Nat × Option Sg × (Nat → Option Nat)
/-- how a method ends: with a value (or none), or with an exception: its class and address -/
abbrev Ex : Type := String × Nat
abbrev Rs : Type := Option Value ⊕ Ex
/-- the model's fields by number: 0 an int, 1 an array of ints, 2 of longs, 3 of booleans; the arrays' lengths -/
def r_mK (k : Nat) : Nat := match k with
  | 0 => 0 | 8 => 2 | 9 => 3 | 12 => 3 | 16 => 0 | 22 => 0 | 23 => 0 | 24 => 0 | 26 => 0 | 28 => 0 | 29 => 0 | 30 => 0 | 31 => 3 | 35 => 0 | _ => 1
def r_mN (k : Nat) : Nat := match k with
  | 1 => 6 | 2 => 720 | 3 => 5 | 4 => 5 | 5 => 5 | 6 => 5 | 7 => 600 | 8 => 600 | 9 => 24 | 10 => 24 | 11 => 24 | 12 => 2880 | 13 => 2880 | 14 => 2880 | 15 => 2880 | 17 => 20 | 18 => 20 | 19 => 20 | 20 => 2400 | 21 => 20 | 25 => 120 | 27 => 120 | 31 => 12 | 32 => 12 | 33 => 1440 | 34 => 1440 | _ => 0
def x_set (X : St) (a : Nat) (e : Ob) : St := (va_up X.1 a (some e), X.2)
def x_new (X : St) (n : Nat) (e : Ob) : St := (va_up X.1 X.2.1 (some e), X.2.1 + 1, X.2.2.1 - 1, X.2.2.2.1 - n, X.2.2.2.2)
def vI (v : Option Value) : Option Int32 := match v with
  | some (.int x) => some x
  | _ => none
def vA (v : Option Value) : Option (Option Nat) := match v with
  | some .null => some none
  | some (.ref a) => some (some a)
  | _ => none
/-- the fields of the object o of class ci -/
def oF (S : St) (o : Option Nat) (ci : Nat) : Option (List Value) := match o with
  | none => none
  | some a => match S.1 a with
    | some (.inl x) => if x.1 = ci then some x.2 else none
    | _ => none
def oI (S : St) (o : Option Nat) (ci k : Nat) : Option Int32 := (oF S o ci).bind fun fs => vI fs[k]?
def oA (S : St) (o : Option Nat) (ci k : Nat) : Option (Option Nat) := (oF S o ci).bind fun fs => vA fs[k]?
/-- a field is set -/
def pV (S : St) (o : Option Nat) (ci k : Nat) (v : Value) : Option St := match o with
  | none => none
  | some a => (oF S (some a) ci).bind fun fs => if k < fs.length then some (x_set S a (.inl (ci, fs.set k v))) else none
/-- it is an object of that class -/
def isO (S : St) (o : Option Nat) (ci : Nat) : Option Unit := (oF S o ci).map fun _ => ()
/-- null, or an object of that class -/
def ckO (S : St) (o : Option Nat) (ci : Nat) : Option Unit := match o with
  | none => some ()
  | some a => isO S (some a) ci
def clsOf (S : St) (o : Option Nat) : Option Nat := match o with
  | none => none
  | some a => match S.1 a with
    | some (.inl x) => some x.1
    | _ => none
/-- the array o: its type's number, length and contents -/
def aR (S : St) (o : Option Nat) : Option (Nat × vp_A) := match o with
  | none => none
  | some a => match S.1 a with
    | some (.inr x) => some x
    | _ => none
def lenA (S : St) (o : Option Nat) (ti : Nat) : Option Int32 := (aR S o).bind fun x => if x.1 = ti then some (Int32.ofNat x.2.1) else none
def iL (S : St) (o : Option Nat) (ti : Nat) (i : Int32) : Option Int32 := (aR S o).bind fun x => match x.2.2 with
  | .inl f => if x.1 = ti ∧ ¬ (i < 0 ∨ x.2.1 ≤ i.toNatClampNeg) then some (f i.toNatClampNeg) else none
  | _ => none
def jL (S : St) (o : Option Nat) (i : Int32) : Option Int64 := (aR S o).bind fun x => match x.2.2 with
  | .inr (.inl f) => if x.1 = 1 ∧ ¬ (i < 0 ∨ x.2.1 ≤ i.toNatClampNeg) then some (f i.toNatClampNeg) else none
  | _ => none
def aL (S : St) (o : Option Nat) (ti : Nat) (i : Int32) : Option (Option Nat) := (aR S o).bind fun x => match x.2.2 with
  | .inr (.inr (.inr (.inr f))) => if x.1 = ti ∧ ¬ (i < 0 ∨ x.2.1 ≤ i.toNatClampNeg) then some (f i.toNatClampNeg) else none
  | _ => none
def iS (S : St) (o : Option Nat) (ti : Nat) (i v : Int32) : Option St := match o with
  | none => none
  | some a => (aR S (some a)).bind fun x => match x.2.2 with
    | .inl f => if x.1 = ti ∧ ¬ (i < 0 ∨ x.2.1 ≤ i.toNatClampNeg) then some (x_set S a (.inr (ti, x.2.1, .inl (va_up f i.toNatClampNeg v)))) else none
    | _ => none
def jS (S : St) (o : Option Nat) (i : Int32) (v : Int64) : Option St := match o with
  | none => none
  | some a => (aR S (some a)).bind fun x => match x.2.2 with
    | .inr (.inl f) => if x.1 = 1 ∧ ¬ (i < 0 ∨ x.2.1 ≤ i.toNatClampNeg) then some (x_set S a (.inr (1, x.2.1, .inr (.inl (va_up f i.toNatClampNeg v))))) else none
    | _ => none
/-- what an array of references of that type takes -/
def r_asg : List (Nat × Nat) := [(3, 3), (3, 7), (3, 10), (3, 14), (5, 4), (6, 6), (7, 15), (8, 100), (8, 101), (9, 14)]
def asgOk (S : St) (ti : Nat) (r : Option Nat) : Bool := match r with
  | none => true
  | some a => match clsOf S (some a) with
    | some ci => r_asg.contains (ti, ci)
    | none => false
def aS (S : St) (o : Option Nat) (ti : Nat) (i : Int32) (r : Option Nat) : Option St := match o with
  | none => none
  | some a => (aR S (some a)).bind fun x => match x.2.2 with
    | .inr (.inr (.inr (.inr f))) => if x.1 = ti ∧ ¬ (i < 0 ∨ x.2.1 ≤ i.toNatClampNeg) ∧ asgOk S ti r = true then some (x_set S a (.inr (ti, x.2.1, .inr (.inr (.inr (.inr (va_up f i.toNatClampNeg r))))))) else none
    | _ => none
/-- a new object: its class, its slots, its fields -/
def nO (S : St) (ci n : Nat) (fs : List Value) : Option (Option Nat × St) := if 1 ≤ S.2.2.1 ∧ n ≤ S.2.2.2.1 then some (some S.2.1, x_new S n (.inl (ci, fs))) else none
/-- a new array of n places -/
def nA (S : St) (ti : Nat) (n : Int32) (c : (Nat → Int32) ⊕ (Nat → Int64) ⊕ (Nat → UInt32) ⊕ (Nat → UInt64) ⊕ (Nat → Option Nat)) : Option (Option Nat × St) :=
  if (¬ n < 0 ∧ n.toNatClampNeg ≤ 100000) ∧ 1 ≤ S.2.2.1 ∧ n.toNatClampNeg ≤ S.2.2.2.1 then some (some S.2.1, x_new S n.toNatClampNeg (.inr (ti, n.toNatClampNeg, c))) else none
/-- System.arraycopy of ints -/
def cpI (S : St) (o : Option Nat) (sp : Int32) (o2 : Option Nat) (dp n : Int32) : Option St := match o, o2 with
  | some a, some b => (aR S (some a)).bind fun x => (aR S (some b)).bind fun z => match x.2.2, z.2.2 with
    | .inl f, .inl g => if (x.1 = 0 ∧ z.1 = 0) ∧ (¬ sp < 0 ∧ ¬ dp < 0 ∧ ¬ n < 0) ∧ sp.toNatClampNeg + n.toNatClampNeg ≤ x.2.1 ∧ dp.toNatClampNeg + n.toNatClampNeg ≤ z.2.1 then some (x_set S b (.inr (0, z.2.1, .inl (va_cpy f g sp.toNatClampNeg dp.toNatClampNeg n.toNatClampNeg)))) else none
    | _, _ => none
  | _, _ => none
/-- .. of references, in arrays of Object -/
def cpA (S : St) (o : Option Nat) (sp : Int32) (o2 : Option Nat) (dp n : Int32) : Option St := match o, o2 with
  | some a, some b => (aR S (some a)).bind fun x => (aR S (some b)).bind fun z => match x.2.2, z.2.2 with
    | .inr (.inr (.inr (.inr f))), .inr (.inr (.inr (.inr g))) => if (x.1 = 3 ∧ z.1 = 3) ∧ (¬ sp < 0 ∧ ¬ dp < 0 ∧ ¬ n < 0) ∧ sp.toNatClampNeg + n.toNatClampNeg ≤ x.2.1 ∧ dp.toNatClampNeg + n.toNatClampNeg ≤ z.2.1 ∧ 0 < z.2.1 ∧ ((List.range n.toNatClampNeg).all fun i => asgOk S 3 (f (sp.toNatClampNeg + i))) = true then some (x_set S b (.inr (3, z.2.1, .inr (.inr (.inr (.inr (va_cpy f g sp.toNatClampNeg dp.toNatClampNeg n.toNatClampNeg))))))) else none
    | _, _ => none
  | _, _ => none
/-- an exception of the library's is made and thrown: nothing is kept of it but that it takes room -/
def thr (S : St) (E : String) : Option (Ex × St) := if 1 ≤ S.2.2.1 ∧ 6 ≤ S.2.2.2.1 then some ((E, S.2.1), (S.1, S.2.1 + 1, S.2.2.1 - 1, S.2.2.2.1 - 6, S.2.2.2.2)) else none
def bd1 {α β : Type} (x : Option α) (f : α → Option β) : Option β := x.bind f
def bd2 {α β S : Type} (x : Option (α × S)) (f : α → S → Option β) : Option β := x.bind fun p => f p.1 p.2
abbrev xg (X : St) (σ : Sg) : St := (X.1, X.2.1, X.2.2.1, X.2.2.2.1, some σ, X.2.2.2.2.2)
def mR (σ : Sg) (k : Nat) (i : Int32) : Option Int32 := if ¬ (i < 0 ∨ r_mN k ≤ i.toNatClampNeg) then some (σ.2.1 k i.toNatClampNeg) else none
def mRL (σ : Sg) (k : Nat) (i : Int32) : Option Int64 := if ¬ (i < 0 ∨ r_mN k ≤ i.toNatClampNeg) then some (σ.2.2 k i.toNatClampNeg) else none
def mW (σ : Sg) (k : Nat) (i v : Int32) : Option Sg := if ¬ (i < 0 ∨ r_mN k ≤ i.toNatClampNeg) then some (σ.1, va_up σ.2.1 k (va_up (σ.2.1 k) i.toNatClampNeg v), σ.2.2) else none
def mWL (σ : Sg) (k : Nat) (i : Int32) (v : Int64) : Option Sg := if ¬ (i < 0 ∨ r_mN k ≤ i.toNatClampNeg) then some (σ.1, σ.2.1, va_up σ.2.2 k (va_up (σ.2.2 k) i.toNatClampNeg v)) else none
def mP (σ : Sg) (k : Nat) (v : Int32) : Sg := (va_up σ.1 k v, σ.2)
/-- a loop: at most n rounds -/
def lp {V S R : Type} (s : (V → S → Option R) → V → S → Option R) : Nat → V → S → Option R
  | 0 => fun _ _ => none
  | n + 1 => s (lp s n)
def FU : Nat := 1000000
/-- a boolean's number -/
def zb (v : Int32) : Option Unit := if v = 0 ∨ v = 1 then some () else none
def nz (v : Int32) : Option Unit := if v = 0 then none else some ()
/-- the address of an object of that class -/
def oQ (S : St) (o : Option Nat) (ci : Nat) : Option Nat := (oF S o ci).bind fun _ => o
/-- the fields as fillInStackTrace finds them in a constructor -/
def fillQ (S : St) (o : Option Nat) (ci : Nat) : Option Unit := (oF S o ci).bind fun fs => if fs.getD 1 .null = va_rf (S.2.2.2.2.2 2) ∧ fs.getD 4 .null = .null then some () else none
/-- the two layers -/
def nM (S : St) (n k : Int32) : Option (Option Nat × St) :=
  if ((¬ n < 0 ∧ ¬ k < 0) ∧ n.toNatClampNeg ≤ 10000 ∧ k.toNatClampNeg ≤ 10000) ∧ 1 + n.toNatClampNeg ≤ S.2.2.1 ∧ n.toNatClampNeg + n.toNatClampNeg * k.toNatClampNeg ≤ S.2.2.2.1 then
    some (some S.2.1, (fun a => if a = S.2.1 then some (.inr (4, n.toNatClampNeg, .inr (.inr (.inr (.inr fun j => some (S.2.1 + 1 + j)))))) else if S.2.1 < a ∧ a < S.2.1 + 1 + n.toNatClampNeg then some (.inr (1, k.toNatClampNeg, .inr (.inl fun _ => 0))) else S.1 a),
      S.2.1 + (1 + n.toNatClampNeg), S.2.2.1 - (1 + n.toNatClampNeg), S.2.2.2.1 - (n.toNatClampNeg + n.toNatClampNeg * k.toNatClampNeg), S.2.2.2.2)
  else none
def nL (S : St) (j : Nat) (fs : List Value) : Option (Option Nat × St) := if 1 ≤ S.2.2.1 ∧ fs.length ≤ S.2.2.2.1 then some (some S.2.1, x_new S fs.length (.inl (100 + j, fs))) else none
def hX {T : Type} (p : Option (T × St)) : Option ((Ex ⊕ T) × St) := p.bind fun q => some (.inr q.1, q.2)
/-- the script's ints -/
def scL (L : Nat) (xs : Nat → Int32) (i : Int32) : Option Int32 := if ¬ i < 0 ∧ i.toNatClampNeg < L then some (xs i.toNatClampNeg) else none
/-- a function of the model's data, over the whole picture -/
def cM {T : Type} (f : Sg → Option (T × Sg)) (S : St) : Option (T × St) := S.2.2.2.2.1.bind fun σ => (f σ).bind fun p => some (p.1, xg S p.2)
