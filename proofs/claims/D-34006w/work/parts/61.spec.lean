/-! PURE: the mathematical state, and what each call answers -/
set_option maxRecDepth 100000
/-- an instruction: a copy or not, its start, its bytes -/
abbrev In : Type := Bool × Nat × Nat
/-- a delta: false alarms, instructions, the compared bytes -/
abbrev Dl : Type := Nat × List In × List Nat
/-- a version: lost, whole, or a delta over an earlier one -/
abbrev Vr : Type := Unit ⊕ List Nat ⊕ (Nat × Dl)
/-- files; signatures (block, modulus, bytes); deltas; versions; papers (their chunks); how chunks are cut -/
abbrev AA : Type := List (List Nat) × (Nat → Option (Nat × Nat × List Nat)) × (Nat → Option Dl) × List Vr × (Nat → Option (List (List Nat))) × (Nat × Nat × Nat)
abbrev zF (A : AA) : List (List Nat) := A.1
abbrev zS (A : AA) : Nat → Option (Nat × Nat × List Nat) := A.2.1
abbrev zD (A : AA) : Nat → Option Dl := A.2.2.1
abbrev zV (A : AA) : List Vr := A.2.2.2.1
abbrev zP (A : AA) : Nat → Option (List (List Nat)) := A.2.2.2.2.1
abbrev zC (A : AA) : Nat × Nat × Nat := A.2.2.2.2.2
/-! ### sums -/
def s1 (f : Nat → Nat) (p : Nat) : Nat → Nat
  | 0 => 0
  | n + 1 => s1 f p n + f (p + n)
def s2w (f : Nat → Nat) (p w : Nat) : Nat → Nat
  | 0 => 0
  | n + 1 => s2w f p w n + (w - n) * f (p + n)
def st64 (f : Nat → Nat) : Nat → Nat → Int64
  | 0, _ => 0
  | n + 1, p => 257 * st64 f n (p + 1) + (nq (f p)).toInt64 + 1
def wk (f : Nat → Nat) (p w m : Nat) : Nat := s2w f p w w % m * m + s1 f p w % m
/-- how many blocks; how long a block -/
def nb (len b : Nat) : Nat := (len + b - 1) / b
def bln (len b k : Nat) : Nat := if b ≤ len - k * b then b else len - k * b
/-! ### comparing -/
def hit (sf ff : Nat → Nat) (sl b m p w k : Nat) : Bool := decide (bln sl b k = w ∧ wk sf (k * b) w m = wk ff p w m)
def hitS (sf ff : Nat → Nat) (p w b k : Nat) : Bool := decide (st64 sf w (k * b) = st64 ff w p)
def fnd (sf ff : Nat → Nat) (sl b m p w : Nat) (bh : Option Nat) : Nat → Option Nat × Bool
  | 0 => (none, false)
  | k + 1 => if hit sf ff sl b m p w k = true then (if hitS sf ff p w b k = true ∧ ((fnd sf ff sl b m p w bh k).1 = none ∨ some k = bh) then some k else (fnd sf ff sl b m p w bh k).1, true) else fnd sf ff sl b m p w bh k
def wnd (b len p : Nat) : Nat := if b ≤ len - p then b else len - p
def i0 : In := (false, 0, 0)
def lsI (is : List In) : In := is.getD (is.length - 1) i0
/-- the last instruction grows -/
def ext (is : List In) (w : Nat) : List In := is.set (is.length - 1) ((lsI is).1, (lsI is).2.1, (lsI is).2.2 + w)
def lit (is : List In) : Bool := decide (0 < is.length) && !(lsI is).1
def cmpG (b m : Nat) (sb fb : List Nat) : Nat → Nat → Option Nat → Nat → List In → Nat × List In
  | 0, _, _, al, is => (al, is)
  | n + 1, p, bh, al, is =>
    if fb.length ≤ p then (al, is)
    else match (fnd (gd sb) (gd fb) sb.length b m p (wnd b fb.length p) bh (nb sb.length b)) with
      | (some k, _) => cmpG b m sb fb n (p + wnd b fb.length p) (some (k + 1)) al (if some k = bh then ext is (wnd b fb.length p) else is ++ [(true, k * b, wnd b fb.length p)])
      | (none, x) => cmpG b m sb fb n (p + 1) none (if x = true then al + 1 else al) (if lit is = true then ext is 1 else is ++ [(false, p, 1)])
def cmpD (b m : Nat) (sb fb : List Nat) : Dl := ((cmpG b m sb fb fb.length 0 none 0 []).1, (cmpG b m sb fb fb.length 0 none 0 []).2, fb)
def cst (is : List In) : Nat := (is.map fun i => if i.1 = true then 3 else 1 + i.2.2).sum
/-! ### applying -/
def pce (fb fr : List Nat) (i : In) : List Nat := if i.1 = true then slc fr i.2.1 i.2.2 else slc fb i.2.1 i.2.2
def byd (is : List In) (n : Nat) : Bool := is.any fun i => i.1 && decide (n < i.2.1 + i.2.2)
def app (is : List In) (fb fr : List Nat) : List Nat := (is.map (pce fb fr)).flatten
/-- a version's bytes, or where, how far away and why it is broken -/
def mkG (vs : List Vr) : Nat → Nat → (Nat × Nat × Nat) ⊕ List Nat
  | 0, _ => .inl (0, 0, 0)
  | n + 1, v => match vs[v]? with
    | some (.inl _) => .inl (v, 0, 1)
    | some (.inr (.inl bs)) => .inr bs
    | some (.inr (.inr (j, D))) => (match mkG vs n j with
      | .inl (a, f, r) => .inl (a, f + 1, r)
      | .inr bs => if byd D.2.1 bs.length = true then .inl (v, 0, 2) else .inr (app D.2.1 D.2.2 bs))
    | none => .inl (0, 0, 0)
def mkV (vs : List Vr) (v : Nat) : (Nat × Nat × Nat) ⊕ List Nat := mkG vs (v + 1) v
def hld (vs : List Vr) (v : Nat) : Nat := match vs[v]? with
  | some (.inr (.inl bs)) => bs.length
  | some (.inr (.inr (_, D))) => cst D.2.1
  | _ => 0
/-! ### cutting -/
def hsh (f : Nat → Nat) (p : Nat) : Nat → Nat
  | 0 => 0
  | k + 1 => hsh f p k + (if k ≤ p then (k + 1) * f (p - k) else 0)
def cutE (c : Nat × Nat × Nat) (fb : List Nat) (p run : Nat) : Bool := decide (run = c.2.1 ∨ (c.1 ≤ run ∧ hsh (gd fb) p 4 % c.2.2 = c.2.2 - 1) ∨ p = fb.length - 1)
def cutG (c : Nat × Nat × Nat) (fb : List Nat) : Nat → Nat → Nat → List (List Nat)
  | 0, _, _ => []
  | n + 1, s, p => if fb.length ≤ p then [] else if cutE c fb p (p + 1 - s) = true then slc fb s (p + 1 - s) :: cutG c fb n (p + 1) (p + 1) else cutG c fb n s (p + 1)
def cutA (c : Nat × Nat × Nat) (fb : List Nat) : List (List Nat) := cutG c fb fb.length 0 0
/-! ### papers -/
def prt (ps : Nat → Option (List (List Nat))) (p : Nat) : List (List Nat) := (ps p).getD []
/-- all chunks that papers below n name -/
def allP (ps : Nat → Option (List (List Nat))) : Nat → List (List Nat)
  | 0 => []
  | n + 1 => allP ps n ++ prt ps n
/-- the first of each, seen ones left out -/
def frs : List (List Nat) → List (List Nat) → List (List Nat)
  | _, [] => []
  | seen, x :: t => if x ∈ seen then frs (seen ++ [x]) t else x :: frs (seen ++ [x]) t
def fre (ps : Nat → Option (List (List Nat))) : Nat → Nat → Nat
  | 0, p => p
  | n + 1, p => if (ps p).isSome = true then fre ps n (p + 1) else p
def cntP (ps : Nat → Option (List (List Nat))) : Nat → Nat
  | 0 => 0
  | n + 1 => cntP ps n + (if (ps n).isSome = true then 1 else 0)
def wth (ps : Nat → Option (List (List Nat))) (p : Nat) : Nat → Option (List (List Nat)) := va_up ps p none
/-! ### the calls -/
abbrev ix (x : Int32) : Nat := x.toNatClampNeg
def fl (A : AA) (i : Nat) : List Nat := A.1.getD i []
def uF (A : AA) (i : Nat) (bs : List Nat) : AA := (A.1.set i bs, A.2)
def uS (A : AA) (p : Nat) (s : Nat × Nat × List Nat) : AA := (A.1, va_up A.2.1 p (some s), A.2.2)
def uD (A : AA) (p : Nat) (D : Dl) : AA := (A.1, A.2.1, va_up A.2.2.1 p (some D), A.2.2.2)
def uV (A : AA) (vs : List Vr) : AA := (A.1, A.2.1, A.2.2.1, vs, A.2.2.2.2)
def uP (A : AA) (ps : Nat → Option (List (List Nat))) : AA := (A.1, A.2.1, A.2.2.1, A.2.2.2.1, ps, A.2.2.2.2.2)
def uC (A : AA) (c : Nat × Nat × Nat) : AA := (A.1, A.2.1, A.2.2.1, A.2.2.2.1, A.2.2.2.2.1, c)
abbrev An : Type := Nat × Int64 × AA
abbrev no (k : Nat) (A : AA) : An := (k, 0, A)
abbrev yn (v : Nat) (A : AA) : An := (0, (nq v).toInt64, A)
abbrev yb (b : Bool) (A : AA) : An := (0, (if b = true then 1 else 0), A)
def addB (a s n : Nat) : List Nat := (List.range n).map fun k => (a + k * s) % 256
def o_file (A : AA) : An := if A.1.length < 6 then yn A.1.length (A.1 ++ [[]], A.2) else no 1 A
def o_add (A : AA) (x1 x2 x3 x4 : Int32) : An :=
  if okI x1 A.1.length then if okI x2 256 ∧ okI x3 256 ∧ okI x4 121 ∧ ¬ ix x4 = 0 then if (fl A (ix x1)).length + ix x4 ≤ 120 then yn ((fl A (ix x1)).length + ix x4) (uF A (ix x1) (fl A (ix x1) ++ addB (ix x2) (ix x3) (ix x4))) else no 3 A else no 2 A else no 1 A
def o_insert (A : AA) (x1 x2 x3 : Int32) : An :=
  if okI x1 A.1.length ∧ okI x2 ((fl A (ix x1)).length + 1) then if okI x3 256 then if (fl A (ix x1)).length < 120 then yn ((fl A (ix x1)).length + 1) (uF A (ix x1) ((fl A (ix x1)).take (ix x2) ++ ix x3 :: (fl A (ix x1)).drop (ix x2))) else no 3 A else no 2 A else no 1 A
def o_remove (A : AA) (x1 x2 x3 : Int32) : An :=
  if okI x1 A.1.length ∧ okI x2 ((fl A (ix x1)).length + 1) then if okI x3 ((fl A (ix x1)).length - ix x2 + 1) then yn ((fl A (ix x1)).length - ix x3) (uF A (ix x1) ((fl A (ix x1)).take (ix x2) ++ (fl A (ix x1)).drop (ix x2 + ix x3))) else no 2 A else no 1 A
def o_copy (A : AA) (x1 x2 : Int32) : An := if okI x1 A.1.length ∧ okI x2 A.1.length then yn 0 (uF A (ix x2) (fl A (ix x1))) else no 1 A
def o_length (A : AA) (x1 : Int32) : An := if okI x1 A.1.length then yn (fl A (ix x1)).length A else no 1 A
def o_byteAt (A : AA) (x1 x2 : Int32) : An := if okI x1 A.1.length ∧ okI x2 (fl A (ix x1)).length then yn (gd (fl A (ix x1)) (ix x2)) A else no 1 A
def o_same (A : AA) (x1 x2 : Int32) : An := if okI x1 A.1.length ∧ okI x2 A.1.length then yb (decide (fl A (ix x1) = fl A (ix x2))) A else no 1 A
def o_sign (A : AA) (x1 x2 x3 x4 : Int32) : An :=
  if okI x1 4 ∧ okI x2 A.1.length then if (okI x3 8 ∧ ¬ ix x3 = 0) ∧ (okI x4 4097 ∧ ¬ ix x4 = 0) then yn (nb (fl A (ix x2)).length (ix x3)) (uS A (ix x1) (ix x3, ix x4, fl A (ix x2))) else no 2 A else no 1 A
def nbl (A : AA) (p : Nat) : Nat := match zS A p with
  | some s => nb s.2.2.length s.1
  | none => 0
def o_blocks (A : AA) (x1 : Int32) : An := if okI x1 4 then yn (nbl A (ix x1)) A else no 1 A
def sWk (s : Nat × Nat × List Nat) (k : Nat) : Nat := wk (gd s.2.2) (k * s.1) (bln s.2.2.length s.1 k) s.2.1
def sSt (s : Nat × Nat × List Nat) (k : Nat) : Int64 := st64 (gd s.2.2) (bln s.2.2.length s.1 k) (k * s.1)
def o_weak (A : AA) (x1 x2 : Int32) : An := if okI x1 4 ∧ okI x2 (nbl A (ix x1)) then yn (sWk ((zS A (ix x1)).getD (1, 1, [])) (ix x2)) A else no 1 A
def o_strong (A : AA) (x1 x2 : Int32) : An := if okI x1 4 ∧ okI x2 (nbl A (ix x1)) then (0, sSt ((zS A (ix x1)).getD (1, 1, [])) (ix x2), A) else no 1 A
def o_compare (A : AA) (x1 x2 x3 : Int32) : An :=
  if okI x1 4 ∧ okI x2 4 ∧ okI x3 A.1.length then (match zS A (ix x2) with
    | none => no 2 A
    | some s => yn (cmpD s.1 s.2.1 s.2.2 (fl A (ix x3))).2.1.length (uD A (ix x1) (cmpD s.1 s.2.1 s.2.2 (fl A (ix x3))))) else no 1 A
def ins (A : AA) (p : Nat) : List In := match zD A p with
  | some D => D.2.1
  | none => []
def o_instructions (A : AA) (x1 : Int32) : An := if okI x1 4 then yn (ins A (ix x1)).length A else no 1 A
def o_isCopy (A : AA) (x1 x2 : Int32) : An := if okI x1 4 ∧ okI x2 (ins A (ix x1)).length then yb ((ins A (ix x1)).getD (ix x2) i0).1 A else no 1 A
def o_startOf (A : AA) (x1 x2 : Int32) : An := if okI x1 4 ∧ okI x2 (ins A (ix x1)).length then yn ((ins A (ix x1)).getD (ix x2) i0).2.1 A else no 1 A
def o_bytesOf (A : AA) (x1 x2 : Int32) : An := if okI x1 4 ∧ okI x2 (ins A (ix x1)).length then yn ((ins A (ix x1)).getD (ix x2) i0).2.2 A else no 1 A
def o_cost (A : AA) (x1 : Int32) : An := if okI x1 4 then yn (cst (ins A (ix x1))) A else no 1 A
def alm (A : AA) (p : Nat) : Nat := match zD A p with
  | some D => D.1
  | none => 0
def o_alarms (A : AA) (x1 : Int32) : An := if okI x1 4 then yn (alm A (ix x1)) A else no 1 A
def o_apply (A : AA) (x1 x2 x3 : Int32) : An :=
  if okI x1 4 ∧ okI x2 A.1.length ∧ okI x3 A.1.length then (match zD A (ix x1) with
    | none => no 2 A
    | some D => if byd D.2.1 (fl A (ix x2)).length = true then no 2 A else yn (app D.2.1 D.2.2 (fl A (ix x2))).length (uF A (ix x3) (app D.2.1 D.2.2 (fl A (ix x2))))) else no 1 A
def o_keep (A : AA) (x1 : Int32) : An := if okI x1 A.1.length then if (zV A).length < 20 then yn (zV A).length (uV A (zV A ++ [.inr (.inl (fl A (ix x1)))])) else no 2 A else no 1 A
def o_keepDelta (A : AA) (x1 x2 x3 : Int32) : An :=
  if okI x1 A.1.length ∧ okI x2 (zV A).length then if okI x3 8 ∧ ¬ ix x3 = 0 then if (zV A).length < 20 then (match mkV (zV A) (ix x2) with
    | .inl _ => no 3 A
    | .inr bs => yn (zV A).length (uV A (zV A ++ [.inr (.inr (ix x2, cmpD (ix x3) 256 bs (fl A (ix x1))))]))) else no 3 A else no 2 A else no 1 A
def o_lose (A : AA) (x1 : Int32) : An := if okI x1 (zV A).length then yn (hld (zV A) (ix x1)) (uV A ((zV A).set (ix x1) (.inl ()))) else no 1 A
def o_replace (A : AA) (x1 x2 : Int32) : An := if okI x1 (zV A).length ∧ okI x2 A.1.length then yn 0 (uV A ((zV A).set (ix x1) (.inr (.inl (fl A (ix x2)))))) else no 1 A
def o_rebuild (A : AA) (x1 x2 : Int32) : An :=
  if okI x1 (zV A).length ∧ okI x2 A.1.length then (match mkV (zV A) (ix x1) with
    | .inl _ => no 2 A
    | .inr bs => yn bs.length (uF A (ix x2) bs)) else no 1 A
def o_versions (A : AA) : An := yn (zV A).length A
/-- -1, or one of the three numbers -/
def brk (m : (Nat × Nat × Nat) ⊕ List Nat) (k : Nat × Nat × Nat → Nat) : Int64 := match m with
  | .inl x => (nq (k x)).toInt64
  | .inr _ => (-(nq 1)).toInt64
def o_brokenAt (A : AA) (x1 : Int32) : An := if okI x1 (zV A).length then (0, brk (mkV (zV A) (ix x1)) (fun x => x.1), A) else no 1 A
def o_brokenAfter (A : AA) (x1 : Int32) : An := if okI x1 (zV A).length then (0, brk (mkV (zV A) (ix x1)) (fun x => x.2.1), A) else no 1 A
def o_reason (A : AA) (x1 : Int32) : An := if okI x1 (zV A).length then (0, brk (mkV (zV A) (ix x1)) (fun x => x.2.2), A) else no 1 A
def o_heldBy (A : AA) (x1 : Int32) : An := if okI x1 (zV A).length then yn (hld (zV A) (ix x1)) A else no 1 A
def o_cuts (A : AA) (x1 x2 x3 : Int32) : An := if (okI x1 17 ∧ ¬ ix x1 = 0) ∧ (okI x2 41 ∧ ix x1 ≤ ix x2) ∧ (okI x3 65 ∧ ¬ ix x3 = 0) then yn 0 (uC A (ix x1, ix x2, ix x3)) else no 1 A
def o_store (A : AA) (x1 : Int32) : An :=
  if okI x1 A.1.length then if fre (zP A) 12 0 < 12 then yn (fre (zP A) 12 0) (uP A (va_up (zP A) (fre (zP A) 12 0) (some (cutA (zC A) (fl A (ix x1)))))) else no 2 A else no 1 A
def gne (ps : Nat → Option (List (List Nat))) (p : Nat) : Nat := ((frs [] (prt ps p)).filter fun c => decide ((allP (wth ps p) 12).count c = 0)).length
def isP (A : AA) (x : Int32) : Prop := okI x 12 ∧ (zP A (ix x)).isSome = true
def o_release (A : AA) (x1 : Int32) : An := if okI x1 12 ∧ (zP A (ix x1)).isSome = true then yn (gne (zP A) (ix x1)) (uP A (wth (zP A) (ix x1))) else no 1 A
def o_fetch (A : AA) (x1 x2 : Int32) : An := if (okI x1 12 ∧ (zP A (ix x1)).isSome = true) ∧ okI x2 A.1.length then yn (prt (zP A) (ix x1)).flatten.length (uF A (ix x2) (prt (zP A) (ix x1)).flatten) else no 1 A
def o_papers (A : AA) : An := yn (cntP (zP A) 12) A
def o_chunks (A : AA) : An := yn (frs [] (allP (zP A) 12)).length A
def o_heldBytes (A : AA) : An := yn ((frs [] (allP (zP A) 12)).map List.length).sum A
def o_parts (A : AA) (x1 : Int32) : An := if okI x1 12 ∧ (zP A (ix x1)).isSome = true then yn (prt (zP A) (ix x1)).length A else no 1 A
def o_partLength (A : AA) (x1 x2 : Int32) : An := if (okI x1 12 ∧ (zP A (ix x1)).isSome = true) ∧ okI x2 (prt (zP A) (ix x1)).length then yn ((prt (zP A) (ix x1)).getD (ix x2) []).length A else no 1 A
def o_shared (A : AA) (x1 x2 : Int32) : An := if (okI x1 12 ∧ (zP A (ix x1)).isSome = true) ∧ okI x2 (prt (zP A) (ix x1)).length then yn ((allP (zP A) 12).count ((prt (zP A) (ix x1)).getD (ix x2) [])) A else no 1 A
/-! ### what always holds -/
def FOk (bs : List Nat) : Prop := bs.length ≤ 120 ∧ By bs
def DOk (D : Dl) : Prop := (D.2.1.map fun i => i.2.2).sum ≤ 120 ∧ (∀ i ∈ D.2.1, 1 ≤ i.2.2 ∧ i.2.1 ≤ 120 ∧ (i.1 = false → i.2.1 + i.2.2 ≤ D.2.2.length)) ∧ FOk D.2.2 ∧ D.1 ≤ 120
def SOk (s : Nat × Nat × List Nat) : Prop := (1 ≤ s.1 ∧ s.1 ≤ 7) ∧ (1 ≤ s.2.1 ∧ s.2.1 ≤ 4096) ∧ FOk s.2.2
def VOk (vs : List Vr) : Prop := vs.length ≤ 20 ∧ (∀ (v : Nat) (bs : List Nat), vs[v]? = some (.inr (.inl bs)) → FOk bs) ∧ ∀ (v j : Nat) (D : Dl), vs[v]? = some (.inr (.inr (j, D))) → j < v ∧ DOk D
def POk (l : List (List Nat)) : Prop := (∀ c ∈ l, c ≠ []) ∧ FOk l.flatten
def COk (c : Nat × Nat × Nat) : Prop := (1 ≤ c.1 ∧ c.1 ≤ 16) ∧ (c.1 ≤ c.2.1 ∧ c.2.1 ≤ 40) ∧ (1 ≤ c.2.2 ∧ c.2.2 ≤ 64)
def AOk (A : AA) : Prop := (A.1.length ≤ 6 ∧ ∀ bs ∈ A.1, FOk bs) ∧ (∀ (p : Nat) (s : Nat × Nat × List Nat), zS A p = some s → SOk s) ∧ (∀ (p : Nat) (D : Dl), zD A p = some D → DOk D) ∧ VOk (zV A) ∧ (∀ (p : Nat) (l : List (List Nat)), zP A p = some l → POk l) ∧ COk (zC A)
/-- the start -/
def A0 : AA := ([], fun _ => none, fun _ => none, [], fun _ => none, (4, 16, 8))
