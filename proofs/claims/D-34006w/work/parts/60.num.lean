/-! PURE: numbers, lists, when a partial function answers -/
set_option maxRecDepth 100000
def nq (n : Nat) : Int32 := Int32.ofNat n
theorem nq_lit (n : Nat) : (OfNat.ofNat n : Int32) = nq (OfNat.ofNat n : Nat) := rfl
theorem nq_add (a b : Nat) : nq a + nq b = nq (a + b) := (Int32.ofNat_add a b).symm
theorem nq_mul (a b : Nat) : nq a * nq b = nq (a * b) := (Int32.ofNat_mul a b).symm
theorem nq_sub {a b : Nat} (h : b ≤ a) : nq a - nq b = nq (a - b) := (Int32.ofNat_sub a b h).symm
theorem nq_div {a b : Nat} (ha : a < 2147483648) (hb : b < 2147483648) : nq a / nq b = nq (a / b) := (Int32.ofNat_div ha hb).symm
theorem nq_mod {a b : Nat} (ha : a < 2147483648) (hb : b < 2147483648) : nq a - nq a / nq b * nq b = nq (a % b) := by
  rw [nq_div ha hb, nq_mul, nq_sub (Nat.div_mul_le_self a b)]
  congr 1
  have := Nat.div_add_mod a b
  rw [Nat.mul_comm] at this
  omega
theorem nq_lt {a b : Nat} (ha : a < 2147483648) (hb : b < 2147483648) : nq a < nq b ↔ a < b := Int32.ofNat_lt_iff_lt ha hb
theorem nq_le {a b : Nat} (ha : a < 2147483648) (hb : b < 2147483648) : nq a ≤ nq b ↔ a ≤ b := Int32.ofNat_le_iff_le ha hb
theorem nq_idx {a : Nat} (ha : a < 2147483648) : (nq a).toNatClampNeg = a := Int32.toNatClampNeg_ofNat_of_lt ha
theorem nq_int {a : Nat} (ha : a < 2147483648) : (nq a).toInt = a := Int32.toInt_ofNat_of_lt ha
theorem nq_eq {a b : Nat} (ha : a < 2147483648) (hb : b < 2147483648) : nq a = nq b ↔ a = b := by
  constructor
  · intro h
    have := congrArg Int32.toNatClampNeg h
    rwa [nq_idx ha, nq_idx hb] at this
  · intro h
    rw [h]
theorem nq_lt0 {a : Nat} (ha : a < 2147483648) : nq a < nq 0 ↔ False := by
  rw [nq_lt ha (by omega)]
  simp
theorem nq_cases (x : Int32) : x < 0 ∨ ∃ a : Nat, a < 2147483648 ∧ x = nq a := by
  by_cases h : x < 0
  · exact Or.inl h
  · refine Or.inr ⟨x.toNatClampNeg, x.toNatClampNeg_lt, ?_⟩
    exact (Int32.ofNat_toNatClampNeg x (Int32.not_lt.mp h)).symm
/-- the number -1 -/
theorem m1_int : (-(nq 1)).toInt = -1 := by decide
theorem m1_lt {a : Nat} (ha : a < 2147483648) : (-(nq 1)) < nq a := by
  rw [Int32.lt_iff_toInt_lt, m1_int, nq_int ha]
  omega
theorem m1_le {a : Nat} (ha : a < 2147483648) : (-(nq 1)) ≤ nq a := Int32.le_of_lt (m1_lt ha)
theorem m1_nle {a : Nat} (ha : a < 2147483648) : nq a ≤ (-(nq 1)) ↔ False := by
  rw [Int32.le_iff_toInt_le, m1_int, nq_int ha]
  exact ⟨fun h => by omega, False.elim⟩
theorem nq_m1 {a : Nat} (ha : a < 2147483648) : nq a = -(nq 1) ↔ False := by
  rw [← Int32.toInt_inj, m1_int, nq_int ha]
  exact ⟨fun h => by omega, False.elim⟩
theorem m1_nq {a : Nat} (ha : a < 2147483648) : -(nq 1) = nq a ↔ False := by
  rw [← Int32.toInt_inj, m1_int, nq_int ha]
  exact ⟨fun h => by omega, False.elim⟩
theorem m1_add : -(nq 1) + nq 1 = nq 0 := by decide
theorem nq_pred {a : Nat} (ha : 1 ≤ a) : nq a + -(nq 1) = nq (a - 1) := by
  rw [← Int32.sub_eq_add_neg, nq_sub ha]
theorem nq_zpred : nq 0 + -(nq 1) = -(nq 1) := by decide
theorem nq_zsub : nq 0 - nq 1 = -(nq 1) := by decide
/-- below 0, or at least n -/
abbrev okI (x : Int32) (n : Nat) : Prop := ¬ x < 0 ∧ x.toNatClampNeg < n
theorem okI_nq {a n : Nat} (ha : a < 2147483648) : okI (nq a) n ↔ a < n := by

  show (¬ nq a < nq 0 ∧ (nq a).toNatClampNeg < n) ↔ a < n
  rw [nq_idx ha]
  exact ⟨fun h => h.2, fun h => ⟨fun q => (nq_lt0 ha).mp q, h⟩⟩
theorem okI_get {x : Int32} {n : Nat} (h : okI x n) : ∃ a, a < n ∧ a < 2147483648 ∧ x = nq a := by
  rcases nq_cases x with h1 | ⟨a, h1, rfl⟩
  · exact absurd h1 h.1
  · exact ⟨a, (okI_nq h1).mp h, h1, rfl⟩
/-- a truth value's number -/
def bq (p : Bool) : Int32 := if p = true then nq 1 else nq 0
theorem bq_t : bq true = nq 1 := rfl
theorem bq_f : bq false = nq 0 := rfl
theorem bq_eq0 (p : Bool) : bq p = nq 0 ↔ p = false := by cases p <;> decide
theorem zb1 : zb (nq 1) = some () := by decide
theorem zb0 : zb (nq 0) = some () := by decide
theorem zbq (p : Bool) : zb (bq p) = some () := by cases p <;> decide
theorem nq10 : (nq 1 = nq 0) = False := by
  apply eq_false
  decide
theorem nq00 : (nq 0 = nq 0) = True := eq_self _
theorem nz_ok {a : Nat} (h : 0 < a) (ha : a < 2147483648) : nz (nq a) = some () := by
  unfold nz
  rw [nq_lit, if_neg]
  intro q
  have := (nq_eq ha (by omega)).mp q
  omega
theorem okI_iff {x : Int32} {n : Nat} (hn : n < 2147483648) : okI x n ↔ ¬ x < nq 0 ∧ ¬ nq n ≤ x := by
  rcases nq_cases x with h | ⟨a, ha, rfl⟩
  · exact ⟨fun q => absurd h q.1, fun q => absurd h q.1⟩
  · rw [okI_nq ha, nq_le hn ha, nq_lt0 ha]
    exact ⟨fun q => ⟨fun r => r, by omega⟩, fun q => by omega⟩
/-! ### when a partial function answers -/
def okm {R : Type} (m : Option R) (Q : R → Prop) : Prop := ∃ r, m = some r ∧ Q r
theorem pb1 {α β : Type} (a : α) (f : α → Option β) : bd1 (some a) f = f a := rfl
theorem pb2 {α β S : Type} (a : α) (s : S) (f : α → S → Option β) : bd2 (some (a, s)) f = f a s := rfl
theorem okm_some {R : Type} {r : R} {Q : R → Prop} (h : Q r) : okm (some r) Q := ⟨r, rfl, h⟩
theorem okm_bd1 {α β : Type} {x : Option α} {a : α} {f : α → Option β} {Q : β → Prop} (h : x = some a) (k : okm (f a) Q) : okm (bd1 x f) Q := by
  subst h
  exact k
theorem okm_bd2 {α β S : Type} {x : Option (α × S)} {f : α → S → Option β} {Q : β → Prop} (h : okm x fun p => okm (f p.1 p.2) Q) : okm (bd2 x f) Q := by
  obtain ⟨⟨a, s⟩, rfl, h⟩ := h
  exact h
theorem okm_bd2e {α β S : Type} {x : Option (α × S)} {a : α} {s : S} {f : α → S → Option β} {Q : β → Prop} (h : x = some (a, s)) (k : okm (f a s) Q) : okm (bd2 x f) Q := by
  subst h
  exact k
theorem okm_mono {R : Type} {m : Option R} {Q Q' : R → Prop} (h : okm m Q) (k : ∀ r, Q r → Q' r) : okm m Q' := by
  obtain ⟨r, h1, h2⟩ := h
  exact ⟨r, h1, k r h2⟩
theorem okm_ift {R : Type} {c : Prop} [Decidable c] {a b : Option R} {Q : R → Prop} (h : c) (k : okm a Q) : okm (if c then a else b) Q := by
  rw [if_pos h]
  exact k
theorem okm_iff {R : Type} {c : Prop} [Decidable c] {a b : Option R} {Q : R → Prop} (h : ¬ c) (k : okm b Q) : okm (if c then a else b) Q := by
  rw [if_neg h]
  exact k
theorem okm_if {R : Type} {c : Prop} [Decidable c] {a b : Option R} {Q : R → Prop} (h : c → okm a Q) (k : ¬ c → okm b Q) : okm (if c then a else b) Q := by
  by_cases hc : c
  · exact okm_ift hc (h hc)
  · exact okm_iff hc (k hc)
/-- loops: one round more -/
theorem lp_succ {V S R : Type} (s : (V → S → Option R) → V → S → Option R) (n : Nat) (v : V) (S0 : S) : lp s (n + 1) v S0 = s (lp s n) v S0 := rfl
/-- a loop whose measure falls -/
theorem lp_ok {V S R G : Type} {s : (V → S → Option R) → V → S → Option R} (I : G → Nat → V → S → Prop) (Q : G → R → Prop)
    (h : ∀ (g : G) (k : Nat) (v : V) (S0 : S) (rc : V → S → Option R), I g k v S0 → (∀ (g' : G) (j : Nat) (v' : V) (S' : S), j < k → I g' j v' S' → (∀ r, Q g' r → Q g r) → okm (rc v' S') (Q g)) → okm (s rc v S0) (Q g)) :
    ∀ (n k : Nat) (g : G) (v : V) (S0 : S), k < n → I g k v S0 → okm (lp s n v S0) (Q g) := by
  intro n
  induction n with
  | zero => intro k g v S0 hk; omega
  | succ n ih =>
    intro k g v S0 hk hI
    rw [lp_succ]
    exact h g k v S0 _ hI fun g' j v' S' hj hI' hQ => okm_mono (ih j g' v' S' (by omega) hI') hQ
/-! ### lists of numbers -/
def gd (bs : List Nat) (j : Nat) : Nat := bs.getD j 0
theorem gd_lt {bs : List Nat} {j : Nat} (h : j < bs.length) : bs[j]? = some (gd bs j) := by
  unfold gd
  rw [List.getD_eq_getElem?_getD, List.getElem?_eq_getElem h]
  rfl
theorem gd_of {bs : List Nat} {j x : Nat} (h : bs[j]? = some x) : gd bs j = x := by
  unfold gd
  rw [List.getD_eq_getElem?_getD, h]
  rfl
theorem gd_mem {bs : List Nat} {j : Nat} (h : j < bs.length) : gd bs j ∈ bs := List.mem_of_getElem? (gd_lt h)
theorem gd_app {a b : List Nat} (j : Nat) : gd (a ++ b) j = if j < a.length then gd a j else gd b (j - a.length) := by
  unfold gd
  by_cases h : j < a.length
  · rw [if_pos h, List.getD_eq_getElem?_getD, List.getElem?_append_left h, List.getD_eq_getElem?_getD]
  · rw [if_neg h, List.getD_eq_getElem?_getD, List.getElem?_append_right (by omega), List.getD_eq_getElem?_getD]
theorem gd_take {a : List Nat} {n j : Nat} (h : j < n) : gd (a.take n) j = gd a j := by
  unfold gd
  rw [List.getD_eq_getElem?_getD, List.getElem?_take, if_pos h, List.getD_eq_getElem?_getD]
theorem gd_drop {a : List Nat} {n : Nat} (j : Nat) : gd (a.drop n) j = gd a (n + j) := by
  unfold gd
  rw [List.getD_eq_getElem?_getD, List.getElem?_drop, List.getD_eq_getElem?_getD]
theorem gd_cons (x : Nat) (a : List Nat) (j : Nat) : gd (x :: a) j = if j = 0 then x else gd a (j - 1) := by
  cases j with
  | zero => rfl
  | succ j => rfl
theorem gd_ext {a b : List Nat} (hl : a.length = b.length) (h : ∀ j, j < a.length → gd a j = gd b j) : a = b := by
  apply List.ext_getElem?
  intro j
  by_cases hj : j < a.length
  · rw [gd_lt hj, gd_lt (by omega), h j hj]
  · rw [List.getElem?_eq_none (by omega), List.getElem?_eq_none (by omega)]
/-- bytes -/
def By (bs : List Nat) : Prop := ∀ x ∈ bs, x < 256
theorem gd_by {bs : List Nat} (h : By bs) (j : Nat) : gd bs j < 256 := by
  by_cases hj : j < bs.length
  · exact h _ (gd_mem hj)
  · unfold gd
    rw [List.getD_eq_getElem?_getD, List.getElem?_eq_none (by omega)]
    decide
/-- a slice -/
def slc (bs : List Nat) (p n : Nat) : List Nat := (bs.drop p).take n
theorem slc_len {bs : List Nat} {p n : Nat} (h : p + n ≤ bs.length) : (slc bs p n).length = n := by
  unfold slc
  rw [List.length_take, List.length_drop]
  omega
theorem slc_gd {bs : List Nat} {p n j : Nat} (h : j < n) : gd (slc bs p n) j = gd bs (p + j) := by
  unfold slc
  rw [gd_take h, gd_drop]
theorem slc_by {bs : List Nat} (h : By bs) (p n : Nat) : By (slc bs p n) := fun x hx => h x (List.mem_of_mem_drop (List.mem_of_mem_take hx))
theorem ixq {a : Nat} (h : a < 2147483648) : (nq a).toNatClampNeg = a := nq_idx h
theorem okI_s {x : Int32} {n : Nat} (hn : n < 2147483647) : okI x (n + 1) ↔ ¬ x < nq 0 ∧ ¬ nq n < x := by
  rcases nq_cases x with h | ⟨a, ha, rfl⟩
  · exact ⟨fun q => absurd h q.1, fun q => absurd h q.1⟩
  · rw [okI_nq ha, nq_lt (by omega) ha, nq_lt0 ha]
    exact ⟨fun q => ⟨fun r => r, by omega⟩, fun q => by omega⟩
theorem lt_1 {x : Int32} (h : x < 0) {a : Nat} (ha : a < 2147483648) : x < nq a := by
  rw [Int32.lt_iff_toInt_lt] at h ⊢
  rw [nq_int ha]
  have h : x.toInt < 0 := h
  omega
theorem okI_r {x : Int32} {n : Nat} (hn : n < 2147483647) : okI x (n + 1) ∧ ¬ x.toNatClampNeg = 0 ↔ ¬ x < nq 1 ∧ ¬ nq n < x := by
  rcases nq_cases x with h | ⟨a, ha, rfl⟩
  · exact ⟨fun q => absurd h q.1.1, fun q => absurd (lt_1 h (by omega)) q.1⟩
  · rw [okI_nq ha, nq_lt (by omega) ha, nq_lt ha (by omega), nq_idx ha]
    omega
theorem ext_lt {P : Nat → Prop} {k : Nat} (h : ∀ x, x < k → P x) (hk : P k) : ∀ x, x < k + 1 → P x := by
  intro x hx
  by_cases q : x < k
  · exact h x q
  · have : x = k := by omega
    rw [this]
    exact hk
theorem pre_n {n d : Nat} (h : d < n) : ∃ n', n = n' + 1 := ⟨n - 1, by omega⟩
