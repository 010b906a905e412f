/-! PURE: the store's chunks as a sorted list of unlike ones, each with its count -/
set_option maxRecDepth 100000
def kn (K : KL) (k : Nat) : Nat := (K.getD k ([], 0)).2
def KOk (K : KL) (c : List Nat → Nat) : Prop := KSo K ∧ ∀ w n, (w, n) ∈ K ↔ n = c w ∧ 0 < n
theorem ky_get {K : KL} {k : Nat} {x : List Nat × Nat} (h : K[k]? = some x) : ky K k = x.1 ∧ kn K k = x.2 := by
  unfold ky kn
  rw [List.getD_eq_getElem?_getD, h]
  exact ⟨rfl, rfl⟩
theorem k_get {K : KL} {k : Nat} (h : k < K.length) : K[k]? = some (ky K k, kn K k) := by
  obtain ⟨x, hx⟩ : ∃ x, K[k]? = some x := ⟨_, List.getElem?_eq_getElem h⟩
  obtain ⟨h1, h2⟩ := ky_get hx
  rw [hx, h1, h2]
theorem kmem {K : KL} {w : List Nat} {n : Nat} : (w, n) ∈ K ↔ ∃ k, k < K.length ∧ ky K k = w ∧ kn K k = n := by
  constructor
  · intro h
    obtain ⟨k, hk, e⟩ := List.getElem_of_mem h
    have := ky_get (K := K) (k := k) (x := (w, n)) (by rw [List.getElem?_eq_getElem hk, e])
    exact ⟨k, hk, this.1, this.2⟩
  · rintro ⟨k, hk, h1, h2⟩
    have := k_get hk
    rw [h1, h2] at this
    exact List.mem_of_getElem? this
theorem ky_inj {K : KL} (h : KSo K) {i j : Nat} (hi : i < K.length) (hj : j < K.length) (e : ky K i = ky K j) : i = j := by
  rcases Nat.lt_trichotomy i j with q | q | q
  · have := h i j q hj
    rw [e] at this
    exact absurd this (List.lt_irrefl _)
  · exact q
  · have := h j i q hi
    rw [e] at this
    exact absurd this (List.lt_irrefl _)
theorem KOk.cnt {K : KL} {c : List Nat → Nat} (h : KOk K c) {k : Nat} (hk : k < K.length) : kn K k = c (ky K k) ∧ 0 < kn K k := (h.2 (ky K k) (kn K k)).mp (kmem.mpr ⟨k, hk, rfl, rfl⟩)
theorem KOk.at {K : KL} {c : List Nat → Nat} (h : KOk K c) {w : List Nat} (hw : 0 < c w) : ∃ k, k < K.length ∧ ky K k = w ∧ kn K k = c w := kmem.mp ((h.2 w (c w)).mpr ⟨rfl, hw⟩)
theorem ins_len (K : KL) {r : Nat} (x : List Nat × Nat) (hr : r ≤ K.length) : (K.take r ++ x :: K.drop r).length = K.length + 1 := by
  rw [List.length_append, List.length_cons, List.length_take, List.length_drop]
  omega
theorem ins_get {α : Type} {K : List α} {r : Nat} (x : α) (hr : r ≤ K.length) (j : Nat) : (K.take r ++ x :: K.drop r)[j]? = if j < r then K[j]? else if j = r then some x else K[j - 1]? := by
  by_cases h : j < r
  · rw [if_pos h, List.getElem?_append_left (by rw [List.length_take]; omega), List.getElem?_take_of_lt h]
  · rw [if_neg h, List.getElem?_append_right (by rw [List.length_take]; omega), List.length_take, Nat.min_eq_left hr]
    by_cases h2 : j = r
    · rw [if_pos h2, h2, Nat.sub_self]
      rfl
    · rw [if_neg h2]
      obtain ⟨i, hi⟩ : ∃ i, j - r = i + 1 := ⟨j - r - 1, by omega⟩
      rw [hi, List.getElem?_cons_succ, List.getElem?_drop]
      congr 1
      omega
theorem kD (K : KL) (k : Nat) : (ky K k, kn K k) = (K[k]?).getD ([], 0) := by
  unfold ky kn
  rw [List.getD_eq_getElem?_getD]
theorem ins_k {K : KL} {r : Nat} (x : List Nat × Nat) (hr : r ≤ K.length) (j : Nat) : (ky (K.take r ++ x :: K.drop r) j, kn (K.take r ++ x :: K.drop r) j) = if j < r then (ky K j, kn K j) else if j = r then x else (ky K (j - 1), kn K (j - 1)) := by
  rw [kD, ins_get x hr, kD, kD]
  split
  · rfl
  · split <;> rfl
theorem del_get {α : Type} {K : List α} {r : Nat} (hr : r < K.length) (j : Nat) : (K.take r ++ K.drop (r + 1))[j]? = if j < r then K[j]? else K[j + 1]? := by
  by_cases h : j < r
  · rw [if_pos h, List.getElem?_append_left (by rw [List.length_take]; omega), List.getElem?_take_of_lt h]
  · rw [if_neg h, List.getElem?_append_right (by rw [List.length_take]; omega), List.length_take, Nat.min_eq_left (by omega), List.getElem?_drop]
    congr 1
    omega
theorem del_len {α : Type} {K : List α} {r : Nat} (hr : r < K.length) : (K.take r ++ K.drop (r + 1)).length = K.length - 1 := by
  rw [List.length_append, List.length_take, List.length_drop]
  omega
theorem del_k {K : KL} {r : Nat} (hr : r < K.length) (j : Nat) : (ky (K.take r ++ K.drop (r + 1)) j, kn (K.take r ++ K.drop (r + 1)) j) = if j < r then (ky K j, kn K j) else (ky K (j + 1), kn K (j + 1)) := by
  rw [kD, del_get hr, kD, kD]
  split <;> rfl
theorem set_k {K : KL} {r : Nat} (x : List Nat × Nat) (hr : r < K.length) (j : Nat) : (ky (K.set r x) j, kn (K.set r x) j) = if j = r then x else (ky K j, kn K j) := by
  rw [kD, kD]
  by_cases h : j = r
  · rw [if_pos h, h, List.getElem?_set_self hr]
    rfl
  · rw [if_neg h, List.getElem?_set_ne (fun q => h q.symm)]
theorem kset_so {K : KL} (h : KSo K) {r : Nat} (n : Nat) (hr : r < K.length) : KSo (K.set r (ky K r, n)) := by
  have e : ∀ j, ky (K.set r (ky K r, n)) j = ky K j := fun j => by
    have := congrArg (fun x => x.1) (set_k (ky K r, n) hr j)
    dsimp only at this
    rw [this]
    by_cases q : j = r
    · rw [if_pos q, q]
    · rw [if_neg q]
  intro i j hij hj
  rw [List.length_set] at hj
  rw [e, e]
  exact h i j hij hj
theorem kOk_ins {K : KL} {c : List Nat → Nat} {r : Nat} {w : List Nat} (h : KOk K c) (hr : r ≤ K.length) (h1 : ∀ k, k < r → ky K k < w) (h2 : ∀ k, r ≤ k → k < K.length → ¬ ky K k < w) (hn : r < K.length → ky K r ≠ w) : KOk (K.take r ++ (w, 1) :: K.drop r) (fun v => c v + if v = w then 1 else 0) ∧ c w = 0 := by
  have hgt : ∀ k, r ≤ k → k < K.length → w < ky K k := fun k hk hkl => by
    by_cases q : k = r
    · rw [q]
      by_cases z : w < ky K r
      · exact z
      · exact absurd (lt_or_ge (h2 r (Nat.le_refl _) (by omega)) z) (hn (by omega))
    · exact nlt_lt (h2 r (Nat.le_refl _) (by omega)) (h.1 r k (by omega) hkl)
  have hno : ∀ k, k < K.length → ky K k ≠ w := fun k hk q => by
    by_cases z : k < r
    · have := h1 k z
      rw [q] at this
      exact List.lt_irrefl _ this
    · have := hgt k (by omega) hk
      rw [q] at this
      exact List.lt_irrefl _ this
  have hcw : c w = 0 := by
    rcases Nat.eq_zero_or_pos (c w) with q | q
    · exact q
    · obtain ⟨k, k1, k2, -⟩ := h.at q
      exact absurd k2 (hno k k1)
  have e : ∀ j, ky (K.take r ++ (w, 1) :: K.drop r) j = if j < r then ky K j else if j = r then w else ky K (j - 1) := fun j => by
    have := congrArg (fun x => x.1) (ins_k (w, 1) hr j)
    dsimp only at this
    rw [this]
    split
    · rfl
    · split <;> rfl
  refine ⟨⟨fun i j hij hj => ?_, fun v n => ?_⟩, hcw⟩
  · rw [ins_len K _ hr] at hj
    rw [e, e]
    by_cases c1 : j < r
    · rw [if_pos (by omega), if_pos c1]
      exact h.1 i j hij (by omega)
    · rw [if_neg c1]
      by_cases c2 : j = r
      · rw [if_pos (by omega), if_pos c2]
        exact h1 i (by omega)
      · rw [if_neg c2]
        by_cases c3 : i < r
        · rw [if_pos c3]
          exact h.1 i (j - 1) (by omega) (by omega)
        · rw [if_neg c3]
          by_cases c4 : i = r
          · rw [if_pos c4]
            exact hgt _ (by omega) (by omega)
          · rw [if_neg c4]
            exact h.1 (i - 1) (j - 1) (by omega) (by omega)
  · have hm : (v, n) ∈ K.take r ++ (w, 1) :: K.drop r ↔ (v, n) = (w, 1) ∨ (v, n) ∈ K := by
      rw [List.mem_append, List.mem_cons]
      have : (v, n) ∈ K ↔ (v, n) ∈ K.take r ∨ (v, n) ∈ K.drop r := by rw [← List.mem_append, List.take_append_drop]
      rw [this]
      exact ⟨fun q => q.elim (fun q => Or.inr (Or.inl q)) (fun q => q.elim Or.inl fun q => Or.inr (Or.inr q)), fun q => q.elim (fun q => Or.inr (Or.inl q)) fun q => q.elim Or.inl fun q => Or.inr (Or.inr q)⟩
    rw [hm, h.2]
    dsimp only
    by_cases q : v = w
    · rw [if_pos q, q, hcw]
      constructor
      · rintro (z | z)
        · cases z
          omega
        · omega
      · intro z
        have : n = 1 := by omega
        rw [this]
        exact Or.inl rfl
    · rw [if_neg q, Nat.add_zero]
      exact ⟨fun z => z.elim (fun z => absurd (Prod.mk.inj z).1 q) id, Or.inr⟩
theorem kOk_set {K : KL} {c : List Nat → Nat} {r m : Nat} {w : List Nat} (h : KOk K c) (hr : r < K.length) (hw : ky K r = w) (hm : 0 < m) : KOk (K.set r (w, m)) (fun v => if v = w then m else c v) := by
  subst hw
  refine ⟨kset_so h.1 m hr, fun v n => ?_⟩
  rw [kmem]
  have e : ∀ j, ky (K.set r (ky K r, m)) j = ky K j ∧ kn (K.set r (ky K r, m)) j = if j = r then m else kn K j := fun j => by
    have e1 := congrArg (fun x => x.1) (set_k (ky K r, m) hr j)
    have e2 := congrArg (fun x => x.2) (set_k (ky K r, m) hr j)
    dsimp only at e1 e2
    rw [e1, e2]
    by_cases q : j = r
    · rw [if_pos q, if_pos q, q]
      exact ⟨rfl, rfl⟩
    · rw [if_neg q, if_neg q]
      exact ⟨rfl, rfl⟩
  rw [List.length_set]
  dsimp only
  constructor
  · rintro ⟨k, k1, k2, k3⟩
    rw [(e k).1] at k2
    rw [(e k).2] at k3
    by_cases q : k = r
    · rw [if_pos q] at k3
      rw [q] at k2
      rw [if_pos k2.symm]
      omega
    · rw [if_neg q] at k3
      have hne : ¬ v = ky K r := fun z => q (ky_inj h.1 k1 hr (k2.trans z))
      rw [if_neg hne]
      have := h.cnt k1
      rw [k2, k3] at this
      exact this
  · rintro ⟨k1, k2⟩
    by_cases q : v = ky K r
    · rw [if_pos q] at k1
      refine ⟨r, hr, ?_, ?_⟩
      · rw [(e r).1, q]
      · rw [(e r).2, if_pos rfl, k1]
    · rw [if_neg q] at k1
      obtain ⟨k, m1, m2, m3⟩ := h.at (w := v) (by omega)
      refine ⟨k, m1, ?_, ?_⟩
      · rw [(e k).1, m2]
      · rw [(e k).2, if_neg (fun z => q (by rw [← m2, z])), m3, k1]
theorem kOk_del {K : KL} {c : List Nat → Nat} {r : Nat} {w : List Nat} (h : KOk K c) (hr : r < K.length) (hw : ky K r = w) : KOk (K.take r ++ K.drop (r + 1)) (fun v => if v = w then 0 else c v) := by
  subst hw
  have e : ∀ j, ky (K.take r ++ K.drop (r + 1)) j = (if j < r then ky K j else ky K (j + 1)) ∧ kn (K.take r ++ K.drop (r + 1)) j = (if j < r then kn K j else kn K (j + 1)) := fun j => by
    have e1 := congrArg (fun x => x.1) (del_k hr j)
    have e2 := congrArg (fun x => x.2) (del_k hr j)
    dsimp only at e1 e2
    rw [e1, e2]
    split <;> exact ⟨rfl, rfl⟩
  refine ⟨fun i j hij hj => ?_, fun v n => ?_⟩
  · rw [del_len hr] at hj
    rw [(e i).1, (e j).1]
    by_cases c1 : j < r
    · rw [if_pos (by omega), if_pos c1]
      exact h.1 i j hij (by omega)
    · rw [if_neg c1]
      by_cases c2 : i < r
      · rw [if_pos c2]
        exact h.1 i (j + 1) (by omega) (by omega)
      · rw [if_neg c2]
        exact h.1 (i + 1) (j + 1) (by omega) (by omega)
  · rw [kmem, del_len hr]
    dsimp only
    constructor
    · rintro ⟨k, k1, k2, k3⟩
      rw [(e k).1] at k2
      rw [(e k).2] at k3
      obtain ⟨k', m1, m2, m3, m4⟩ : ∃ k', k' < K.length ∧ k' ≠ r ∧ ky K k' = v ∧ kn K k' = n := by
        by_cases q : k < r
        · rw [if_pos q] at k2 k3
          exact ⟨k, by omega, by omega, k2, k3⟩
        · rw [if_neg q] at k2 k3
          exact ⟨k + 1, by omega, by omega, k2, k3⟩
      have hne : ¬ v = ky K r := fun z => m2 (ky_inj h.1 m1 hr (m3.trans z))
      rw [if_neg hne]
      have := h.cnt m1
      rw [m3, m4] at this
      exact this
    · rintro ⟨k1, k2⟩
      by_cases q : v = ky K r
      · rw [if_pos q] at k1
        omega
      · rw [if_neg q] at k1
        obtain ⟨k, m1, m2, m3⟩ := h.at (w := v) (by omega)
        have hkr : k ≠ r := fun z => q (by rw [← m2, z])
        by_cases z : k < r
        · refine ⟨k, by omega, ?_, ?_⟩
          · rw [(e k).1, if_pos z, m2]
          · rw [(e k).2, if_pos z, m3, k1]
        · refine ⟨k - 1, by omega, ?_, ?_⟩
          · rw [(e _).1, if_neg (by omega), show k - 1 + 1 = k by omega, m2]
          · rw [(e _).2, if_neg (by omega), show k - 1 + 1 = k by omega, m3, k1]
