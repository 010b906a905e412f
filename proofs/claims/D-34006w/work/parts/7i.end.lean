/-! PURE: how many unlike chunks; where a chunk ends -/
set_option maxRecDepth 100000
theorem frs_spec : ∀ (l seen : List (List Nat)), (frs seen l).Nodup ∧ ∀ v, v ∈ frs seen l ↔ v ∈ l ∧ v ∉ seen := by
  intro l
  induction l with
  | nil => intro seen; exact ⟨List.nodup_nil, fun v => ⟨fun h => (nomatch h), fun h => (nomatch h.1)⟩⟩
  | cons x t ih =>
    intro seen
    obtain ⟨i1, i2⟩ := ih (seen ++ [x])
    rw [frs]
    by_cases h : x ∈ seen
    · rw [if_pos h]
      refine ⟨i1, fun v => ?_⟩
      rw [i2, List.mem_append, List.mem_singleton, List.mem_cons]
      constructor
      · rintro ⟨h1, h2⟩
        exact ⟨Or.inr h1, fun q => h2 (Or.inl q)⟩
      · rintro ⟨h1 | h1, h2⟩
        · rw [h1] at h2
          exact absurd h h2
        · refine ⟨h1, fun q => q.elim h2 fun q => ?_⟩
          rw [q] at h2
          exact h2 h
    · rw [if_neg h]
      refine ⟨List.nodup_cons.mpr ⟨fun q => ((i2 x).mp q).2 (List.mem_append_right _ (List.mem_singleton_self x)), i1⟩, fun v => ?_⟩
      rw [List.mem_cons, i2, List.mem_append, List.mem_singleton, List.mem_cons]
      constructor
      · rintro (h1 | ⟨h1, h2⟩)
        · rw [h1]
          exact ⟨Or.inl rfl, h⟩
        · exact ⟨Or.inr h1, fun q => h2 (Or.inl q)⟩
      · rintro ⟨h1 | h1, h2⟩
        · exact Or.inl h1
        · by_cases q : v = x
          · exact Or.inl q
          · exact Or.inr ⟨h1, fun z => z.elim h2 q⟩
theorem KOk_frs {K : KL} {c : List Nat → Nat} {l : List (List Nat)} (h : KOk K c) (hc : ∀ v, c v = l.count v) : (K.map fun x => x.1).Perm (frs [] l) := by
  obtain ⟨f1, f2⟩ := frs_spec l []
  have k1 : (K.map fun x => x.1).Nodup := by
    rw [List.nodup_iff_pairwise_ne, List.pairwise_map, List.pairwise_iff_getElem]
    intro i j hi hj hij q
    have e : ∀ k, (hk : k < K.length) → ky K k = K[k].1 := fun k hk => (ky_get (List.getElem?_eq_getElem hk)).1
    have := ky_inj h.1 hi hj (by rw [e i hi, e j hj, q])
    omega
  rw [List.perm_iff_count]
  intro v
  rw [k1.count, f1.count]
  have : v ∈ (K.map fun x => x.1) ↔ v ∈ frs [] l := by
    rw [f2, List.mem_map]
    constructor
    · rintro ⟨⟨w, n⟩, h1, h2⟩
      have h2 : w = v := h2
      subst h2
      have := (h.2 w n).mp h1
      rw [hc] at this
      exact ⟨List.count_pos_iff.mp (by omega), fun q => (nomatch q)⟩
    · rintro ⟨h1, -⟩
      have hp := List.count_pos_iff.mpr h1
      exact ⟨(v, c v), (h.2 v (c v)).mpr ⟨rfl, by rw [hc]; exact hp⟩, rfl⟩
  by_cases q : v ∈ frs [] l
  · rw [if_pos q, if_pos (this.mpr q)]
  · rw [if_neg q, if_neg (fun z => q (this.mp z))]
theorem frs_len : ∀ (l seen : List (List Nat)), (frs seen l).length ≤ l.length := by
  intro l
  induction l with
  | nil => intro seen; exact Nat.le_refl _
  | cons x t ih =>
    intro seen
    rw [frs]
    have := ih (seen ++ [x])
    split
    · rw [List.length_cons]
      omega
    · rw [List.length_cons, List.length_cons]
      omega
theorem KOk_len {K : KL} {c : List Nat → Nat} {l : List (List Nat)} (h : KOk K c) (hc : ∀ v, c v = l.count v) : K.length = (frs [] l).length := by
  have := (KOk_frs h hc).length_eq
  rwa [List.length_map] at this
theorem KOk_sum {K : KL} {c : List Nat → Nat} {l : List (List Nat)} (h : KOk K c) (hc : ∀ v, c v = l.count v) : (K.map fun x => x.1.length).sum = ((frs [] l).map List.length).sum := by
  have := ((KOk_frs h hc).map List.length).sum_nat
  rwa [List.map_map] at this
/-- the object itself -/
def xC (M : Nat → Option Ob) (x : Nat) (c : Nat × Nat × Nat) : Prop := ∃ fs, M x = some (.inl (0, fs)) ∧ fs[6]? = some (.int (nq c.1)) ∧ fs[7]? = some (.int (nq c.2.1)) ∧ fs[8]? = some (.int (nq c.2.2))
theorem e_hash {S : St} {x sa sb cap p : Nat} {c : Nat × Nat × Nat} {fb : List Nat} (hx : xC S.1 x c) (hc : COk c) (hs : iStr S.1 sa sb cap fb) (hf : FOk fb) (hcap : cap ≤ 1000) (hp : p < fb.length) : ∀ (d k n : Nat), d < n → k + d = 4 → l_X1_isEnd_46 n (some x, some sa, nq p, nq (hsh (gd fb) p k), nq k) S = some (bq (decide (hsh (gd fb) p 4 % c.2.2 = c.2.2 - 1)), S) := by
  obtain ⟨fs, x1, x6, x7, x8⟩ := hx
  obtain ⟨s1, h, s2, s3, s4⟩ := hs
  obtain ⟨c1, c2, c3⟩ := hc
  have hL := hf.1
  have e8 : oI S (some x) 0 8 = some (nq c.2.2) := oI_ok x1 x8
  have e1 : oA S (some sa) 3 0 = some (some sb) := oA_ok (o := some sb) s1 rfl
  have hle := fun k hk => hsh_le (f := gd fb) (gd_by hf.2) p k hk
  have hz : nz (nq c.2.2) = some () := nz_ok (by omega) (by omega)
  have hzb : zb (nq 1) = some () := by decide
  have hzb0 : zb (nq 0) = some () := by decide
  have h4 := hle 4 (Nat.le_refl _)
  have hmod : hsh (gd fb) p 4 % c.2.2 < c.2.2 := Nat.mod_lt _ (by omega)
  have fin : s_X1_isEnd_83 (some x) (nq (hsh (gd fb) p 4)) S = some (bq (decide (hsh (gd fb) p 4 % c.2.2 = c.2.2 - 1)), S) := by
    by_cases q : hsh (gd fb) p 4 % c.2.2 = c.2.2 - 1
    · rw [decide_eq_true q, bq_t]
      simp (disch := omega) only [s_X1_isEnd_83, s_X1_isEnd_104, e8, hz, nq_mod, nq_sub, q, hzb, pb1, pb2, nq_lit, nq_add, nq_mul, nq_lt, nq_le, nq_eq, nq_lt0, nq10, nq00, Nat.one_ne_zero, Nat.reduceEqDiff, Nat.not_lt_zero, zb1, zb0, eq_self, reduceIte]
    · rw [decide_eq_false q, bq_f]
      simp (disch := omega) only [s_X1_isEnd_83, s_X1_isEnd_104, e8, hz, nq_mod, nq_sub, q, hzb0, pb1, pb2, nq_lit, nq_add, nq_mul, nq_lt, nq_le, nq_eq, nq_lt0, nq10, nq00, Nat.one_ne_zero, Nat.reduceEqDiff, Nat.not_lt_zero, zb1, zb0, eq_self, reduceIte]
  intro d
  induction d with
  | zero =>
    intro k n hn hk
    obtain ⟨n, rfl⟩ := pre_n hn
    have hk4 : k = 4 := by omega
    subst hk4
    rw [l_X1_isEnd_46_s]
    simp (disch := omega) only [s_X1_isEnd_46, Nat.le_refl, pb1, pb2, nq_lit, nq_add, nq_mul, nq_lt, nq_le, nq_eq, nq_lt0, nq10, nq00, Nat.one_ne_zero, Nat.reduceEqDiff, Nat.not_lt_zero, zb1, zb0, eq_self, reduceIte]
    exact fin
  | succ d ih =>
    intro k n hn hk
    obtain ⟨n, rfl⟩ := pre_n hn
    have hk4 : ¬ 4 ≤ k := by omega
    rw [l_X1_isEnd_46_s]
    by_cases hpk : p < k
    · rw [← hsh_end (d + 1) k hk hpk]
      simp (disch := omega) only [s_X1_isEnd_46, hk4, hpk, pb1, pb2, nq_lit, nq_add, nq_mul, nq_lt, nq_le, nq_eq, nq_lt0, nq10, nq00, Nat.one_ne_zero, Nat.reduceEqDiff, Nat.not_lt_zero, zb1, zb0, eq_self, reduceIte]
      exact fin
    · have e5 : iL S (some sb) 0 (nq (p - k)) = some (nq (gd fb (p - k))) := by rw [iL_ok s2 (by omega) (by omega), s4 _ (by omega)]
      have ee : hsh (gd fb) p (k + 1) = hsh (gd fb) p k + (k + 1) * gd fb (p - k) := by
        show hsh (gd fb) p k + (if k ≤ p then (k + 1) * gd fb (p - k) else 0) = _
        rw [if_pos (by omega)]
      have ih' := ih (k + 1) n (by omega) (by omega)
      rw [ee] at ih'
      simp (disch := omega) only [s_X1_isEnd_46, hk4, hpk, e1, nq_sub, e5, pb1, pb2, nq_lit, nq_add, nq_mul, nq_lt, nq_le, nq_eq, nq_lt0, nq10, nq00, Nat.one_ne_zero, Nat.reduceEqDiff, Nat.not_lt_zero, zb1, zb0, eq_self, reduceIte]
      exact ih'
theorem e_end {S : St} {x sa sb cap s p : Nat} {c : Nat × Nat × Nat} {fb : List Nat} (hx : xC S.1 x c) (hc : COk c) (hs : iStr S.1 sa sb cap fb) (hf : FOk fb) (hcap : cap ≤ 1000) (hp : p < fb.length) (hsp : s ≤ p) (hrun : p + 1 - s ≤ c.2.1) : f_X1_isEnd (some x) (some sa) (nq s) (nq p) S = some (bq (decide (p + 1 - s = c.2.1 ∨ (c.1 ≤ p + 1 - s ∧ hsh (gd fb) p 4 % c.2.2 = c.2.2 - 1))), S) := by
  have hh := e_hash hx hc hs hf hcap hp 4 0 FU (by unfold FU; omega) rfl
  have hh : l_X1_isEnd_46 FU (some x, some sa, nq p, nq 0, nq 0) S = _ := hh
  obtain ⟨fs, x1, x6, x7, x8⟩ := hx
  obtain ⟨c1, c2, c3⟩ := hc
  have hL := hf.1
  have e6 : oI S (some x) 0 6 = some (nq c.1) := oI_ok x1 x6
  have e7 : oI S (some x) 0 7 = some (nq c.2.1) := oI_ok x1 x7
  have hzb : zb (nq 1) = some () := by decide
  have hzb0 : zb (nq 0) = some () := by decide
  have es : nq (p + 1) - nq s = nq (p + 1 - s) := nq_sub (by omega)
  by_cases g1 : p + 1 - s < c.1
  · have hlt : p + 1 - s < c.2.1 := by omega
    rw [decide_eq_false (by omega), bq_f]
    simp (disch := omega) only [f_X1_isEnd, s_X1_isEnd_25, s_X1_isEnd_39, e6, e7, es, g1, hlt, hzb0, pb1, pb2, nq_lit, nq_add, nq_mul, nq_lt, nq_le, nq_eq, nq_lt0, nq10, nq00, Nat.one_ne_zero, Nat.reduceEqDiff, Nat.not_lt_zero, zb1, zb0, eq_self, reduceIte]
  · by_cases g2 : p + 1 - s < c.2.1
    · have ed : decide (p + 1 - s = c.2.1 ∨ (c.1 ≤ p + 1 - s ∧ hsh (gd fb) p 4 % c.2.2 = c.2.2 - 1)) = decide (hsh (gd fb) p 4 % c.2.2 = c.2.2 - 1) := by
        by_cases q : hsh (gd fb) p 4 % c.2.2 = c.2.2 - 1
        · rw [decide_eq_true q, decide_eq_true (Or.inr ⟨by omega, q⟩)]
        · rw [decide_eq_false q, decide_eq_false (fun z => z.elim (fun z => by omega) fun z => q z.2)]
      rw [ed]
      simp (disch := omega) only [f_X1_isEnd, e6, e7, es, g1, g2, pb1, pb2, nq_lit, nq_add, nq_mul, nq_lt, nq_le, nq_eq, nq_lt0, nq10, nq00, Nat.one_ne_zero, Nat.reduceEqDiff, Nat.not_lt_zero, zb1, zb0, eq_self, reduceIte]
      exact hh
    · rw [decide_eq_true (Or.inl (by omega)), bq_t]
      simp (disch := omega) only [f_X1_isEnd, s_X1_isEnd_25, s_X1_isEnd_39, e6, e7, es, g1, g2, hzb, pb1, pb2, nq_lit, nq_add, nq_mul, nq_lt, nq_le, nq_eq, nq_lt0, nq10, nq00, Nat.one_ne_zero, Nat.reduceEqDiff, Nat.not_lt_zero, zb1, zb0, eq_self, reduceIte]
