/-! PURE: the reference's papers: counting -/
set_option maxRecDepth 100000
def offs (l : List (List Nat)) (k : Nat) : Nat := ((l.take k).flatten).length
def gp (l : List (List Nat)) (k : Nat) : List Nat := l.getD k []
theorem gp_some {l : List (List Nat)} {k : Nat} (h : k < l.length) : l[k]? = some (gp l k) := by
  unfold gp
  rw [List.getD_eq_getElem?_getD, List.getElem?_eq_getElem h]
  rfl
theorem gp_mem {l : List (List Nat)} {k : Nat} (h : k < l.length) : gp l k ∈ l := List.mem_of_getElem? (gp_some h)
theorem take_gp {l : List (List Nat)} {k : Nat} (h : k < l.length) : l.take (k + 1) = l.take k ++ [gp l k] := by
  rw [List.take_succ, gp_some h]
  rfl
theorem drop_gp {l : List (List Nat)} {k : Nat} (h : k < l.length) : l.drop k = gp l k :: l.drop (k + 1) := by
  rw [List.drop_eq_getElem_cons h]
  congr 1
  have := gp_some h
  rw [List.getElem?_eq_getElem h] at this
  exact Option.some.inj this
theorem offs_s {l : List (List Nat)} {k : Nat} (h : k < l.length) : offs l (k + 1) = offs l k + (gp l k).length := by
  unfold offs
  rw [take_gp h, List.flatten_append, List.length_append]
  simp
theorem offs_all (l : List (List Nat)) : offs l l.length = l.flatten.length := by
  unfold offs
  rw [List.take_length]
theorem flat_split {l : List (List Nat)} {k : Nat} (h : k < l.length) : l.flatten = (l.take k).flatten ++ (gp l k ++ (l.drop (k + 1)).flatten) := by
  have : l = l.take k ++ (gp l k :: l.drop (k + 1)) := by rw [← drop_gp h, List.take_append_drop]
  rw [← List.flatten_cons, ← List.flatten_append, ← this]
theorem offs_le {l : List (List Nat)} {k : Nat} (h : k < l.length) : offs l k + (gp l k).length ≤ l.flatten.length := by
  rw [flat_split h, List.length_append, List.length_append]
  unfold offs
  omega
theorem gd_flat {l : List (List Nat)} {k i : Nat} (h : k < l.length) (hi : i < (gp l k).length) : gd l.flatten (offs l k + i) = gd (gp l k) i := by
  rw [flat_split h, gd_app, if_neg (by unfold offs; omega), gd_app, if_pos (by unfold offs; omega)]
  congr 1
  unfold offs
  omega
theorem POk_len {l : List (List Nat)} (h : POk l) : l.length ≤ 120 := by
  have : ∀ l : List (List Nat), (∀ c ∈ l, c ≠ []) → l.length ≤ l.flatten.length := by
    intro l
    induction l with
    | nil => intro _; exact Nat.le_refl _
    | cons c l ih =>
      intro hc
      have a1 := ih fun x hx => hc x (List.mem_cons_of_mem _ hx)
      have a2 : c.length ≠ 0 := fun q => hc c List.mem_cons_self (List.length_eq_zero_iff.mp q)
      rw [List.flatten_cons, List.length_append, List.length_cons]
      omega
  have := this l h.1
  have := h.2.1
  omega
theorem POk_gp {l : List (List Nat)} (h : POk l) {k : Nat} (hk : k < l.length) : (gp l k).length ≤ 120 ∧ 1 ≤ (gp l k).length ∧ By (gp l k) := by
  have h1 := offs_le hk
  have h2 := h.2.1
  have h3 := h.1 _ (gp_mem hk)
  refine ⟨by omega, ?_, fun x hx => h.2.2 x (List.mem_flatten.mpr ⟨_, gp_mem hk, hx⟩)⟩
  have : (gp l k).length ≠ 0 := fun q => h3 (List.length_eq_zero_iff.mp q)
  omega
theorem zP_ok {A : AA} (hA : AOk A) (p : Nat) : POk (prt (zP A) p) := by
  unfold prt
  cases e : zP A p with
  | none =>
    show POk []
    exact ⟨fun c hc => (nomatch hc), by decide, fun x hx => (nomatch hx)⟩
  | some l => exact hA.2.2.2.2.1 p l e
/-- what the data say of a paper that is there -/
theorem MPp_t {σ : Sg} {ps : Nat → Option (List (List Nat))} (h : MPp σ ps) {p : Nat} (hp : p < 12) (hs : (ps p).isSome = true) : MPa σ p (prt ps p) := by
  obtain ⟨l, e⟩ := Option.isSome_iff_exists.mp hs
  unfold prt
  rw [e]
  exact (h p hp).2 l e
theorem MPp_f {σ : Sg} {ps : Nat → Option (List (List Nat))} (h : MPp σ ps) {p : Nat} (hp : p < 12) (hs : ¬ (ps p).isSome = true) : σ.2.1 31 p = nq 0 ∧ prt ps p = [] := by
  have e : ps p = none := by
    cases e : ps p with
    | none => rfl
    | some l =>
      rw [e] at hs
      exact absurd rfl hs
  unfold prt
  rw [e]
  exact ⟨(h p hp).1 e, rfl⟩
/-- a chunk's bytes at a place of the papers' bytes -/
def AtB (σ : Sg) (a : Nat) (c : List Nat) : Prop := (∀ i, i < c.length → σ.2.1 34 (a + i) = nq (gd c i)) ∧ a + c.length ≤ 1440 ∧ By c ∧ c.length ≤ 120
theorem MPa_at {σ : Sg} {p : Nat} {l : List (List Nat)} (h : MPa σ p l) (hp : p < 12) (hl : POk l) {k : Nat} (hk : k < l.length) : AtB σ (120 * p + offs l k) (gp l k) := by
  have h1 := offs_le hk
  have h2 := hl.2.1
  obtain ⟨g1, g2, g3⟩ := POk_gp hl hk
  refine ⟨fun i hi => ?_, by omega, g3, g1⟩
  rw [Nat.add_assoc, h.2.2.2 _ (by omega), gd_flat hk hi]
section Names
variable {σ : Sg} {a : Nat} {c : List Nat} {x3 x4 x5 : Int32}
theorem m_names_i {rc6 : Int32 × Int32 × Int32 × Int32 × Int32 × Int32 × Int32 → Sg → Option (Int32 × Sg)} {rc63 : Int32 × Int32 × Int32 × Int32 × Int32 × Int32 × Int32 × Int32 × Int32 × Int32 → Sg → Option (Int32 × Sg)} {x6 x7 x9 x10 x11 : Int32} {fr : Nat} {q : List Nat} (hc : AtB σ a c) (hq : AtB σ fr q) (hl : q.length = c.length) : ∀ (N i n : Nat), N < n → i + N = c.length → (∀ j, j < i → gd c j = gd q j) →
    l_X3_names_101 rc6 rc63 n (nq a, nq c.length, x3, x4, x5, x6, x7, nq fr, x9, x10, x11, nq 1, nq i) σ = s_X3_names_147 rc6 rc63 (nq a) (nq c.length) x3 x4 x5 x6 x7 (nq fr) x9 x10 x11 (bq (decide (q = c))) σ := by
  obtain ⟨c1, c2, c3, c4⟩ := hc
  obtain ⟨q1, q2, q3, q4⟩ := hq
  intro N
  induction N with
  | zero =>
    intro i n hn hi he
    obtain ⟨n, rfl⟩ := pre_n hn
    have hi' : c.length ≤ i := by omega
    have e : q = c := gd_ext hl fun j hj => (he j (by omega)).symm
    rw [l_X3_names_101_s, decide_eq_true e]
    simp (disch := omega) only [s_X3_names_101, hi', bq_t, nq_le, reduceIte]
  | succ N ih =>
    intro i n hn hi he
    obtain ⟨n, rfl⟩ := pre_n hn
    have hi' : ¬ c.length ≤ i := by omega
    have b1 := gd_by c3 i
    have b2 := gd_by q3 i
    rw [l_X3_names_101_s]
    by_cases hx : gd c i = gd q i
    · have := ih (i + 1) n (by omega) (by omega) (ext_lt he hx)
      simp (disch := omega) only [s_X3_names_101, s_X3_names_139, hi', c1 i (by omega), q1 i (by omega), hx, mR_1, mW_1, mR_2, mW_2, mR_3, mW_3, mR_4, mW_4, mR_5, mW_5, mR_6, mW_6, mR_7, mW_7, mR_9, mW_9, mR_10, mW_10, mR_11, mW_11, mR_12, mW_12, mR_13, mW_13, mR_14, mW_14, mR_15, mW_15, mR_17, mW_17, mR_18, mW_18, mR_19, mW_19, mR_20, mW_20, mR_21, mW_21, mR_25, mW_25, mR_27, mW_27, mR_31, mW_31, mR_32, mW_32, mR_33, mW_33, mR_34, mW_34, mRL_8, mWL_8, pb1, pb2, nq_lit, nq_add, nq_mul, nq_lt, nq_le, nq_eq, nq_lt0, nq10, nq00, Nat.one_ne_zero, Nat.reduceEqDiff, Nat.not_lt_zero, nq20, nq30, zb1, zb0, eq_self, mP_i, mP_o, mP_2', wr_1, wr_ne, wr_i, reduceIte, m_may1, m_may0, m_both1, m_both2, m_both0, m_all1, m_all3, m_all2, m_all0]
      exact this
    · rw [decide_eq_false (fun r => hx (by rw [r]))]
      simp (disch := omega) only [s_X3_names_101, s_X3_names_139, hi', c1 i (by omega), q1 i (by omega), hx, mR_1, mW_1, mR_2, mW_2, mR_3, mW_3, mR_4, mW_4, mR_5, mW_5, mR_6, mW_6, mR_7, mW_7, mR_9, mW_9, mR_10, mW_10, mR_11, mW_11, mR_12, mW_12, mR_13, mW_13, mR_14, mW_14, mR_15, mW_15, mR_17, mW_17, mR_18, mW_18, mR_19, mW_19, mR_20, mW_20, mR_21, mW_21, mR_25, mW_25, mR_27, mW_27, mR_31, mW_31, mR_32, mW_32, mR_33, mW_33, mR_34, mW_34, mRL_8, mWL_8, pb1, pb2, nq_lit, nq_add, nq_mul, nq_lt, nq_le, nq_eq, nq_lt0, nq10, nq00, Nat.one_ne_zero, Nat.reduceEqDiff, Nat.not_lt_zero, nq20, nq30, zb1, zb0, eq_self, mP_i, mP_o, mP_2', wr_1, wr_ne, wr_i, reduceIte, m_may1, m_may0, m_both1, m_both2, m_both0, m_all1, m_all3, m_all2, m_all0]
      obtain ⟨n, rfl⟩ : ∃ n', n = n' + 1 := pre_n (show N < n by omega)
      rw [l_X3_names_101_s]
      by_cases hy : c.length ≤ i + 1
      · simp (disch := omega) only [s_X3_names_101, nq_lit, hy, bq_f, nq_le, reduceIte]
      · simp (disch := omega) only [s_X3_names_101, nq_lit, hy, bq_f, nq_le, nq00, reduceIte]
/-- the parts of one paper -/
theorem m_names_k {rc6 : Int32 × Int32 × Int32 × Int32 × Int32 × Int32 × Int32 → Sg → Option (Int32 × Sg)} {p : Nat} {l : List (List Nat)} (hp : p < 12) (hc : AtB σ a c) (hc1 : 1 ≤ c.length) (hM : MPa σ p l) (hl : POk l) {all : Nat} (ha : all ≤ l.length) : ∀ (N k n m : Nat), N < n → k + N = all →
    l_X3_names_63 rc6 n (nq a, nq c.length, x3, x4, x5, nq m, nq p, nq (120 * p + offs l k), nq all, nq k) σ = rc6 (nq a, nq c.length, x3, x4, x5, nq (m + ((l.take all).drop k).count c), nq (p + 1)) σ := by
  have hll := POk_len hl
  intro N
  induction N with
  | zero =>
    intro k n m hn hk
    obtain ⟨n, rfl⟩ := pre_n hn
    have hk' : all ≤ k := by omega
    rw [l_X3_names_63_s, List.drop_eq_nil_of_le (by rw [List.length_take]; omega)]
    simp (disch := omega) only [s_X3_names_63, hk', mR_1, mW_1, mR_2, mW_2, mR_3, mW_3, mR_4, mW_4, mR_5, mW_5, mR_6, mW_6, mR_7, mW_7, mR_9, mW_9, mR_10, mW_10, mR_11, mW_11, mR_12, mW_12, mR_13, mW_13, mR_14, mW_14, mR_15, mW_15, mR_17, mW_17, mR_18, mW_18, mR_19, mW_19, mR_20, mW_20, mR_21, mW_21, mR_25, mW_25, mR_27, mW_27, mR_31, mW_31, mR_32, mW_32, mR_33, mW_33, mR_34, mW_34, mRL_8, mWL_8, pb1, pb2, nq_lit, nq_add, nq_mul, nq_lt, nq_le, nq_eq, nq_lt0, nq10, nq00, Nat.one_ne_zero, Nat.reduceEqDiff, Nat.not_lt_zero, nq20, nq30, zb1, zb0, eq_self, mP_i, mP_o, mP_2', wr_1, wr_ne, wr_i, reduceIte, m_may1, m_may0, m_both1, m_both2, m_both0, m_all1, m_all3, m_all2, m_all0]
    rfl
  | succ N ih =>
    intro k n m hn hk
    obtain ⟨n, rfl⟩ := pre_n hn
    have hk' : ¬ all ≤ k := by omega
    have hkl : k < l.length := by omega
    obtain ⟨g1, g2, g3⟩ := POk_gp hl hkl
    have hat := MPa_at hM hp hl hkl
    have e33 : σ.2.1 33 (120 * p + k) = nq (gp l k).length := hM.2.2.1 k hkl
    have hd : (l.take all).drop k = gp l k :: (l.take all).drop (k + 1) := by
      rw [drop_gp (by rw [List.length_take]; omega)]
      congr 1
      unfold gp
      rw [List.getD_eq_getElem?_getD, List.getD_eq_getElem?_getD, List.getElem?_take, if_pos (by omega)]
    have eo := offs_s hkl
    have e147 : ∀ b : Bool, b = decide (gp l k = c) → s_X3_names_147 rc6 (l_X3_names_63 rc6 n) (nq a) (nq c.length) x3 x4 x5 (nq m) (nq p) (nq (120 * p + offs l k)) (nq all) (nq k) (nq (gp l k).length) (bq b) σ = rc6 (nq a, nq c.length, x3, x4, x5, nq (m + ((l.take all).drop k).count c), nq (p + 1)) σ := fun b hb => by
      rw [hd, List.count_cons]
      by_cases hx : gp l k = c
      · rw [hb, decide_eq_true hx]
        have := ih (k + 1) n (m + 1) (by omega) (by omega)
        rw [eo, ← Nat.add_assoc] at this
        have hbeq : (gp l k == c) = true := beq_iff_eq.mpr hx
        simp (disch := omega) only [s_X3_names_147, s_X3_names_159, bq_t, hbeq, pb1, pb2, nq_lit, nq_add, nq_mul, nq_lt, nq_le, nq_eq, nq_lt0, nq10, nq00, Nat.one_ne_zero, Nat.reduceEqDiff, Nat.not_lt_zero, nq20, nq30, zb1, zb0, eq_self, mP_i, mP_o, mP_2', wr_1, wr_ne, wr_i, reduceIte, m_may1, m_may0, m_both1, m_both2, m_both0, m_all1, m_all3, m_all2, m_all0]
        rw [this, Nat.add_assoc, Nat.add_comm 1]
      · rw [hb, decide_eq_false hx]
        have := ih (k + 1) n m (by omega) (by omega)
        rw [eo, ← Nat.add_assoc] at this
        have hbeq : (gp l k == c) = false := by
          cases hz : (gp l k == c) with
          | false => rfl
          | true => exact absurd (beq_iff_eq.mp hz) hx
        simp (disch := omega) only [s_X3_names_147, s_X3_names_159, bq_f, hbeq, Bool.false_eq_true, Nat.add_zero, pb1, pb2, nq_lit, nq_add, nq_mul, nq_lt, nq_le, nq_eq, nq_lt0, nq10, nq00, Nat.one_ne_zero, Nat.reduceEqDiff, Nat.not_lt_zero, nq20, nq30, zb1, zb0, eq_self, mP_i, mP_o, mP_2', wr_1, wr_ne, wr_i, reduceIte, m_may1, m_may0, m_both1, m_both2, m_both0, m_all1, m_all3, m_all2, m_all0]
        exact this
    rw [l_X3_names_63_s]
    by_cases hlen : (gp l k).length = c.length
    · have := m_names_i (x3 := x3) (x4 := x4) (x5 := x5) (rc6 := rc6) (rc63 := l_X3_names_63 rc6 n) (x6 := nq m) (x7 := nq p) (x9 := nq all) (x10 := nq k) (x11 := nq (gp l k).length) hc hat hlen c.length 0 FU (by have := hc.2.2.2; unfold FU; omega) (by omega) (fun j hj => absurd hj (Nat.not_lt_zero j))
      have e := e147 _ rfl
      have hcl := hc.2.2.2
      simp (disch := omega) only [s_X3_names_63, s_X3_names_96, hk', e33, hlen, mR_1, mW_1, mR_2, mW_2, mR_3, mW_3, mR_4, mW_4, mR_5, mW_5, mR_6, mW_6, mR_7, mW_7, mR_9, mW_9, mR_10, mW_10, mR_11, mW_11, mR_12, mW_12, mR_13, mW_13, mR_14, mW_14, mR_15, mW_15, mR_17, mW_17, mR_18, mW_18, mR_19, mW_19, mR_20, mW_20, mR_21, mW_21, mR_25, mW_25, mR_27, mW_27, mR_31, mW_31, mR_32, mW_32, mR_33, mW_33, mR_34, mW_34, mRL_8, mWL_8, pb1, pb2, nq_lit, nq_add, nq_mul, nq_lt, nq_le, nq_eq, nq_lt0, nq10, nq00, Nat.one_ne_zero, Nat.reduceEqDiff, Nat.not_lt_zero, nq20, nq30, zb1, zb0, eq_self, mP_i, mP_o, mP_2', wr_1, wr_ne, wr_i, reduceIte, m_may1, m_may0, m_both1, m_both2, m_both0, m_all1, m_all3, m_all2, m_all0]
      rw [hlen] at this e
      rw [this]
      exact e
    · have e := e147 false (decide_eq_false (fun r => hlen (by rw [r]))).symm
      have hcl := hc.2.2.2
      simp (disch := omega) only [s_X3_names_63, s_X3_names_96, hk', e33, hlen, mR_1, mW_1, mR_2, mW_2, mR_3, mW_3, mR_4, mW_4, mR_5, mW_5, mR_6, mW_6, mR_7, mW_7, mR_9, mW_9, mR_10, mW_10, mR_11, mW_11, mR_12, mW_12, mR_13, mW_13, mR_14, mW_14, mR_15, mW_15, mR_17, mW_17, mR_18, mW_18, mR_19, mW_19, mR_20, mW_20, mR_21, mW_21, mR_25, mW_25, mR_27, mW_27, mR_31, mW_31, mR_32, mW_32, mR_33, mW_33, mR_34, mW_34, mRL_8, mWL_8, pb1, pb2, nq_lit, nq_add, nq_mul, nq_lt, nq_le, nq_eq, nq_lt0, nq10, nq00, Nat.one_ne_zero, Nat.reduceEqDiff, Nat.not_lt_zero, nq20, nq30, zb1, zb0, eq_self, mP_i, mP_o, mP_2', wr_1, wr_ne, wr_i, reduceIte, m_may1, m_may0, m_both1, m_both2, m_both0, m_all1, m_all3, m_all2, m_all0]
      rw [show FU = 999999 + 1 from rfl, l_X3_names_101_s]
      have hc0 : ¬ c.length ≤ 0 := by omega
      simp (disch := omega) only [s_X3_names_101, nq_lit, hc0, nq_le, nq00, reduceIte]
      exact e
end Names
/-- what is counted of paper p -/
def nmL (ps : Nat → Option (List (List Nat))) (last lp : Nat) (wo : Option Nat) (p : Nat) : List (List Nat) := if some p = wo then [] else if p = last then (prt ps p).take lp else prt ps p
def tot (ps : Nat → Option (List (List Nat))) (last lp : Nat) (wo : Option Nat) (c : List Nat) : Nat → Nat
  | 0 => 0
  | p + 1 => tot ps last lp wo c p + (nmL ps last lp wo p).count c
theorem m_names_p {σ : Sg} {ps : Nat → Option (List (List Nat))} {a last lp : Nat} {wo : Option Nat} {c : List Nat} {x4 : Int32} (hP : MPp σ ps) (hps : ∀ p, POk (prt ps p)) (hc : AtB σ a c) (hc1 : 1 ≤ c.length) (hl : last < 12) (hwo : ob wo) (h4 : (ps last).isSome = true → some last ≠ wo → x4 = nq lp ∧ lp ≤ (prt ps last).length) : ∀ (N p n : Nat), N < n → p + N = last + 1 →
    l_X3_names_6 n (nq a, nq c.length, nq last, x4, oq wo, nq (tot ps last lp wo c p), nq p) σ = some (nq (tot ps last lp wo c (last + 1)), σ) := by
  have hcl := hc.2.2.2
  intro N
  induction N with
  | zero =>
    intro p n hn hp
    obtain ⟨n, rfl⟩ := pre_n hn
    have hp' : last < p := by omega
    rw [l_X3_names_6_s]
    simp (disch := omega) only [s_X3_names_6, hp', mR_1, mW_1, mR_2, mW_2, mR_3, mW_3, mR_4, mW_4, mR_5, mW_5, mR_6, mW_6, mR_7, mW_7, mR_9, mW_9, mR_10, mW_10, mR_11, mW_11, mR_12, mW_12, mR_13, mW_13, mR_14, mW_14, mR_15, mW_15, mR_17, mW_17, mR_18, mW_18, mR_19, mW_19, mR_20, mW_20, mR_21, mW_21, mR_25, mW_25, mR_27, mW_27, mR_31, mW_31, mR_32, mW_32, mR_33, mW_33, mR_34, mW_34, mRL_8, mWL_8, pb1, pb2, nq_lit, nq_add, nq_mul, nq_lt, nq_le, nq_eq, nq_lt0, nq10, nq00, Nat.one_ne_zero, Nat.reduceEqDiff, Nat.not_lt_zero, nq20, nq30, zb1, zb0, eq_self, mP_i, mP_o, mP_2', wr_1, wr_ne, wr_i, reduceIte, m_may1, m_may0, m_both1, m_both2, m_both0, m_all1, m_all3, m_all2, m_all0]
    rw [show p = last + 1 by omega]
  | succ N ih =>
    intro p n hn hp
    obtain ⟨n, rfl⟩ := pre_n hn
    have hp' : ¬ last < p := by omega
    have ih' := ih (p + 1) n (by omega) (by omega)
    have skip : nmL ps last lp wo p = [] → s_X3_names_58 (l_X3_names_6 n) (nq a) (nq c.length) (nq last) x4 (oq wo) (nq (tot ps last lp wo c p)) (nq p) (nq (120 * p)) (nq 0) σ = some (nq (tot ps last lp wo c (last + 1)), σ) := fun e => by
      have et : tot ps last lp wo c (p + 1) = tot ps last lp wo c p := by
        show tot ps last lp wo c p + (nmL ps last lp wo p).count c = _
        rw [e]
        rfl
      rw [et] at ih'
      rw [s_X3_names_58, show FU = 999999 + 1 from rfl, l_X3_names_63_s]
      simp (disch := omega) only [s_X3_names_63, Nat.le_refl, pb1, pb2, nq_lit, nq_add, nq_mul, nq_lt, nq_le, nq_eq, nq_lt0, nq10, nq00, Nat.one_ne_zero, Nat.reduceEqDiff, Nat.not_lt_zero, nq20, nq30, zb1, zb0, eq_self, mP_i, mP_o, mP_2', wr_1, wr_ne, wr_i, reduceIte, m_may1, m_may0, m_both1, m_both2, m_both0, m_all1, m_all3, m_all2, m_all0]
      exact ih'
    have some' : ∀ all, (ps p).isSome = true → all ≤ (prt ps p).length → nmL ps last lp wo p = (prt ps p).take all → s_X3_names_58 (l_X3_names_6 n) (nq a) (nq c.length) (nq last) x4 (oq wo) (nq (tot ps last lp wo c p)) (nq p) (nq (120 * p)) (nq all) σ = some (nq (tot ps last lp wo c (last + 1)), σ) := fun all hs ha e => by
      have := m_names_k (x3 := nq last) (x4 := x4) (x5 := oq wo) (rc6 := l_X3_names_6 n) (p := p) (by omega) hc hc1 (MPp_t hP (by omega) hs) (hps p) ha all 0 FU (tot ps last lp wo c p) (by have := POk_len (hps p); unfold FU; omega) (by omega)
      have e0 : 120 * p + offs (prt ps p) 0 = 120 * p := rfl
      rw [e0, List.drop_zero, ← e] at this
      exact this.trans ih'
    rw [l_X3_names_6_s]
    by_cases hs : (ps p).isSome = true
    · have hM := MPp_t hP (by omega) hs
      have hll := POk_len (hps p)
      have e31 := hM.1
      by_cases hw : some p = wo
      · have hw' : nq p = oq wo := (oq_eq hwo (by omega)).mpr hw
        simp (disch := omega) only [s_X3_names_6, s_X3_names_36, hp', e31, eq_true hw', mR_1, mW_1, mR_2, mW_2, mR_3, mW_3, mR_4, mW_4, mR_5, mW_5, mR_6, mW_6, mR_7, mW_7, mR_9, mW_9, mR_10, mW_10, mR_11, mW_11, mR_12, mW_12, mR_13, mW_13, mR_14, mW_14, mR_15, mW_15, mR_17, mW_17, mR_18, mW_18, mR_19, mW_19, mR_20, mW_20, mR_21, mW_21, mR_25, mW_25, mR_27, mW_27, mR_31, mW_31, mR_32, mW_32, mR_33, mW_33, mR_34, mW_34, mRL_8, mWL_8, pb1, pb2, nq_lit, nq_add, nq_mul, nq_lt, nq_le, nq_eq, nq_lt0, nq10, nq00, Nat.one_ne_zero, Nat.reduceEqDiff, Nat.not_lt_zero, nq20, nq30, zb1, zb0, eq_self, mP_i, mP_o, mP_2', wr_1, wr_ne, wr_i, reduceIte, m_may1, m_may0, m_both1, m_both2, m_both0, m_all1, m_all3, m_all2, m_all0]
        exact skip (by unfold nmL; rw [if_pos hw])
      · have hw' : ¬ nq p = oq wo := fun q => hw ((oq_eq hwo (by omega)).mp q)
        by_cases hpl : p = last
        · obtain ⟨k1, k2⟩ := h4 (by rw [← hpl]; exact hs) (by rw [← hpl]; exact hw)
          simp (disch := omega) only [s_X3_names_6, hp', e31, hw', hpl, mR_1, mW_1, mR_2, mW_2, mR_3, mW_3, mR_4, mW_4, mR_5, mW_5, mR_6, mW_6, mR_7, mW_7, mR_9, mW_9, mR_10, mW_10, mR_11, mW_11, mR_12, mW_12, mR_13, mW_13, mR_14, mW_14, mR_15, mW_15, mR_17, mW_17, mR_18, mW_18, mR_19, mW_19, mR_20, mW_20, mR_21, mW_21, mR_25, mW_25, mR_27, mW_27, mR_31, mW_31, mR_32, mW_32, mR_33, mW_33, mR_34, mW_34, mRL_8, mWL_8, pb1, pb2, nq_lit, nq_add, nq_mul, nq_lt, nq_le, nq_eq, nq_lt0, nq10, nq00, Nat.one_ne_zero, Nat.reduceEqDiff, Nat.not_lt_zero, nq20, nq30, zb1, zb0, eq_self, mP_i, mP_o, mP_2', wr_1, wr_ne, wr_i, reduceIte, m_may1, m_may0, m_both1, m_both2, m_both0, m_all1, m_all3, m_all2, m_all0] at skip some' ⊢
          rw [hpl] at e31 hw'
          simp (disch := omega) only [e31, hw', Nat.lt_irrefl, mR_1, mW_1, mR_2, mW_2, mR_3, mW_3, mR_4, mW_4, mR_5, mW_5, mR_6, mW_6, mR_7, mW_7, mR_9, mW_9, mR_10, mW_10, mR_11, mW_11, mR_12, mW_12, mR_13, mW_13, mR_14, mW_14, mR_15, mW_15, mR_17, mW_17, mR_18, mW_18, mR_19, mW_19, mR_20, mW_20, mR_21, mW_21, mR_25, mW_25, mR_27, mW_27, mR_31, mW_31, mR_32, mW_32, mR_33, mW_33, mR_34, mW_34, mRL_8, mWL_8, pb1, pb2, nq_lit, nq_add, nq_mul, nq_lt, nq_le, nq_eq, nq_lt0, nq10, nq00, Nat.one_ne_zero, Nat.reduceEqDiff, Nat.not_lt_zero, nq20, nq30, zb1, zb0, eq_self, mP_i, mP_o, mP_2', wr_1, wr_ne, wr_i, reduceIte, m_may1, m_may0, m_both1, m_both2, m_both0, m_all1, m_all3, m_all2, m_all0]
          have := some' lp (by rw [← hpl]; exact hs) k2 (by unfold nmL; rw [if_neg (by rw [← hpl]; exact hw), if_pos rfl])
          rw [← k1] at this
          exact this
        · have e32 := hM.2.1
          simp (disch := omega) only [s_X3_names_6, hp', e31, hw', hpl, e32, mR_1, mW_1, mR_2, mW_2, mR_3, mW_3, mR_4, mW_4, mR_5, mW_5, mR_6, mW_6, mR_7, mW_7, mR_9, mW_9, mR_10, mW_10, mR_11, mW_11, mR_12, mW_12, mR_13, mW_13, mR_14, mW_14, mR_15, mW_15, mR_17, mW_17, mR_18, mW_18, mR_19, mW_19, mR_20, mW_20, mR_21, mW_21, mR_25, mW_25, mR_27, mW_27, mR_31, mW_31, mR_32, mW_32, mR_33, mW_33, mR_34, mW_34, mRL_8, mWL_8, pb1, pb2, nq_lit, nq_add, nq_mul, nq_lt, nq_le, nq_eq, nq_lt0, nq10, nq00, Nat.one_ne_zero, Nat.reduceEqDiff, Nat.not_lt_zero, nq20, nq30, zb1, zb0, eq_self, mP_i, mP_o, mP_2', wr_1, wr_ne, wr_i, reduceIte, m_may1, m_may0, m_both1, m_both2, m_both0, m_all1, m_all3, m_all2, m_all0]
          exact some' _ hs (Nat.le_refl _) (by unfold nmL; rw [if_neg hw, if_neg hpl, List.take_length])
    · obtain ⟨k1, k2⟩ := MPp_f hP (by omega) hs
      simp (disch := omega) only [s_X3_names_6, s_X3_names_36, hp', k1, mR_1, mW_1, mR_2, mW_2, mR_3, mW_3, mR_4, mW_4, mR_5, mW_5, mR_6, mW_6, mR_7, mW_7, mR_9, mW_9, mR_10, mW_10, mR_11, mW_11, mR_12, mW_12, mR_13, mW_13, mR_14, mW_14, mR_15, mW_15, mR_17, mW_17, mR_18, mW_18, mR_19, mW_19, mR_20, mW_20, mR_21, mW_21, mR_25, mW_25, mR_27, mW_27, mR_31, mW_31, mR_32, mW_32, mR_33, mW_33, mR_34, mW_34, mRL_8, mWL_8, pb1, pb2, nq_lit, nq_add, nq_mul, nq_lt, nq_le, nq_eq, nq_lt0, nq10, nq00, Nat.one_ne_zero, Nat.reduceEqDiff, Nat.not_lt_zero, nq20, nq30, zb1, zb0, eq_self, mP_i, mP_o, mP_2', wr_1, wr_ne, wr_i, reduceIte, m_may1, m_may0, m_both1, m_both2, m_both0, m_all1, m_all3, m_all2, m_all0]
      refine skip ?_
      unfold nmL
      rw [k2]
      split
      · rfl
      · split
        · exact List.take_nil
        · rfl
theorem m_names {σ : Sg} {ps : Nat → Option (List (List Nat))} {a last lp : Nat} {wo : Option Nat} {c : List Nat} {x4 : Int32} (hP : MPp σ ps) (hps : ∀ p, POk (prt ps p)) (hc : AtB σ a c) (hc1 : 1 ≤ c.length) (hl : last < 12) (hwo : ob wo) (h4 : (ps last).isSome = true → some last ≠ wo → x4 = nq lp ∧ lp ≤ (prt ps last).length) :
    f_X3_names (nq a) (nq c.length) (nq last) x4 (oq wo) σ = some (nq (tot ps last lp wo c (last + 1)), σ) :=
  m_names_p hP hps hc hc1 hl hwo h4 (last + 1) 0 FU (by unfold FU; omega) (by omega)
