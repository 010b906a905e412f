/-! PURE: the reference's calls about papers -/
set_option maxRecDepth 100000
theorem tot_eq {ps ps' : Nat → Option (List (List Nat))} {last lp : Nat} {wo : Option Nat} {c : List Nat} : ∀ n, (∀ p, p < n → nmL ps last lp wo p = prt ps' p) → tot ps last lp wo c n = (allP ps' n).count c := by
  intro n
  induction n with
  | zero => intro _; rfl
  | succ n ih =>
    intro h
    show tot ps last lp wo c n + (nmL ps last lp wo n).count c = (allP ps' n ++ prt ps' n).count c
    rw [ih fun p hp => h p (by omega), h n (by omega), List.count_append]
theorem tot_k (ps : Nat → Option (List (List Nat))) (p k : Nat) (c : List Nat) : tot ps p k none c (p + 1) = (allP ps p ++ (prt ps p).take k).count c := by
  show tot ps p k none c p + (nmL ps p k none p).count c = _
  rw [tot_eq (ps' := ps) p fun q hq => by
    unfold nmL
    rw [if_neg (fun r => nomatch r), if_neg (by omega)], List.count_append]
  unfold nmL
  rw [if_neg (fun r => nomatch r), if_pos rfl]
theorem tot_all (ps : Nat → Option (List (List Nat))) (c : List Nat) : tot ps 11 (prt ps 11).length none c 12 = (allP ps 12).count c := tot_eq 12 fun p _ => by
  unfold nmL
  rw [if_neg (fun r => nomatch r)]
  by_cases q : p = 11
  · rw [if_pos q, q, List.take_length]
  · rw [if_neg q]
theorem prt_wth (ps : Nat → Option (List (List Nat))) (p q : Nat) : prt (wth ps p) q = if q = p then [] else prt ps q := by
  unfold prt wth
  by_cases h : q = p
  · rw [if_pos h, h, va_up_self]
    rfl
  · rw [if_neg h, va_up_ne _ _ h]
theorem tot_wth (ps : Nat → Option (List (List Nat))) (r : Nat) (c : List Nat) : tot ps 11 (prt ps 11).length (some r) c 12 = (allP (wth ps r) 12).count c := tot_eq 12 fun p _ => by
  unfold nmL
  rw [prt_wth]
  by_cases h : p = r
  · rw [if_pos (by rw [h]), if_pos h]
  · rw [if_neg (fun q => h (Option.some.inj q)), if_neg h]
    by_cases q : p = 11
    · rw [if_pos q, q, List.take_length]
    · rw [if_neg q]
theorem allP_len {ps : Nat → Option (List (List Nat))} (h : ∀ p, POk (prt ps p)) : ∀ n, (allP ps n).length ≤ 120 * n := by
  intro n
  induction n with
  | zero => exact Nat.le_refl _
  | succ n ih =>
    have := POk_len (h n)
    show (allP ps n ++ prt ps n).length ≤ _
    rw [List.length_append]
    omega
theorem cnt_le {c : List Nat} {l : List (List Nat)} {n : Nat} (h : l.length ≤ n) : l.count c ≤ n := Nat.le_trans List.count_le_length h
theorem wth_ok {ps : Nat → Option (List (List Nat))} (h : ∀ p, POk (prt ps p)) (r p : Nat) : POk (prt (wth ps r) p) := by
  rw [prt_wth]
  split
  · exact ⟨fun c hc => (nomatch hc), by decide, fun x hx => (nomatch hx)⟩
  · exact h p
theorem m_isThere {σ : Sg} {ps : Nat → Option (List (List Nat))} (h : MPp σ ps) (x1 : Int32) : f_X3_isThere x1 σ = some (if okI x1 12 ∧ (ps (ix x1)).isSome = true then nq 1 else nq 0, σ) := by
  by_cases c1 : okI x1 12
  · obtain ⟨d1, d2⟩ := (okI_iff (by omega)).mp c1
    obtain ⟨p, hp, hp2, rfl⟩ := okI_get c1
    simp only [ix, ixq hp2]
    by_cases c2 : (ps p).isSome = true
    · rw [if_pos ⟨c1, c2⟩]
      have e31 := (MPp_t h hp c2).1
      simp (disch := omega) only [f_X3_isThere, s_X3_isThere_24, Nat.not_le.mpr hp, e31, mR_1, mW_1, mR_2, mW_2, mR_3, mW_3, mR_4, mW_4, mR_5, mW_5, mR_6, mW_6, mR_7, mW_7, mR_9, mW_9, mR_10, mW_10, mR_11, mW_11, mR_12, mW_12, mR_13, mW_13, mR_14, mW_14, mR_15, mW_15, mR_17, mW_17, mR_18, mW_18, mR_19, mW_19, mR_20, mW_20, mR_21, mW_21, mR_25, mW_25, mR_27, mW_27, mR_31, mW_31, mR_32, mW_32, mR_33, mW_33, mR_34, mW_34, mRL_8, mWL_8, pb1, pb2, nq_lit, nq_add, nq_mul, nq_lt, nq_le, nq_eq, nq_lt0, nq10, nq00, Nat.one_ne_zero, Nat.reduceEqDiff, Nat.not_lt_zero, nq20, nq30, zb1, zb0, eq_self, mP_i, mP_o, mP_2', wr_1, wr_ne, wr_i, reduceIte, m_may1, m_may0, m_both1, m_both2, m_both0, m_all1, m_all3, m_all2, m_all0]
    · rw [if_neg (fun q => c2 q.2)]
      have e31 := (MPp_f h hp c2).1
      simp (disch := omega) only [f_X3_isThere, s_X3_isThere_23, s_X3_isThere_24, Nat.not_le.mpr hp, e31, mR_1, mW_1, mR_2, mW_2, mR_3, mW_3, mR_4, mW_4, mR_5, mW_5, mR_6, mW_6, mR_7, mW_7, mR_9, mW_9, mR_10, mW_10, mR_11, mW_11, mR_12, mW_12, mR_13, mW_13, mR_14, mW_14, mR_15, mW_15, mR_17, mW_17, mR_18, mW_18, mR_19, mW_19, mR_20, mW_20, mR_21, mW_21, mR_25, mW_25, mR_27, mW_27, mR_31, mW_31, mR_32, mW_32, mR_33, mW_33, mR_34, mW_34, mRL_8, mWL_8, pb1, pb2, nq_lit, nq_add, nq_mul, nq_lt, nq_le, nq_eq, nq_lt0, nq10, nq00, Nat.one_ne_zero, Nat.reduceEqDiff, Nat.not_lt_zero, nq20, nq30, zb1, zb0, eq_self, mP_i, mP_o, mP_2', wr_1, wr_ne, wr_i, reduceIte, m_may1, m_may0, m_both1, m_both2, m_both0, m_all1, m_all3, m_all2, m_all0]
  · rw [if_neg (fun q => c1 q.1)]
    by_cases d1 : x1 < nq 0
    · simp (disch := omega) only [f_X3_isThere, s_X3_isThere_23, s_X3_isThere_24, d1, pb1, pb2, nq_lit, nq_add, nq_mul, nq_lt, nq_le, nq_eq, nq_lt0, nq10, nq00, Nat.one_ne_zero, Nat.reduceEqDiff, Nat.not_lt_zero, nq20, nq30, zb1, zb0, eq_self, mP_i, mP_o, mP_2', wr_1, wr_ne, wr_i, reduceIte, m_may1, m_may0, m_both1, m_both2, m_both0, m_all1, m_all3, m_all2, m_all0]
    · by_cases d2 : nq 12 ≤ x1
      · simp (disch := omega) only [f_X3_isThere, s_X3_isThere_23, s_X3_isThere_24, d1, d2, pb1, pb2, nq_lit, nq_add, nq_mul, nq_lt, nq_le, nq_eq, nq_lt0, nq10, nq00, Nat.one_ne_zero, Nat.reduceEqDiff, Nat.not_lt_zero, nq20, nq30, zb1, zb0, eq_self, mP_i, mP_o, mP_2', wr_1, wr_ne, wr_i, reduceIte, m_may1, m_may0, m_both1, m_both2, m_both0, m_all1, m_all3, m_all2, m_all0]
      · exact absurd ((okI_iff (by omega)).mpr ⟨d1, d2⟩) c1
theorem m_parts {A : AA} {σ : Sg} (hA : AOk A) (h : MRep A σ) (x1 : Int32) : okm (f_X3_parts x1 σ) (MO LI (o_parts A x1)) := by
  unfold o_parts
  have hP := h.2.2.2.2.1
  have e := m_isThere hP x1
  by_cases c : okI x1 12 ∧ (zP A (ix x1)).isSome = true
  · rw [if_pos c] at e ⊢
    obtain ⟨c1, c2⟩ := c
    obtain ⟨p, hp, hp2, rfl⟩ := okI_get c1
    simp only [ix, ixq hp2] at c2 ⊢
    have e32 := (MPp_t hP hp c2).2.1
    simp (disch := omega) only [f_X3_parts, s_X3_parts_22, e, e32, mR_1, mW_1, mR_2, mW_2, mR_3, mW_3, mR_4, mW_4, mR_5, mW_5, mR_6, mW_6, mR_7, mW_7, mR_9, mW_9, mR_10, mW_10, mR_11, mW_11, mR_12, mW_12, mR_13, mW_13, mR_14, mW_14, mR_15, mW_15, mR_17, mW_17, mR_18, mW_18, mR_19, mW_19, mR_20, mW_20, mR_21, mW_21, mR_25, mW_25, mR_27, mW_27, mR_31, mW_31, mR_32, mW_32, mR_33, mW_33, mR_34, mW_34, mRL_8, mWL_8, pb1, pb2, nq_lit, nq_add, nq_mul, nq_lt, nq_le, nq_eq, nq_lt0, nq10, nq00, Nat.one_ne_zero, Nat.reduceEqDiff, Nat.not_lt_zero, nq20, nq30, zb1, zb0, eq_self, mP_i, mP_o, mP_2', wr_1, wr_ne, wr_i, reduceIte, m_may1, m_may0, m_both1, m_both2, m_both0, m_all1, m_all3, m_all2, m_all0]
    exact okm_some (MO_ok h rfl)
  · rw [if_neg c] at e ⊢
    simp (disch := omega) only [f_X3_parts, s_X3_parts_22, e, pb1, pb2, nq_lit, nq_add, nq_mul, nq_lt, nq_le, nq_eq, nq_lt0, nq10, nq00, Nat.one_ne_zero, Nat.reduceEqDiff, Nat.not_lt_zero, nq20, nq30, zb1, zb0, eq_self, mP_i, mP_o, mP_2', wr_1, wr_ne, wr_i, reduceIte, m_may1, m_may0, m_both1, m_both2, m_both0, m_all1, m_all3, m_all2, m_all0]
    exact okm_some (MO_bad h (by decide))
theorem m_isPart {A : AA} {σ : Sg} (hA : AOk A) (h : MPp σ (zP A)) (x1 x2 : Int32) : f_X3_isPart x1 x2 σ = some (if (okI x1 12 ∧ (zP A (ix x1)).isSome = true) ∧ okI x2 (prt (zP A) (ix x1)).length then nq 1 else nq 0, σ) := by
  have e := m_isThere h x1
  by_cases c : okI x1 12 ∧ (zP A (ix x1)).isSome = true
  · rw [if_pos c] at e
    obtain ⟨c1, c2⟩ := c
    obtain ⟨p, hp, hp2, rfl⟩ := okI_get c1
    simp only [ix, ixq hp2] at c2 ⊢
    have e32 := (MPp_t h hp c2).2.1
    have hl := POk_len (zP_ok hA p)
    by_cases c3 : okI x2 (prt (zP A) p).length
    · rw [if_pos ⟨⟨c1, c2⟩, c3⟩]
      obtain ⟨d1, d2⟩ := (okI_iff (by omega)).mp c3
      simp (disch := omega) only [f_X3_isPart, s_X3_isPart_27, e, e32, d1, d2, mR_1, mW_1, mR_2, mW_2, mR_3, mW_3, mR_4, mW_4, mR_5, mW_5, mR_6, mW_6, mR_7, mW_7, mR_9, mW_9, mR_10, mW_10, mR_11, mW_11, mR_12, mW_12, mR_13, mW_13, mR_14, mW_14, mR_15, mW_15, mR_17, mW_17, mR_18, mW_18, mR_19, mW_19, mR_20, mW_20, mR_21, mW_21, mR_25, mW_25, mR_27, mW_27, mR_31, mW_31, mR_32, mW_32, mR_33, mW_33, mR_34, mW_34, mRL_8, mWL_8, pb1, pb2, nq_lit, nq_add, nq_mul, nq_lt, nq_le, nq_eq, nq_lt0, nq10, nq00, Nat.one_ne_zero, Nat.reduceEqDiff, Nat.not_lt_zero, nq20, nq30, zb1, zb0, eq_self, mP_i, mP_o, mP_2', wr_1, wr_ne, wr_i, reduceIte, m_may1, m_may0, m_both1, m_both2, m_both0, m_all1, m_all3, m_all2, m_all0]
    · rw [if_neg (fun q => c3 q.2)]
      by_cases d1 : x2 < nq 0
      · simp (disch := omega) only [f_X3_isPart, s_X3_isPart_26, s_X3_isPart_27, e, e32, d1, mR_1, mW_1, mR_2, mW_2, mR_3, mW_3, mR_4, mW_4, mR_5, mW_5, mR_6, mW_6, mR_7, mW_7, mR_9, mW_9, mR_10, mW_10, mR_11, mW_11, mR_12, mW_12, mR_13, mW_13, mR_14, mW_14, mR_15, mW_15, mR_17, mW_17, mR_18, mW_18, mR_19, mW_19, mR_20, mW_20, mR_21, mW_21, mR_25, mW_25, mR_27, mW_27, mR_31, mW_31, mR_32, mW_32, mR_33, mW_33, mR_34, mW_34, mRL_8, mWL_8, pb1, pb2, nq_lit, nq_add, nq_mul, nq_lt, nq_le, nq_eq, nq_lt0, nq10, nq00, Nat.one_ne_zero, Nat.reduceEqDiff, Nat.not_lt_zero, nq20, nq30, zb1, zb0, eq_self, mP_i, mP_o, mP_2', wr_1, wr_ne, wr_i, reduceIte, m_may1, m_may0, m_both1, m_both2, m_both0, m_all1, m_all3, m_all2, m_all0]
      · by_cases d2 : nq (prt (zP A) p).length ≤ x2
        · simp (disch := omega) only [f_X3_isPart, s_X3_isPart_26, s_X3_isPart_27, e, e32, d1, d2, mR_1, mW_1, mR_2, mW_2, mR_3, mW_3, mR_4, mW_4, mR_5, mW_5, mR_6, mW_6, mR_7, mW_7, mR_9, mW_9, mR_10, mW_10, mR_11, mW_11, mR_12, mW_12, mR_13, mW_13, mR_14, mW_14, mR_15, mW_15, mR_17, mW_17, mR_18, mW_18, mR_19, mW_19, mR_20, mW_20, mR_21, mW_21, mR_25, mW_25, mR_27, mW_27, mR_31, mW_31, mR_32, mW_32, mR_33, mW_33, mR_34, mW_34, mRL_8, mWL_8, pb1, pb2, nq_lit, nq_add, nq_mul, nq_lt, nq_le, nq_eq, nq_lt0, nq10, nq00, Nat.one_ne_zero, Nat.reduceEqDiff, Nat.not_lt_zero, nq20, nq30, zb1, zb0, eq_self, mP_i, mP_o, mP_2', wr_1, wr_ne, wr_i, reduceIte, m_may1, m_may0, m_both1, m_both2, m_both0, m_all1, m_all3, m_all2, m_all0]
        · exact absurd ((okI_iff (by omega)).mpr ⟨d1, d2⟩) c3
  · rw [if_neg c] at e
    rw [if_neg (fun q => c q.1)]
    simp (disch := omega) only [f_X3_isPart, s_X3_isPart_26, s_X3_isPart_27, e, pb1, pb2, nq_lit, nq_add, nq_mul, nq_lt, nq_le, nq_eq, nq_lt0, nq10, nq00, Nat.one_ne_zero, Nat.reduceEqDiff, Nat.not_lt_zero, nq20, nq30, zb1, zb0, eq_self, mP_i, mP_o, mP_2', wr_1, wr_ne, wr_i, reduceIte, m_may1, m_may0, m_both1, m_both2, m_both0, m_all1, m_all3, m_all2, m_all0]
theorem m_partLength {A : AA} {σ : Sg} (hA : AOk A) (h : MRep A σ) (x1 x2 : Int32) : okm (f_X3_partLength x1 x2 σ) (MO LI (o_partLength A x1 x2)) := by
  unfold o_partLength
  have hP := h.2.2.2.2.1
  have e := m_isPart hA hP x1 x2
  by_cases c : (okI x1 12 ∧ (zP A (ix x1)).isSome = true) ∧ okI x2 (prt (zP A) (ix x1)).length
  · rw [if_pos c] at e ⊢
    obtain ⟨⟨c1, c2⟩, c3⟩ := c
    obtain ⟨p, hp, hp2, rfl⟩ := okI_get c1
    simp only [ix, ixq hp2] at c2 c3 ⊢
    obtain ⟨k, hk, hk2, rfl⟩ := okI_get c3
    simp only [ixq hk2]
    have hl := POk_len (zP_ok hA p)
    have e33 := (MPp_t hP hp c2).2.2.1 k hk
    simp (disch := omega) only [f_X3_partLength, s_X3_partLength_28, e, e33, mR_1, mW_1, mR_2, mW_2, mR_3, mW_3, mR_4, mW_4, mR_5, mW_5, mR_6, mW_6, mR_7, mW_7, mR_9, mW_9, mR_10, mW_10, mR_11, mW_11, mR_12, mW_12, mR_13, mW_13, mR_14, mW_14, mR_15, mW_15, mR_17, mW_17, mR_18, mW_18, mR_19, mW_19, mR_20, mW_20, mR_21, mW_21, mR_25, mW_25, mR_27, mW_27, mR_31, mW_31, mR_32, mW_32, mR_33, mW_33, mR_34, mW_34, mRL_8, mWL_8, pb1, pb2, nq_lit, nq_add, nq_mul, nq_lt, nq_le, nq_eq, nq_lt0, nq10, nq00, Nat.one_ne_zero, Nat.reduceEqDiff, Nat.not_lt_zero, nq20, nq30, zb1, zb0, eq_self, mP_i, mP_o, mP_2', wr_1, wr_ne, wr_i, reduceIte, m_may1, m_may0, m_both1, m_both2, m_both0, m_all1, m_all3, m_all2, m_all0]
    exact okm_some (MO_ok h rfl)
  · rw [if_neg c] at e ⊢
    simp (disch := omega) only [f_X3_partLength, s_X3_partLength_28, e, pb1, pb2, nq_lit, nq_add, nq_mul, nq_lt, nq_le, nq_eq, nq_lt0, nq10, nq00, Nat.one_ne_zero, Nat.reduceEqDiff, Nat.not_lt_zero, nq20, nq30, zb1, zb0, eq_self, mP_i, mP_o, mP_2', wr_1, wr_ne, wr_i, reduceIte, m_may1, m_may0, m_both1, m_both2, m_both0, m_all1, m_all3, m_all2, m_all0]
    exact okm_some (MO_bad h (by decide))
theorem m_begin_l {σ : Sg} {p m : Nat} {l : List (List Nat)} (hp : p < 12) (hM : MPa σ p l) (hl : POk l) (hm : m ≤ l.length) : ∀ (N k n : Nat), N < n → k + N = m → l_X3_begin_8 n (nq p, nq m, nq (120 * p + offs l k), nq k) σ = some (nq (120 * p + offs l m), σ) := by
  have hll := POk_len hl
  intro N
  induction N with
  | zero =>
    intro k n hn hk
    obtain ⟨n, rfl⟩ := pre_n hn
    have hk' : m ≤ k := by omega
    rw [l_X3_begin_8_s]
    simp (disch := omega) only [s_X3_begin_8, hk', mR_1, mW_1, mR_2, mW_2, mR_3, mW_3, mR_4, mW_4, mR_5, mW_5, mR_6, mW_6, mR_7, mW_7, mR_9, mW_9, mR_10, mW_10, mR_11, mW_11, mR_12, mW_12, mR_13, mW_13, mR_14, mW_14, mR_15, mW_15, mR_17, mW_17, mR_18, mW_18, mR_19, mW_19, mR_20, mW_20, mR_21, mW_21, mR_25, mW_25, mR_27, mW_27, mR_31, mW_31, mR_32, mW_32, mR_33, mW_33, mR_34, mW_34, mRL_8, mWL_8, pb1, pb2, nq_lit, nq_add, nq_mul, nq_lt, nq_le, nq_eq, nq_lt0, nq10, nq00, Nat.one_ne_zero, Nat.reduceEqDiff, Nat.not_lt_zero, nq20, nq30, zb1, zb0, eq_self, mP_i, mP_o, mP_2', wr_1, wr_ne, wr_i, reduceIte, m_may1, m_may0, m_both1, m_both2, m_both0, m_all1, m_all3, m_all2, m_all0]
    rw [show k = m by omega]
  | succ N ih =>
    intro k n hn hk
    obtain ⟨n, rfl⟩ := pre_n hn
    have hk' : ¬ m ≤ k := by omega
    have hkl : k < l.length := by omega
    have e33 : σ.2.1 33 (120 * p + k) = nq (gp l k).length := hM.2.2.1 k hkl
    have := ih (k + 1) n (by omega) (by omega)
    rw [offs_s hkl, ← Nat.add_assoc] at this
    rw [l_X3_begin_8_s]
    simp (disch := omega) only [s_X3_begin_8, hk', e33, mR_1, mW_1, mR_2, mW_2, mR_3, mW_3, mR_4, mW_4, mR_5, mW_5, mR_6, mW_6, mR_7, mW_7, mR_9, mW_9, mR_10, mW_10, mR_11, mW_11, mR_12, mW_12, mR_13, mW_13, mR_14, mW_14, mR_15, mW_15, mR_17, mW_17, mR_18, mW_18, mR_19, mW_19, mR_20, mW_20, mR_21, mW_21, mR_25, mW_25, mR_27, mW_27, mR_31, mW_31, mR_32, mW_32, mR_33, mW_33, mR_34, mW_34, mRL_8, mWL_8, pb1, pb2, nq_lit, nq_add, nq_mul, nq_lt, nq_le, nq_eq, nq_lt0, nq10, nq00, Nat.one_ne_zero, Nat.reduceEqDiff, Nat.not_lt_zero, nq20, nq30, zb1, zb0, eq_self, mP_i, mP_o, mP_2', wr_1, wr_ne, wr_i, reduceIte, m_may1, m_may0, m_both1, m_both2, m_both0, m_all1, m_all3, m_all2, m_all0]
    exact this
theorem m_begin {σ : Sg} {p m : Nat} {l : List (List Nat)} (hp : p < 12) (hM : MPa σ p l) (hl : POk l) (hm : m ≤ l.length) : f_X3_begin (nq p) (nq m) σ = some (nq (120 * p + offs l m), σ) := by
  have := m_begin_l hp hM hl hm m 0 FU (by have := POk_len hl; unfold FU; omega) (by omega)
  simp only [f_X3_begin, nq_lit, nq_mul]
  exact this
theorem MPa_32 {σ : Sg} {ps : Nat → Option (List (List Nat))} (hP : MPp σ ps) (h : (ps 11).isSome = true) : σ.2.1 32 11 = nq (prt ps 11).length := (MPp_t hP (by omega) h).2.1
theorem m_shared {A : AA} {σ : Sg} (hA : AOk A) (h : MRep A σ) (x1 x2 : Int32) : okm (f_X3_shared x1 x2 σ) (MO LI (o_shared A x1 x2)) := by
  unfold o_shared
  have hP := h.2.2.2.2.1
  have hP' : MPp (mP σ 35 (nq 0)) (zP A) := (h.thr (nq 0)).2.2.2.2.1
  have e := m_isPart hA hP x1 x2
  by_cases c : (okI x1 12 ∧ (zP A (ix x1)).isSome = true) ∧ okI x2 (prt (zP A) (ix x1)).length
  · rw [if_pos c] at e ⊢
    obtain ⟨⟨c1, c2⟩, c3⟩ := c
    obtain ⟨p, hp, hp2, rfl⟩ := okI_get c1
    simp only [ix, ixq hp2] at c2 c3 ⊢
    obtain ⟨k, hk, hk2, rfl⟩ := okI_get c3
    simp only [ixq hk2]
    have hl := POk_len (zP_ok hA p)
    have hM := MPp_t hP' hp c2
    have e33 : (mP σ 35 (nq 0)).2.1 33 (120 * p + k) = nq (gp (prt (zP A) p) k).length := hM.2.2.1 k hk
    have eb := m_begin hp hM (zP_ok hA p) (Nat.le_of_lt hk)
    have en := m_names (a := 120 * p + offs (prt (zP A) p) k) (last := 11) (lp := (prt (zP A) 11).length) (wo := none) (c := gp (prt (zP A) p) k) (x4 := (mP σ 35 (nq 0)).2.1 32 11) hP' (zP_ok hA) (MPa_at hM hp (zP_ok hA p) hk) (POk_gp (zP_ok hA p) hk).2.1 (by omega) (fun j hj => nomatch hj) (fun hs _ => ⟨MPa_32 hP' hs, Nat.le_refl _⟩)
    rw [tot_all] at en
    have e33' : σ.2.1 33 (120 * p + k) = nq (gp (prt (zP A) p) k).length := e33
    have en' : f_X3_names (nq (120 * p + offs (prt (zP A) p) k)) (nq (gp (prt (zP A) p) k).length) (nq 11) (σ.2.1 32 11) (-(nq 1)) (mP σ 35 (nq 0)) = some (nq ((allP (zP A) 12).count (gp (prt (zP A) p) k)), mP σ 35 (nq 0)) := en
    simp (disch := omega) only [f_X3_shared, s_X3_shared_48, e, eb, e33', en', mR_1, mW_1, mR_2, mW_2, mR_3, mW_3, mR_4, mW_4, mR_5, mW_5, mR_6, mW_6, mR_7, mW_7, mR_9, mW_9, mR_10, mW_10, mR_11, mW_11, mR_12, mW_12, mR_13, mW_13, mR_14, mW_14, mR_15, mW_15, mR_17, mW_17, mR_18, mW_18, mR_19, mW_19, mR_20, mW_20, mR_21, mW_21, mR_25, mW_25, mR_27, mW_27, mR_31, mW_31, mR_32, mW_32, mR_33, mW_33, mR_34, mW_34, mRL_8, mWL_8, pb1, pb2, nq_lit, nq_add, nq_mul, nq_lt, nq_le, nq_eq, nq_lt0, nq10, nq00, Nat.one_ne_zero, Nat.reduceEqDiff, Nat.not_lt_zero, nq20, nq30, zb1, zb0, eq_self, mP_i, mP_o, mP_2', wr_1, wr_ne, wr_i, reduceIte, m_may1, m_may0, m_both1, m_both2, m_both0, m_all1, m_all3, m_all2, m_all0]
    exact okm_some (MO_ok h rfl)
  · rw [if_neg c] at e ⊢
    simp (disch := omega) only [f_X3_shared, s_X3_shared_48, e, pb1, pb2, nq_lit, nq_add, nq_mul, nq_lt, nq_le, nq_eq, nq_lt0, nq10, nq00, Nat.one_ne_zero, Nat.reduceEqDiff, Nat.not_lt_zero, nq20, nq30, zb1, zb0, eq_self, mP_i, mP_o, mP_2', wr_1, wr_ne, wr_i, reduceIte, m_may1, m_may0, m_both1, m_both2, m_both0, m_all1, m_all3, m_all2, m_all0]
    exact okm_some (MO_bad h (by decide))
theorem m_papers_l {σ : Sg} {ps : Nat → Option (List (List Nat))} (h : MPp σ ps) : ∀ (N p n : Nat), N < n → p + N = 12 → l_X3_papers_9 n (nq (cntP ps p), nq p) σ = some (nq (cntP ps 12), σ) := by
  intro N
  induction N with
  | zero =>
    intro p n hn hp
    obtain ⟨n, rfl⟩ := pre_n hn
    have e : p = 12 := by omega
    subst e
    rw [l_X3_papers_9_s]
    simp (disch := omega) only [s_X3_papers_9, Nat.le_refl, pb1, pb2, nq_lit, nq_add, nq_mul, nq_lt, nq_le, nq_eq, nq_lt0, nq10, nq00, Nat.one_ne_zero, Nat.reduceEqDiff, Nat.not_lt_zero, nq20, nq30, zb1, zb0, eq_self, mP_i, mP_o, mP_2', wr_1, wr_ne, wr_i, reduceIte, m_may1, m_may0, m_both1, m_both2, m_both0, m_all1, m_all3, m_all2, m_all0]
  | succ N ih =>
    intro p n hn hp
    obtain ⟨n, rfl⟩ := pre_n hn
    have hp' : ¬ 12 ≤ p := by omega
    have ih' := ih (p + 1) n (by omega) (by omega)
    have ec : cntP ps (p + 1) = cntP ps p + (if (ps p).isSome = true then 1 else 0) := rfl
    rw [l_X3_papers_9_s]
    by_cases hs : (ps p).isSome = true
    · rw [ec, if_pos hs] at ih'
      simp (disch := omega) only [s_X3_papers_9, s_X3_papers_30, hp', (MPp_t h (by omega) hs).1, mR_1, mW_1, mR_2, mW_2, mR_3, mW_3, mR_4, mW_4, mR_5, mW_5, mR_6, mW_6, mR_7, mW_7, mR_9, mW_9, mR_10, mW_10, mR_11, mW_11, mR_12, mW_12, mR_13, mW_13, mR_14, mW_14, mR_15, mW_15, mR_17, mW_17, mR_18, mW_18, mR_19, mW_19, mR_20, mW_20, mR_21, mW_21, mR_25, mW_25, mR_27, mW_27, mR_31, mW_31, mR_32, mW_32, mR_33, mW_33, mR_34, mW_34, mRL_8, mWL_8, pb1, pb2, nq_lit, nq_add, nq_mul, nq_lt, nq_le, nq_eq, nq_lt0, nq10, nq00, Nat.one_ne_zero, Nat.reduceEqDiff, Nat.not_lt_zero, nq20, nq30, zb1, zb0, eq_self, mP_i, mP_o, mP_2', wr_1, wr_ne, wr_i, reduceIte, m_may1, m_may0, m_both1, m_both2, m_both0, m_all1, m_all3, m_all2, m_all0]
      exact ih'
    · rw [ec, if_neg hs] at ih'
      simp (disch := omega) only [s_X3_papers_9, s_X3_papers_30, hp', (MPp_f h (by omega) hs).1, mR_1, mW_1, mR_2, mW_2, mR_3, mW_3, mR_4, mW_4, mR_5, mW_5, mR_6, mW_6, mR_7, mW_7, mR_9, mW_9, mR_10, mW_10, mR_11, mW_11, mR_12, mW_12, mR_13, mW_13, mR_14, mW_14, mR_15, mW_15, mR_17, mW_17, mR_18, mW_18, mR_19, mW_19, mR_20, mW_20, mR_21, mW_21, mR_25, mW_25, mR_27, mW_27, mR_31, mW_31, mR_32, mW_32, mR_33, mW_33, mR_34, mW_34, mRL_8, mWL_8, pb1, pb2, nq_lit, nq_add, nq_mul, nq_lt, nq_le, nq_eq, nq_lt0, nq10, nq00, Nat.one_ne_zero, Nat.reduceEqDiff, Nat.not_lt_zero, nq20, nq30, zb1, zb0, eq_self, mP_i, mP_o, mP_2', wr_1, wr_ne, wr_i, reduceIte, m_may1, m_may0, m_both1, m_both2, m_both0, m_all1, m_all3, m_all2, m_all0]
      exact ih'
theorem m_papers {A : AA} {σ : Sg} (hA : AOk A) (h : MRep A σ) : okm (f_X3_papers σ) (MO LI (o_papers A)) := by
  have e := m_papers_l (σ := mP σ 35 (nq 0)) (h.thr (nq 0)).2.2.2.2.1 12 0 FU (by unfold FU; omega) rfl
  have e : l_X3_papers_9 FU (nq 0, nq 0) (mP σ 35 (nq 0)) = some (nq (cntP (zP A) 12), mP σ 35 (nq 0)) := e
  simp (disch := omega) only [f_X3_papers, e, pb1, pb2, nq_lit, nq_add, nq_mul, nq_lt, nq_le, nq_eq, nq_lt0, nq10, nq00, Nat.one_ne_zero, Nat.reduceEqDiff, Nat.not_lt_zero, nq20, nq30, zb1, zb0, eq_self, mP_i, mP_o, mP_2', wr_1, wr_ne, wr_i, reduceIte, m_may1, m_may0, m_both1, m_both2, m_both0, m_all1, m_all3, m_all2, m_all0]
  exact okm_some (MO_ok h rfl)
/-! ### unlike chunks -/
theorem frs_app : ∀ (b seen d : List (List Nat)), frs seen (b ++ d) = frs seen b ++ frs (seen ++ b) d := by
  intro b
  induction b with
  | nil => intro seen d; rw [List.append_nil]; rfl
  | cons x b ih =>
    intro seen d
    rw [List.cons_append, frs, frs]
    by_cases h : x ∈ seen
    · rw [if_pos h, if_pos h, ih, List.append_assoc]
      rfl
    · rw [if_neg h, if_neg h, ih, List.append_assoc]
      rfl
theorem frs_allP (ps : Nat → Option (List (List Nat))) (n : Nat) : frs [] (allP ps (n + 1)) = frs [] (allP ps n) ++ frs (allP ps n) (prt ps n) := frs_app _ _ _
/-- what is added for each -/
def vlu (b : Bool) (l : List (List Nat)) : Nat := if b = true then (l.map List.length).sum else l.length
theorem vlu_cons (b : Bool) (c : List Nat) (l : List (List Nat)) : vlu b (c :: l) = (if b = true then c.length else 1) + vlu b l := by
  cases b with
  | false =>
    show l.length + 1 = 1 + l.length
    omega
  | true => exact List.sum_cons
theorem vlu_app (b : Bool) (l m : List (List Nat)) : vlu b (l ++ m) = vlu b l + vlu b m := by
  cases b with
  | false => exact List.length_append
  | true =>
    show ((l ++ m).map List.length).sum = _
    rw [List.map_append, List.sum_append]
    rfl
theorem m_held_k {σ : Sg} {ps : Nat → Option (List (List Nat))} {p : Nat} {b : Bool} {rc : Int32 × Int32 × Int32 → Sg → Option (Int32 × Sg)} (hP : MPp σ ps) (hps : ∀ p, POk (prt ps p)) (hp : p < 12) (hs : (ps p).isSome = true) : ∀ (N k n m : Nat), N < n → k + N = (prt ps p).length →
    l_X3_held_19 rc n (bq b, nq m, nq p, nq (120 * p + offs (prt ps p) k), nq k) σ = rc (bq b, nq (m + vlu b (frs (allP ps p ++ (prt ps p).take k) ((prt ps p).drop k))), nq (p + 1)) σ := by
  have hM := MPp_t hP hp hs
  have hll := POk_len (hps p)
  have e31 := hM.1
  have e32 := hM.2.1
  intro N
  induction N with
  | zero =>
    intro k n m hn hk
    obtain ⟨n, rfl⟩ := pre_n hn
    have hk' : (prt ps p).length ≤ k := by omega
    rw [l_X3_held_19_s, List.drop_eq_nil_of_le hk']
    simp (disch := omega) only [s_X3_held_19, s_X3_held_94, e32, hk', mR_1, mW_1, mR_2, mW_2, mR_3, mW_3, mR_4, mW_4, mR_5, mW_5, mR_6, mW_6, mR_7, mW_7, mR_9, mW_9, mR_10, mW_10, mR_11, mW_11, mR_12, mW_12, mR_13, mW_13, mR_14, mW_14, mR_15, mW_15, mR_17, mW_17, mR_18, mW_18, mR_19, mW_19, mR_20, mW_20, mR_21, mW_21, mR_25, mW_25, mR_27, mW_27, mR_31, mW_31, mR_32, mW_32, mR_33, mW_33, mR_34, mW_34, mRL_8, mWL_8, pb1, pb2, nq_lit, nq_add, nq_mul, nq_lt, nq_le, nq_eq, nq_lt0, nq10, nq00, Nat.one_ne_zero, Nat.reduceEqDiff, Nat.not_lt_zero, nq20, nq30, zb1, zb0, eq_self, mP_i, mP_o, mP_2', wr_1, wr_ne, wr_i, reduceIte, m_may1, m_may0, m_both1, m_both2, m_both0, m_all1, m_all3, m_all2, m_all0]
    have : vlu b (frs (allP ps p ++ (prt ps p).take k) []) = 0 := by cases b <;> rfl
    rw [this]
    rfl
  | succ N ih =>
    intro k n m hn hk
    obtain ⟨n, rfl⟩ := pre_n hn
    have hk' : ¬ (prt ps p).length ≤ k := by omega
    have hkl : k < (prt ps p).length := by omega
    obtain ⟨g1, g2, g3⟩ := POk_gp (hps p) hkl
    have e33 : σ.2.1 33 (120 * p + k) = nq (gp (prt ps p) k).length := hM.2.2.1 k hkl
    have en := m_names (a := 120 * p + offs (prt ps p) k) (last := p) (lp := k) (wo := none) (c := gp (prt ps p) k) (x4 := nq k) hP hps (MPa_at hM hp (hps p) hkl) g2 hp (fun j hj => nomatch hj) (fun _ _ => ⟨rfl, by omega⟩)
    rw [tot_k] at en
    have hcl : (allP ps p ++ (prt ps p).take k).count (gp (prt ps p) k) ≤ 1560 := cnt_le (by
      have := allP_len hps p
      rw [List.length_append, List.length_take]
      omega)
    have en : f_X3_names (nq (120 * p + offs (prt ps p) k)) (nq (gp (prt ps p) k).length) (nq p) (nq k) (-(nq 1)) σ = some (nq ((allP ps p ++ (prt ps p).take k).count (gp (prt ps p) k)), σ) := en
    have ih' := fun m => ih (k + 1) n m (by omega) (by omega)
    rw [take_gp hkl, ← List.append_assoc, offs_s hkl, ← Nat.add_assoc] at ih'
    rw [l_X3_held_19_s, drop_gp hkl, frs]
    by_cases hx : gp (prt ps p) k ∈ allP ps p ++ (prt ps p).take k
    · rw [if_pos hx]
      have h0 : ¬ (allP ps p ++ (prt ps p).take k).count (gp (prt ps p) k) = 0 := fun q => List.count_eq_zero.mp q hx
      simp (disch := omega) only [s_X3_held_19, s_X3_held_81, e31, e32, hk', e33, en, h0, mR_1, mW_1, mR_2, mW_2, mR_3, mW_3, mR_4, mW_4, mR_5, mW_5, mR_6, mW_6, mR_7, mW_7, mR_9, mW_9, mR_10, mW_10, mR_11, mW_11, mR_12, mW_12, mR_13, mW_13, mR_14, mW_14, mR_15, mW_15, mR_17, mW_17, mR_18, mW_18, mR_19, mW_19, mR_20, mW_20, mR_21, mW_21, mR_25, mW_25, mR_27, mW_27, mR_31, mW_31, mR_32, mW_32, mR_33, mW_33, mR_34, mW_34, mRL_8, mWL_8, pb1, pb2, nq_lit, nq_add, nq_mul, nq_lt, nq_le, nq_eq, nq_lt0, nq10, nq00, Nat.one_ne_zero, Nat.reduceEqDiff, Nat.not_lt_zero, nq20, nq30, zb1, zb0, eq_self, mP_i, mP_o, mP_2', wr_1, wr_ne, wr_i, reduceIte, m_may1, m_may0, m_both1, m_both2, m_both0, m_all1, m_all3, m_all2, m_all0]
      exact ih' m
    · rw [if_neg hx, vlu_cons]
      have h0 : (allP ps p ++ (prt ps p).take k).count (gp (prt ps p) k) = 0 := List.count_eq_zero.mpr hx
      rw [h0] at en
      cases b with
      | false =>
        simp (disch := omega) only [s_X3_held_19, s_X3_held_79, s_X3_held_81, e31, e32, hk', e33, en, bq_f, mR_1, mW_1, mR_2, mW_2, mR_3, mW_3, mR_4, mW_4, mR_5, mW_5, mR_6, mW_6, mR_7, mW_7, mR_9, mW_9, mR_10, mW_10, mR_11, mW_11, mR_12, mW_12, mR_13, mW_13, mR_14, mW_14, mR_15, mW_15, mR_17, mW_17, mR_18, mW_18, mR_19, mW_19, mR_20, mW_20, mR_21, mW_21, mR_25, mW_25, mR_27, mW_27, mR_31, mW_31, mR_32, mW_32, mR_33, mW_33, mR_34, mW_34, mRL_8, mWL_8, pb1, pb2, nq_lit, nq_add, nq_mul, nq_lt, nq_le, nq_eq, nq_lt0, nq10, nq00, Nat.one_ne_zero, Nat.reduceEqDiff, Nat.not_lt_zero, nq20, nq30, zb1, zb0, eq_self, mP_i, mP_o, mP_2', wr_1, wr_ne, wr_i, reduceIte, m_may1, m_may0, m_both1, m_both2, m_both0, m_all1, m_all3, m_all2, m_all0]
        rw [← bq_f, ih' (m + 1), Nat.add_assoc]
        try rfl
      | true =>
        simp (disch := omega) only [s_X3_held_19, s_X3_held_79, s_X3_held_81, e31, e32, hk', e33, en, bq_t, mR_1, mW_1, mR_2, mW_2, mR_3, mW_3, mR_4, mW_4, mR_5, mW_5, mR_6, mW_6, mR_7, mW_7, mR_9, mW_9, mR_10, mW_10, mR_11, mW_11, mR_12, mW_12, mR_13, mW_13, mR_14, mW_14, mR_15, mW_15, mR_17, mW_17, mR_18, mW_18, mR_19, mW_19, mR_20, mW_20, mR_21, mW_21, mR_25, mW_25, mR_27, mW_27, mR_31, mW_31, mR_32, mW_32, mR_33, mW_33, mR_34, mW_34, mRL_8, mWL_8, pb1, pb2, nq_lit, nq_add, nq_mul, nq_lt, nq_le, nq_eq, nq_lt0, nq10, nq00, Nat.one_ne_zero, Nat.reduceEqDiff, Nat.not_lt_zero, nq20, nq30, zb1, zb0, eq_self, mP_i, mP_o, mP_2', wr_1, wr_ne, wr_i, reduceIte, m_may1, m_may0, m_both1, m_both2, m_both0, m_all1, m_all3, m_all2, m_all0]
        rw [← bq_t, ih' _, Nat.add_assoc]
        try rfl
theorem m_held_p {σ : Sg} {ps : Nat → Option (List (List Nat))} {b : Bool} (hP : MPp σ ps) (hps : ∀ p, POk (prt ps p)) : ∀ (N p n : Nat), N < n → p + N = 12 →
    l_X3_held_4 n (bq b, nq (vlu b (frs [] (allP ps p))), nq p) σ = some (nq (vlu b (frs [] (allP ps 12))), σ) := by
  intro N
  induction N with
  | zero =>
    intro p n hn hp
    obtain ⟨n, rfl⟩ := pre_n hn
    have e : p = 12 := by omega
    subst e
    rw [l_X3_held_4_s]
    simp (disch := omega) only [s_X3_held_4, Nat.le_refl, pb1, pb2, nq_lit, nq_add, nq_mul, nq_lt, nq_le, nq_eq, nq_lt0, nq10, nq00, Nat.one_ne_zero, Nat.reduceEqDiff, Nat.not_lt_zero, nq20, nq30, zb1, zb0, eq_self, mP_i, mP_o, mP_2', wr_1, wr_ne, wr_i, reduceIte, m_may1, m_may0, m_both1, m_both2, m_both0, m_all1, m_all3, m_all2, m_all0]
  | succ N ih =>
    intro p n hn hp
    obtain ⟨n, rfl⟩ := pre_n hn
    have hp' : ¬ 12 ≤ p := by omega
    have ih' := ih (p + 1) n (by omega) (by omega)
    rw [frs_allP, vlu_app] at ih'
    rw [l_X3_held_4_s]
    simp (disch := omega) only [s_X3_held_4, hp', pb1, pb2, nq_lit, nq_add, nq_mul, nq_lt, nq_le, nq_eq, nq_lt0, nq10, nq00, Nat.one_ne_zero, Nat.reduceEqDiff, Nat.not_lt_zero, nq20, nq30, zb1, zb0, eq_self, mP_i, mP_o, mP_2', wr_1, wr_ne, wr_i, reduceIte, m_may1, m_may0, m_both1, m_both2, m_both0, m_all1, m_all3, m_all2, m_all0]
    by_cases hs : (ps p).isSome = true
    · have := m_held_k (b := b) (rc := l_X3_held_4 n) hP hps (by omega) hs (prt ps p).length 0 FU (vlu b (frs [] (allP ps p))) (by have := POk_len (hps p); unfold FU; omega) (by omega)
      have e0 : 120 * p + offs (prt ps p) 0 = 120 * p := rfl
      rw [e0, List.take_zero, List.append_nil, List.drop_zero] at this
      rw [this]
      exact ih'
    · obtain ⟨k1, k2⟩ := MPp_f hP (by omega) hs
      have e1 : vlu b (frs (allP ps p) (prt ps p)) = 0 := by rw [k2]; cases b <;> rfl
      rw [e1, Nat.add_zero] at ih'
      rw [show FU = 999999 + 1 from rfl, l_X3_held_19_s]
      have e : ∀ z, (if z ≤ nq 0 then s_X3_held_94 (l_X3_held_4 n) (bq b) (nq (vlu b (frs [] (allP ps p)))) (nq p) σ else s_X3_held_94 (l_X3_held_4 n) (bq b) (nq (vlu b (frs [] (allP ps p)))) (nq p) σ) = some (nq (vlu b (frs [] (allP ps 12))), σ) := fun z => by
        rw [ite_self]
        simp (disch := omega) only [s_X3_held_94, pb1, pb2, nq_lit, nq_add, nq_mul, nq_lt, nq_le, nq_eq, nq_lt0, nq10, nq00, Nat.one_ne_zero, Nat.reduceEqDiff, Nat.not_lt_zero, nq20, nq30, zb1, zb0, eq_self, mP_i, mP_o, mP_2', wr_1, wr_ne, wr_i, reduceIte, m_may1, m_may0, m_both1, m_both2, m_both0, m_all1, m_all3, m_all2, m_all0]
        exact ih'
      simp (disch := omega) only [s_X3_held_19, k1, mR_1, mW_1, mR_2, mW_2, mR_3, mW_3, mR_4, mW_4, mR_5, mW_5, mR_6, mW_6, mR_7, mW_7, mR_9, mW_9, mR_10, mW_10, mR_11, mW_11, mR_12, mW_12, mR_13, mW_13, mR_14, mW_14, mR_15, mW_15, mR_17, mW_17, mR_18, mW_18, mR_19, mW_19, mR_20, mW_20, mR_21, mW_21, mR_25, mW_25, mR_27, mW_27, mR_31, mW_31, mR_32, mW_32, mR_33, mW_33, mR_34, mW_34, mRL_8, mWL_8, pb1, pb2, nq_lit, nq_add, nq_mul, nq_lt, nq_le, nq_eq, nq_lt0, nq10, nq00, Nat.one_ne_zero, Nat.reduceEqDiff, Nat.not_lt_zero, nq20, nq30, zb1, zb0, eq_self, mP_i, mP_o, mP_2', wr_1, wr_ne, wr_i, reduceIte, m_may1, m_may0, m_both1, m_both2, m_both0, m_all1, m_all3, m_all2, m_all0]
      exact e _
theorem m_held {σ : Sg} {ps : Nat → Option (List (List Nat))} (b : Bool) (hP : MPp σ ps) (hps : ∀ p, POk (prt ps p)) : f_X3_held (bq b) σ = some (nq (vlu b (frs [] (allP ps 12))), σ) := by
  have := m_held_p (b := b) hP hps 12 0 FU (by unfold FU; omega) rfl
  have e : vlu b (frs [] (allP ps 0)) = 0 := by cases b <;> rfl
  rw [e] at this
  exact this
theorem m_chunks {A : AA} {σ : Sg} (hA : AOk A) (h : MRep A σ) : okm (f_X3_chunks σ) (MO LI (o_chunks A)) := by
  have e := m_held (σ := mP σ 35 (nq 0)) false (h.thr (nq 0)).2.2.2.2.1 (zP_ok hA)
  rw [bq_f] at e
  simp (disch := omega) only [f_X3_chunks, e, pb1, pb2, nq_lit, nq_add, nq_mul, nq_lt, nq_le, nq_eq, nq_lt0, nq10, nq00, Nat.one_ne_zero, Nat.reduceEqDiff, Nat.not_lt_zero, nq20, nq30, zb1, zb0, eq_self, mP_i, mP_o, mP_2', wr_1, wr_ne, wr_i, reduceIte, m_may1, m_may0, m_both1, m_both2, m_both0, m_all1, m_all3, m_all2, m_all0]
  exact okm_some (MO_ok h rfl)
theorem m_heldBytes {A : AA} {σ : Sg} (hA : AOk A) (h : MRep A σ) : okm (f_X3_heldBytes σ) (MO LI (o_heldBytes A)) := by
  have e := m_held (σ := mP σ 35 (nq 0)) true (h.thr (nq 0)).2.2.2.2.1 (zP_ok hA)
  rw [bq_t] at e
  simp (disch := omega) only [f_X3_heldBytes, e, pb1, pb2, nq_lit, nq_add, nq_mul, nq_lt, nq_le, nq_eq, nq_lt0, nq10, nq00, Nat.one_ne_zero, Nat.reduceEqDiff, Nat.not_lt_zero, nq20, nq30, zb1, zb0, eq_self, mP_i, mP_o, mP_2', wr_1, wr_ne, wr_i, reduceIte, m_may1, m_may0, m_both1, m_both2, m_both0, m_all1, m_all3, m_all2, m_all0]
  exact okm_some (MO_ok h rfl)
