/-! PURE: the reference's calls about signatures -/
set_option maxRecDepth 100000
theorem zS_ok {A : AA} (hA : AOk A) {p : Nat} {s : Nat × Nat × List Nat} (h : zS A p = some s) : SOk s := hA.2.1 p s h
/-- a new signature in place p -/
theorem MRep_sig {A : AA} {σ σ' : Sg} {p : Nat} {s : Nat × Nat × List Nat} (hA : AOk A) (h : MRep A σ) (hp : p < 4) (k : Sx σ σ' [22, 23, 24, 26, 35] [3, 4, 5, 6, 7, 8, 21, 25, 27]) (h1 : MSg σ' p s)
    (h2 : ∀ p', p' < 5 → p' ≠ p → (σ'.2.1 3 p' = σ.2.1 3 p' ∧ σ'.2.1 6 p' = σ.2.1 6 p') ∧ ∀ s, s.2.2.length ≤ 120 → 1 ≤ s.1 → MSg σ p' s → MSg σ' p' s) : MRep (uS A p s) σ' := by
  obtain ⟨g1, g2, g3, g4, g5, g6⟩ := h
  refine ⟨g1.same k (by decide) (by decide) (by decide), fun p' hp' => ?_, g3.same k (by decide) (by decide) (by decide) (by decide) (by decide) (by decide) (by decide),
    g4.same k (by decide) (by decide) (by decide) (by decide) (by decide) (by decide) (by decide) (by decide) (by decide) (by decide) (by decide) (by decide),
    g5.same k (by decide) (by decide) (by decide) (by decide), g6.same k (by decide) (by decide) (by decide)⟩
  show (va_up A.2.1 p (some s) p' = none → _) ∧ ∀ s', va_up A.2.1 p (some s) p' = some s' → _
  by_cases q : p' = p
  · rw [q, va_up_self]
    exact ⟨fun e => (nomatch e), fun s' e => by cases e; exact h1⟩
  · rw [va_up_ne _ _ q]
    obtain ⟨⟨r1, r2⟩, r3⟩ := h2 p' (by omega) q
    obtain ⟨t1, t2⟩ := g2 p' hp'
    refine ⟨fun e => by rw [r1, r2]; exact t1 e, fun s' e => r3 s' ?_ ?_ (t2 s' e)⟩
    · exact (zS_ok hA e).2.2.1
    · exact (zS_ok hA e).1.1
theorem m_sign {A : AA} {σ : Sg} (hA : AOk A) (h : MRep A σ) (x1 x2 x3 x4 : Int32) : okm (f_X3_sign x1 x2 x3 x4 σ) (MO LI (o_sign A x1 x2 x3 x4)) := by
  have h0 := h.1.1
  have hn := hA.1.1
  have r3 := okI_r (x := x3) (n := 7) (by omega)
  have r4 := okI_r (x := x4) (n := 4096) (by omega)
  have e1 : ((okI x3 8 ∧ ¬ ix x3 = 0) ∧ (okI x4 4097 ∧ ¬ ix x4 = 0)) → f_X3_sign x1 x2 x3 x4 σ = s_X3_sign_30 x1 x2 x3 x4 (nq 1) σ := fun ⟨c3, c4⟩ => by
    obtain ⟨g1, g2⟩ := r3.mp c3
    obtain ⟨g3, g4⟩ := r4.mp c4
    simp (disch := omega) only [f_X3_sign, g1, g2, g3, g4, pb1, pb2, nq_lit, nq_add, nq_mul, nq_lt, nq_le, nq_eq, nq_lt0, nq10, nq00, Nat.one_ne_zero, Nat.reduceEqDiff, Nat.not_lt_zero, nq20, nq30, zb1, zb0, mP_i, mP_o, mP_2', wr_1, wr_ne, wr_i, reduceIte, m_may1, m_may0, m_both1, m_both2, m_both0, m_all1, m_all3, m_all2, m_all0]
  have e0 : ¬ ((okI x3 8 ∧ ¬ ix x3 = 0) ∧ (okI x4 4097 ∧ ¬ ix x4 = 0)) → f_X3_sign x1 x2 x3 x4 σ = s_X3_sign_30 x1 x2 x3 x4 (nq 0) σ := fun hc => by
    by_cases g1 : x3 < nq 1
    · simp (disch := omega) only [f_X3_sign, s_X3_sign_29, g1, pb1, pb2, nq_lit, nq_add, nq_mul, nq_lt, nq_le, nq_eq, nq_lt0, nq10, nq00, Nat.one_ne_zero, Nat.reduceEqDiff, Nat.not_lt_zero, nq20, nq30, zb1, zb0, mP_i, mP_o, mP_2', wr_1, wr_ne, wr_i, reduceIte, m_may1, m_may0, m_both1, m_both2, m_both0, m_all1, m_all3, m_all2, m_all0]
    · by_cases g2 : nq 7 < x3
      · simp (disch := omega) only [f_X3_sign, s_X3_sign_29, g1, g2, pb1, pb2, nq_lit, nq_add, nq_mul, nq_lt, nq_le, nq_eq, nq_lt0, nq10, nq00, Nat.one_ne_zero, Nat.reduceEqDiff, Nat.not_lt_zero, nq20, nq30, zb1, zb0, mP_i, mP_o, mP_2', wr_1, wr_ne, wr_i, reduceIte, m_may1, m_may0, m_both1, m_both2, m_both0, m_all1, m_all3, m_all2, m_all0]
      · by_cases g3 : x4 < nq 1
        · simp (disch := omega) only [f_X3_sign, s_X3_sign_29, g1, g2, g3, pb1, pb2, nq_lit, nq_add, nq_mul, nq_lt, nq_le, nq_eq, nq_lt0, nq10, nq00, Nat.one_ne_zero, Nat.reduceEqDiff, Nat.not_lt_zero, nq20, nq30, zb1, zb0, mP_i, mP_o, mP_2', wr_1, wr_ne, wr_i, reduceIte, m_may1, m_may0, m_both1, m_both2, m_both0, m_all1, m_all3, m_all2, m_all0]
        · by_cases g4 : nq 4096 < x4
          · simp (disch := omega) only [f_X3_sign, s_X3_sign_29, g1, g2, g3, g4, pb1, pb2, nq_lit, nq_add, nq_mul, nq_lt, nq_le, nq_eq, nq_lt0, nq10, nq00, Nat.one_ne_zero, Nat.reduceEqDiff, Nat.not_lt_zero, nq20, nq30, zb1, zb0, mP_i, mP_o, mP_2', wr_1, wr_ne, wr_i, reduceIte, m_may1, m_may0, m_both1, m_both2, m_both0, m_all1, m_all3, m_all2, m_all0]
          · exact absurd ⟨r3.mpr ⟨g1, g2⟩, r4.mpr ⟨g3, g4⟩⟩ hc
  unfold o_sign
  have hx1 : okm (some ((nq 0 : Int32), mP σ 35 (nq 1))) (MO LI (no 1 A)) := okm_some (MO_bad h (by decide))
  by_cases c : okI x1 4 ∧ okI x2 A.1.length
  · rw [if_pos c]
    obtain ⟨c1, c2⟩ := c
    obtain ⟨p, hp, hp2, rfl⟩ := okI_get c1
    obtain ⟨i, hi, hi2, rfl⟩ := okI_get c2
    simp only [ix, ixq hi2, ixq hp2]
    by_cases c3 : (okI x3 8 ∧ ¬ ix x3 = 0) ∧ (okI x4 4097 ∧ ¬ ix x4 = 0)
    · rw [if_pos c3, e1 c3]
      obtain ⟨⟨d1, d2⟩, d3, d4⟩ := c3
      obtain ⟨b, hb, hb2, rfl⟩ := okI_get d1
      obtain ⟨m, hm, hm2, rfl⟩ := okI_get d3
      simp only [ix, ixq hb2, ixq hm2] at d2 d4 ⊢
      simp (disch := omega) only [s_X3_sign_30, s_X3_sign_53, m_isFile_t h0 (by omega) c2, m_isPlace_t c1, pb1, pb2, nq_lit, nq_add, nq_mul, nq_lt, nq_le, nq_eq, nq_lt0, nq10, nq00, Nat.one_ne_zero, Nat.reduceEqDiff, Nat.not_lt_zero, nq20, nq30, zb1, zb0, mP_i, mP_o, mP_2', wr_1, wr_ne, wr_i, reduceIte, m_may1, m_may0, m_both1, m_both2, m_both0, m_all1, m_all3, m_all2, m_all0]
      refine okm_bd2 (okm_mono (m_bring (A := A) hA (h.thr _).1 (by omega)) fun r hr => ?_)
      obtain ⟨q1, q2⟩ := hr
      refine okm_bd2 (okm_mono (m_signs (by omega) (by omega) (by omega) (fl_ok hA i) q1) fun r' hr' => ?_)
      obtain ⟨t1, t2, t3⟩ := hr'
      have hl := t1.2.2.2.1
      have hl' : r'.2.2.1 6 p = nq (nb (fl A i).length b) := hl
      simp (disch := omega) only [hl', mR_1, mW_1, mR_2, mW_2, mR_3, mW_3, mR_4, mW_4, mR_5, mW_5, mR_6, mW_6, mR_7, mW_7, mR_9, mW_9, mR_10, mW_10, mR_11, mW_11, mR_12, mW_12, mR_13, mW_13, mR_14, mW_14, mR_15, mW_15, mR_17, mW_17, mR_18, mW_18, mR_19, mW_19, mR_20, mW_20, mR_21, mW_21, mR_25, mW_25, mR_27, mW_27, mR_31, mW_31, mR_32, mW_32, mR_33, mW_33, mR_34, mW_34, mRL_8, mWL_8, pb1, pb2, nq_lit, nq_add, nq_mul, nq_lt, nq_le, nq_eq, nq_lt0, nq10, nq00, Nat.one_ne_zero, Nat.reduceEqDiff, Nat.not_lt_zero, nq20, nq30, zb1, zb0, mP_i, mP_o, mP_2', wr_1, wr_ne, wr_i, reduceIte, m_may1, m_may0, m_both1, m_both2, m_both0, m_all1, m_all3, m_all2, m_all0]
      have hk : Sx σ r'.2 [22, 23, 24, 26, 35] [3, 4, 5, 6, 7, 8, 21, 25, 27] := (((Sx.refl σ _ _).mP (by decide)).trans (q2.mono (by decide) (by decide))).trans (t3.mono (by decide) (by decide))
      have hh : MRep A r.2 := (h.thr (nq 0)).aux (q2.mono (by decide) (by decide))
      refine okm_some ⟨MRep_sig hA hh hp (t3.mono (by decide) (by decide)) t1 t2, ?_, fun _ => rfl⟩
      rw [t3.1 35 (by decide), q2.1 35 (by decide), mP_i]
    · rw [if_neg c3, e0 c3]
      simp (disch := omega) only [s_X3_sign_30, s_X3_sign_53, m_isFile_t h0 (by omega) c2, m_isPlace_t c1, pb1, pb2, nq_lit, nq_add, nq_mul, nq_lt, nq_le, nq_eq, nq_lt0, nq10, nq00, Nat.one_ne_zero, Nat.reduceEqDiff, Nat.not_lt_zero, nq20, nq30, zb1, zb0, mP_i, mP_o, mP_2', wr_1, wr_ne, wr_i, reduceIte, m_may1, m_may0, m_both1, m_both2, m_both0, m_all1, m_all3, m_all2, m_all0]
      exact okm_some (MO_bad h (by decide))
  · rw [if_neg c]
    have hb : ∀ t, (t = nq 0 ∨ t = nq 1) → okm (s_X3_sign_30 x1 x2 x3 x4 t σ) (MO LI (no 1 A)) := fun t ht => by
      by_cases c1 : okI x1 4
      · have c2 : ¬ okI x2 A.1.length := fun q => c ⟨c1, q⟩
        simp (disch := omega) only [s_X3_sign_30, s_X3_sign_52, s_X3_sign_53, m_isFile_f h0 (by omega) c2, m_isPlace_t c1, pb1, pb2, nq_lit, nq_add, nq_mul, nq_lt, nq_le, nq_eq, nq_lt0, nq10, nq00, Nat.one_ne_zero, Nat.reduceEqDiff, Nat.not_lt_zero, nq20, nq30, zb1, zb0, mP_i, mP_o, mP_2', wr_1, wr_ne, wr_i, reduceIte, m_may1, m_may0, m_both1, m_both2, m_both0, m_all1, m_all3, m_all2, m_all0]
        exact hx1
      · simp (disch := omega) only [s_X3_sign_30, s_X3_sign_52, s_X3_sign_53, m_isPlace_f c1, pb1, pb2, nq_lit, nq_add, nq_mul, nq_lt, nq_le, nq_eq, nq_lt0, nq10, nq00, Nat.one_ne_zero, Nat.reduceEqDiff, Nat.not_lt_zero, nq20, nq30, zb1, zb0, mP_i, mP_o, mP_2', wr_1, wr_ne, wr_i, reduceIte, m_may1, m_may0, m_both1, m_both2, m_both0, m_all1, m_all3, m_all2, m_all0]
        exact hx1
    by_cases c3 : (okI x3 8 ∧ ¬ ix x3 = 0) ∧ (okI x4 4097 ∧ ¬ ix x4 = 0)
    · rw [e1 c3]
      exact hb _ (Or.inr rfl)
    · rw [e0 c3]
      exact hb _ (Or.inl rfl)
/-- how many blocks the place's signature has -/
theorem m_nbl {A : AA} {σ : Sg} (hA : AOk A) (h : MRep A σ) {p : Nat} (hp : p < 4) : σ.2.1 6 p = nq (nbl A p) ∧ nbl A p ≤ 120 := by
  obtain ⟨q1, q2⟩ := h.2.1 p hp
  unfold nbl
  cases e : zS A p with
  | none => exact ⟨(q1 e).2, Nat.zero_le _⟩
  | some s => exact ⟨(q2 s e).2.2.2.1, nb_le (zS_ok hA e).1.1 (zS_ok hA e).2.2.1⟩
theorem m_blocks {A : AA} {σ : Sg} (hA : AOk A) (h : MRep A σ) (x1 : Int32) : okm (f_X3_blocks x1 σ) (MO LI (o_blocks A x1)) := by
  unfold o_blocks
  by_cases c1 : okI x1 4
  · rw [if_pos c1]
    obtain ⟨p, hp, hp2, rfl⟩ := okI_get c1
    simp only [ix, ixq hp2]
    obtain ⟨g1, g2⟩ := m_nbl hA h hp
    simp (disch := omega) only [f_X3_blocks, s_X3_blocks_21, m_isPlace_t c1, g1, mR_1, mW_1, mR_2, mW_2, mR_3, mW_3, mR_4, mW_4, mR_5, mW_5, mR_6, mW_6, mR_7, mW_7, mR_9, mW_9, mR_10, mW_10, mR_11, mW_11, mR_12, mW_12, mR_13, mW_13, mR_14, mW_14, mR_15, mW_15, mR_17, mW_17, mR_18, mW_18, mR_19, mW_19, mR_20, mW_20, mR_21, mW_21, mR_25, mW_25, mR_27, mW_27, mR_31, mW_31, mR_32, mW_32, mR_33, mW_33, mR_34, mW_34, mRL_8, mWL_8, pb1, pb2, nq_lit, nq_add, nq_mul, nq_lt, nq_le, nq_eq, nq_lt0, nq10, nq00, Nat.one_ne_zero, Nat.reduceEqDiff, Nat.not_lt_zero, nq20, nq30, zb1, zb0, mP_i, mP_o, mP_2', wr_1, wr_ne, wr_i, reduceIte, m_may1, m_may0, m_both1, m_both2, m_both0, m_all1, m_all3, m_all2, m_all0]
    exact okm_some (MO_ok h rfl)
  · rw [if_neg c1]
    simp (disch := omega) only [f_X3_blocks, s_X3_blocks_21, m_isPlace_f c1, pb1, pb2, nq_lit, nq_add, nq_mul, nq_lt, nq_le, nq_eq, nq_lt0, nq10, nq00, Nat.one_ne_zero, Nat.reduceEqDiff, Nat.not_lt_zero, nq20, nq30, zb1, zb0, mP_i, mP_o, mP_2', wr_1, wr_ne, wr_i, reduceIte, m_may1, m_may0, m_both1, m_both2, m_both0, m_all1, m_all3, m_all2, m_all0]
    exact okm_some (MO_bad h (by decide))
theorem m_isBlock {A : AA} {σ : Sg} (hA : AOk A) (h : MRep A σ) (x1 x2 : Int32) : f_X3_isBlock x1 x2 σ = some (if okI x1 4 ∧ okI x2 (nbl A (ix x1)) then nq 1 else nq 0, σ) := by
  by_cases c1 : okI x1 4
  · obtain ⟨p, hp, hp2, rfl⟩ := okI_get c1
    simp only [ix, ixq hp2]
    obtain ⟨g1, g2⟩ := m_nbl hA h hp
    by_cases c2 : okI x2 (nbl A p)
    · rw [if_pos ⟨c1, c2⟩]
      obtain ⟨d1, d2⟩ := (okI_iff (by omega)).mp c2
      simp (disch := omega) only [f_X3_isBlock, s_X3_isBlock_26, m_isPlace_t c1, g1, d1, d2, mR_1, mW_1, mR_2, mW_2, mR_3, mW_3, mR_4, mW_4, mR_5, mW_5, mR_6, mW_6, mR_7, mW_7, mR_9, mW_9, mR_10, mW_10, mR_11, mW_11, mR_12, mW_12, mR_13, mW_13, mR_14, mW_14, mR_15, mW_15, mR_17, mW_17, mR_18, mW_18, mR_19, mW_19, mR_20, mW_20, mR_21, mW_21, mR_25, mW_25, mR_27, mW_27, mR_31, mW_31, mR_32, mW_32, mR_33, mW_33, mR_34, mW_34, mRL_8, mWL_8, pb1, pb2, nq_lit, nq_add, nq_mul, nq_lt, nq_le, nq_eq, nq_lt0, nq10, nq00, Nat.one_ne_zero, Nat.reduceEqDiff, Nat.not_lt_zero, nq20, nq30, zb1, zb0, mP_i, mP_o, mP_2', wr_1, wr_ne, wr_i, reduceIte, m_may1, m_may0, m_both1, m_both2, m_both0, m_all1, m_all3, m_all2, m_all0]
    · rw [if_neg (fun q => c2 q.2)]
      by_cases d1 : x2 < nq 0
      · simp (disch := omega) only [f_X3_isBlock, s_X3_isBlock_25, s_X3_isBlock_26, m_isPlace_t c1, g1, d1, mR_1, mW_1, mR_2, mW_2, mR_3, mW_3, mR_4, mW_4, mR_5, mW_5, mR_6, mW_6, mR_7, mW_7, mR_9, mW_9, mR_10, mW_10, mR_11, mW_11, mR_12, mW_12, mR_13, mW_13, mR_14, mW_14, mR_15, mW_15, mR_17, mW_17, mR_18, mW_18, mR_19, mW_19, mR_20, mW_20, mR_21, mW_21, mR_25, mW_25, mR_27, mW_27, mR_31, mW_31, mR_32, mW_32, mR_33, mW_33, mR_34, mW_34, mRL_8, mWL_8, pb1, pb2, nq_lit, nq_add, nq_mul, nq_lt, nq_le, nq_eq, nq_lt0, nq10, nq00, Nat.one_ne_zero, Nat.reduceEqDiff, Nat.not_lt_zero, nq20, nq30, zb1, zb0, mP_i, mP_o, mP_2', wr_1, wr_ne, wr_i, reduceIte, m_may1, m_may0, m_both1, m_both2, m_both0, m_all1, m_all3, m_all2, m_all0]
      · by_cases d2 : nq (nbl A p) ≤ x2
        · simp (disch := omega) only [f_X3_isBlock, s_X3_isBlock_25, s_X3_isBlock_26, m_isPlace_t c1, g1, d1, d2, mR_1, mW_1, mR_2, mW_2, mR_3, mW_3, mR_4, mW_4, mR_5, mW_5, mR_6, mW_6, mR_7, mW_7, mR_9, mW_9, mR_10, mW_10, mR_11, mW_11, mR_12, mW_12, mR_13, mW_13, mR_14, mW_14, mR_15, mW_15, mR_17, mW_17, mR_18, mW_18, mR_19, mW_19, mR_20, mW_20, mR_21, mW_21, mR_25, mW_25, mR_27, mW_27, mR_31, mW_31, mR_32, mW_32, mR_33, mW_33, mR_34, mW_34, mRL_8, mWL_8, pb1, pb2, nq_lit, nq_add, nq_mul, nq_lt, nq_le, nq_eq, nq_lt0, nq10, nq00, Nat.one_ne_zero, Nat.reduceEqDiff, Nat.not_lt_zero, nq20, nq30, zb1, zb0, mP_i, mP_o, mP_2', wr_1, wr_ne, wr_i, reduceIte, m_may1, m_may0, m_both1, m_both2, m_both0, m_all1, m_all3, m_all2, m_all0]
        · exact absurd ((okI_iff (by omega)).mpr ⟨d1, d2⟩) c2
  · rw [if_neg (fun q => c1 q.1)]
    simp (disch := omega) only [f_X3_isBlock, s_X3_isBlock_25, s_X3_isBlock_26, m_isPlace_f c1, pb1, pb2, nq_lit, nq_add, nq_mul, nq_lt, nq_le, nq_eq, nq_lt0, nq10, nq00, Nat.one_ne_zero, Nat.reduceEqDiff, Nat.not_lt_zero, nq20, nq30, zb1, zb0, mP_i, mP_o, mP_2', wr_1, wr_ne, wr_i, reduceIte, m_may1, m_may0, m_both1, m_both2, m_both0, m_all1, m_all3, m_all2, m_all0]
theorem nbl_some {A : AA} {p k : Nat} (h : k < nbl A p) : ∃ s, zS A p = some s ∧ k < nb s.2.2.length s.1 := by
  unfold nbl at h
  cases e : zS A p with
  | none =>
    rw [e] at h
    exact absurd h (Nat.not_lt_zero k)
  | some s =>
    rw [e] at h
    exact ⟨s, rfl, h⟩
theorem m_weak {A : AA} {σ : Sg} (hA : AOk A) (h : MRep A σ) (x1 x2 : Int32) : okm (f_X3_weak x1 x2 σ) (MO LI (o_weak A x1 x2)) := by
  unfold o_weak
  have e := m_isBlock hA h x1 x2
  by_cases c : okI x1 4 ∧ okI x2 (nbl A (ix x1))
  · rw [if_pos c] at e ⊢
    obtain ⟨c1, c2⟩ := c
    obtain ⟨p, hp, hp2, rfl⟩ := okI_get c1
    simp only [ix, ixq hp2] at c2 ⊢
    obtain ⟨k, hk, hk2, rfl⟩ := okI_get c2
    simp only [ixq hk2]
    obtain ⟨s, es, hs⟩ := nbl_some hk
    have hb := nb_le (zS_ok hA es).1.1 (zS_ok hA es).2.2.1
    have hw := ((h.2.1 p hp).2 s es).2.2.2.2 k hs
    simp (disch := omega) only [f_X3_weak, s_X3_weak_28, e, hw.1, mR_1, mW_1, mR_2, mW_2, mR_3, mW_3, mR_4, mW_4, mR_5, mW_5, mR_6, mW_6, mR_7, mW_7, mR_9, mW_9, mR_10, mW_10, mR_11, mW_11, mR_12, mW_12, mR_13, mW_13, mR_14, mW_14, mR_15, mW_15, mR_17, mW_17, mR_18, mW_18, mR_19, mW_19, mR_20, mW_20, mR_21, mW_21, mR_25, mW_25, mR_27, mW_27, mR_31, mW_31, mR_32, mW_32, mR_33, mW_33, mR_34, mW_34, mRL_8, mWL_8, pb1, pb2, nq_lit, nq_add, nq_mul, nq_lt, nq_le, nq_eq, nq_lt0, nq10, nq00, Nat.one_ne_zero, Nat.reduceEqDiff, Nat.not_lt_zero, nq20, nq30, zb1, zb0, mP_i, mP_o, mP_2', wr_1, wr_ne, wr_i, reduceIte, m_may1, m_may0, m_both1, m_both2, m_both0, m_all1, m_all3, m_all2, m_all0]
    rw [es]
    exact okm_some (MO_ok h rfl)
  · rw [if_neg c] at e ⊢
    simp (disch := omega) only [f_X3_weak, s_X3_weak_28, e, pb1, pb2, nq_lit, nq_add, nq_mul, nq_lt, nq_le, nq_eq, nq_lt0, nq10, nq00, Nat.one_ne_zero, Nat.reduceEqDiff, Nat.not_lt_zero, nq20, nq30, zb1, zb0, mP_i, mP_o, mP_2', wr_1, wr_ne, wr_i, reduceIte, m_may1, m_may0, m_both1, m_both2, m_both0, m_all1, m_all3, m_all2, m_all0]
    exact okm_some (MO_bad h (by decide))
theorem m_strong {A : AA} {σ : Sg} (hA : AOk A) (h : MRep A σ) (x1 x2 : Int32) : okm (f_X3_strong x1 x2 σ) (MO LJ (o_strong A x1 x2)) := by
  unfold o_strong
  have e := m_isBlock hA h x1 x2
  by_cases c : okI x1 4 ∧ okI x2 (nbl A (ix x1))
  · rw [if_pos c] at e ⊢
    obtain ⟨c1, c2⟩ := c
    obtain ⟨p, hp, hp2, rfl⟩ := okI_get c1
    simp only [ix, ixq hp2] at c2 ⊢
    obtain ⟨k, hk, hk2, rfl⟩ := okI_get c2
    simp only [ixq hk2]
    obtain ⟨s, es, hs⟩ := nbl_some hk
    have hb := nb_le (zS_ok hA es).1.1 (zS_ok hA es).2.2.1
    have hw := ((h.2.1 p hp).2 s es).2.2.2.2 k hs
    simp (disch := omega) only [f_X3_strong, s_X3_strong_28, e, mRL_8, pb1, pb2, nq_lit, nq_add, nq_mul, nq_lt, nq_le, nq_eq, nq_lt0, nq10, nq00, Nat.one_ne_zero, Nat.reduceEqDiff, Nat.not_lt_zero, nq20, nq30, zb1, zb0, mP_i, mP_o, mP_2', wr_1, wr_ne, wr_i, reduceIte, m_may1, m_may0, m_both1, m_both2, m_both0, m_all1, m_all3, m_all2, m_all0]
    rw [es]
    refine okm_some (MO_ok h ?_)
    exact hw.2
  · rw [if_neg c] at e ⊢
    simp (disch := omega) only [f_X3_strong, s_X3_strong_28, e, pb1, pb2, nq_lit, nq_add, nq_mul, nq_lt, nq_le, nq_eq, nq_lt0, nq10, nq00, Nat.one_ne_zero, Nat.reduceEqDiff, Nat.not_lt_zero, nq20, nq30, zb1, zb0, mP_i, mP_o, mP_2', wr_1, wr_ne, wr_i, reduceIte, m_may1, m_may0, m_both1, m_both2, m_both0, m_all1, m_all3, m_all2, m_all0]
    exact okm_some (MO_bad h (by decide))
