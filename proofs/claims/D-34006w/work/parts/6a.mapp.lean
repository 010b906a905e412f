/-! PURE: the reference applies a delta -/
set_option maxRecDepth 100000
theorem m_goes_l {σ : Sg} {d n : Nat} {is : List In} (hd : d < 24) (hI : MIs σ d is) (hL : is.length ≤ 120) (hO : ∀ i ∈ is, i.2.1 ≤ 120 ∧ i.2.2 ≤ 120) (hn : n ≤ 120) (h26 : σ.1 26 = nq n) : ∀ (N k f : Nat), N < f → k + N = is.length →
    l_X3_goesBeyond_5 f (nq d, nq (120 * d + k)) σ = some (bq (byd (is.drop k) n), σ) := by
  intro N
  induction N with
  | zero =>
    intro k f hf hk
    obtain ⟨f, rfl⟩ := pre_n hf
    have hk' : 120 * d + is.length ≤ 120 * d + k := by omega
    rw [l_X3_goesBeyond_5_s]
    simp (disch := omega) only [s_X3_goesBeyond_5, hI.1, hk', mR_1, mW_1, mR_2, mW_2, mR_3, mW_3, mR_4, mW_4, mR_5, mW_5, mR_6, mW_6, mR_7, mW_7, mR_9, mW_9, mR_10, mW_10, mR_11, mW_11, mR_12, mW_12, mR_13, mW_13, mR_14, mW_14, mR_15, mW_15, mR_17, mW_17, mR_18, mW_18, mR_19, mW_19, mR_20, mW_20, mR_21, mW_21, mR_25, mW_25, mR_27, mW_27, mR_31, mW_31, mR_32, mW_32, mR_33, mW_33, mR_34, mW_34, mRL_8, mWL_8, pb1, pb2, nq_lit, nq_add, nq_mul, nq_lt, nq_le, nq_eq, nq_lt0, nq10, nq00, Nat.one_ne_zero, Nat.reduceEqDiff, Nat.not_lt_zero, nq20, nq30, zb1, zb0, eq_self, mP_i, mP_o, mP_2', wr_1, wr_ne, wr_i, reduceIte, m_may1, m_may0, m_both1, m_both2, m_both0, m_all1, m_all3, m_all2, m_all0]
    rw [List.drop_eq_nil_of_le (by omega)]
    rfl
  | succ N ih =>
    intro k f hf hk
    obtain ⟨f, rfl⟩ := pre_n hf
    have hk' : ¬ 120 * d + is.length ≤ 120 * d + k := by omega
    obtain ⟨g1, g2, g3⟩ := hI.2 k (by omega)
    obtain ⟨o1, o2⟩ := hO _ (gI_mem (is := is) (k := k) (by omega))
    have ih' := ih (k + 1) f (by omega) (by omega)
    rw [← Nat.add_assoc] at ih'
    rw [l_X3_goesBeyond_5_s, drop_I (by omega)]
    have eb : byd (is.getD k i0 :: is.drop (k + 1)) n = (((is.getD k i0).1 && decide (n < (is.getD k i0).2.1 + (is.getD k i0).2.2)) || byd (is.drop (k + 1)) n) := rfl
    rw [eb]
    by_cases hc : (is.getD k i0).1 = true
    · by_cases hx : (is.getD k i0).2.1 + (is.getD k i0).2.2 ≤ n
      · rw [hc, decide_eq_false (by omega)]
        simp (disch := omega) only [s_X3_goesBeyond_5, s_X3_goesBeyond_51, hI.1, hk', g1, g2, g3, h26, hc, hx, bq_t, mR_1, mW_1, mR_2, mW_2, mR_3, mW_3, mR_4, mW_4, mR_5, mW_5, mR_6, mW_6, mR_7, mW_7, mR_9, mW_9, mR_10, mW_10, mR_11, mW_11, mR_12, mW_12, mR_13, mW_13, mR_14, mW_14, mR_15, mW_15, mR_17, mW_17, mR_18, mW_18, mR_19, mW_19, mR_20, mW_20, mR_21, mW_21, mR_25, mW_25, mR_27, mW_27, mR_31, mW_31, mR_32, mW_32, mR_33, mW_33, mR_34, mW_34, mRL_8, mWL_8, pb1, pb2, nq_lit, nq_add, nq_mul, nq_lt, nq_le, nq_eq, nq_lt0, nq10, nq00, Nat.one_ne_zero, Nat.reduceEqDiff, Nat.not_lt_zero, nq20, nq30, zb1, zb0, eq_self, mP_i, mP_o, mP_2', wr_1, wr_ne, wr_i, reduceIte, m_may1, m_may0, m_both1, m_both2, m_both0, m_all1, m_all3, m_all2, m_all0]
        rw [ih']
        rfl
      · rw [hc, decide_eq_true (by omega)]
        simp (disch := omega) only [s_X3_goesBeyond_5, s_X3_goesBeyond_51, hI.1, hk', g1, g2, g3, h26, hc, hx, bq_t, mR_1, mW_1, mR_2, mW_2, mR_3, mW_3, mR_4, mW_4, mR_5, mW_5, mR_6, mW_6, mR_7, mW_7, mR_9, mW_9, mR_10, mW_10, mR_11, mW_11, mR_12, mW_12, mR_13, mW_13, mR_14, mW_14, mR_15, mW_15, mR_17, mW_17, mR_18, mW_18, mR_19, mW_19, mR_20, mW_20, mR_21, mW_21, mR_25, mW_25, mR_27, mW_27, mR_31, mW_31, mR_32, mW_32, mR_33, mW_33, mR_34, mW_34, mRL_8, mWL_8, pb1, pb2, nq_lit, nq_add, nq_mul, nq_lt, nq_le, nq_eq, nq_lt0, nq10, nq00, Nat.one_ne_zero, Nat.reduceEqDiff, Nat.not_lt_zero, nq20, nq30, zb1, zb0, eq_self, mP_i, mP_o, mP_2', wr_1, wr_ne, wr_i, reduceIte, m_may1, m_may0, m_both1, m_both2, m_both0, m_all1, m_all3, m_all2, m_all0]
        rfl
    · simp (disch := omega) only [s_X3_goesBeyond_5, s_X3_goesBeyond_51, hI.1, hk', g1, bq_0 _ hc, mR_1, mW_1, mR_2, mW_2, mR_3, mW_3, mR_4, mW_4, mR_5, mW_5, mR_6, mW_6, mR_7, mW_7, mR_9, mW_9, mR_10, mW_10, mR_11, mW_11, mR_12, mW_12, mR_13, mW_13, mR_14, mW_14, mR_15, mW_15, mR_17, mW_17, mR_18, mW_18, mR_19, mW_19, mR_20, mW_20, mR_21, mW_21, mR_25, mW_25, mR_27, mW_27, mR_31, mW_31, mR_32, mW_32, mR_33, mW_33, mR_34, mW_34, mRL_8, mWL_8, pb1, pb2, nq_lit, nq_add, nq_mul, nq_lt, nq_le, nq_eq, nq_lt0, nq10, nq00, Nat.one_ne_zero, Nat.reduceEqDiff, Nat.not_lt_zero, nq20, nq30, zb1, zb0, eq_self, mP_i, mP_o, mP_2', wr_1, wr_ne, wr_i, reduceIte, m_may1, m_may0, m_both1, m_both2, m_both0, m_all1, m_all3, m_all2, m_all0]
      rw [ih', Bool.eq_false_iff.mpr hc]
      rfl
theorem m_goes {σ : Sg} {d n : Nat} {D : Dl} (hd : d < 24) (hI : MDl σ d D) (hD : DOk D) (hn : n ≤ 120) (h26 : σ.1 26 = nq n) : f_X3_goesBeyond (nq d) σ = some (bq (byd D.2.1 n), σ) := by
  have := m_goes_l hd (MDl_is hI) (DOk_len hD) (fun i hi => ⟨(hD.2.1 i hi).2.1, DOk_many hD hi⟩) hn h26 D.2.1.length 0 FU (by have := DOk_len hD; unfold FU; omega) (by omega)
  simp only [f_X3_goesBeyond, nq_lit, nq_mul]
  exact this
theorem m_app_c {σ0 : Sg} {bs : List Nat} (hL : bs.length ≤ 120) : ∀ (N k f : Nat) (σ : Sg), N < f → k + N = bs.length → (∀ j, j < bs.length → σ.2.1 27 j = nq (gd bs j)) → (∀ j, j < k → σ.2.1 25 j = nq (gd bs j)) → σ.1 26 = nq bs.length → Sx σ0 σ [26] [25, 27] →
    okm (l_X3_applies_109 f (nq bs.length, nq k) σ) fun r => MB r.2 bs ∧ Sx σ0 r.2 [26] [25, 27] := by
  intro N
  induction N with
  | zero =>
    intro k f σ hf hk h1 h2 h3 h4
    obtain ⟨f, rfl⟩ := pre_n hf
    have hk' : bs.length ≤ k := by omega
    rw [l_X3_applies_109_s]
    simp (disch := omega) only [s_X3_applies_109, hk', mR_1, mW_1, mR_2, mW_2, mR_3, mW_3, mR_4, mW_4, mR_5, mW_5, mR_6, mW_6, mR_7, mW_7, mR_9, mW_9, mR_10, mW_10, mR_11, mW_11, mR_12, mW_12, mR_13, mW_13, mR_14, mW_14, mR_15, mW_15, mR_17, mW_17, mR_18, mW_18, mR_19, mW_19, mR_20, mW_20, mR_21, mW_21, mR_25, mW_25, mR_27, mW_27, mR_31, mW_31, mR_32, mW_32, mR_33, mW_33, mR_34, mW_34, mRL_8, mWL_8, pb1, pb2, nq_lit, nq_add, nq_mul, nq_lt, nq_le, nq_eq, nq_lt0, nq10, nq00, Nat.one_ne_zero, Nat.reduceEqDiff, Nat.not_lt_zero, nq20, nq30, zb1, zb0, eq_self, mP_i, mP_o, mP_2', wr_1, wr_ne, wr_i, reduceIte, m_may1, m_may0, m_both1, m_both2, m_both0, m_all1, m_all3, m_all2, m_all0]
    exact okm_some ⟨⟨h3, fun j hj => h2 j (by omega)⟩, h4⟩
  | succ N ih =>
    intro k f σ hf hk h1 h2 h3 h4
    obtain ⟨f, rfl⟩ := pre_n hf
    have hk' : ¬ bs.length ≤ k := by omega
    rw [l_X3_applies_109_s]
    simp (disch := omega) only [s_X3_applies_109, hk', h1 k (by omega), mR_1, mW_1, mR_2, mW_2, mR_3, mW_3, mR_4, mW_4, mR_5, mW_5, mR_6, mW_6, mR_7, mW_7, mR_9, mW_9, mR_10, mW_10, mR_11, mW_11, mR_12, mW_12, mR_13, mW_13, mR_14, mW_14, mR_15, mW_15, mR_17, mW_17, mR_18, mW_18, mR_19, mW_19, mR_20, mW_20, mR_21, mW_21, mR_25, mW_25, mR_27, mW_27, mR_31, mW_31, mR_32, mW_32, mR_33, mW_33, mR_34, mW_34, mRL_8, mWL_8, pb1, pb2, nq_lit, nq_add, nq_mul, nq_lt, nq_le, nq_eq, nq_lt0, nq10, nq00, Nat.one_ne_zero, Nat.reduceEqDiff, Nat.not_lt_zero, nq20, nq30, zb1, zb0, eq_self, mP_i, mP_o, mP_2', wr_1, wr_ne, wr_i, reduceIte, m_may1, m_may0, m_both1, m_both2, m_both0, m_all1, m_all3, m_all2, m_all0]
    refine ih (k + 1) f _ (by omega) (by omega) (fun j hj => ?_) (fun j hj => ?_) h3 (h4.wr (by decide))
    · rw [wr_ne _ _ _ (by decide)]
      exact h1 j hj
    · rw [wr_at]
      by_cases q : j = k
      · rw [if_pos q, q]
      · rw [if_neg q]
        exact h2 j (by omega)
theorem m_app_i {σ0 : Sg} {d k : Nat} {D : Dl} {bs O : List Nat} {rc : Int32 × Int32 × Int32 → Sg → Option (Unit × Sg)} {Q : Unit × Sg → Prop} (hd : d < 24) (hk : k < D.2.1.length) (hI0 : MDl σ0 d D) (hD : DOk D) (hB0 : ∀ j, j < bs.length → σ0.2.1 25 j = nq (gd bs j)) (hbs : bs.length ≤ 120) {out : Nat}
    (hpl : (pce D.2.2 bs (D.2.1.getD k i0)).length = (D.2.1.getD k i0).2.2) (hO : O.length = out + (D.2.1.getD k i0).2.2) (hOL : O.length ≤ 120) (hOg : ∀ j, j < (D.2.1.getD k i0).2.2 → gd O (out + j) = gd (pce D.2.2 bs (D.2.1.getD k i0)) j)
    (hin : (D.2.1.getD k i0).2.1 + (D.2.1.getD k i0).2.2 ≤ (if (D.2.1.getD k i0).1 = true then bs.length else D.2.2.length))
    (hQ : ∀ σ, Sx σ0 σ [] [27] → (∀ j, j < O.length → σ.2.1 27 j = nq (gd O j)) → okm (rc (nq d, nq O.length, nq (120 * d + k + 1)) σ) Q) : ∀ (N i f : Nat) (σ : Sg), N < f → i + N = (D.2.1.getD k i0).2.2 → Sx σ0 σ [] [27] → (∀ j, j < out + i → σ.2.1 27 j = nq (gd O j)) →
    okm (l_X3_applies_25 rc f (nq d, nq (out + i), nq (120 * d + k), nq i) σ) Q := by
  intro N
  have hDl := DOk_len hD
  have hcl := hD.2.2.1.1
  induction N with
  | zero =>
    intro i f σ hf hi h1 h2
    obtain ⟨f, rfl⟩ := pre_n hf
    have hI : MDl σ d D := hI0.same h1 (by decide) (by decide) (by decide) (by decide) (by decide) (by decide) (by decide)
    obtain ⟨g1, g2, g3⟩ := (MDl_is hI).2 k hk
    have hi' : (D.2.1.getD k i0).2.2 ≤ i := by omega
    rw [l_X3_applies_25_s]
    simp (disch := omega) only [s_X3_applies_25, g3, hi', mR_1, mW_1, mR_2, mW_2, mR_3, mW_3, mR_4, mW_4, mR_5, mW_5, mR_6, mW_6, mR_7, mW_7, mR_9, mW_9, mR_10, mW_10, mR_11, mW_11, mR_12, mW_12, mR_13, mW_13, mR_14, mW_14, mR_15, mW_15, mR_17, mW_17, mR_18, mW_18, mR_19, mW_19, mR_20, mW_20, mR_21, mW_21, mR_25, mW_25, mR_27, mW_27, mR_31, mW_31, mR_32, mW_32, mR_33, mW_33, mR_34, mW_34, mRL_8, mWL_8, pb1, pb2, nq_lit, nq_add, nq_mul, nq_lt, nq_le, nq_eq, nq_lt0, nq10, nq00, Nat.one_ne_zero, Nat.reduceEqDiff, Nat.not_lt_zero, nq20, nq30, zb1, zb0, eq_self, mP_i, mP_o, mP_2', wr_1, wr_ne, wr_i, reduceIte, m_may1, m_may0, m_both1, m_both2, m_both0, m_all1, m_all3, m_all2, m_all0]
    have := hQ σ h1 (fun j hj => h2 j (by omega))
    rw [hO, show out + (D.2.1.getD k i0).2.2 = out + i by omega] at this
    exact this
  | succ N ih =>
    intro i f σ hf hi h1 h2
    obtain ⟨f, rfl⟩ := pre_n hf
    have hI : MDl σ d D := hI0.same h1 (by decide) (by decide) (by decide) (by decide) (by decide) (by decide) (by decide)
    obtain ⟨g1, g2, g3⟩ := (MDl_is hI).2 k hk
    have hi' : ¬ (D.2.1.getD k i0).2.2 ≤ i := by omega
    have fin : ∀ x, x = gd O (out + i) → okm (l_X3_applies_25 rc f (nq d, nq (out + i + 1), nq (120 * d + k), nq (i + 1)) (wr σ 27 (out + i) (nq x))) Q := fun x hx => by
      refine ih (i + 1) f _ (by omega) (by omega) (h1.wr (by decide)) (fun j hj => ?_)
      rw [wr_at]
      by_cases q : j = out + i
      · rw [if_pos q, q, hx]
      · rw [if_neg q]
        exact h2 j (by omega)
    have hx := hOg i (by omega)
    rw [l_X3_applies_25_s]
    by_cases hc : (D.2.1.getD k i0).1 = true
    · rw [if_pos hc] at hin
      have e25 : σ.2.1 25 ((D.2.1.getD k i0).2.1 + i) = nq (gd bs ((D.2.1.getD k i0).2.1 + i)) := by
        rw [h1.2.1 25 (by decide)]
        exact hB0 _ (by omega)
      simp (disch := omega) only [s_X3_applies_25, s_X3_applies_86, g1, g2, g3, hi', hc, bq_t, e25, mR_1, mW_1, mR_2, mW_2, mR_3, mW_3, mR_4, mW_4, mR_5, mW_5, mR_6, mW_6, mR_7, mW_7, mR_9, mW_9, mR_10, mW_10, mR_11, mW_11, mR_12, mW_12, mR_13, mW_13, mR_14, mW_14, mR_15, mW_15, mR_17, mW_17, mR_18, mW_18, mR_19, mW_19, mR_20, mW_20, mR_21, mW_21, mR_25, mW_25, mR_27, mW_27, mR_31, mW_31, mR_32, mW_32, mR_33, mW_33, mR_34, mW_34, mRL_8, mWL_8, pb1, pb2, nq_lit, nq_add, nq_mul, nq_lt, nq_le, nq_eq, nq_lt0, nq10, nq00, Nat.one_ne_zero, Nat.reduceEqDiff, Nat.not_lt_zero, nq20, nq30, zb1, zb0, eq_self, mP_i, mP_o, mP_2', wr_1, wr_ne, wr_i, reduceIte, m_may1, m_may0, m_both1, m_both2, m_both0, m_all1, m_all3, m_all2, m_all0]
      refine fin _ ?_
      rw [hx, pce, if_pos hc, slc_gd (by omega)]
    · rw [if_neg hc] at hin
      have e15 : σ.2.1 15 (120 * d + (D.2.1.getD k i0).2.1 + i) = nq (gd D.2.2 ((D.2.1.getD k i0).2.1 + i)) := by
        rw [Nat.add_assoc]
        exact hI.2.2.2.2 _ (by omega)
      simp (disch := omega) only [s_X3_applies_25, s_X3_applies_86, g1, g2, g3, hi', bq_0 _ hc, e15, mR_1, mW_1, mR_2, mW_2, mR_3, mW_3, mR_4, mW_4, mR_5, mW_5, mR_6, mW_6, mR_7, mW_7, mR_9, mW_9, mR_10, mW_10, mR_11, mW_11, mR_12, mW_12, mR_13, mW_13, mR_14, mW_14, mR_15, mW_15, mR_17, mW_17, mR_18, mW_18, mR_19, mW_19, mR_20, mW_20, mR_21, mW_21, mR_25, mW_25, mR_27, mW_27, mR_31, mW_31, mR_32, mW_32, mR_33, mW_33, mR_34, mW_34, mRL_8, mWL_8, pb1, pb2, nq_lit, nq_add, nq_mul, nq_lt, nq_le, nq_eq, nq_lt0, nq10, nq00, Nat.one_ne_zero, Nat.reduceEqDiff, Nat.not_lt_zero, nq20, nq30, zb1, zb0, eq_self, mP_i, mP_o, mP_2', wr_1, wr_ne, wr_i, reduceIte, m_may1, m_may0, m_both1, m_both2, m_both0, m_all1, m_all3, m_all2, m_all0]
      refine fin _ ?_
      rw [hx, pce, if_neg hc, slc_gd (by omega)]
theorem pce_len {D : Dl} {bs : List Nat} {i : In} (h : i.2.1 + i.2.2 ≤ (if i.1 = true then bs.length else D.2.2.length)) : (pce D.2.2 bs i).length = i.2.2 := by
  unfold pce
  by_cases hc : i.1 = true
  · rw [if_pos hc] at h ⊢
    exact slc_len h
  · rw [if_neg hc] at h ⊢
    exact slc_len h
theorem byd_mem {is : List In} {n : Nat} (h : byd is n = false) {i : In} (hi : i ∈ is) (hc : i.1 = true) : i.2.1 + i.2.2 ≤ n := by
  unfold byd at h
  rw [List.any_eq_false] at h
  have := h i hi
  rw [hc] at this
  have h2 : ¬ n < i.2.1 + i.2.2 := fun q => this (by rw [decide_eq_true q]; rfl)
  omega
theorem sum_drop {is : List In} {k : Nat} (h : k < is.length) : ((is.drop k).map fun i => i.2.2).sum = (is.getD k i0).2.2 + ((is.drop (k + 1)).map fun i => i.2.2).sum := by
  rw [drop_I h, List.map_cons, List.sum_cons]
theorem m_app_o {σ0 : Sg} {d : Nat} {D : Dl} {bs : List Nat} (hd : d < 24) (hI0 : MDl σ0 d D) (hD : DOk D) (hB0 : MB σ0 bs) (hbs : bs.length ≤ 120) (hb : byd D.2.1 bs.length = false) : ∀ (N k f : Nat) (σ : Sg) (out : List Nat), N < f → k + N = D.2.1.length → Sx σ0 σ [] [27] → (∀ j, j < out.length → σ.2.1 27 j = nq (gd out j)) → out.length + ((D.2.1.drop k).map fun i => i.2.2).sum ≤ 120 →
    okm (l_X3_applies_7 f (nq d, nq out.length, nq (120 * d + k)) σ) fun r => MB r.2 (out ++ ((D.2.1.drop k).map (pce D.2.2 bs)).flatten) ∧ Sx σ0 r.2 [26] [25, 27] := by
  intro N
  have hDl := DOk_len hD
  induction N with
  | zero =>
    intro k f σ out hf hk h1 h2 h3
    obtain ⟨f, rfl⟩ := pre_n hf
    have hk' : 120 * d + D.2.1.length ≤ 120 * d + k := by omega
    have h10 : σ.2.1 10 d = nq D.2.1.length := by rw [h1.2.1 10 (by decide)]; exact hI0.2.1
    rw [l_X3_applies_7_s]
    simp (disch := omega) only [s_X3_applies_7, h10, hk', mR_1, mW_1, mR_2, mW_2, mR_3, mW_3, mR_4, mW_4, mR_5, mW_5, mR_6, mW_6, mR_7, mW_7, mR_9, mW_9, mR_10, mW_10, mR_11, mW_11, mR_12, mW_12, mR_13, mW_13, mR_14, mW_14, mR_15, mW_15, mR_17, mW_17, mR_18, mW_18, mR_19, mW_19, mR_20, mW_20, mR_21, mW_21, mR_25, mW_25, mR_27, mW_27, mR_31, mW_31, mR_32, mW_32, mR_33, mW_33, mR_34, mW_34, mRL_8, mWL_8, pb1, pb2, nq_lit, nq_add, nq_mul, nq_lt, nq_le, nq_eq, nq_lt0, nq10, nq00, Nat.one_ne_zero, Nat.reduceEqDiff, Nat.not_lt_zero, nq20, nq30, zb1, zb0, eq_self, mP_i, mP_o, mP_2', wr_1, wr_ne, wr_i, reduceIte, m_may1, m_may0, m_both1, m_both2, m_both0, m_all1, m_all3, m_all2, m_all0]
    rw [List.drop_eq_nil_of_le (by omega), List.map_nil, List.flatten_nil, List.append_nil]
    exact m_app_c (by omega) out.length 0 FU _ (by unfold FU; omega) (by omega) h2 (fun j hj => absurd hj (Nat.not_lt_zero j)) (mP_i _ _ _) ((h1.mono (by decide) (by decide)).mP (by decide))
  | succ N ih =>
    intro k f σ out hf hk h1 h2 h3
    obtain ⟨f, rfl⟩ := pre_n hf
    have hk1 : k < D.2.1.length := by omega
    have hk' : ¬ 120 * d + D.2.1.length ≤ 120 * d + k := by omega
    have h10 : σ.2.1 10 d = nq D.2.1.length := by rw [h1.2.1 10 (by decide)]; exact hI0.2.1
    have hmem := gI_mem (is := D.2.1) hk1
    have hin : (D.2.1.getD k i0).2.1 + (D.2.1.getD k i0).2.2 ≤ (if (D.2.1.getD k i0).1 = true then bs.length else D.2.2.length) := by
      by_cases hc : (D.2.1.getD k i0).1 = true
      · rw [if_pos hc]
        exact byd_mem hb hmem hc
      · rw [if_neg hc]
        exact (hD.2.1 _ hmem).2.2 (Bool.eq_false_iff.mpr hc)
    have hpl := pce_len (D := D) (bs := bs) hin
    have hsum := sum_drop (is := D.2.1) hk1
    have hOl : (out ++ pce D.2.2 bs (D.2.1.getD k i0)).length = out.length + (D.2.1.getD k i0).2.2 := by rw [List.length_append, hpl]
    rw [l_X3_applies_7_s]
    simp (disch := omega) only [s_X3_applies_7, h10, hk', mR_1, mW_1, mR_2, mW_2, mR_3, mW_3, mR_4, mW_4, mR_5, mW_5, mR_6, mW_6, mR_7, mW_7, mR_9, mW_9, mR_10, mW_10, mR_11, mW_11, mR_12, mW_12, mR_13, mW_13, mR_14, mW_14, mR_15, mW_15, mR_17, mW_17, mR_18, mW_18, mR_19, mW_19, mR_20, mW_20, mR_21, mW_21, mR_25, mW_25, mR_27, mW_27, mR_31, mW_31, mR_32, mW_32, mR_33, mW_33, mR_34, mW_34, mRL_8, mWL_8, pb1, pb2, nq_lit, nq_add, nq_mul, nq_lt, nq_le, nq_eq, nq_lt0, nq10, nq00, Nat.one_ne_zero, Nat.reduceEqDiff, Nat.not_lt_zero, nq20, nq30, zb1, zb0, eq_self, mP_i, mP_o, mP_2', wr_1, wr_ne, wr_i, reduceIte, m_may1, m_may0, m_both1, m_both2, m_both0, m_all1, m_all3, m_all2, m_all0]
    refine m_app_i (σ0 := σ) (k := k) (out := out.length) (O := out ++ pce D.2.2 bs (D.2.1.getD k i0)) (bs := bs) hd hk1 (hI0.same h1 (by decide) (by decide) (by decide) (by decide) (by decide) (by decide) (by decide)) hD (fun j hj => by rw [h1.2.1 25 (by decide)]; exact hB0.2 j hj) hbs hpl hOl (by omega) (fun j hj => ?_) hin (fun σ1 k1 k2 => ?_) (D.2.1.getD k i0).2.2 0 FU σ (by have := DOk_many hD hmem; unfold FU; omega) (by omega) (Sx.refl _ _ _) (fun j hj => ?_)
    · rw [gd_app, if_neg (by omega), Nat.add_sub_cancel_left]
    · have := ih (k + 1) f σ1 (out ++ pce D.2.2 bs (D.2.1.getD k i0)) (by omega) (by omega) (h1.trans k1) k2 (by omega)
      rw [← Nat.add_assoc] at this
      refine okm_mono this fun r hr => ?_
      rw [drop_I hk1, List.map_cons, List.flatten_cons, ← List.append_assoc]
      exact hr
    · rw [gd_app, if_pos (by omega)]
      exact h2 j (by omega)
theorem m_applies {σ : Sg} {d : Nat} {D : Dl} {bs : List Nat} (hd : d < 24) (hI : MDl σ d D) (hD : DOk D) (hB : MB σ bs) (hbs : bs.length ≤ 120) (hb : byd D.2.1 bs.length = false) : okm (f_X3_applies (nq d) σ) fun r => MB r.2 (app D.2.1 D.2.2 bs) ∧ Sx σ r.2 [26] [25, 27] := by
  have := m_app_o hd hI hD hB hbs hb D.2.1.length 0 FU σ [] (by have := DOk_len hD; unfold FU; omega) (by omega) (Sx.refl _ _ _) (fun j hj => absurd hj (Nat.not_lt_zero j)) (by rw [List.drop_zero]; have := hD.1; simp only [List.length_nil]; omega)
  simp only [f_X3_applies, nq_lit, nq_mul]
  exact this
theorem app_len {D : Dl} (hD : DOk D) (bs : List Nat) : (app D.2.1 D.2.2 bs).length ≤ 120 := by
  have : ∀ is : List In, ((is.map (pce D.2.2 bs)).flatten).length ≤ (is.map fun i => i.2.2).sum := by
    intro is
    induction is with
    | nil => exact Nat.le_refl _
    | cons i is ih =>
      rw [List.map_cons, List.flatten_cons, List.length_append, List.map_cons, List.sum_cons]
      have : (pce D.2.2 bs i).length ≤ i.2.2 := by
        unfold pce slc
        split <;> (rw [List.length_take]; omega)
      omega
  have := this D.2.1
  have := hD.1
  unfold app
  omega
theorem app_by {D : Dl} (hD : DOk D) {bs : List Nat} (hb : By bs) : By (app D.2.1 D.2.2 bs) := by
  intro x hx
  unfold app at hx
  rw [List.mem_flatten] at hx
  obtain ⟨l, hl, hx⟩ := hx
  rw [List.mem_map] at hl
  obtain ⟨i, -, rfl⟩ := hl
  unfold pce at hx
  split at hx
  · exact slc_by hb _ _ x hx
  · exact slc_by hD.2.2.1.2 _ _ x hx
theorem app_ok {D : Dl} (hD : DOk D) {bs : List Nat} (hb : FOk bs) : FOk (app D.2.1 D.2.2 bs) := ⟨app_len hD bs, app_by hD hb.2⟩
theorem m_apply {A : AA} {σ : Sg} (hA : AOk A) (h : MRep A σ) (x1 x2 x3 : Int32) : okm (f_X3_apply x1 x2 x3 σ) (MO LI (o_apply A x1 x2 x3)) := by
  have h0 := h.1.1
  have hn := hA.1.1
  unfold o_apply
  have hx1 : okm (some ((nq 0 : Int32), mP σ 35 (nq 1))) (MO LI (no 1 A)) := okm_some (MO_bad h (by decide))
  by_cases c1 : okI x1 4
  · by_cases c2 : okI x2 A.1.length
    · by_cases c3 : okI x3 A.1.length
      · rw [if_pos ⟨c1, c2, c3⟩]
        obtain ⟨d, hd, hd2, rfl⟩ := okI_get c1
        obtain ⟨p, hp, hp2, rfl⟩ := okI_get c2
        obtain ⟨f, hf, hf2, rfl⟩ := okI_get c3
        simp only [ix, ixq hd2, ixq hp2, ixq hf2]
        simp (disch := omega) only [f_X3_apply, s_X3_apply_28, m_isPlace_t c1, m_isFile_t h0 (by omega) c2, m_isFile_t h0 (by omega) c3, pb1, pb2, nq_lit, nq_add, nq_mul, nq_lt, nq_le, nq_eq, nq_lt0, nq10, nq00, Nat.one_ne_zero, Nat.reduceEqDiff, Nat.not_lt_zero, nq20, nq30, zb1, zb0, eq_self, mP_i, mP_o, mP_2', wr_1, wr_ne, wr_i, reduceIte, m_may1, m_may0, m_both1, m_both2, m_both0, m_all1, m_all3, m_all2, m_all0]
        refine okm_bd2 (okm_mono (m_bring hA h.1 (i := p) (by omega)) fun r hr => ?_)
        obtain ⟨q1, q2⟩ := hr
        have hr2 : MRep A r.2 := h.aux (q2.mono (by decide) (by decide))
        obtain ⟨g1, g2⟩ := hr2.2.2.1 d hd
        cases e : zD A d with
        | none =>
          dsimp only
          simp (disch := omega) only [s_X3_apply_40, s_X3_apply_69, s_X3_apply_70, (g1 e).1, mR_1, mW_1, mR_2, mW_2, mR_3, mW_3, mR_4, mW_4, mR_5, mW_5, mR_6, mW_6, mR_7, mW_7, mR_9, mW_9, mR_10, mW_10, mR_11, mW_11, mR_12, mW_12, mR_13, mW_13, mR_14, mW_14, mR_15, mW_15, mR_17, mW_17, mR_18, mW_18, mR_19, mW_19, mR_20, mW_20, mR_21, mW_21, mR_25, mW_25, mR_27, mW_27, mR_31, mW_31, mR_32, mW_32, mR_33, mW_33, mR_34, mW_34, mRL_8, mWL_8, pb1, pb2, nq_lit, nq_add, nq_mul, nq_lt, nq_le, nq_eq, nq_lt0, nq10, nq00, Nat.one_ne_zero, Nat.reduceEqDiff, Nat.not_lt_zero, nq20, nq30, zb1, zb0, eq_self, mP_i, mP_o, mP_2', wr_1, wr_ne, wr_i, reduceIte, m_may1, m_may0, m_both1, m_both2, m_both0, m_all1, m_all3, m_all2, m_all0]
          exact okm_some (MO_bad hr2 (by decide))
        | some D =>
          dsimp only
          have hD := zD_ok hA e
          have hM := g2 D e
          have eg := m_goes (σ := r.2) (d := d) (by omega) hM hD (fl_ok hA p).1 q1.1
          by_cases hb : byd D.2.1 (fl A p).length = true
          · rw [if_pos hb]
            rw [hb] at eg
            simp (disch := omega) only [s_X3_apply_40, s_X3_apply_69, s_X3_apply_70, hM.1, eg, bq_t, mR_1, mW_1, mR_2, mW_2, mR_3, mW_3, mR_4, mW_4, mR_5, mW_5, mR_6, mW_6, mR_7, mW_7, mR_9, mW_9, mR_10, mW_10, mR_11, mW_11, mR_12, mW_12, mR_13, mW_13, mR_14, mW_14, mR_15, mW_15, mR_17, mW_17, mR_18, mW_18, mR_19, mW_19, mR_20, mW_20, mR_21, mW_21, mR_25, mW_25, mR_27, mW_27, mR_31, mW_31, mR_32, mW_32, mR_33, mW_33, mR_34, mW_34, mRL_8, mWL_8, pb1, pb2, nq_lit, nq_add, nq_mul, nq_lt, nq_le, nq_eq, nq_lt0, nq10, nq00, Nat.one_ne_zero, Nat.reduceEqDiff, Nat.not_lt_zero, nq20, nq30, zb1, zb0, eq_self, mP_i, mP_o, mP_2', wr_1, wr_ne, wr_i, reduceIte, m_may1, m_may0, m_both1, m_both2, m_both0, m_all1, m_all3, m_all2, m_all0]
            exact okm_some (MO_bad hr2 (by decide))
          · rw [if_neg hb]
            have hb' := Bool.eq_false_iff.mpr hb
            rw [hb'] at eg
            simp (disch := omega) only [s_X3_apply_40, s_X3_apply_70, hM.1, eg, bq_f, mR_1, mW_1, mR_2, mW_2, mR_3, mW_3, mR_4, mW_4, mR_5, mW_5, mR_6, mW_6, mR_7, mW_7, mR_9, mW_9, mR_10, mW_10, mR_11, mW_11, mR_12, mW_12, mR_13, mW_13, mR_14, mW_14, mR_15, mW_15, mR_17, mW_17, mR_18, mW_18, mR_19, mW_19, mR_20, mW_20, mR_21, mW_21, mR_25, mW_25, mR_27, mW_27, mR_31, mW_31, mR_32, mW_32, mR_33, mW_33, mR_34, mW_34, mRL_8, mWL_8, pb1, pb2, nq_lit, nq_add, nq_mul, nq_lt, nq_le, nq_eq, nq_lt0, nq10, nq00, Nat.one_ne_zero, Nat.reduceEqDiff, Nat.not_lt_zero, nq20, nq30, zb1, zb0, eq_self, mP_i, mP_o, mP_2', wr_1, wr_ne, wr_i, reduceIte, m_may1, m_may0, m_both1, m_both2, m_both0, m_all1, m_all3, m_all2, m_all0]
            refine okm_bd2 (okm_mono (m_applies (σ := mP r.2 35 (nq 0)) (d := d) (by omega) hM hD q1 (fl_ok hA p).1 hb') fun t ht => ?_)
            obtain ⟨t1, t2⟩ := ht
            refine okm_bd2 (okm_mono (m_give (app_len hD _) t1 (i := f) (by omega)) fun u hu => ?_)
            obtain ⟨u1, u2, u3⟩ := hu
            have ht2 : MRep A t.2 := (hr2.thr (nq 0)).aux (t2.mono (by decide) (by decide))
            refine okm_some (MO_FS hA ht2 (u3.mono (by decide) (by decide)) u2 hf ?_ (by rw [u1]; rfl))
            rw [u3.1 35 (by decide), t2.1 35 (by decide), mP_i]
      · rw [if_neg (fun q => c3 q.2.2)]
        simp (disch := omega) only [f_X3_apply, s_X3_apply_27, s_X3_apply_28, s_X3_apply_40, s_X3_apply_69, s_X3_apply_70, m_isPlace_t c1, m_isFile_t h0 (by omega) c2, m_isFile_f h0 (by omega) c3, pb1, pb2, nq_lit, nq_add, nq_mul, nq_lt, nq_le, nq_eq, nq_lt0, nq10, nq00, Nat.one_ne_zero, Nat.reduceEqDiff, Nat.not_lt_zero, nq20, nq30, zb1, zb0, eq_self, mP_i, mP_o, mP_2', wr_1, wr_ne, wr_i, reduceIte, m_may1, m_may0, m_both1, m_both2, m_both0, m_all1, m_all3, m_all2, m_all0]
        exact hx1
    · rw [if_neg (fun q => c2 q.2.1)]
      simp (disch := omega) only [f_X3_apply, s_X3_apply_27, s_X3_apply_28, s_X3_apply_40, s_X3_apply_69, s_X3_apply_70, m_isPlace_t c1, m_isFile_f h0 (by omega) c2, pb1, pb2, nq_lit, nq_add, nq_mul, nq_lt, nq_le, nq_eq, nq_lt0, nq10, nq00, Nat.one_ne_zero, Nat.reduceEqDiff, Nat.not_lt_zero, nq20, nq30, zb1, zb0, eq_self, mP_i, mP_o, mP_2', wr_1, wr_ne, wr_i, reduceIte, m_may1, m_may0, m_both1, m_both2, m_both0, m_all1, m_all3, m_all2, m_all0]
      exact hx1
  · rw [if_neg (fun q => c1 q.1)]
    simp (disch := omega) only [f_X3_apply, s_X3_apply_27, s_X3_apply_28, s_X3_apply_40, s_X3_apply_69, s_X3_apply_70, m_isPlace_f c1, pb1, pb2, nq_lit, nq_add, nq_mul, nq_lt, nq_le, nq_eq, nq_lt0, nq10, nq00, Nat.one_ne_zero, Nat.reduceEqDiff, Nat.not_lt_zero, nq20, nq30, zb1, zb0, eq_self, mP_i, mP_o, mP_2', wr_1, wr_ne, wr_i, reduceIte, m_may1, m_may0, m_both1, m_both2, m_both0, m_all1, m_all3, m_all2, m_all0]
    exact hx1
