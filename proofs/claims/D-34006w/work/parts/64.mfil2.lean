/-! PURE: the reference's files, on -/
set_option maxRecDepth 100000
theorem gd_ins {bs : List Nat} {p v : Nat} (hp : p ≤ bs.length) (j : Nat) : gd (bs.take p ++ v :: bs.drop p) j = if j < p then gd bs j else if j = p then v else gd bs (j - 1) := by
  rw [gd_app, List.length_take, Nat.min_eq_left hp]
  by_cases h : j < p
  · rw [if_pos h, if_pos h, gd_take h]
  · rw [if_neg h, if_neg h, gd_cons, gd_drop]
    by_cases h2 : j = p
    · rw [if_pos h2, if_pos (by omega)]
    · rw [if_neg h2, if_neg (by omega)]
      congr 1
      omega
theorem gd_rem {bs : List Nat} {p n : Nat} (hp : p ≤ bs.length) (j : Nat) : gd (bs.take p ++ bs.drop (p + n)) j = if j < p then gd bs j else gd bs (j + n) := by
  rw [gd_app, List.length_take, Nat.min_eq_left hp]
  by_cases h : j < p
  · rw [if_pos h, if_pos h, gd_take h]
  · rw [if_neg h, if_neg h, gd_drop]
    congr 1
    omega
theorem FS_refl {A : AA} {σ : Sg} (h : MRep A σ) {i : Nat} (hi : i < 6) : FS σ σ i (fl A i) := by
  refine ⟨rfl, fun j hj => ?_, (h.1.2 i hi).2, fun _ _ => rfl⟩
  by_cases hji : j = i
  · rw [if_pos hji, hji]
    exact (h.1.2 i hi).1
  · rw [if_neg hji]
theorem m_insert_l {σ0 : Sg} {i p v : Nat} {bs : List Nat} (hi : i < 6) (hb : bs.length < 120) (hv : v < 256) : ∀ (d f : Nat) (σ : Sg), d < f → p + d ≤ bs.length → σ.2.1 1 i = nq bs.length → (∀ j, j < p + d → σ.2.1 2 (120 * i + j) = nq (gd bs j)) → (∀ j, p + d < j → j ≤ bs.length → σ.2.1 2 (120 * i + j) = nq (gd bs (j - 1))) →
    (∀ j, j < 6 → σ.2.1 1 j = σ0.2.1 1 j) → (∀ x, (x < 120 * i ∨ 120 * i + 120 ≤ x) → σ.2.1 2 x = σ0.2.1 2 x) → Sx σ0 σ [] [1, 2] →
    okm (l_X3_insert_73 f (nq i, nq p, nq v, nq (p + d)) σ) fun r => r.1 = nq (bs.length + 1) ∧ FS σ0 r.2 i (bs.take p ++ v :: bs.drop p) ∧ Sx σ0 r.2 [] [1, 2] := by
  intro d
  induction d with
  | zero =>
    intro f σ hf hp hl h1 h2 h3 h4 h5
    obtain ⟨f, rfl⟩ := pre_n hf
    rw [l_X3_insert_73_s]
    simp (disch := omega) only [s_X3_insert_73, hl, Nat.add_zero, Nat.le_refl, mR_1, mW_1, mR_2, mW_2, mR_3, mW_3, mR_4, mW_4, mR_5, mW_5, mR_6, mW_6, mR_7, mW_7, mR_9, mW_9, mR_10, mW_10, mR_11, mW_11, mR_12, mW_12, mR_13, mW_13, mR_14, mW_14, mR_15, mW_15, mR_17, mW_17, mR_18, mW_18, mR_19, mW_19, mR_20, mW_20, mR_21, mW_21, mR_25, mW_25, mR_27, mW_27, mR_31, mW_31, mR_32, mW_32, mR_33, mW_33, mR_34, mW_34, mRL_8, mWL_8, pb1, pb2, nq_lit, nq_add, nq_mul, nq_lt, nq_le, nq_eq, nq_lt0, nq10, nq00, Nat.one_ne_zero, Nat.reduceEqDiff, Nat.not_lt_zero, nq20, nq30, zb1, zb0, mP_i, mP_o, mP_2', wr_1, wr_ne, wr_i, reduceIte, m_may1, m_may0, m_both1, m_both2, m_both0, m_all1, m_all3, m_all2, m_all0]
    refine okm_some ⟨rfl, ⟨h5.1 0 (by decide), fun j hj => ?_, fun j hj => ?_, fun x hx => ?_⟩, (h5.wr (by decide)).wr (by decide)⟩
    · rw [wr_at]
      by_cases hji : j = i
      · rw [if_pos hji, if_pos hji, List.length_append, List.length_cons, List.length_take, List.length_drop]
        congr 1
        omega
      · rw [if_neg hji, if_neg hji, wr_ne _ _ _ (by decide)]
        exact h3 j hj
    · rw [List.length_append, List.length_cons, List.length_take, List.length_drop] at hj
      rw [wr_ne _ _ _ (by decide), wr_at, gd_ins (by omega)]
      by_cases hjp : j < p
      · rw [if_pos hjp, if_neg (by omega)]
        exact h1 j hjp
      · rw [if_neg hjp]
        by_cases hjq : j = p
        · rw [if_pos hjq, if_pos (by omega)]
        · rw [if_neg hjq, if_neg (by omega)]
          exact h2 j (by omega) (by omega)
    · rw [wr_ne _ _ _ (by decide), wr_at, if_neg (by omega)]
      exact h4 x hx
  | succ d ih =>
    intro f σ hf hp hl h1 h2 h3 h4 h5
    obtain ⟨f, rfl⟩ := pre_n hf
    have hk : ¬ p + (d + 1) ≤ p := by omega
    rw [l_X3_insert_73_s]
    simp (disch := omega) only [s_X3_insert_73, hk, nq_pred, nq_sub, mR_1, mW_1, mR_2, mW_2, mR_3, mW_3, mR_4, mW_4, mR_5, mW_5, mR_6, mW_6, mR_7, mW_7, mR_9, mW_9, mR_10, mW_10, mR_11, mW_11, mR_12, mW_12, mR_13, mW_13, mR_14, mW_14, mR_15, mW_15, mR_17, mW_17, mR_18, mW_18, mR_19, mW_19, mR_20, mW_20, mR_21, mW_21, mR_25, mW_25, mR_27, mW_27, mR_31, mW_31, mR_32, mW_32, mR_33, mW_33, mR_34, mW_34, mRL_8, mWL_8, pb1, pb2, nq_lit, nq_add, nq_mul, nq_lt, nq_le, nq_eq, nq_lt0, nq10, nq00, Nat.one_ne_zero, Nat.reduceEqDiff, Nat.not_lt_zero, nq20, nq30, zb1, zb0, mP_i, mP_o, mP_2', wr_1, wr_ne, wr_i, reduceIte, m_may1, m_may0, m_both1, m_both2, m_both0, m_all1, m_all3, m_all2, m_all0]
    have e : p + (d + 1) - 1 = p + d := by omega
    rw [e]
    refine ih f _ (by omega) (by omega) ?_ (fun j hj => ?_) (fun j hj hj2 => ?_) (fun j hj => ?_) (fun x hx => ?_) (h5.wr (by decide))
    · rw [wr_ne _ _ _ (by decide)]
      exact hl
    · rw [wr_at, if_neg (by omega)]
      exact h1 j (by omega)
    · rw [wr_at]
      by_cases hjk : j = p + (d + 1)
      · rw [if_pos (by omega), hjk, show 120 * i + (p + (d + 1)) - 1 = 120 * i + (p + d) by omega, e]
        exact h1 (p + d) (by omega)
      · rw [if_neg (by omega)]
        exact h2 j (by omega) hj2
    · rw [wr_ne _ _ _ (by decide)]
      exact h3 j hj
    · rw [wr_at, if_neg (by omega)]
      exact h4 x hx
theorem m_insert {A : AA} {σ : Sg} (hA : AOk A) (h : MRep A σ) (x1 x2 x3 : Int32) : okm (f_X3_insert x1 x2 x3 σ) (MO LI (o_insert A x1 x2 x3)) := by
  have h0 := h.1.1
  have hn := hA.1.1
  by_cases c : okI x1 A.1.length ∧ okI x2 ((fl A (ix x1)).length + 1)
  · have e : o_insert A x1 x2 x3 = if okI x3 256 then if (fl A (ix x1)).length < 120 then yn ((fl A (ix x1)).length + 1) (uF A (ix x1) ((fl A (ix x1)).take (ix x2) ++ ix x3 :: (fl A (ix x1)).drop (ix x2))) else no 3 A else no 2 A := if_pos c
    rw [e]
    obtain ⟨c1, c2⟩ := c
    obtain ⟨i, hi, hi2, rfl⟩ := okI_get c1
    simp only [ix, ixq hi2] at c2 ⊢
    obtain ⟨p, hp, hp2, rfl⟩ := okI_get c2
    simp only [ixq hp2]
    have hl : σ.2.1 1 i = nq (fl A i).length := (h.1.2 i (by omega)).1
    have hb := (fl_ok hA i).1
    have c2' : ¬ (fl A i).length < p := by omega
    have e2 : f_X3_insert (nq i) (nq p) x3 σ = s_X3_insert_27 (nq i) (nq p) x3 (nq 1) σ := by
      simp (disch := omega) only [f_X3_insert, m_isFile_t h0 (by omega) c1, hl, c2', mR_1, mW_1, mR_2, mW_2, mR_3, mW_3, mR_4, mW_4, mR_5, mW_5, mR_6, mW_6, mR_7, mW_7, mR_9, mW_9, mR_10, mW_10, mR_11, mW_11, mR_12, mW_12, mR_13, mW_13, mR_14, mW_14, mR_15, mW_15, mR_17, mW_17, mR_18, mW_18, mR_19, mW_19, mR_20, mW_20, mR_21, mW_21, mR_25, mW_25, mR_27, mW_27, mR_31, mW_31, mR_32, mW_32, mR_33, mW_33, mR_34, mW_34, mRL_8, mWL_8, pb1, pb2, nq_lit, nq_add, nq_mul, nq_lt, nq_le, nq_eq, nq_lt0, nq10, nq00, Nat.one_ne_zero, Nat.reduceEqDiff, Nat.not_lt_zero, nq20, nq30, zb1, zb0, mP_i, mP_o, mP_2', wr_1, wr_ne, wr_i, reduceIte, m_may1, m_may0, m_both1, m_both2, m_both0, m_all1, m_all3, m_all2, m_all0]
    rw [e2]
    by_cases c3 : okI x3 256
    · rw [if_pos c3]
      obtain ⟨v, hv, hv2, rfl⟩ := okI_get c3
      simp only [ixq hv2]
      by_cases c4 : (fl A i).length < 120
      · rw [if_pos c4]
        have c4' : ¬ 120 ≤ (fl A i).length := by omega
        simp (disch := omega) only [s_X3_insert_27, s_X3_insert_57, m_isByte_t c3, hl, c4', mR_1, mW_1, mR_2, mW_2, mR_3, mW_3, mR_4, mW_4, mR_5, mW_5, mR_6, mW_6, mR_7, mW_7, mR_9, mW_9, mR_10, mW_10, mR_11, mW_11, mR_12, mW_12, mR_13, mW_13, mR_14, mW_14, mR_15, mW_15, mR_17, mW_17, mR_18, mW_18, mR_19, mW_19, mR_20, mW_20, mR_21, mW_21, mR_25, mW_25, mR_27, mW_27, mR_31, mW_31, mR_32, mW_32, mR_33, mW_33, mR_34, mW_34, mRL_8, mWL_8, pb1, pb2, nq_lit, nq_add, nq_mul, nq_lt, nq_le, nq_eq, nq_lt0, nq10, nq00, Nat.one_ne_zero, Nat.reduceEqDiff, Nat.not_lt_zero, nq20, nq30, zb1, zb0, mP_i, mP_o, mP_2', wr_1, wr_ne, wr_i, reduceIte, m_may1, m_may0, m_both1, m_both2, m_both0, m_all1, m_all3, m_all2, m_all0]
        have hk := m_insert_l (σ0 := mP σ 35 (nq 0)) (i := i) (p := p) (v := v) (bs := fl A i) (by omega) c4 hv ((fl A i).length - p) FU (mP σ 35 (nq 0)) (by unfold FU; omega) (by omega) hl (fun j hj => (h.1.2 i (by omega)).2 j (by omega : j < (fl A i).length)) (fun j hj hj2 => by omega) (fun _ _ => rfl) (fun _ _ => rfl) (Sx.refl _ _ _)
        rw [show p + ((fl A i).length - p) = (fl A i).length by omega] at hk
        refine okm_mono hk fun r hr => ?_
        obtain ⟨r1, r2, r3⟩ := hr
        exact MO_FS hA h (((Sx.refl σ _ _).mP (by decide)).trans (r3.mono (by decide) (by decide))) ⟨(r2.1).trans (mP_o _ _ (by decide)), r2.2.1, r2.2.2.1, r2.2.2.2⟩ hi ((r3.1 35 (by decide)).trans (mP_i _ _ _)) (by rw [r1]; rfl)
      · rw [if_neg c4]
        have c4' : 120 ≤ (fl A i).length := by omega
        simp (disch := omega) only [s_X3_insert_27, s_X3_insert_56, s_X3_insert_57, m_isByte_t c3, hl, c4', mR_1, mW_1, mR_2, mW_2, mR_3, mW_3, mR_4, mW_4, mR_5, mW_5, mR_6, mW_6, mR_7, mW_7, mR_9, mW_9, mR_10, mW_10, mR_11, mW_11, mR_12, mW_12, mR_13, mW_13, mR_14, mW_14, mR_15, mW_15, mR_17, mW_17, mR_18, mW_18, mR_19, mW_19, mR_20, mW_20, mR_21, mW_21, mR_25, mW_25, mR_27, mW_27, mR_31, mW_31, mR_32, mW_32, mR_33, mW_33, mR_34, mW_34, mRL_8, mWL_8, pb1, pb2, nq_lit, nq_add, nq_mul, nq_lt, nq_le, nq_eq, nq_lt0, nq10, nq00, Nat.one_ne_zero, Nat.reduceEqDiff, Nat.not_lt_zero, nq20, nq30, zb1, zb0, mP_i, mP_o, mP_2', wr_1, wr_ne, wr_i, reduceIte, m_may1, m_may0, m_both1, m_both2, m_both0, m_all1, m_all3, m_all2, m_all0]
        exact okm_some (MO_bad h (by decide))
    · rw [if_neg c3]
      have hx : okm (some ((nq 0 : Int32), mP σ 35 (nq 2))) (MO LI (no 2 A)) := okm_some (MO_bad h (by decide))
      by_cases c4 : 120 ≤ (fl A i).length
      · simp (disch := omega) only [s_X3_insert_27, s_X3_insert_56, s_X3_insert_57, m_isByte_f c3, hl, c4, mR_1, mW_1, mR_2, mW_2, mR_3, mW_3, mR_4, mW_4, mR_5, mW_5, mR_6, mW_6, mR_7, mW_7, mR_9, mW_9, mR_10, mW_10, mR_11, mW_11, mR_12, mW_12, mR_13, mW_13, mR_14, mW_14, mR_15, mW_15, mR_17, mW_17, mR_18, mW_18, mR_19, mW_19, mR_20, mW_20, mR_21, mW_21, mR_25, mW_25, mR_27, mW_27, mR_31, mW_31, mR_32, mW_32, mR_33, mW_33, mR_34, mW_34, mRL_8, mWL_8, pb1, pb2, nq_lit, nq_add, nq_mul, nq_lt, nq_le, nq_eq, nq_lt0, nq10, nq00, Nat.one_ne_zero, Nat.reduceEqDiff, Nat.not_lt_zero, nq20, nq30, zb1, zb0, mP_i, mP_o, mP_2', wr_1, wr_ne, wr_i, reduceIte, m_may1, m_may0, m_both1, m_both2, m_both0, m_all1, m_all3, m_all2, m_all0]
        exact hx
      · simp (disch := omega) only [s_X3_insert_27, s_X3_insert_56, s_X3_insert_57, m_isByte_f c3, hl, c4, mR_1, mW_1, mR_2, mW_2, mR_3, mW_3, mR_4, mW_4, mR_5, mW_5, mR_6, mW_6, mR_7, mW_7, mR_9, mW_9, mR_10, mW_10, mR_11, mW_11, mR_12, mW_12, mR_13, mW_13, mR_14, mW_14, mR_15, mW_15, mR_17, mW_17, mR_18, mW_18, mR_19, mW_19, mR_20, mW_20, mR_21, mW_21, mR_25, mW_25, mR_27, mW_27, mR_31, mW_31, mR_32, mW_32, mR_33, mW_33, mR_34, mW_34, mRL_8, mWL_8, pb1, pb2, nq_lit, nq_add, nq_mul, nq_lt, nq_le, nq_eq, nq_lt0, nq10, nq00, Nat.one_ne_zero, Nat.reduceEqDiff, Nat.not_lt_zero, nq20, nq30, zb1, zb0, mP_i, mP_o, mP_2', wr_1, wr_ne, wr_i, reduceIte, m_may1, m_may0, m_both1, m_both2, m_both0, m_all1, m_all3, m_all2, m_all0]
        exact hx
  · have e : o_insert A x1 x2 x3 = no 1 A := if_neg c
    rw [e]
    have hx : okm (some ((nq 0 : Int32), mP σ 35 (nq 1))) (MO LI (no 1 A)) := okm_some (MO_bad h (by decide))
    have hx3 : okm (s_X3_insert_26 x1 x2 x3 σ) (MO LI (no 1 A)) := by
      by_cases c3 : okI x3 256
      · simp (disch := omega) only [s_X3_insert_26, s_X3_insert_27, s_X3_insert_56, s_X3_insert_57, m_isByte_t c3, pb1, pb2, nq_lit, nq_add, nq_mul, nq_lt, nq_le, nq_eq, nq_lt0, nq10, nq00, Nat.one_ne_zero, Nat.reduceEqDiff, Nat.not_lt_zero, nq20, nq30, zb1, zb0, mP_i, mP_o, mP_2', wr_1, wr_ne, wr_i, reduceIte, m_may1, m_may0, m_both1, m_both2, m_both0, m_all1, m_all3, m_all2, m_all0]
        exact hx
      · simp (disch := omega) only [s_X3_insert_26, s_X3_insert_27, s_X3_insert_56, s_X3_insert_57, m_isByte_f c3, pb1, pb2, nq_lit, nq_add, nq_mul, nq_lt, nq_le, nq_eq, nq_lt0, nq10, nq00, Nat.one_ne_zero, Nat.reduceEqDiff, Nat.not_lt_zero, nq20, nq30, zb1, zb0, mP_i, mP_o, mP_2', wr_1, wr_ne, wr_i, reduceIte, m_may1, m_may0, m_both1, m_both2, m_both0, m_all1, m_all3, m_all2, m_all0]
        exact hx
    by_cases c1 : okI x1 A.1.length
    · obtain ⟨i, hi, hi2, rfl⟩ := okI_get c1
      have hl : σ.2.1 1 i = nq (fl A i).length := (h.1.2 i (by omega)).1
      have hb := (fl_ok hA i).1
      by_cases c2 : x2 < nq 0
      · simp (disch := omega) only [f_X3_insert, m_isFile_t h0 (by omega) c1, hl, c2, mR_1, mW_1, mR_2, mW_2, mR_3, mW_3, mR_4, mW_4, mR_5, mW_5, mR_6, mW_6, mR_7, mW_7, mR_9, mW_9, mR_10, mW_10, mR_11, mW_11, mR_12, mW_12, mR_13, mW_13, mR_14, mW_14, mR_15, mW_15, mR_17, mW_17, mR_18, mW_18, mR_19, mW_19, mR_20, mW_20, mR_21, mW_21, mR_25, mW_25, mR_27, mW_27, mR_31, mW_31, mR_32, mW_32, mR_33, mW_33, mR_34, mW_34, mRL_8, mWL_8, pb1, pb2, nq_lit, nq_add, nq_mul, nq_lt, nq_le, nq_eq, nq_lt0, nq10, nq00, Nat.one_ne_zero, Nat.reduceEqDiff, Nat.not_lt_zero, nq20, nq30, zb1, zb0, mP_i, mP_o, mP_2', wr_1, wr_ne, wr_i, reduceIte, m_may1, m_may0, m_both1, m_both2, m_both0, m_all1, m_all3, m_all2, m_all0]
        exact hx3
      · by_cases c3 : nq (fl A i).length < x2
        · simp (disch := omega) only [f_X3_insert, m_isFile_t h0 (by omega) c1, hl, c2, c3, mR_1, mW_1, mR_2, mW_2, mR_3, mW_3, mR_4, mW_4, mR_5, mW_5, mR_6, mW_6, mR_7, mW_7, mR_9, mW_9, mR_10, mW_10, mR_11, mW_11, mR_12, mW_12, mR_13, mW_13, mR_14, mW_14, mR_15, mW_15, mR_17, mW_17, mR_18, mW_18, mR_19, mW_19, mR_20, mW_20, mR_21, mW_21, mR_25, mW_25, mR_27, mW_27, mR_31, mW_31, mR_32, mW_32, mR_33, mW_33, mR_34, mW_34, mRL_8, mWL_8, pb1, pb2, nq_lit, nq_add, nq_mul, nq_lt, nq_le, nq_eq, nq_lt0, nq10, nq00, Nat.one_ne_zero, Nat.reduceEqDiff, Nat.not_lt_zero, nq20, nq30, zb1, zb0, mP_i, mP_o, mP_2', wr_1, wr_ne, wr_i, reduceIte, m_may1, m_may0, m_both1, m_both2, m_both0, m_all1, m_all3, m_all2, m_all0]
          exact hx3
        · exact absurd ⟨c1, by simp only [ix, ixq hi2]; exact (okI_s (by omega)).mpr ⟨c2, c3⟩⟩ c
    · simp (disch := omega) only [f_X3_insert, m_isFile_f h0 (by omega) c1, pb1, pb2, nq_lit, nq_add, nq_mul, nq_lt, nq_le, nq_eq, nq_lt0, nq10, nq00, Nat.one_ne_zero, Nat.reduceEqDiff, Nat.not_lt_zero, nq20, nq30, zb1, zb0, mP_i, mP_o, mP_2', wr_1, wr_ne, wr_i, reduceIte, m_may1, m_may0, m_both1, m_both2, m_both0, m_all1, m_all3, m_all2, m_all0]
      exact hx3
theorem m_remove_l {σ0 : Sg} {i p n : Nat} {bs : List Nat} (hi : i < 6) (hb : bs.length ≤ 120) (hp : p + n ≤ bs.length) : ∀ (d k f : Nat) (σ : Sg), d < f → k + d = bs.length - n → p ≤ k → σ.2.1 1 i = nq (bs.length - n) → (∀ j, j < k → σ.2.1 2 (120 * i + j) = nq (if j < p then gd bs j else gd bs (j + n))) → (∀ j, k ≤ j → j < bs.length → σ.2.1 2 (120 * i + j) = nq (gd bs j)) →
    (∀ j, j < 6 → j ≠ i → σ.2.1 1 j = σ0.2.1 1 j) → (∀ x, (x < 120 * i ∨ 120 * i + 120 ≤ x) → σ.2.1 2 x = σ0.2.1 2 x) → Sx σ0 σ [] [1, 2] →
    okm (l_X3_remove_79 f (nq i, nq n, nq k) σ) fun r => r.1 = nq (bs.length - n) ∧ FS σ0 r.2 i (bs.take p ++ bs.drop (p + n)) ∧ Sx σ0 r.2 [] [1, 2] := by
  intro d
  induction d with
  | zero =>
    intro k f σ hf hk hpk hl h1 h2 h3 h4 h5
    obtain ⟨f, rfl⟩ := pre_n hf
    have hk' : bs.length - n ≤ k := by omega
    have hlen : (bs.take p ++ bs.drop (p + n)).length = bs.length - n := by
      rw [List.length_append, List.length_take, List.length_drop]
      omega
    rw [l_X3_remove_79_s]
    simp (disch := omega) only [s_X3_remove_79, hl, hk', mR_1, mW_1, mR_2, mW_2, mR_3, mW_3, mR_4, mW_4, mR_5, mW_5, mR_6, mW_6, mR_7, mW_7, mR_9, mW_9, mR_10, mW_10, mR_11, mW_11, mR_12, mW_12, mR_13, mW_13, mR_14, mW_14, mR_15, mW_15, mR_17, mW_17, mR_18, mW_18, mR_19, mW_19, mR_20, mW_20, mR_21, mW_21, mR_25, mW_25, mR_27, mW_27, mR_31, mW_31, mR_32, mW_32, mR_33, mW_33, mR_34, mW_34, mRL_8, mWL_8, pb1, pb2, nq_lit, nq_add, nq_mul, nq_lt, nq_le, nq_eq, nq_lt0, nq10, nq00, Nat.one_ne_zero, Nat.reduceEqDiff, Nat.not_lt_zero, nq20, nq30, zb1, zb0, mP_i, mP_o, mP_2', wr_1, wr_ne, wr_i, reduceIte, m_may1, m_may0, m_both1, m_both2, m_both0, m_all1, m_all3, m_all2, m_all0]
    refine okm_some ⟨rfl, ⟨h5.1 0 (by decide), fun j hj => ?_, fun j hj => ?_, h4⟩, h5⟩
    · by_cases hji : j = i
      · rw [if_pos hji, hji, hlen]
        exact hl
      · rw [if_neg hji]
        exact h3 j hj hji
    · rw [hlen] at hj
      rw [gd_rem (by omega)]
      exact h1 j (by omega)
  | succ d ih =>
    intro k f σ hf hk hpk hl h1 h2 h3 h4 h5
    obtain ⟨f, rfl⟩ := pre_n hf
    have hk' : ¬ bs.length - n ≤ k := by omega
    rw [l_X3_remove_79_s]
    simp (disch := omega) only [s_X3_remove_79, hl, hk', mR_1, mW_1, mR_2, mW_2, mR_3, mW_3, mR_4, mW_4, mR_5, mW_5, mR_6, mW_6, mR_7, mW_7, mR_9, mW_9, mR_10, mW_10, mR_11, mW_11, mR_12, mW_12, mR_13, mW_13, mR_14, mW_14, mR_15, mW_15, mR_17, mW_17, mR_18, mW_18, mR_19, mW_19, mR_20, mW_20, mR_21, mW_21, mR_25, mW_25, mR_27, mW_27, mR_31, mW_31, mR_32, mW_32, mR_33, mW_33, mR_34, mW_34, mRL_8, mWL_8, pb1, pb2, nq_lit, nq_add, nq_mul, nq_lt, nq_le, nq_eq, nq_lt0, nq10, nq00, Nat.one_ne_zero, Nat.reduceEqDiff, Nat.not_lt_zero, nq20, nq30, zb1, zb0, mP_i, mP_o, mP_2', wr_1, wr_ne, wr_i, reduceIte, m_may1, m_may0, m_both1, m_both2, m_both0, m_all1, m_all3, m_all2, m_all0]
    refine ih (k + 1) f _ (by omega) (by omega) (by omega) ?_ (fun j hj => ?_) (fun j hj hj2 => ?_) (fun j hj hji => ?_) (fun x hx => ?_) (h5.wr (by decide))
    · rw [wr_ne _ _ _ (by decide)]
      exact hl
    · rw [wr_at]
      by_cases hjk : j = k
      · rw [if_pos (by omega), if_neg (by omega), hjk, Nat.add_assoc]
        exact h2 (k + n) (by omega) (by omega)
      · rw [if_neg (by omega)]
        exact h1 j (by omega)
    · rw [wr_at, if_neg (by omega)]
      exact h2 j (by omega) hj2
    · rw [wr_ne _ _ _ (by decide)]
      exact h3 j hj hji
    · rw [wr_at, if_neg (by omega)]
      exact h4 x hx
theorem m_remove {A : AA} {σ : Sg} (hA : AOk A) (h : MRep A σ) (x1 x2 x3 : Int32) : okm (f_X3_remove x1 x2 x3 σ) (MO LI (o_remove A x1 x2 x3)) := by
  have h0 := h.1.1
  have hn := hA.1.1
  by_cases c : okI x1 A.1.length ∧ okI x2 ((fl A (ix x1)).length + 1)
  · have e : o_remove A x1 x2 x3 = if okI x3 ((fl A (ix x1)).length - ix x2 + 1) then yn ((fl A (ix x1)).length - ix x3) (uF A (ix x1) ((fl A (ix x1)).take (ix x2) ++ (fl A (ix x1)).drop (ix x2 + ix x3))) else no 2 A := if_pos c
    rw [e]
    obtain ⟨c1, c2⟩ := c
    obtain ⟨i, hi, hi2, rfl⟩ := okI_get c1
    simp only [ix, ixq hi2] at c2 ⊢
    obtain ⟨p, hp, hp2, rfl⟩ := okI_get c2
    simp only [ixq hp2]
    have hl : σ.2.1 1 i = nq (fl A i).length := (h.1.2 i (by omega)).1
    have hb := (fl_ok hA i).1
    have c2' : ¬ (fl A i).length < p := by omega
    have e2 : f_X3_remove (nq i) (nq p) x3 σ = s_X3_remove_27 (nq i) (nq p) x3 (nq 1) σ := by
      simp (disch := omega) only [f_X3_remove, m_isFile_t h0 (by omega) c1, hl, c2', mR_1, mW_1, mR_2, mW_2, mR_3, mW_3, mR_4, mW_4, mR_5, mW_5, mR_6, mW_6, mR_7, mW_7, mR_9, mW_9, mR_10, mW_10, mR_11, mW_11, mR_12, mW_12, mR_13, mW_13, mR_14, mW_14, mR_15, mW_15, mR_17, mW_17, mR_18, mW_18, mR_19, mW_19, mR_20, mW_20, mR_21, mW_21, mR_25, mW_25, mR_27, mW_27, mR_31, mW_31, mR_32, mW_32, mR_33, mW_33, mR_34, mW_34, mRL_8, mWL_8, pb1, pb2, nq_lit, nq_add, nq_mul, nq_lt, nq_le, nq_eq, nq_lt0, nq10, nq00, Nat.one_ne_zero, Nat.reduceEqDiff, Nat.not_lt_zero, nq20, nq30, zb1, zb0, mP_i, mP_o, mP_2', wr_1, wr_ne, wr_i, reduceIte, m_may1, m_may0, m_both1, m_both2, m_both0, m_all1, m_all3, m_all2, m_all0]
    rw [e2]
    by_cases c3 : okI x3 ((fl A i).length - p + 1)
    · rw [if_pos c3]
      obtain ⟨n, hn1, hn2, rfl⟩ := okI_get c3
      simp only [ixq hn2]
      have c4 : ¬ (fl A i).length - p < n := by omega
      simp (disch := omega) only [s_X3_remove_27, s_X3_remove_58, nq_sub, hl, c4, mR_1, mW_1, mR_2, mW_2, mR_3, mW_3, mR_4, mW_4, mR_5, mW_5, mR_6, mW_6, mR_7, mW_7, mR_9, mW_9, mR_10, mW_10, mR_11, mW_11, mR_12, mW_12, mR_13, mW_13, mR_14, mW_14, mR_15, mW_15, mR_17, mW_17, mR_18, mW_18, mR_19, mW_19, mR_20, mW_20, mR_21, mW_21, mR_25, mW_25, mR_27, mW_27, mR_31, mW_31, mR_32, mW_32, mR_33, mW_33, mR_34, mW_34, mRL_8, mWL_8, pb1, pb2, nq_lit, nq_add, nq_mul, nq_lt, nq_le, nq_eq, nq_lt0, nq10, nq00, Nat.one_ne_zero, Nat.reduceEqDiff, Nat.not_lt_zero, nq20, nq30, zb1, zb0, mP_i, mP_o, mP_2', wr_1, wr_ne, wr_i, reduceIte, m_may1, m_may0, m_both1, m_both2, m_both0, m_all1, m_all3, m_all2, m_all0]
      have hk := m_remove_l (σ0 := wr (mP σ 35 (nq 0)) 1 i (nq ((fl A i).length - n))) (i := i) (p := p) (n := n) (bs := fl A i) (by omega) hb (by omega) ((fl A i).length - n - p) p FU (wr (mP σ 35 (nq 0)) 1 i (nq ((fl A i).length - n))) (by unfold FU; omega) (by omega) (Nat.le_refl _) (wr_i _ _ _ _) (fun j hj => by
        rw [wr_ne _ _ _ (by decide), if_pos hj]
        exact (h.1.2 i (by omega)).2 j (by omega : j < (fl A i).length)) (fun j hj hj2 => by
        rw [wr_ne _ _ _ (by decide)]
        exact (h.1.2 i (by omega)).2 j hj2) (fun _ _ _ => rfl) (fun _ _ => rfl) (Sx.refl _ _ _)
      refine okm_mono hk fun r hr => ?_
      obtain ⟨r1, r2, r3⟩ := hr
      refine MO_FS hA h ((((Sx.refl σ _ _).mP (by decide)).wr (by decide)).trans (r3.mono (by decide) (by decide))) ⟨(r2.1).trans (by rw [wr_1]; exact mP_o _ _ (by decide)), fun j hj => ?_, r2.2.2.1, fun x hx => ?_⟩ hi ((r3.1 35 (by decide)).trans (by rw [wr_1]; exact mP_i _ _ _)) (by rw [r1]; rfl)
      · rw [r2.2.1 j hj]
        by_cases hji : j = i
        · rw [if_pos hji, if_pos hji]
        · rw [if_neg hji, if_neg hji, wr_o _ _ hji]
          rfl
      · rw [r2.2.2.2 x hx, wr_ne _ _ _ (by decide)]
        rfl
    · rw [if_neg c3]
      have hx : okm (some ((nq 0 : Int32), mP σ 35 (nq 2))) (MO LI (no 2 A)) := okm_some (MO_bad h (by decide))
      by_cases c4 : x3 < nq 0
      · simp (disch := omega) only [s_X3_remove_27, s_X3_remove_57, s_X3_remove_58, nq_sub, hl, c4, mR_1, mW_1, mR_2, mW_2, mR_3, mW_3, mR_4, mW_4, mR_5, mW_5, mR_6, mW_6, mR_7, mW_7, mR_9, mW_9, mR_10, mW_10, mR_11, mW_11, mR_12, mW_12, mR_13, mW_13, mR_14, mW_14, mR_15, mW_15, mR_17, mW_17, mR_18, mW_18, mR_19, mW_19, mR_20, mW_20, mR_21, mW_21, mR_25, mW_25, mR_27, mW_27, mR_31, mW_31, mR_32, mW_32, mR_33, mW_33, mR_34, mW_34, mRL_8, mWL_8, pb1, pb2, nq_lit, nq_add, nq_mul, nq_lt, nq_le, nq_eq, nq_lt0, nq10, nq00, Nat.one_ne_zero, Nat.reduceEqDiff, Nat.not_lt_zero, nq20, nq30, zb1, zb0, mP_i, mP_o, mP_2', wr_1, wr_ne, wr_i, reduceIte, m_may1, m_may0, m_both1, m_both2, m_both0, m_all1, m_all3, m_all2, m_all0]
        exact hx
      · by_cases c5 : nq ((fl A i).length - p) < x3
        · simp (disch := omega) only [s_X3_remove_27, s_X3_remove_57, s_X3_remove_58, nq_sub, hl, c4, c5, mR_1, mW_1, mR_2, mW_2, mR_3, mW_3, mR_4, mW_4, mR_5, mW_5, mR_6, mW_6, mR_7, mW_7, mR_9, mW_9, mR_10, mW_10, mR_11, mW_11, mR_12, mW_12, mR_13, mW_13, mR_14, mW_14, mR_15, mW_15, mR_17, mW_17, mR_18, mW_18, mR_19, mW_19, mR_20, mW_20, mR_21, mW_21, mR_25, mW_25, mR_27, mW_27, mR_31, mW_31, mR_32, mW_32, mR_33, mW_33, mR_34, mW_34, mRL_8, mWL_8, pb1, pb2, nq_lit, nq_add, nq_mul, nq_lt, nq_le, nq_eq, nq_lt0, nq10, nq00, Nat.one_ne_zero, Nat.reduceEqDiff, Nat.not_lt_zero, nq20, nq30, zb1, zb0, mP_i, mP_o, mP_2', wr_1, wr_ne, wr_i, reduceIte, m_may1, m_may0, m_both1, m_both2, m_both0, m_all1, m_all3, m_all2, m_all0]
          exact hx
        · exact absurd ((okI_s (by omega)).mpr ⟨c4, c5⟩) c3
  · have e : o_remove A x1 x2 x3 = no 1 A := if_neg c
    rw [e]
    have hx : okm (some ((nq 0 : Int32), mP σ 35 (nq 1))) (MO LI (no 1 A)) := okm_some (MO_bad h (by decide))
    have hx3 : okm (s_X3_remove_26 x1 x2 x3 σ) (MO LI (no 1 A)) := by
      simp (disch := omega) only [s_X3_remove_26, s_X3_remove_27, s_X3_remove_57, s_X3_remove_58, pb1, pb2, nq_lit, nq_add, nq_mul, nq_lt, nq_le, nq_eq, nq_lt0, nq10, nq00, Nat.one_ne_zero, Nat.reduceEqDiff, Nat.not_lt_zero, nq20, nq30, zb1, zb0, mP_i, mP_o, mP_2', wr_1, wr_ne, wr_i, reduceIte, m_may1, m_may0, m_both1, m_both2, m_both0, m_all1, m_all3, m_all2, m_all0]
      exact hx
    by_cases c1 : okI x1 A.1.length
    · obtain ⟨i, hi, hi2, rfl⟩ := okI_get c1
      have hl : σ.2.1 1 i = nq (fl A i).length := (h.1.2 i (by omega)).1
      have hb := (fl_ok hA i).1
      by_cases c2 : x2 < nq 0
      · simp (disch := omega) only [f_X3_remove, m_isFile_t h0 (by omega) c1, hl, c2, mR_1, mW_1, mR_2, mW_2, mR_3, mW_3, mR_4, mW_4, mR_5, mW_5, mR_6, mW_6, mR_7, mW_7, mR_9, mW_9, mR_10, mW_10, mR_11, mW_11, mR_12, mW_12, mR_13, mW_13, mR_14, mW_14, mR_15, mW_15, mR_17, mW_17, mR_18, mW_18, mR_19, mW_19, mR_20, mW_20, mR_21, mW_21, mR_25, mW_25, mR_27, mW_27, mR_31, mW_31, mR_32, mW_32, mR_33, mW_33, mR_34, mW_34, mRL_8, mWL_8, pb1, pb2, nq_lit, nq_add, nq_mul, nq_lt, nq_le, nq_eq, nq_lt0, nq10, nq00, Nat.one_ne_zero, Nat.reduceEqDiff, Nat.not_lt_zero, nq20, nq30, zb1, zb0, mP_i, mP_o, mP_2', wr_1, wr_ne, wr_i, reduceIte, m_may1, m_may0, m_both1, m_both2, m_both0, m_all1, m_all3, m_all2, m_all0]
        exact hx3
      · by_cases c3 : nq (fl A i).length < x2
        · simp (disch := omega) only [f_X3_remove, m_isFile_t h0 (by omega) c1, hl, c2, c3, mR_1, mW_1, mR_2, mW_2, mR_3, mW_3, mR_4, mW_4, mR_5, mW_5, mR_6, mW_6, mR_7, mW_7, mR_9, mW_9, mR_10, mW_10, mR_11, mW_11, mR_12, mW_12, mR_13, mW_13, mR_14, mW_14, mR_15, mW_15, mR_17, mW_17, mR_18, mW_18, mR_19, mW_19, mR_20, mW_20, mR_21, mW_21, mR_25, mW_25, mR_27, mW_27, mR_31, mW_31, mR_32, mW_32, mR_33, mW_33, mR_34, mW_34, mRL_8, mWL_8, pb1, pb2, nq_lit, nq_add, nq_mul, nq_lt, nq_le, nq_eq, nq_lt0, nq10, nq00, Nat.one_ne_zero, Nat.reduceEqDiff, Nat.not_lt_zero, nq20, nq30, zb1, zb0, mP_i, mP_o, mP_2', wr_1, wr_ne, wr_i, reduceIte, m_may1, m_may0, m_both1, m_both2, m_both0, m_all1, m_all3, m_all2, m_all0]
          exact hx3
        · exact absurd ⟨c1, by simp only [ix, ixq hi2]; exact (okI_s (by omega)).mpr ⟨c2, c3⟩⟩ c
    · simp (disch := omega) only [f_X3_remove, m_isFile_f h0 (by omega) c1, pb1, pb2, nq_lit, nq_add, nq_mul, nq_lt, nq_le, nq_eq, nq_lt0, nq10, nq00, Nat.one_ne_zero, Nat.reduceEqDiff, Nat.not_lt_zero, nq20, nq30, zb1, zb0, mP_i, mP_o, mP_2', wr_1, wr_ne, wr_i, reduceIte, m_may1, m_may0, m_both1, m_both2, m_both0, m_all1, m_all3, m_all2, m_all0]
      exact hx3
/-- the bytes that are made -/
def MB (σ : Sg) (bs : List Nat) : Prop := σ.1 26 = nq bs.length ∧ ∀ j, j < bs.length → σ.2.1 25 j = nq (gd bs j)
theorem m_copy_l {σ0 : Sg} {i j : Nat} {bs : List Nat} (hi : i < 6) (hj : j < 6) (hb : bs.length ≤ 120) : ∀ (d k f : Nat) (σ : Sg), d < f → k + d = bs.length → σ.2.1 1 i = nq bs.length → (∀ x, x < bs.length → σ.2.1 2 (120 * i + x) = nq (gd bs x)) → (∀ x, x < k → σ.2.1 2 (120 * j + x) = nq (gd bs x)) →
    (∀ x, x < 6 → σ.2.1 1 x = if x = j then nq bs.length else σ0.2.1 1 x) → (∀ x, (x < 120 * j ∨ 120 * j + 120 ≤ x) → σ.2.1 2 x = σ0.2.1 2 x) → Sx σ0 σ [] [1, 2] →
    okm (l_X3_copy_42 f (nq i, nq j, nq k) σ) fun r => FS σ0 r.2 j bs ∧ Sx σ0 r.2 [] [1, 2] := by
  intro d
  induction d with
  | zero =>
    intro k f σ hf hk hl h1 h2 h3 h4 h5
    obtain ⟨f, rfl⟩ := pre_n hf
    have hk' : bs.length ≤ k := by omega
    rw [l_X3_copy_42_s]
    simp (disch := omega) only [s_X3_copy_42, s_X3_copy_80, hl, hk', mR_1, mW_1, mR_2, mW_2, mR_3, mW_3, mR_4, mW_4, mR_5, mW_5, mR_6, mW_6, mR_7, mW_7, mR_9, mW_9, mR_10, mW_10, mR_11, mW_11, mR_12, mW_12, mR_13, mW_13, mR_14, mW_14, mR_15, mW_15, mR_17, mW_17, mR_18, mW_18, mR_19, mW_19, mR_20, mW_20, mR_21, mW_21, mR_25, mW_25, mR_27, mW_27, mR_31, mW_31, mR_32, mW_32, mR_33, mW_33, mR_34, mW_34, mRL_8, mWL_8, pb1, pb2, nq_lit, nq_add, nq_mul, nq_lt, nq_le, nq_eq, nq_lt0, nq10, nq00, Nat.one_ne_zero, Nat.reduceEqDiff, Nat.not_lt_zero, nq20, nq30, zb1, zb0, mP_i, mP_o, mP_2', wr_1, wr_ne, wr_i, reduceIte, m_may1, m_may0, m_both1, m_both2, m_both0, m_all1, m_all3, m_all2, m_all0]
    exact okm_some ⟨⟨h5.1 0 (by decide), h3, fun x hx => h2 x (by omega), h4⟩, h5⟩
  | succ d ih =>
    intro k f σ hf hk hl h1 h2 h3 h4 h5
    obtain ⟨f, rfl⟩ := pre_n hf
    have hk' : ¬ bs.length ≤ k := by omega
    rw [l_X3_copy_42_s]
    simp (disch := omega) only [s_X3_copy_42, hl, hk', h1 k (by omega), mR_1, mW_1, mR_2, mW_2, mR_3, mW_3, mR_4, mW_4, mR_5, mW_5, mR_6, mW_6, mR_7, mW_7, mR_9, mW_9, mR_10, mW_10, mR_11, mW_11, mR_12, mW_12, mR_13, mW_13, mR_14, mW_14, mR_15, mW_15, mR_17, mW_17, mR_18, mW_18, mR_19, mW_19, mR_20, mW_20, mR_21, mW_21, mR_25, mW_25, mR_27, mW_27, mR_31, mW_31, mR_32, mW_32, mR_33, mW_33, mR_34, mW_34, mRL_8, mWL_8, pb1, pb2, nq_lit, nq_add, nq_mul, nq_lt, nq_le, nq_eq, nq_lt0, nq10, nq00, Nat.one_ne_zero, Nat.reduceEqDiff, Nat.not_lt_zero, nq20, nq30, zb1, zb0, mP_i, mP_o, mP_2', wr_1, wr_ne, wr_i, reduceIte, m_may1, m_may0, m_both1, m_both2, m_both0, m_all1, m_all3, m_all2, m_all0]
    refine ih (k + 1) f _ (by omega) (by omega) ?_ (fun x hx => ?_) (fun x hx => ?_) (fun x hx => ?_) (fun x hx => ?_) (h5.wr (by decide))
    · rw [wr_ne _ _ _ (by decide)]
      exact hl
    · rw [wr_at]
      by_cases q : 120 * i + x = 120 * j + k
      · rw [if_pos q, show x = k by omega]
      · rw [if_neg q]
        exact h1 x hx
    · rw [wr_at]
      by_cases q : x = k
      · rw [if_pos (by omega), q]
      · rw [if_neg (by omega)]
        exact h2 x (by omega)
    · rw [wr_ne _ _ _ (by decide)]
      exact h3 x hx
    · rw [wr_at, if_neg (by omega)]
      exact h4 x hx
theorem m_copy {A : AA} {σ : Sg} (hA : AOk A) (h : MRep A σ) (x1 x2 : Int32) : okm (f_X3_copy x1 x2 σ) (MO LU (o_copy A x1 x2)) := by
  have h0 := h.1.1
  have hn := hA.1.1
  have bad : ¬ (okI x1 A.1.length ∧ okI x2 A.1.length) → f_X3_copy x1 x2 σ = some ((), mP σ 35 (nq 1)) → okm (f_X3_copy x1 x2 σ) (MO LU (o_copy A x1 x2)) := fun hc he => by
    have e : o_copy A x1 x2 = no 1 A := if_neg hc
    rw [e, he]
    exact okm_some (MO_bad h (by decide))
  by_cases c1 : okI x1 A.1.length
  · by_cases c2 : okI x2 A.1.length
    · have e : o_copy A x1 x2 = yn 0 (uF A (ix x2) (fl A (ix x1))) := if_pos ⟨c1, c2⟩
      rw [e]
      obtain ⟨i, hi, hi2, rfl⟩ := okI_get c1
      obtain ⟨j, hj, hj2, rfl⟩ := okI_get c2
      simp only [ix, ixq hi2, ixq hj2]
      have hl1 : σ.2.1 1 i = nq (fl A i).length := (h.1.2 i (by omega)).1
      have b1 := (fl_ok hA i).1
      simp (disch := omega) only [f_X3_copy, s_X3_copy_22, m_isFile_t h0 (by omega) c1, m_isFile_t h0 (by omega) c2, hl1, mR_1, mW_1, mR_2, mW_2, mR_3, mW_3, mR_4, mW_4, mR_5, mW_5, mR_6, mW_6, mR_7, mW_7, mR_9, mW_9, mR_10, mW_10, mR_11, mW_11, mR_12, mW_12, mR_13, mW_13, mR_14, mW_14, mR_15, mW_15, mR_17, mW_17, mR_18, mW_18, mR_19, mW_19, mR_20, mW_20, mR_21, mW_21, mR_25, mW_25, mR_27, mW_27, mR_31, mW_31, mR_32, mW_32, mR_33, mW_33, mR_34, mW_34, mRL_8, mWL_8, pb1, pb2, nq_lit, nq_add, nq_mul, nq_lt, nq_le, nq_eq, nq_lt0, nq10, nq00, Nat.one_ne_zero, Nat.reduceEqDiff, Nat.not_lt_zero, nq20, nq30, zb1, zb0, mP_i, mP_o, mP_2', wr_1, wr_ne, wr_i, reduceIte, m_may1, m_may0, m_both1, m_both2, m_both0, m_all1, m_all3, m_all2, m_all0]
      have hk := m_copy_l (σ0 := mP σ 35 (nq 0)) (i := i) (j := j) (bs := fl A i) (by omega) (by omega) b1 (fl A i).length 0 FU (wr (mP σ 35 (nq 0)) 1 j (nq (fl A i).length)) (by unfold FU; omega) (by omega) (by
        rw [wr_at]
        by_cases q : i = j
        · rw [if_pos q]
        · rw [if_neg q]
          exact hl1) (fun x hx => by
        rw [wr_ne _ _ _ (by decide)]
        exact (h.1.2 i (by omega)).2 x hx) (fun x hx => absurd hx (Nat.not_lt_zero x)) (fun x hx => wr_at _ _ _ _ _) (fun x hx => by rw [wr_ne _ _ _ (by decide)]) ((Sx.refl _ _ _).wr (by decide))
      refine okm_mono hk fun r hr => ?_
      obtain ⟨r2, r3⟩ := hr
      exact MO_FS hA h (((Sx.refl σ _ _).mP (by decide)).trans (r3.mono (by decide) (by decide))) ⟨(r2.1).trans (mP_o _ _ (by decide)), r2.2.1, r2.2.2.1, r2.2.2.2⟩ hj ((r3.1 35 (by decide)).trans (mP_i _ _ _)) rfl
    · refine bad (fun q => c2 q.2) ?_
      simp (disch := omega) only [f_X3_copy, s_X3_copy_21, s_X3_copy_22, s_X3_copy_80, m_isFile_t h0 (by omega) c1, m_isFile_f h0 (by omega) c2, pb1, pb2, nq_lit, nq_add, nq_mul, nq_lt, nq_le, nq_eq, nq_lt0, nq10, nq00, Nat.one_ne_zero, Nat.reduceEqDiff, Nat.not_lt_zero, nq20, nq30, zb1, zb0, mP_i, mP_o, mP_2', wr_1, wr_ne, wr_i, reduceIte, m_may1, m_may0, m_both1, m_both2, m_both0, m_all1, m_all3, m_all2, m_all0]
  · refine bad (fun q => c1 q.1) ?_
    simp (disch := omega) only [f_X3_copy, s_X3_copy_21, s_X3_copy_22, s_X3_copy_80, m_isFile_f h0 (by omega) c1, pb1, pb2, nq_lit, nq_add, nq_mul, nq_lt, nq_le, nq_eq, nq_lt0, nq10, nq00, Nat.one_ne_zero, Nat.reduceEqDiff, Nat.not_lt_zero, nq20, nq30, zb1, zb0, mP_i, mP_o, mP_2', wr_1, wr_ne, wr_i, reduceIte, m_may1, m_may0, m_both1, m_both2, m_both0, m_all1, m_all3, m_all2, m_all0]
theorem m_bring_l {σ0 : Sg} {i : Nat} {bs : List Nat} (hi : i < 6) (hb : bs.length ≤ 120) : ∀ (d k f : Nat) (σ : Sg), d < f → k + d = bs.length → σ.1 26 = nq bs.length → (∀ x, x < bs.length → σ.2.1 2 (120 * i + x) = nq (gd bs x)) → (∀ x, x < k → σ.2.1 25 x = nq (gd bs x)) → Sx σ0 σ [26] [25] →
    okm (l_X3_bring_12 f (nq i, nq k) σ) fun r => MB r.2 bs ∧ Sx σ0 r.2 [26] [25] := by
  intro d
  induction d with
  | zero =>
    intro k f σ hf hk hl h1 h2 h3
    obtain ⟨f, rfl⟩ := pre_n hf
    have hk' : bs.length ≤ k := by omega
    rw [l_X3_bring_12_s]
    simp (disch := omega) only [s_X3_bring_12, hl, hk', mR_1, mW_1, mR_2, mW_2, mR_3, mW_3, mR_4, mW_4, mR_5, mW_5, mR_6, mW_6, mR_7, mW_7, mR_9, mW_9, mR_10, mW_10, mR_11, mW_11, mR_12, mW_12, mR_13, mW_13, mR_14, mW_14, mR_15, mW_15, mR_17, mW_17, mR_18, mW_18, mR_19, mW_19, mR_20, mW_20, mR_21, mW_21, mR_25, mW_25, mR_27, mW_27, mR_31, mW_31, mR_32, mW_32, mR_33, mW_33, mR_34, mW_34, mRL_8, mWL_8, pb1, pb2, nq_lit, nq_add, nq_mul, nq_lt, nq_le, nq_eq, nq_lt0, nq10, nq00, Nat.one_ne_zero, Nat.reduceEqDiff, Nat.not_lt_zero, nq20, nq30, zb1, zb0, mP_i, mP_o, mP_2', wr_1, wr_ne, wr_i, reduceIte, m_may1, m_may0, m_both1, m_both2, m_both0, m_all1, m_all3, m_all2, m_all0]
    exact okm_some ⟨⟨hl, fun x hx => h2 x (by omega)⟩, h3⟩
  | succ d ih =>
    intro k f σ hf hk hl h1 h2 h3
    obtain ⟨f, rfl⟩ := pre_n hf
    have hk' : ¬ bs.length ≤ k := by omega
    rw [l_X3_bring_12_s]
    simp (disch := omega) only [s_X3_bring_12, hl, hk', h1 k (by omega), mR_1, mW_1, mR_2, mW_2, mR_3, mW_3, mR_4, mW_4, mR_5, mW_5, mR_6, mW_6, mR_7, mW_7, mR_9, mW_9, mR_10, mW_10, mR_11, mW_11, mR_12, mW_12, mR_13, mW_13, mR_14, mW_14, mR_15, mW_15, mR_17, mW_17, mR_18, mW_18, mR_19, mW_19, mR_20, mW_20, mR_21, mW_21, mR_25, mW_25, mR_27, mW_27, mR_31, mW_31, mR_32, mW_32, mR_33, mW_33, mR_34, mW_34, mRL_8, mWL_8, pb1, pb2, nq_lit, nq_add, nq_mul, nq_lt, nq_le, nq_eq, nq_lt0, nq10, nq00, Nat.one_ne_zero, Nat.reduceEqDiff, Nat.not_lt_zero, nq20, nq30, zb1, zb0, mP_i, mP_o, mP_2', wr_1, wr_ne, wr_i, reduceIte, m_may1, m_may0, m_both1, m_both2, m_both0, m_all1, m_all3, m_all2, m_all0]
    refine ih (k + 1) f _ (by omega) (by omega) hl (fun x hx => ?_) (fun x hx => ?_) (h3.wr (by decide))
    · rw [wr_ne _ _ _ (by decide)]
      exact h1 x hx
    · rw [wr_at]
      by_cases q : x = k
      · rw [if_pos q, q]
      · rw [if_neg q]
        exact h2 x (by omega)
theorem m_bring {A : AA} {σ : Sg} (hA : AOk A) (h : MFl σ A.1) {i : Nat} (hi : i < 6) : okm (f_X3_bring (nq i) σ) fun r => MB r.2 (fl A i) ∧ Sx σ r.2 [26] [25] := by
  have hl : σ.2.1 1 i = nq (fl A i).length := (h.2 i hi).1
  have b1 := (fl_ok hA i).1
  simp (disch := omega) only [f_X3_bring, hl, mR_1, mW_1, mR_2, mW_2, mR_3, mW_3, mR_4, mW_4, mR_5, mW_5, mR_6, mW_6, mR_7, mW_7, mR_9, mW_9, mR_10, mW_10, mR_11, mW_11, mR_12, mW_12, mR_13, mW_13, mR_14, mW_14, mR_15, mW_15, mR_17, mW_17, mR_18, mW_18, mR_19, mW_19, mR_20, mW_20, mR_21, mW_21, mR_25, mW_25, mR_27, mW_27, mR_31, mW_31, mR_32, mW_32, mR_33, mW_33, mR_34, mW_34, mRL_8, mWL_8, pb1, pb2, nq_lit, nq_add, nq_mul, nq_lt, nq_le, nq_eq, nq_lt0, nq10, nq00, Nat.one_ne_zero, Nat.reduceEqDiff, Nat.not_lt_zero, nq20, nq30, zb1, zb0, mP_i, mP_o, mP_2', wr_1, wr_ne, wr_i, reduceIte, m_may1, m_may0, m_both1, m_both2, m_both0, m_all1, m_all3, m_all2, m_all0]
  exact m_bring_l hi b1 (fl A i).length 0 FU _ (by unfold FU; omega) (by omega) (mP_i _ _ _) (h.2 i hi).2 (fun x hx => absurd hx (Nat.not_lt_zero x)) ((Sx.refl _ _ _).mP (by decide))
theorem m_give_l {σ0 : Sg} {i : Nat} {bs : List Nat} (hi : i < 6) (hb : bs.length ≤ 120) : ∀ (d k f : Nat) (σ : Sg), d < f → k + d = bs.length → σ.1 26 = nq bs.length → (∀ x, x < bs.length → σ.2.1 25 x = nq (gd bs x)) → (∀ x, x < k → σ.2.1 2 (120 * i + x) = nq (gd bs x)) →
    (∀ x, x < 6 → σ.2.1 1 x = if x = i then nq bs.length else σ0.2.1 1 x) → (∀ x, (x < 120 * i ∨ 120 * i + 120 ≤ x) → σ.2.1 2 x = σ0.2.1 2 x) → Sx σ0 σ [] [1, 2] →
    okm (l_X3_give_12 f (nq i, nq k) σ) fun r => r.1 = nq bs.length ∧ FS σ0 r.2 i bs ∧ Sx σ0 r.2 [] [1, 2] := by
  intro d
  induction d with
  | zero =>
    intro k f σ hf hk hl h1 h2 h3 h4 h5
    obtain ⟨f, rfl⟩ := pre_n hf
    have hk' : bs.length ≤ k := by omega
    rw [l_X3_give_12_s]
    simp (disch := omega) only [s_X3_give_12, hl, hk', mR_1, mW_1, mR_2, mW_2, mR_3, mW_3, mR_4, mW_4, mR_5, mW_5, mR_6, mW_6, mR_7, mW_7, mR_9, mW_9, mR_10, mW_10, mR_11, mW_11, mR_12, mW_12, mR_13, mW_13, mR_14, mW_14, mR_15, mW_15, mR_17, mW_17, mR_18, mW_18, mR_19, mW_19, mR_20, mW_20, mR_21, mW_21, mR_25, mW_25, mR_27, mW_27, mR_31, mW_31, mR_32, mW_32, mR_33, mW_33, mR_34, mW_34, mRL_8, mWL_8, pb1, pb2, nq_lit, nq_add, nq_mul, nq_lt, nq_le, nq_eq, nq_lt0, nq10, nq00, Nat.one_ne_zero, Nat.reduceEqDiff, Nat.not_lt_zero, nq20, nq30, zb1, zb0, mP_i, mP_o, mP_2', wr_1, wr_ne, wr_i, reduceIte, m_may1, m_may0, m_both1, m_both2, m_both0, m_all1, m_all3, m_all2, m_all0]
    exact okm_some ⟨rfl, ⟨h5.1 0 (by decide), h3, fun x hx => h2 x (by omega), h4⟩, h5⟩
  | succ d ih =>
    intro k f σ hf hk hl h1 h2 h3 h4 h5
    obtain ⟨f, rfl⟩ := pre_n hf
    have hk' : ¬ bs.length ≤ k := by omega
    rw [l_X3_give_12_s]
    simp (disch := omega) only [s_X3_give_12, hl, hk', h1 k (by omega), mR_1, mW_1, mR_2, mW_2, mR_3, mW_3, mR_4, mW_4, mR_5, mW_5, mR_6, mW_6, mR_7, mW_7, mR_9, mW_9, mR_10, mW_10, mR_11, mW_11, mR_12, mW_12, mR_13, mW_13, mR_14, mW_14, mR_15, mW_15, mR_17, mW_17, mR_18, mW_18, mR_19, mW_19, mR_20, mW_20, mR_21, mW_21, mR_25, mW_25, mR_27, mW_27, mR_31, mW_31, mR_32, mW_32, mR_33, mW_33, mR_34, mW_34, mRL_8, mWL_8, pb1, pb2, nq_lit, nq_add, nq_mul, nq_lt, nq_le, nq_eq, nq_lt0, nq10, nq00, Nat.one_ne_zero, Nat.reduceEqDiff, Nat.not_lt_zero, nq20, nq30, zb1, zb0, mP_i, mP_o, mP_2', wr_1, wr_ne, wr_i, reduceIte, m_may1, m_may0, m_both1, m_both2, m_both0, m_all1, m_all3, m_all2, m_all0]
    refine ih (k + 1) f _ (by omega) (by omega) hl (fun x hx => ?_) (fun x hx => ?_) (fun x hx => ?_) (fun x hx => ?_) (h5.wr (by decide))
    · rw [wr_ne _ _ _ (by decide)]
      exact h1 x hx
    · rw [wr_at]
      by_cases q : x = k
      · rw [if_pos (by omega), q]
      · rw [if_neg (by omega)]
        exact h2 x (by omega)
    · rw [wr_ne _ _ _ (by decide)]
      exact h3 x hx
    · rw [wr_at, if_neg (by omega)]
      exact h4 x hx
theorem m_give {σ : Sg} {bs : List Nat} (hb : bs.length ≤ 120) (h : MB σ bs) {i : Nat} (hi : i < 6) : okm (f_X3_give (nq i) σ) fun r => r.1 = nq bs.length ∧ FS σ r.2 i bs ∧ Sx σ r.2 [] [1, 2] := by
  simp (disch := omega) only [f_X3_give, h.1, mR_1, mW_1, mR_2, mW_2, mR_3, mW_3, mR_4, mW_4, mR_5, mW_5, mR_6, mW_6, mR_7, mW_7, mR_9, mW_9, mR_10, mW_10, mR_11, mW_11, mR_12, mW_12, mR_13, mW_13, mR_14, mW_14, mR_15, mW_15, mR_17, mW_17, mR_18, mW_18, mR_19, mW_19, mR_20, mW_20, mR_21, mW_21, mR_25, mW_25, mR_27, mW_27, mR_31, mW_31, mR_32, mW_32, mR_33, mW_33, mR_34, mW_34, mRL_8, mWL_8, pb1, pb2, nq_lit, nq_add, nq_mul, nq_lt, nq_le, nq_eq, nq_lt0, nq10, nq00, Nat.one_ne_zero, Nat.reduceEqDiff, Nat.not_lt_zero, nq20, nq30, zb1, zb0, mP_i, mP_o, mP_2', wr_1, wr_ne, wr_i, reduceIte, m_may1, m_may0, m_both1, m_both2, m_both0, m_all1, m_all3, m_all2, m_all0]
  exact m_give_l hi hb bs.length 0 FU _ (by unfold FU; omega) (by omega) h.1 (fun x hx => by rw [wr_ne _ _ _ (by decide)]; exact h.2 x hx) (fun x hx => absurd hx (Nat.not_lt_zero x)) (fun x hx => wr_at _ _ _ _ _) (fun x hx => by rw [wr_ne _ _ _ (by decide)]) ((Sx.refl _ _ _).wr (by decide))
