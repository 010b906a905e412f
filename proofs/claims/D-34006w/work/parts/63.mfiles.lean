/-! PURE: the reference's files -/
set_option maxRecDepth 100000
theorem gl_app (fs : List (List Nat)) (i : Nat) : (fs ++ [[]]).getD i [] = fs.getD i [] := by
  rw [List.getD_eq_getElem?_getD, List.getD_eq_getElem?_getD]
  by_cases h : i < fs.length
  · rw [List.getElem?_append_left h]
  · rw [List.getElem?_append_right (by omega), List.getElem?_eq_none (l := fs) (by omega)]
    cases hk : i - fs.length with
    | zero => rfl
    | succ n => rfl
theorem gl_set (fs : List (List Nat)) {i : Nat} (bs : List Nat) (h : i < fs.length) (j : Nat) : (fs.set i bs).getD j [] = if j = i then bs else fs.getD j [] := by
  rw [List.getD_eq_getElem?_getD, List.getD_eq_getElem?_getD]
  by_cases hj : j = i
  · subst hj
    rw [if_pos rfl, List.getElem?_set_self h]
    rfl
  · rw [if_neg hj, List.getElem?_set_ne (Ne.symm hj)]
theorem fl_ok {A : AA} (h : AOk A) (i : Nat) : FOk (fl A i) := by
  unfold fl
  rw [List.getD_eq_getElem?_getD]
  cases hx : A.1[i]? with
  | none => exact ⟨by decide, fun x hx => by cases hx⟩
  | some bs => exact h.1.2 bs (List.mem_of_getElem? hx)
/-- one file's row is new -/
def FS (σ σ' : Sg) (i : Nat) (bs : List Nat) : Prop := σ'.1 0 = σ.1 0 ∧ (∀ j, j < 6 → σ'.2.1 1 j = if j = i then nq bs.length else σ.2.1 1 j) ∧ (∀ j, j < bs.length → σ'.2.1 2 (120 * i + j) = nq (gd bs j)) ∧ ∀ x, (x < 120 * i ∨ 120 * i + 120 ≤ x) → σ'.2.1 2 x = σ.2.1 2 x
theorem FS_fl {σ σ' : Sg} {A : AA} {i : Nat} {bs : List Nat} (h : MFl σ A.1) (hA : AOk A) (k : FS σ σ' i bs) (hi : i < A.1.length) : MFl σ' (A.1.set i bs) := by
  obtain ⟨k1, k2, k3, k4⟩ := k
  refine ⟨by rw [k1, List.length_set]; exact h.1, fun j hj => ?_⟩
  obtain ⟨g1, g2⟩ := h.2 j hj
  rw [gl_set _ _ hi, k2 j hj]
  by_cases hji : j = i
  · subst hji
    rw [if_pos rfl, if_pos rfl]
    exact ⟨rfl, k3⟩
  · rw [if_neg hji, if_neg hji]
    refine ⟨g1, fun x hx => ?_⟩
    have := (fl_ok hA j).1
    unfold fl at this
    rw [k4 _ (by omega)]
    exact g2 x hx
theorem MO_bad {T : Type} {L : T → Int64} {A : AA} {σ : Sg} {v : T} {k : Nat} (h : MRep A σ) (hk : ¬ k = 0) : MO L (no k A) (v, mP σ 35 (nq k)) := ⟨h.thr _, mP_i _ _ _, fun q => absurd q hk⟩
theorem MO_ok {T : Type} {L : T → Int64} {A : AA} {σ : Sg} {v : T} {w : Int64} (h : MRep A σ) (h2 : L v = w) : MO L (0, w, A) (v, mP σ 35 (nq 0)) := ⟨h.thr _, mP_i _ _ _, fun _ => h2⟩
theorem okm_eq {R : Type} {m m' : Option R} {Q : R → Prop} (h : m = m') (k : okm m' Q) : okm m Q := by
  rw [h]
  exact k
theorem m_file {A : AA} {σ : Sg} (hA : AOk A) (h : MRep A σ) : okm (f_X3_file σ) (MO LI (o_file A)) := by
  have h0 := h.1.1
  have hn := hA.1.1
  by_cases hc : A.1.length < 6
  · have hc' : ¬ 6 ≤ A.1.length := by omega
    have e : o_file A = yn A.1.length (A.1 ++ [[]], A.2) := if_pos hc
    rw [e]
    simp (disch := omega) only [f_X3_file, s_X3_file_15, h0, hc', pb1, pb2, nq_lit, nq_add, nq_mul, nq_lt, nq_le, nq_eq, nq_lt0, nq10, nq00, Nat.one_ne_zero, Nat.reduceEqDiff, Nat.not_lt_zero, nq20, nq30, zb1, zb0, mP_i, mP_o, mP_2', wr_1, wr_ne, wr_i, reduceIte, m_may1, m_may0, m_both1, m_both2, m_both0, m_all1, m_all3, m_all2, m_all0]
    refine okm_some ⟨?_, ?_, fun _ => ?_⟩
    · refine MRep.files h (((Sx.refl σ _ _).mP (by decide)).mP (by decide)) ⟨?_, fun i hi => ?_⟩
      · show (mP _ 0 _).1 0 = nq (A.1 ++ [[]]).length
        rw [mP_i, List.length_append]
        rfl
      · show (mP _ 0 _).2.1 1 i = _ ∧ ∀ j, _ → (mP _ 0 _).2.1 2 _ = _
        rw [gl_app]
        exact h.1.2 i hi
    · show (mP _ 0 _).1 35 = nq 0
      rw [mP_o _ _ (by decide), mP_i]
    · show LI (nq (A.1.length + 1) - nq 1) = _
      rw [nq_sub (by omega), Nat.add_sub_cancel]
      rfl
  · have hc' : 6 ≤ A.1.length := by omega
    have e : o_file A = no 1 A := if_neg hc
    rw [e]
    simp (disch := omega) only [f_X3_file, s_X3_file_15, h0, hc', pb1, pb2, nq_lit, nq_add, nq_mul, nq_lt, nq_le, nq_eq, nq_lt0, nq10, nq00, Nat.one_ne_zero, Nat.reduceEqDiff, Nat.not_lt_zero, nq20, nq30, zb1, zb0, mP_i, mP_o, mP_2', wr_1, wr_ne, wr_i, reduceIte, m_may1, m_may0, m_both1, m_both2, m_both0, m_all1, m_all3, m_all2, m_all0]
    exact okm_some ⟨h.thr _, by show (mP _ 35 _).1 35 = _; rw [mP_i], fun q => by cases q⟩
theorem m_length {A : AA} {σ : Sg} (hA : AOk A) (h : MRep A σ) (x1 : Int32) : okm (f_X3_length x1 σ) (MO LI (o_length A x1)) := by
  have h0 := h.1.1
  have hn := hA.1.1
  by_cases c1 : okI x1 A.1.length
  · have e : o_length A x1 = yn (fl A (ix x1)).length A := if_pos c1
    rw [e]
    obtain ⟨i, hi, hi2, rfl⟩ := okI_get c1
    have hl := (h.1.2 i (by omega)).1
    simp (disch := omega) only [f_X3_length, s_X3_length_22, m_isFile_t h0 (by omega) c1, mR_1, mW_1, mR_2, mW_2, mR_3, mW_3, mR_4, mW_4, mR_5, mW_5, mR_6, mW_6, mR_7, mW_7, mR_9, mW_9, mR_10, mW_10, mR_11, mW_11, mR_12, mW_12, mR_13, mW_13, mR_14, mW_14, mR_15, mW_15, mR_17, mW_17, mR_18, mW_18, mR_19, mW_19, mR_20, mW_20, mR_21, mW_21, mR_25, mW_25, mR_27, mW_27, mR_31, mW_31, mR_32, mW_32, mR_33, mW_33, mR_34, mW_34, mRL_8, mWL_8, pb1, pb2, nq_lit, nq_add, nq_mul, nq_lt, nq_le, nq_eq, nq_lt0, nq10, nq00, Nat.one_ne_zero, Nat.reduceEqDiff, Nat.not_lt_zero, nq20, nq30, zb1, zb0, mP_i, mP_o, mP_2', wr_1, wr_ne, wr_i, reduceIte, m_may1, m_may0, m_both1, m_both2, m_both0, m_all1, m_all3, m_all2, m_all0]
    refine okm_some ⟨h.thr _, by show (mP _ 35 _).1 35 = _; rw [mP_i], fun _ => ?_⟩
    show LI (σ.2.1 1 i) = (nq (fl A (ix (nq i))).length).toInt64
    rw [hl, ix, nq_idx hi2]
    rfl
  · have e : o_length A x1 = no 1 A := if_neg c1
    rw [e]
    simp (disch := omega) only [f_X3_length, s_X3_length_22, m_isFile_f h0 (by omega) c1, pb1, pb2, nq_lit, nq_add, nq_mul, nq_lt, nq_le, nq_eq, nq_lt0, nq10, nq00, Nat.one_ne_zero, Nat.reduceEqDiff, Nat.not_lt_zero, nq20, nq30, zb1, zb0, mP_i, mP_o, mP_2', wr_1, wr_ne, wr_i, reduceIte, m_may1, m_may0, m_both1, m_both2, m_both0, m_all1, m_all3, m_all2, m_all0]
    exact okm_some ⟨h.thr _, by show (mP _ 35 _).1 35 = _; rw [mP_i], fun q => by cases q⟩
theorem m_byteAt {A : AA} {σ : Sg} (hA : AOk A) (h : MRep A σ) (x1 x2 : Int32) : okm (f_X3_byteAt x1 x2 σ) (MO LI (o_byteAt A x1 x2)) := by
  have h0 := h.1.1
  have hn := hA.1.1
  have bad : ¬ (okI x1 A.1.length ∧ okI x2 (fl A (ix x1)).length) → f_X3_byteAt x1 x2 σ = some (nq 0, mP σ 35 (nq 1)) → okm (f_X3_byteAt x1 x2 σ) (MO LI (o_byteAt A x1 x2)) := fun hc he => by
    have e : o_byteAt A x1 x2 = no 1 A := if_neg hc
    rw [e, he]
    exact okm_some ⟨h.thr _, by show (mP _ 35 _).1 35 = _; rw [mP_i], fun q => by cases q⟩
  by_cases c1 : okI x1 A.1.length
  · obtain ⟨i, hi, hi2, rfl⟩ := okI_get c1
    have hl : σ.2.1 1 i = nq (fl A i).length := (h.1.2 i (by omega)).1
    have hb := (fl_ok hA i).1
    by_cases c2 : x2 < nq 0
    · refine bad (fun q => q.2.1 c2) ?_
      simp (disch := omega) only [f_X3_byteAt, s_X3_byteAt_27, s_X3_byteAt_28, s_X3_byteAt_49, m_isFile_t h0 (by omega) c1, c2, mR_1, mW_1, mR_2, mW_2, mR_3, mW_3, mR_4, mW_4, mR_5, mW_5, mR_6, mW_6, mR_7, mW_7, mR_9, mW_9, mR_10, mW_10, mR_11, mW_11, mR_12, mW_12, mR_13, mW_13, mR_14, mW_14, mR_15, mW_15, mR_17, mW_17, mR_18, mW_18, mR_19, mW_19, mR_20, mW_20, mR_21, mW_21, mR_25, mW_25, mR_27, mW_27, mR_31, mW_31, mR_32, mW_32, mR_33, mW_33, mR_34, mW_34, mRL_8, mWL_8, pb1, pb2, nq_lit, nq_add, nq_mul, nq_lt, nq_le, nq_eq, nq_lt0, nq10, nq00, Nat.one_ne_zero, Nat.reduceEqDiff, Nat.not_lt_zero, nq20, nq30, zb1, zb0, mP_i, mP_o, mP_2', wr_1, wr_ne, wr_i, reduceIte, m_may1, m_may0, m_both1, m_both2, m_both0, m_all1, m_all3, m_all2, m_all0]
    · by_cases c3 : nq (fl A i).length ≤ x2
      · refine bad (fun q => ?_) ?_
        · have := (okI_iff (by rw [ix, nq_idx hi2]; omega)).mp q.2
          rw [ix, nq_idx hi2] at this
          exact this.2 c3
        · simp (disch := omega) only [f_X3_byteAt, s_X3_byteAt_27, s_X3_byteAt_28, s_X3_byteAt_49, m_isFile_t h0 (by omega) c1, c2, hl, c3, mR_1, mW_1, mR_2, mW_2, mR_3, mW_3, mR_4, mW_4, mR_5, mW_5, mR_6, mW_6, mR_7, mW_7, mR_9, mW_9, mR_10, mW_10, mR_11, mW_11, mR_12, mW_12, mR_13, mW_13, mR_14, mW_14, mR_15, mW_15, mR_17, mW_17, mR_18, mW_18, mR_19, mW_19, mR_20, mW_20, mR_21, mW_21, mR_25, mW_25, mR_27, mW_27, mR_31, mW_31, mR_32, mW_32, mR_33, mW_33, mR_34, mW_34, mRL_8, mWL_8, pb1, pb2, nq_lit, nq_add, nq_mul, nq_lt, nq_le, nq_eq, nq_lt0, nq10, nq00, Nat.one_ne_zero, Nat.reduceEqDiff, Nat.not_lt_zero, nq20, nq30, zb1, zb0, mP_i, mP_o, mP_2', wr_1, wr_ne, wr_i, reduceIte, m_may1, m_may0, m_both1, m_both2, m_both0, m_all1, m_all3, m_all2, m_all0]
      · have c4 : okI x2 (fl A i).length := (okI_iff (by omega)).mpr ⟨c2, c3⟩
        obtain ⟨j, hj, hj2, rfl⟩ := okI_get c4
        have c5 : ¬ (fl A i).length ≤ j := by omega
        have e : o_byteAt A (nq i) (nq j) = yn (gd (fl A i) j) A := by
          simp only [o_byteAt, ix, nq_idx hi2, nq_idx hj2]
          exact if_pos ⟨c1, c4⟩
        rw [e]
        simp (disch := omega) only [f_X3_byteAt, s_X3_byteAt_28, s_X3_byteAt_49, m_isFile_t h0 (by omega) c1, hl, c5, mR_1, mW_1, mR_2, mW_2, mR_3, mW_3, mR_4, mW_4, mR_5, mW_5, mR_6, mW_6, mR_7, mW_7, mR_9, mW_9, mR_10, mW_10, mR_11, mW_11, mR_12, mW_12, mR_13, mW_13, mR_14, mW_14, mR_15, mW_15, mR_17, mW_17, mR_18, mW_18, mR_19, mW_19, mR_20, mW_20, mR_21, mW_21, mR_25, mW_25, mR_27, mW_27, mR_31, mW_31, mR_32, mW_32, mR_33, mW_33, mR_34, mW_34, mRL_8, mWL_8, pb1, pb2, nq_lit, nq_add, nq_mul, nq_lt, nq_le, nq_eq, nq_lt0, nq10, nq00, Nat.one_ne_zero, Nat.reduceEqDiff, Nat.not_lt_zero, nq20, nq30, zb1, zb0, mP_i, mP_o, mP_2', wr_1, wr_ne, wr_i, reduceIte, m_may1, m_may0, m_both1, m_both2, m_both0, m_all1, m_all3, m_all2, m_all0]
        refine okm_some ⟨h.thr _, by show (mP _ 35 _).1 35 = _; rw [mP_i], fun _ => ?_⟩
        show LI (σ.2.1 2 (120 * i + j)) = _
        rw [(h.1.2 i (by omega)).2 j hj]
        rfl
  · refine bad (fun q => c1 q.1) ?_
    simp (disch := omega) only [f_X3_byteAt, s_X3_byteAt_27, s_X3_byteAt_28, s_X3_byteAt_49, m_isFile_f h0 (by omega) c1, pb1, pb2, nq_lit, nq_add, nq_mul, nq_lt, nq_le, nq_eq, nq_lt0, nq10, nq00, Nat.one_ne_zero, Nat.reduceEqDiff, Nat.not_lt_zero, nq20, nq30, zb1, zb0, mP_i, mP_o, mP_2', wr_1, wr_ne, wr_i, reduceIte, m_may1, m_may0, m_both1, m_both2, m_both0, m_all1, m_all3, m_all2, m_all0]
theorem m_same_l {σ : Sg} {n i j : Nat} {bi bj : List Nat} (hi : i < 6) (hj : j < 6) (hn : n ≤ 120) (hbi : bi.length = n) (hbj : bj.length = n) (hl : σ.2.1 1 i = nq n) (h1 : ∀ x, x < n → σ.2.1 2 (120 * i + x) = nq (gd bi x)) (h2 : ∀ x, x < n → σ.2.1 2 (120 * j + x) = nq (gd bj x)) (yi : By bi) (yj : By bj) : ∀ (d k f : Nat), d + k = n → d < f → (∀ x, x < k → gd bi x = gd bj x) →
    l_X3_same_47 f (nq i, nq j, nq k) σ = some (bq (decide (bi = bj)), σ) := by
  intro d
  induction d with
  | zero =>
    intro k f hk hf he
    obtain ⟨f, rfl⟩ := pre_n hf
    have e : bi = bj := gd_ext (by omega) (by rw [hbi]; intro x hx; exact he x (by omega))
    have : n ≤ k := by omega
    rw [l_X3_same_47_s, decide_eq_true e]
    simp (disch := omega) only [s_X3_same_47, mR_1, mW_1, mR_2, mW_2, mR_3, mW_3, mR_4, mW_4, mR_5, mW_5, mR_6, mW_6, mR_7, mW_7, mR_9, mW_9, mR_10, mW_10, mR_11, mW_11, mR_12, mW_12, mR_13, mW_13, mR_14, mW_14, mR_15, mW_15, mR_17, mW_17, mR_18, mW_18, mR_19, mW_19, mR_20, mW_20, mR_21, mW_21, mR_25, mW_25, mR_27, mW_27, mR_31, mW_31, mR_32, mW_32, mR_33, mW_33, mR_34, mW_34, mRL_8, mWL_8, hl, this, pb1, pb2, nq_lit, nq_add, nq_mul, nq_lt, nq_le, nq_eq, nq_lt0, nq10, nq00, Nat.one_ne_zero, Nat.reduceEqDiff, Nat.not_lt_zero, nq20, nq30, zb1, zb0, mP_i, mP_o, mP_2', wr_1, wr_ne, wr_i, reduceIte, m_may1, m_may0, m_both1, m_both2, m_both0, m_all1, m_all3, m_all2, m_all0]
    rfl
  | succ d ih =>
    intro k f hk hf he
    obtain ⟨f, rfl⟩ := pre_n hf
    have hk2 : ¬ n ≤ k := by omega
    have b1 := gd_by yi k
    have b2 := gd_by yj k
    rw [l_X3_same_47_s]
    simp (disch := omega) only [s_X3_same_47, s_X3_same_43, mR_1, mW_1, mR_2, mW_2, mR_3, mW_3, mR_4, mW_4, mR_5, mW_5, mR_6, mW_6, mR_7, mW_7, mR_9, mW_9, mR_10, mW_10, mR_11, mW_11, mR_12, mW_12, mR_13, mW_13, mR_14, mW_14, mR_15, mW_15, mR_17, mW_17, mR_18, mW_18, mR_19, mW_19, mR_20, mW_20, mR_21, mW_21, mR_25, mW_25, mR_27, mW_27, mR_31, mW_31, mR_32, mW_32, mR_33, mW_33, mR_34, mW_34, mRL_8, mWL_8, hl, hk2, h1 k (by omega), h2 k (by omega), pb1, pb2, nq_lit, nq_add, nq_mul, nq_lt, nq_le, nq_eq, nq_lt0, nq10, nq00, Nat.one_ne_zero, Nat.reduceEqDiff, Nat.not_lt_zero, nq20, nq30, zb1, zb0, mP_i, mP_o, mP_2', wr_1, wr_ne, wr_i, reduceIte, m_may1, m_may0, m_both1, m_both2, m_both0, m_all1, m_all3, m_all2, m_all0]
    by_cases hx : gd bi k = gd bj k
    · rw [if_pos hx]
      exact ih (k + 1) f (by omega) (by omega) (ext_lt he hx)
    · rw [if_neg hx, decide_eq_false (fun q => hx (by rw [q]))]
      rfl
theorem m_same {A : AA} {σ : Sg} (hA : AOk A) (h : MRep A σ) (x1 x2 : Int32) : okm (f_X3_same x1 x2 σ) (MO LB (o_same A x1 x2)) := by
  have h0 := h.1.1
  have hn := hA.1.1
  have bad : ¬ (okI x1 A.1.length ∧ okI x2 A.1.length) → f_X3_same x1 x2 σ = some (nq 0, mP σ 35 (nq 1)) → okm (f_X3_same x1 x2 σ) (MO LB (o_same A x1 x2)) := fun hc he => by
    have e : o_same A x1 x2 = no 1 A := if_neg hc
    rw [e, he]
    exact okm_some (MO_bad h (by decide))
  by_cases c1 : okI x1 A.1.length
  · by_cases c2 : okI x2 A.1.length
    · have e : o_same A x1 x2 = yb (decide (fl A (ix x1) = fl A (ix x2))) A := if_pos ⟨c1, c2⟩
      rw [e]
      obtain ⟨i, hi, hi2, rfl⟩ := okI_get c1
      obtain ⟨j, hj, hj2, rfl⟩ := okI_get c2
      rw [ix, ix, ixq hi2, ixq hj2]
      have hl1 : σ.2.1 1 i = nq (fl A i).length := (h.1.2 i (by omega)).1
      have hl2 : σ.2.1 1 j = nq (fl A j).length := (h.1.2 j (by omega)).1
      have b1 := (fl_ok hA i).1
      have b2 := (fl_ok hA j).1
      simp (disch := omega) only [f_X3_same, s_X3_same_22, m_isFile_t h0 (by omega) c1, m_isFile_t h0 (by omega) c2, hl1, hl2, mR_1, mW_1, mR_2, mW_2, mR_3, mW_3, mR_4, mW_4, mR_5, mW_5, mR_6, mW_6, mR_7, mW_7, mR_9, mW_9, mR_10, mW_10, mR_11, mW_11, mR_12, mW_12, mR_13, mW_13, mR_14, mW_14, mR_15, mW_15, mR_17, mW_17, mR_18, mW_18, mR_19, mW_19, mR_20, mW_20, mR_21, mW_21, mR_25, mW_25, mR_27, mW_27, mR_31, mW_31, mR_32, mW_32, mR_33, mW_33, mR_34, mW_34, mRL_8, mWL_8, pb1, pb2, nq_lit, nq_add, nq_mul, nq_lt, nq_le, nq_eq, nq_lt0, nq10, nq00, Nat.one_ne_zero, Nat.reduceEqDiff, Nat.not_lt_zero, nq20, nq30, zb1, zb0, mP_i, mP_o, mP_2', wr_1, wr_ne, wr_i, reduceIte, m_may1, m_may0, m_both1, m_both2, m_both0, m_all1, m_all3, m_all2, m_all0]
      by_cases hl : (fl A i).length = (fl A j).length
      · rw [if_pos hl, m_same_l (σ := mP σ 35 (nq 0)) (n := (fl A i).length) (bi := fl A i) (bj := fl A j) (by omega) (by omega) b1 rfl hl.symm hl1 (h.1.2 i (by omega)).2 (by rw [hl]; exact (h.1.2 j (by omega)).2) (fl_ok hA i).2 (fl_ok hA j).2 (fl A i).length 0 FU rfl (by unfold FU; omega) (fun x hx => absurd hx (Nat.not_lt_zero x))]
        refine okm_some (MO_ok h ?_)
        cases decide (fl A i = fl A j) <;> rfl
      · rw [if_neg hl, decide_eq_false (fun q => hl (by rw [q]))]
        simp (disch := omega) only [s_X3_same_43, pb1, pb2, nq_lit, nq_add, nq_mul, nq_lt, nq_le, nq_eq, nq_lt0, nq10, nq00, Nat.one_ne_zero, Nat.reduceEqDiff, Nat.not_lt_zero, nq20, nq30, zb1, zb0, mP_i, mP_o, mP_2', wr_1, wr_ne, wr_i, reduceIte, m_may1, m_may0, m_both1, m_both2, m_both0, m_all1, m_all3, m_all2, m_all0]
        exact okm_some (MO_ok h rfl)
    · refine bad (fun q => c2 q.2) ?_
      simp (disch := omega) only [f_X3_same, s_X3_same_21, s_X3_same_22, s_X3_same_43, m_isFile_t h0 (by omega) c1, m_isFile_f h0 (by omega) c2, pb1, pb2, nq_lit, nq_add, nq_mul, nq_lt, nq_le, nq_eq, nq_lt0, nq10, nq00, Nat.one_ne_zero, Nat.reduceEqDiff, Nat.not_lt_zero, nq20, nq30, zb1, zb0, mP_i, mP_o, mP_2', wr_1, wr_ne, wr_i, reduceIte, m_may1, m_may0, m_both1, m_both2, m_both0, m_all1, m_all3, m_all2, m_all0]
  · refine bad (fun q => c1 q.1) ?_
    simp (disch := omega) only [f_X3_same, s_X3_same_21, s_X3_same_22, s_X3_same_43, m_isFile_f h0 (by omega) c1, pb1, pb2, nq_lit, nq_add, nq_mul, nq_lt, nq_le, nq_eq, nq_lt0, nq10, nq00, Nat.one_ne_zero, Nat.reduceEqDiff, Nat.not_lt_zero, nq20, nq30, zb1, zb0, mP_i, mP_o, mP_2', wr_1, wr_ne, wr_i, reduceIte, m_may1, m_may0, m_both1, m_both2, m_both0, m_all1, m_all3, m_all2, m_all0]
theorem MRep_FS {A : AA} {σ σ' : Sg} {i : Nat} {bs : List Nat} (hA : AOk A) (h : MRep A σ) (k : Sx σ σ' [0, 22, 23, 24, 26, 35] [1, 2, 21, 25, 27]) (hf : FS σ σ' i bs) (hi : i < A.1.length) : MRep (uF A i bs) σ' := h.files k (FS_fl h.1 hA hf hi)
theorem MO_FS {T : Type} {L : T → Int64} {A : AA} {σ σ' : Sg} {i : Nat} {bs : List Nat} {v : T} {w : Int64} (hA : AOk A) (h : MRep A σ) (k : Sx σ σ' [0, 22, 23, 24, 26, 35] [1, 2, 21, 25, 27]) (hf : FS σ σ' i bs) (hi : i < A.1.length) (h35 : σ'.1 35 = nq 0) (hv : L v = w) : MO L (0, w, uF A i bs) (v, σ') :=
  ⟨MRep_FS hA h k hf hi, h35, fun _ => hv⟩
/-- the model's add: the bytes come one by one -/
theorem m_add_l {σ0 : Sg} {i s : Nat} {bs : List Nat} (hi : i < 6) (hs : s < 256) : ∀ (d k f a : Nat) (σ : Sg) (cs : List Nat), d < f → a < 256 → cs.length + d ≤ 120 → k + d < 1000 → σ.2.1 1 i = nq cs.length → FS σ0 σ i cs → Sx σ0 σ [] [1, 2] →
    okm (l_X3_add_88 f (nq i, nq s, nq (k + d), nq a, nq k) σ) fun r => r.1 = nq (cs.length + d) ∧ FS σ0 r.2 i (cs ++ (List.range d).map fun j => (a + j * s) % 256) ∧ Sx σ0 r.2 [] [1, 2] := by
  intro d
  induction d with
  | zero =>
    intro k f a σ cs hf ha hc hk hl h1 h2
    obtain ⟨f, rfl⟩ := pre_n hf
    rw [l_X3_add_88_s]
    simp (disch := omega) only [s_X3_add_88, hl, Nat.add_zero, Nat.le_refl, mR_1, mW_1, mR_2, mW_2, mR_3, mW_3, mR_4, mW_4, mR_5, mW_5, mR_6, mW_6, mR_7, mW_7, mR_9, mW_9, mR_10, mW_10, mR_11, mW_11, mR_12, mW_12, mR_13, mW_13, mR_14, mW_14, mR_15, mW_15, mR_17, mW_17, mR_18, mW_18, mR_19, mW_19, mR_20, mW_20, mR_21, mW_21, mR_25, mW_25, mR_27, mW_27, mR_31, mW_31, mR_32, mW_32, mR_33, mW_33, mR_34, mW_34, mRL_8, mWL_8, pb1, pb2, nq_lit, nq_add, nq_mul, nq_lt, nq_le, nq_eq, nq_lt0, nq10, nq00, Nat.one_ne_zero, Nat.reduceEqDiff, Nat.not_lt_zero, nq20, nq30, zb1, zb0, mP_i, mP_o, mP_2', wr_1, wr_ne, wr_i, reduceIte, m_may1, m_may0, m_both1, m_both2, m_both0, m_all1, m_all3, m_all2, m_all0]
    refine okm_some ⟨rfl, ?_, h2⟩
    simpa using h1
  | succ d ih =>
    intro k f a σ cs hf ha hc hk hl h1 h2
    obtain ⟨f, rfl⟩ := pre_n hf
    have hk2 : ¬ k + (d + 1) ≤ k := by omega
    rw [l_X3_add_88_s]
    have hz : nz (nq 256) = some () := by decide
    simp (disch := omega) only [s_X3_add_88, hl, hk2, hz, nq_mod, mR_1, mW_1, mR_2, mW_2, mR_3, mW_3, mR_4, mW_4, mR_5, mW_5, mR_6, mW_6, mR_7, mW_7, mR_9, mW_9, mR_10, mW_10, mR_11, mW_11, mR_12, mW_12, mR_13, mW_13, mR_14, mW_14, mR_15, mW_15, mR_17, mW_17, mR_18, mW_18, mR_19, mW_19, mR_20, mW_20, mR_21, mW_21, mR_25, mW_25, mR_27, mW_27, mR_31, mW_31, mR_32, mW_32, mR_33, mW_33, mR_34, mW_34, mRL_8, mWL_8, pb1, pb2, nq_lit, nq_add, nq_mul, nq_lt, nq_le, nq_eq, nq_lt0, nq10, nq00, Nat.one_ne_zero, Nat.reduceEqDiff, Nat.not_lt_zero, nq20, nq30, zb1, zb0, mP_i, mP_o, mP_2', wr_1, wr_ne, wr_i, reduceIte, m_may1, m_may0, m_both1, m_both2, m_both0, m_all1, m_all3, m_all2, m_all0]
    have e : k + (d + 1) = (k + 1) + d := by omega
    rw [e]
    refine okm_mono (ih (k + 1) f ((a + s) % 256) (wr (wr σ 2 (120 * i + cs.length) (nq a)) 1 i (nq (cs.length + 1))) (cs ++ [a]) (by omega) (by omega) (by rw [List.length_append, List.length_singleton]; omega) (by omega) (by rw [wr_i, List.length_append]; rfl) ?_ ((h2.wr (by decide)).wr (by decide))) fun r hr => ?_
    · obtain ⟨q1, q2, q3, q4⟩ := h1
      refine ⟨q1, fun j hj => ?_, fun j hj => ?_, fun x hx => ?_⟩
      · rw [wr_at]
        by_cases hji : j = i
        · rw [if_pos hji, if_pos hji, List.length_append]
          rfl
        · rw [if_neg hji, if_neg hji, wr_ne _ _ _ (by decide)]
          have := q2 j hj
          rw [if_neg hji] at this
          exact this
      · rw [List.length_append, List.length_singleton] at hj
        rw [wr_ne _ _ _ (by decide), wr_at, gd_app]
        by_cases hjc : j < cs.length
        · rw [if_pos hjc, if_neg (by omega)]
          exact q3 j hjc
        · have : j = cs.length := by omega
          rw [if_neg hjc, if_pos (by omega), this, Nat.sub_self]
          rfl
      · rw [wr_ne _ _ _ (by decide), wr_at, if_neg (by omega)]
        exact q4 x hx
    · obtain ⟨r1, r2, r3⟩ := hr
      refine ⟨?_, ?_, r3⟩
      · rw [r1, List.length_append, List.length_singleton]
        congr 1
        omega
      · rw [List.append_assoc] at r2
        have e2 : [a] ++ (List.range d).map (fun j => ((a + s) % 256 + j * s) % 256) = (List.range (d + 1)).map fun j => (a + j * s) % 256 := by
          rw [List.range_succ_eq_map, List.map_cons, List.map_map, List.singleton_append]
          congr 1
          · rw [Nat.zero_mul, Nat.add_zero, Nat.mod_eq_of_lt ha]
          · apply List.map_congr_left
            intro j _
            show ((a + s) % 256 + j * s) % 256 = (a + (j + 1) * s) % 256
            rw [Nat.add_mul, Nat.one_mul, Nat.mod_add_mod]
            congr 1
            omega
        rw [e2] at r2
        exact r2
theorem m_add {A : AA} {σ : Sg} (hA : AOk A) (h : MRep A σ) (x1 x2 x3 x4 : Int32) : okm (f_X3_add x1 x2 x3 x4 σ) (MO LI (o_add A x1 x2 x3 x4)) := by
  have h0 := h.1.1
  have hn := hA.1.1
  have hr := okI_r (x := x4) (n := 120) (by omega)
  have e1 : (okI x2 256 ∧ okI x3 256 ∧ okI x4 121 ∧ ¬ ix x4 = 0) → f_X3_add x1 x2 x3 x4 σ = s_X3_add_32 x1 x2 x3 x4 (nq 1) σ := fun ⟨c2, c3, c4, c5⟩ => by
    obtain ⟨g1, g2⟩ := hr.mp ⟨c4, c5⟩
    simp (disch := omega) only [f_X3_add, m_isByte_t c2, m_isByte_t c3, g1, g2, pb1, pb2, nq_lit, nq_add, nq_mul, nq_lt, nq_le, nq_eq, nq_lt0, nq10, nq00, Nat.one_ne_zero, Nat.reduceEqDiff, Nat.not_lt_zero, nq20, nq30, zb1, zb0, mP_i, mP_o, mP_2', wr_1, wr_ne, wr_i, reduceIte, m_may1, m_may0, m_both1, m_both2, m_both0, m_all1, m_all3, m_all2, m_all0]
  have e0 : ¬ (okI x2 256 ∧ okI x3 256 ∧ okI x4 121 ∧ ¬ ix x4 = 0) → f_X3_add x1 x2 x3 x4 σ = s_X3_add_32 x1 x2 x3 x4 (nq 0) σ := fun hc => by
    by_cases c2 : okI x2 256
    · by_cases c3 : okI x3 256
      · by_cases c4 : x4 < nq 1
        · simp (disch := omega) only [f_X3_add, s_X3_add_31, m_isByte_t c2, m_isByte_t c3, c4, pb1, pb2, nq_lit, nq_add, nq_mul, nq_lt, nq_le, nq_eq, nq_lt0, nq10, nq00, Nat.one_ne_zero, Nat.reduceEqDiff, Nat.not_lt_zero, nq20, nq30, zb1, zb0, mP_i, mP_o, mP_2', wr_1, wr_ne, wr_i, reduceIte, m_may1, m_may0, m_both1, m_both2, m_both0, m_all1, m_all3, m_all2, m_all0]
        · by_cases c5 : nq 120 < x4
          · simp (disch := omega) only [f_X3_add, s_X3_add_31, m_isByte_t c2, m_isByte_t c3, c4, c5, pb1, pb2, nq_lit, nq_add, nq_mul, nq_lt, nq_le, nq_eq, nq_lt0, nq10, nq00, Nat.one_ne_zero, Nat.reduceEqDiff, Nat.not_lt_zero, nq20, nq30, zb1, zb0, mP_i, mP_o, mP_2', wr_1, wr_ne, wr_i, reduceIte, m_may1, m_may0, m_both1, m_both2, m_both0, m_all1, m_all3, m_all2, m_all0]
          · exact absurd ⟨c2, c3, hr.mpr ⟨c4, c5⟩⟩ hc
      · simp (disch := omega) only [f_X3_add, s_X3_add_31, m_isByte_t c2, m_isByte_f c3, pb1, pb2, nq_lit, nq_add, nq_mul, nq_lt, nq_le, nq_eq, nq_lt0, nq10, nq00, Nat.one_ne_zero, Nat.reduceEqDiff, Nat.not_lt_zero, nq20, nq30, zb1, zb0, mP_i, mP_o, mP_2', wr_1, wr_ne, wr_i, reduceIte, m_may1, m_may0, m_both1, m_both2, m_both0, m_all1, m_all3, m_all2, m_all0]
    · simp (disch := omega) only [f_X3_add, s_X3_add_31, m_isByte_f c2, pb1, pb2, nq_lit, nq_add, nq_mul, nq_lt, nq_le, nq_eq, nq_lt0, nq10, nq00, Nat.one_ne_zero, Nat.reduceEqDiff, Nat.not_lt_zero, nq20, nq30, zb1, zb0, mP_i, mP_o, mP_2', wr_1, wr_ne, wr_i, reduceIte, m_may1, m_may0, m_both1, m_both2, m_both0, m_all1, m_all3, m_all2, m_all0]
  unfold o_add
  by_cases c1 : okI x1 A.1.length
  · rw [if_pos c1]
    by_cases c2 : okI x2 256 ∧ okI x3 256 ∧ okI x4 121 ∧ ¬ ix x4 = 0
    · rw [if_pos c2, e1 c2]
      obtain ⟨d2, d3, d4, d5⟩ := c2
      obtain ⟨i, hi, hi2, rfl⟩ := okI_get c1
      obtain ⟨a, ha, ha2, rfl⟩ := okI_get d2
      obtain ⟨s, hs, hs2, rfl⟩ := okI_get d3
      obtain ⟨n, hn1, hn2, rfl⟩ := okI_get d4
      simp only [ix, ixq hi2, ixq ha2, ixq hs2, ixq hn2]
      have hl : σ.2.1 1 i = nq (fl A i).length := (h.1.2 i (by omega)).1
      have hb := (fl_ok hA i).1
      by_cases c3 : (fl A i).length + n ≤ 120
      · rw [if_pos c3]
        have c3' : ¬ 120 < (fl A i).length + n := by omega
        simp (disch := omega) only [s_X3_add_32, s_X3_add_74, m_isFile_t h0 (by omega) c1, hl, c3', mR_1, mW_1, mR_2, mW_2, mR_3, mW_3, mR_4, mW_4, mR_5, mW_5, mR_6, mW_6, mR_7, mW_7, mR_9, mW_9, mR_10, mW_10, mR_11, mW_11, mR_12, mW_12, mR_13, mW_13, mR_14, mW_14, mR_15, mW_15, mR_17, mW_17, mR_18, mW_18, mR_19, mW_19, mR_20, mW_20, mR_21, mW_21, mR_25, mW_25, mR_27, mW_27, mR_31, mW_31, mR_32, mW_32, mR_33, mW_33, mR_34, mW_34, mRL_8, mWL_8, pb1, pb2, nq_lit, nq_add, nq_mul, nq_lt, nq_le, nq_eq, nq_lt0, nq10, nq00, Nat.one_ne_zero, Nat.reduceEqDiff, Nat.not_lt_zero, nq20, nq30, zb1, zb0, mP_i, mP_o, mP_2', wr_1, wr_ne, wr_i, reduceIte, m_may1, m_may0, m_both1, m_both2, m_both0, m_all1, m_all3, m_all2, m_all0]
        have hk := m_add_l (σ0 := mP σ 35 (nq 0)) (bs := fl A i) (i := i) (s := s) (by omega) hs n 0 FU a (mP σ 35 (nq 0)) (fl A i) (by unfold FU; omega) ha (by omega) (by omega) hl ⟨rfl, fun j hj => by
          by_cases hji : j = i
          · rw [if_pos hji, hji]
            exact hl
          · rw [if_neg hji], (h.1.2 i (by omega)).2, fun _ _ => rfl⟩ (Sx.refl _ _ _)
        rw [Nat.zero_add] at hk
        refine okm_mono hk fun r hr => ?_
        obtain ⟨r1, r2, r3⟩ := hr
        have hs1 : Sx σ r.2 [0, 22, 23, 24, 26, 35] [1, 2, 21, 25, 27] := ((Sx.refl σ _ _).mP (by decide)).trans (r3.mono (by decide) (by decide))
        exact MO_FS hA h hs1 ⟨(r2.1).trans (mP_o _ _ (by decide)), r2.2.1, r2.2.2.1, r2.2.2.2⟩ hi ((r3.1 35 (by decide)).trans (mP_i _ _ _)) (by rw [r1]; rfl)
      · rw [if_neg c3]
        have c3' : 120 < (fl A i).length + n := by omega
        simp (disch := omega) only [s_X3_add_32, s_X3_add_73, s_X3_add_74, m_isFile_t h0 (by omega) c1, hl, c3', mR_1, mW_1, mR_2, mW_2, mR_3, mW_3, mR_4, mW_4, mR_5, mW_5, mR_6, mW_6, mR_7, mW_7, mR_9, mW_9, mR_10, mW_10, mR_11, mW_11, mR_12, mW_12, mR_13, mW_13, mR_14, mW_14, mR_15, mW_15, mR_17, mW_17, mR_18, mW_18, mR_19, mW_19, mR_20, mW_20, mR_21, mW_21, mR_25, mW_25, mR_27, mW_27, mR_31, mW_31, mR_32, mW_32, mR_33, mW_33, mR_34, mW_34, mRL_8, mWL_8, pb1, pb2, nq_lit, nq_add, nq_mul, nq_lt, nq_le, nq_eq, nq_lt0, nq10, nq00, Nat.one_ne_zero, Nat.reduceEqDiff, Nat.not_lt_zero, nq20, nq30, zb1, zb0, mP_i, mP_o, mP_2', wr_1, wr_ne, wr_i, reduceIte, m_may1, m_may0, m_both1, m_both2, m_both0, m_all1, m_all3, m_all2, m_all0]
        exact okm_some (MO_bad h (by decide))
    · rw [if_neg c2, e0 c2]
      simp (disch := omega) only [s_X3_add_32, s_X3_add_73, s_X3_add_74, m_isFile_t h0 (by omega) c1, pb1, pb2, nq_lit, nq_add, nq_mul, nq_lt, nq_le, nq_eq, nq_lt0, nq10, nq00, Nat.one_ne_zero, Nat.reduceEqDiff, Nat.not_lt_zero, nq20, nq30, zb1, zb0, mP_i, mP_o, mP_2', wr_1, wr_ne, wr_i, reduceIte, m_may1, m_may0, m_both1, m_both2, m_both0, m_all1, m_all3, m_all2, m_all0]
      exact okm_some (MO_bad h (by decide))
  · rw [if_neg c1]
    have : f_X3_add x1 x2 x3 x4 σ = some (nq 0, mP σ 35 (nq 1)) := by
      by_cases c2 : okI x2 256 ∧ okI x3 256 ∧ okI x4 121 ∧ ¬ ix x4 = 0
      · rw [e1 c2]
        simp (disch := omega) only [s_X3_add_32, s_X3_add_73, s_X3_add_74, m_isFile_f h0 (by omega) c1, pb1, pb2, nq_lit, nq_add, nq_mul, nq_lt, nq_le, nq_eq, nq_lt0, nq10, nq00, Nat.one_ne_zero, Nat.reduceEqDiff, Nat.not_lt_zero, nq20, nq30, zb1, zb0, mP_i, mP_o, mP_2', wr_1, wr_ne, wr_i, reduceIte, m_may1, m_may0, m_both1, m_both2, m_both0, m_all1, m_all3, m_all2, m_all0]
      · rw [e0 c2]
        simp (disch := omega) only [s_X3_add_32, s_X3_add_73, s_X3_add_74, m_isFile_f h0 (by omega) c1, pb1, pb2, nq_lit, nq_add, nq_mul, nq_lt, nq_le, nq_eq, nq_lt0, nq10, nq00, Nat.one_ne_zero, Nat.reduceEqDiff, Nat.not_lt_zero, nq20, nq30, zb1, zb0, mP_i, mP_o, mP_2', wr_1, wr_ne, wr_i, reduceIte, m_may1, m_may0, m_both1, m_both2, m_both0, m_all1, m_all3, m_all2, m_all0]
    rw [this]
    exact okm_some (MO_bad h (by decide))
