/-! PURE: the reference's calls about versions -/
set_option maxRecDepth 100000
/-- a version is whole now -/
def HO (I : List Nat) (σ σ' : Sg) (v : Nat) (bs : List Nat) : Prop := MWh σ' v bs ∧ (∀ x, x ≠ v → σ'.2.1 17 x = σ.2.1 17 x ∧ σ'.2.1 19 x = σ.2.1 19 x) ∧ (∀ x, (x < 120 * v ∨ 120 * v + 120 ≤ x) → σ'.2.1 20 x = σ.2.1 20 x) ∧ Sx σ σ' I [17, 19, 20]
theorem m_holds_l {σ0 : Sg} {v f : Nat} {bs : List Nat} (hv : v < 20) (hf : f < 6) (hL : bs.length ≤ 120) : ∀ (N k n : Nat) (σ : Sg), N < n → k + N = bs.length → σ.2.1 1 f = nq bs.length → (∀ x, x < bs.length → σ.2.1 2 (120 * f + x) = nq (gd bs x)) → σ.2.1 17 v = nq 1 → σ.2.1 19 v = nq bs.length → (∀ x, x < k → σ.2.1 20 (120 * v + x) = nq (gd bs x)) →
    (∀ x, x ≠ v → σ.2.1 17 x = σ0.2.1 17 x ∧ σ.2.1 19 x = σ0.2.1 19 x) → (∀ x, (x < 120 * v ∨ 120 * v + 120 ≤ x) → σ.2.1 20 x = σ0.2.1 20 x) → Sx σ0 σ [] [17, 19, 20] → okm (l_X3_holds_21 n (nq v, nq f, nq k) σ) fun r => HO [] σ0 r.2 v bs := by
  intro N
  induction N with
  | zero =>
    intro k n σ hn hk h1 h2 h17 h19 h20 g1 g2 g3
    obtain ⟨n, rfl⟩ := pre_n hn
    have hk' : bs.length ≤ k := by omega
    rw [l_X3_holds_21_s]
    simp (disch := omega) only [s_X3_holds_21, h1, hk', mR_1, mW_1, mR_2, mW_2, mR_3, mW_3, mR_4, mW_4, mR_5, mW_5, mR_6, mW_6, mR_7, mW_7, mR_9, mW_9, mR_10, mW_10, mR_11, mW_11, mR_12, mW_12, mR_13, mW_13, mR_14, mW_14, mR_15, mW_15, mR_17, mW_17, mR_18, mW_18, mR_19, mW_19, mR_20, mW_20, mR_21, mW_21, mR_25, mW_25, mR_27, mW_27, mR_31, mW_31, mR_32, mW_32, mR_33, mW_33, mR_34, mW_34, mRL_8, mWL_8, pb1, pb2, nq_lit, nq_add, nq_mul, nq_lt, nq_le, nq_eq, nq_lt0, nq10, nq00, Nat.one_ne_zero, Nat.reduceEqDiff, Nat.not_lt_zero, nq20, nq30, zb1, zb0, eq_self, mP_i, mP_o, mP_2', wr_1, wr_ne, wr_i, reduceIte, m_may1, m_may0, m_both1, m_both2, m_both0, m_all1, m_all3, m_all2, m_all0]
    exact okm_some ⟨⟨h17, h19, fun x hx => h20 x (by omega)⟩, g1, g2, g3⟩
  | succ N ih =>
    intro k n σ hn hk h1 h2 h17 h19 h20 g1 g2 g3
    obtain ⟨n, rfl⟩ := pre_n hn
    have hk' : ¬ bs.length ≤ k := by omega
    rw [l_X3_holds_21_s]
    simp (disch := omega) only [s_X3_holds_21, h1, hk', h2 k (by omega), mR_1, mW_1, mR_2, mW_2, mR_3, mW_3, mR_4, mW_4, mR_5, mW_5, mR_6, mW_6, mR_7, mW_7, mR_9, mW_9, mR_10, mW_10, mR_11, mW_11, mR_12, mW_12, mR_13, mW_13, mR_14, mW_14, mR_15, mW_15, mR_17, mW_17, mR_18, mW_18, mR_19, mW_19, mR_20, mW_20, mR_21, mW_21, mR_25, mW_25, mR_27, mW_27, mR_31, mW_31, mR_32, mW_32, mR_33, mW_33, mR_34, mW_34, mRL_8, mWL_8, pb1, pb2, nq_lit, nq_add, nq_mul, nq_lt, nq_le, nq_eq, nq_lt0, nq10, nq00, Nat.one_ne_zero, Nat.reduceEqDiff, Nat.not_lt_zero, nq20, nq30, zb1, zb0, eq_self, mP_i, mP_o, mP_2', wr_1, wr_ne, wr_i, reduceIte, m_may1, m_may0, m_both1, m_both2, m_both0, m_all1, m_all3, m_all2, m_all0]
    refine ih (k + 1) n _ (by omega) (by omega) ?_ (fun x hx => ?_) ?_ ?_ (fun x hx => ?_) (fun x hx => ?_) (fun x hx => ?_) (g3.wr (by decide))
    · rw [wr_ne _ _ _ (by decide)]
      exact h1
    · rw [wr_ne _ _ _ (by decide)]
      exact h2 x hx
    · rw [wr_ne _ _ _ (by decide)]
      exact h17
    · rw [wr_ne _ _ _ (by decide)]
      exact h19
    · rw [wr_at]
      by_cases q : x = k
      · rw [if_pos (by omega), q]
      · rw [if_neg (by omega)]
        exact h20 x (by omega)
    · rw [wr_ne _ _ _ (by decide), wr_ne _ _ _ (by decide)]
      exact g1 x hx
    · rw [wr_at, if_neg (by omega)]
      exact g2 x hx
theorem m_holds {A : AA} {σ : Sg} {v f : Nat} (hA : AOk A) (hv : v < 20) (hf : f < 6) (h : MFl σ A.1) : okm (f_X3_holds (nq v) (nq f) σ) fun r => HO [] σ r.2 v (fl A f) := by
  have hl : σ.2.1 1 f = nq (fl A f).length := (h.2 f hf).1
  have hL := (fl_ok hA f).1
  simp (disch := omega) only [f_X3_holds, hl, mR_1, mW_1, mR_2, mW_2, mR_3, mW_3, mR_4, mW_4, mR_5, mW_5, mR_6, mW_6, mR_7, mW_7, mR_9, mW_9, mR_10, mW_10, mR_11, mW_11, mR_12, mW_12, mR_13, mW_13, mR_14, mW_14, mR_15, mW_15, mR_17, mW_17, mR_18, mW_18, mR_19, mW_19, mR_20, mW_20, mR_21, mW_21, mR_25, mW_25, mR_27, mW_27, mR_31, mW_31, mR_32, mW_32, mR_33, mW_33, mR_34, mW_34, mRL_8, mWL_8, pb1, pb2, nq_lit, nq_add, nq_mul, nq_lt, nq_le, nq_eq, nq_lt0, nq10, nq00, Nat.one_ne_zero, Nat.reduceEqDiff, Nat.not_lt_zero, nq20, nq30, zb1, zb0, eq_self, mP_i, mP_o, mP_2', wr_1, wr_ne, wr_i, reduceIte, m_may1, m_may0, m_both1, m_both2, m_both0, m_all1, m_all3, m_all2, m_all0]
  refine m_holds_l hv hf hL (fl A f).length 0 FU _ (by unfold FU; omega) (by omega) ?_ (fun x hx => ?_) ?_ (wr_i _ _ _ _) (fun x hx => absurd hx (Nat.not_lt_zero x)) (fun x hx => ?_) (fun x hx => ?_) (((Sx.refl σ _ _).wr (by decide)).wr (by decide))
  · rw [wr_ne _ _ _ (by decide), wr_ne _ _ _ (by decide)]
    exact hl
  · rw [wr_ne _ _ _ (by decide), wr_ne _ _ _ (by decide)]
    exact (h.2 f hf).2 x hx
  · rw [wr_ne _ _ _ (by decide), wr_i]
  · rw [wr_ne _ _ _ (by decide), wr_o _ _ hx, wr_o _ _ hx, wr_ne _ _ _ (by decide)]
    exact ⟨rfl, rfl⟩
  · rw [wr_ne _ _ _ (by decide), wr_ne _ _ _ (by decide)]
theorem HO_mp {σ σ' : Sg} {v : Nat} {bs : List Nat} (h : HO [] σ σ' v bs) (x : Int32) : HO [16] σ (mP σ' 16 x) v bs := ⟨h.1, h.2.1, h.2.2.1, (h.2.2.2.mono (by decide) (by decide)).mP (by decide)⟩
theorem MWh_other {σ σ' : Sg} {I : List Nat} {v x : Nat} {bs bs' : List Nat} (h : MWh σ x bs') (k : HO I σ σ' v bs) (hx : x ≠ v) (hL : bs'.length ≤ 120) : MWh σ' x bs' := by
  obtain ⟨k1, k2, k3, k4⟩ := k
  obtain ⟨q1, q2⟩ := k2 x hx
  refine ⟨by rw [q1]; exact h.1, by rw [q2]; exact h.2.1, fun j hj => ?_⟩
  rw [k3 _ (by omega)]
  exact h.2.2 j hj
/-- the list of versions with one whole version set, or put at its end -/
theorem MVr_HO {A : AA} {σ σ' : Sg} {vs : List Vr} {I : List Nat} {v : Nat} {bs : List Nat} (hA : AOk A) (h : MVr σ (zV A)) (k : HO I σ σ' v bs) (h16 : σ'.1 16 = nq vs.length) (hvs : ∀ x, x < 20 → vs[x]? = if x = v then some (.inr (.inl bs)) else (zV A)[x]?) : MVr σ' vs := by
  refine ⟨h16, fun x hx => ?_⟩
  rw [hvs x hx]
  by_cases q : x = v
  · rw [if_pos q, q]
    exact ⟨fun u e => (by cases e), fun bs' e => (by cases e; exact k.1), fun j D e => (by cases e)⟩
  · rw [if_neg q]
    obtain ⟨q1, q2, q3⟩ := h.2 x hx
    obtain ⟨r1, r2⟩ := k.2.1 x q
    refine ⟨fun u e => (by rw [r1]; exact q1 u e), fun bs' e => MWh_other (q2 bs' e) k q (zV_wh hA e).1, fun j D e => ?_⟩
    obtain ⟨t1, t2, t3⟩ := q3 j D e
    rw [r1, k.2.2.2.2.1 18 (by decide)]
    exact ⟨t1, t2, t3.same k.2.2.2 (by decide) (by decide) (by decide) (by decide) (by decide) (by decide) (by decide)⟩
theorem MRep_V {A : AA} {σ σ' : Sg} {vs : List Vr} (h : MRep A σ) (k : Sx σ σ' [16, 22, 23, 24, 26, 35] [17, 18, 19, 20, 21, 25, 27]) (hV : MVr σ' vs) : MRep (uV A vs) σ' := by
  obtain ⟨h1, h2, h3, h4, h5, h6⟩ := h
  exact ⟨h1.same k (by decide) (by decide) (by decide), h2.same k (by decide) (by decide) (by decide) (by decide) (by decide) (by decide),
    h3.same k (by decide) (by decide) (by decide) (by decide) (by decide) (by decide) (by decide), hV,
    h5.same k (by decide) (by decide) (by decide) (by decide), h6.same k (by decide) (by decide) (by decide)⟩
theorem gV_app (vs : List Vr) (x : Vr) (k : Nat) : (vs ++ [x])[k]? = if k = vs.length then some x else vs[k]? := by
  by_cases h : k = vs.length
  · rw [if_pos h, h, List.getElem?_append_right (Nat.le_refl _), Nat.sub_self]
    rfl
  · rw [if_neg h]
    by_cases h2 : k < vs.length
    · rw [List.getElem?_append_left h2]
    · rw [List.getElem?_eq_none (by rw [List.length_append, List.length_singleton]; omega), List.getElem?_eq_none (by omega)]
theorem gV_set (vs : List Vr) (x : Vr) {v : Nat} (hv : v < vs.length) (k : Nat) : (vs.set v x)[k]? = if k = v then some x else vs[k]? := by
  by_cases h : k = v
  · rw [if_pos h, h, List.getElem?_set_self hv]
  · rw [if_neg h, List.getElem?_set_ne (Ne.symm h)]
theorem m_keep {A : AA} {σ : Sg} (hA : AOk A) (h : MRep A σ) (x1 : Int32) : okm (f_X3_keep x1 σ) (MO LI (o_keep A x1)) := by
  have h0 := h.1.1
  have hn := hA.1.1
  have h16 : σ.1 16 = nq (zV A).length := h.2.2.2.1.1
  have hvl : (zV A).length ≤ 20 := hA.2.2.2.1.1
  unfold o_keep
  by_cases c1 : okI x1 A.1.length
  · rw [if_pos c1]
    obtain ⟨f, hf, hf2, rfl⟩ := okI_get c1
    simp only [ix, ixq hf2]
    by_cases c2 : (zV A).length < 20
    · rw [if_pos c2]
      have c2' : ¬ 20 ≤ (zV A).length := by omega
      simp (disch := omega) only [f_X3_keep, s_X3_keep_20, m_isFile_t h0 (by omega) c1, h16, c2', pb1, pb2, nq_lit, nq_add, nq_mul, nq_lt, nq_le, nq_eq, nq_lt0, nq10, nq00, Nat.one_ne_zero, Nat.reduceEqDiff, Nat.not_lt_zero, nq20, nq30, zb1, zb0, eq_self, mP_i, mP_o, mP_2', wr_1, wr_ne, wr_i, reduceIte, m_may1, m_may0, m_both1, m_both2, m_both0, m_all1, m_all3, m_all2, m_all0]
      refine okm_bd2 (okm_mono (m_holds (σ := mP σ 35 (nq 0)) hA c2 (by omega) (h.thr (nq 0)).1) fun r hr => ?_)
      have e16 : r.2.1 16 = nq (zV A).length := by rw [hr.2.2.2.1 16 (by decide), mP_o _ _ (by decide)]; exact h16
      simp (disch := omega) only [e16, nq_sub, pb1, pb2, nq_lit, nq_add, nq_mul, nq_lt, nq_le, nq_eq, nq_lt0, nq10, nq00, Nat.one_ne_zero, Nat.reduceEqDiff, Nat.not_lt_zero, nq20, nq30, zb1, zb0, eq_self, mP_i, mP_o, mP_2', wr_1, wr_ne, wr_i, reduceIte, m_may1, m_may0, m_both1, m_both2, m_both0, m_all1, m_all3, m_all2, m_all0]
      have hh := h.thr (nq 0)
      have hX : Sx (mP σ 35 (nq 0)) (mP r.2 16 (nq ((zV A).length + 1))) [16, 22, 23, 24, 26, 35] [17, 18, 19, 20, 21, 25, 27] := (hr.2.2.2.mono (by decide) (by decide)).mP (by decide)
      refine okm_some ⟨MRep_V hh hX ?_, ?_, fun _ => ?_⟩
      · refine MVr_HO hA hh.2.2.2.1 (v := (zV A).length) (bs := fl A f) (HO_mp hr _) ?_ (fun x _ => gV_app _ _ _)
        rw [mP_i, List.length_append]
        rfl
      · rw [mP_o _ _ (by decide), hr.2.2.2.1 35 (by decide), mP_i]
      · rw [Nat.add_sub_cancel]
        rfl
    · rw [if_neg c2]
      have c2' : 20 ≤ (zV A).length := by omega
      simp (disch := omega) only [f_X3_keep, s_X3_keep_20, m_isFile_t h0 (by omega) c1, h16, c2', pb1, pb2, nq_lit, nq_add, nq_mul, nq_lt, nq_le, nq_eq, nq_lt0, nq10, nq00, Nat.one_ne_zero, Nat.reduceEqDiff, Nat.not_lt_zero, nq20, nq30, zb1, zb0, eq_self, mP_i, mP_o, mP_2', wr_1, wr_ne, wr_i, reduceIte, m_may1, m_may0, m_both1, m_both2, m_both0, m_all1, m_all3, m_all2, m_all0]
      exact okm_some (MO_bad h (by decide))
  · rw [if_neg c1]
    by_cases c2 : 20 ≤ (zV A).length
    · simp (disch := omega) only [f_X3_keep, s_X3_keep_20, m_isFile_f h0 (by omega) c1, h16, c2, pb1, pb2, nq_lit, nq_add, nq_mul, nq_lt, nq_le, nq_eq, nq_lt0, nq10, nq00, Nat.one_ne_zero, Nat.reduceEqDiff, Nat.not_lt_zero, nq20, nq30, zb1, zb0, eq_self, mP_i, mP_o, mP_2', wr_1, wr_ne, wr_i, reduceIte, m_may1, m_may0, m_both1, m_both2, m_both0, m_all1, m_all3, m_all2, m_all0]
      exact okm_some (MO_bad h (by decide))
    · simp (disch := omega) only [f_X3_keep, s_X3_keep_20, m_isFile_f h0 (by omega) c1, h16, c2, pb1, pb2, nq_lit, nq_add, nq_mul, nq_lt, nq_le, nq_eq, nq_lt0, nq10, nq00, Nat.one_ne_zero, Nat.reduceEqDiff, Nat.not_lt_zero, nq20, nq30, zb1, zb0, eq_self, mP_i, mP_o, mP_2', wr_1, wr_ne, wr_i, reduceIte, m_may1, m_may0, m_both1, m_both2, m_both0, m_all1, m_all3, m_all2, m_all0]
      exact okm_some (MO_bad h (by decide))
theorem m_replace {A : AA} {σ : Sg} (hA : AOk A) (h : MRep A σ) (x1 x2 : Int32) : okm (f_X3_replace x1 x2 σ) (MO LU (o_replace A x1 x2)) := by
  have h0 := h.1.1
  have hn := hA.1.1
  have h16 : σ.1 16 = nq (zV A).length := h.2.2.2.1.1
  have hvl : (zV A).length ≤ 20 := hA.2.2.2.1.1
  unfold o_replace
  by_cases c1 : okI x1 (zV A).length
  · by_cases c2 : okI x2 A.1.length
    · rw [if_pos ⟨c1, c2⟩]
      obtain ⟨v, hv, hv2, rfl⟩ := okI_get c1
      obtain ⟨f, hf, hf2, rfl⟩ := okI_get c2
      simp only [ix, ixq hf2, ixq hv2]
      simp (disch := omega) only [f_X3_replace, s_X3_replace_22, s_X3_replace_34, m_isVersion_t h16 (by omega) c1, m_isFile_t h0 (by omega) c2, pb1, pb2, nq_lit, nq_add, nq_mul, nq_lt, nq_le, nq_eq, nq_lt0, nq10, nq00, Nat.one_ne_zero, Nat.reduceEqDiff, Nat.not_lt_zero, nq20, nq30, zb1, zb0, eq_self, mP_i, mP_o, mP_2', wr_1, wr_ne, wr_i, reduceIte, m_may1, m_may0, m_both1, m_both2, m_both0, m_all1, m_all3, m_all2, m_all0]
      refine okm_bd2 (okm_mono (m_holds (σ := mP σ 35 (nq 0)) (v := v) hA (by omega) (by omega) (h.thr (nq 0)).1) fun r hr => ?_)
      have hh := h.thr (nq 0)
      refine okm_some ⟨MRep_V hh (hr.2.2.2.mono (by decide) (by decide)) (MVr_HO hA hh.2.2.2.1 hr ?_ (fun x _ => gV_set _ _ hv _)), ?_, fun _ => rfl⟩
      · rw [hr.2.2.2.1 16 (by decide), List.length_set]
        exact h16
      · rw [hr.2.2.2.1 35 (by decide), mP_i]
    · rw [if_neg (fun q => c2 q.2)]
      simp (disch := omega) only [f_X3_replace, s_X3_replace_21, s_X3_replace_22, s_X3_replace_34, m_isVersion_t h16 (by omega) c1, m_isFile_f h0 (by omega) c2, pb1, pb2, nq_lit, nq_add, nq_mul, nq_lt, nq_le, nq_eq, nq_lt0, nq10, nq00, Nat.one_ne_zero, Nat.reduceEqDiff, Nat.not_lt_zero, nq20, nq30, zb1, zb0, eq_self, mP_i, mP_o, mP_2', wr_1, wr_ne, wr_i, reduceIte, m_may1, m_may0, m_both1, m_both2, m_both0, m_all1, m_all3, m_all2, m_all0]
      exact okm_some (MO_bad h (by decide))
  · rw [if_neg (fun q => c1 q.1)]
    simp (disch := omega) only [f_X3_replace, s_X3_replace_21, s_X3_replace_22, s_X3_replace_34, m_isVersion_f h16 (by omega) c1, pb1, pb2, nq_lit, nq_add, nq_mul, nq_lt, nq_le, nq_eq, nq_lt0, nq10, nq00, Nat.one_ne_zero, Nat.reduceEqDiff, Nat.not_lt_zero, nq20, nq30, zb1, zb0, eq_self, mP_i, mP_o, mP_2', wr_1, wr_ne, wr_i, reduceIte, m_may1, m_may0, m_both1, m_both2, m_both0, m_all1, m_all3, m_all2, m_all0]
    exact okm_some (MO_bad h (by decide))
theorem m_versions {A : AA} {σ : Sg} (hA : AOk A) (h : MRep A σ) : okm (f_X3_versions σ) (MO LI (o_versions A)) := by
  have h16 : σ.1 16 = nq (zV A).length := h.2.2.2.1.1
  simp (disch := omega) only [f_X3_versions, h16, pb1, pb2, nq_lit, nq_add, nq_mul, nq_lt, nq_le, nq_eq, nq_lt0, nq10, nq00, Nat.one_ne_zero, Nat.reduceEqDiff, Nat.not_lt_zero, nq20, nq30, zb1, zb0, eq_self, mP_i, mP_o, mP_2', wr_1, wr_ne, wr_i, reduceIte, m_may1, m_may0, m_both1, m_both2, m_both0, m_all1, m_all3, m_all2, m_all0]
  exact okm_some (MO_ok h rfl)
theorem m_heldOf {A : AA} {σ : Sg} (hA : AOk A) (h : MVr σ (zV A)) {v : Nat} (hv : v < (zV A).length) : f_X3_heldOf (nq v) σ = some (nq (hld (zV A) v), σ) := by
  have hvl : (zV A).length ≤ 20 := hA.2.2.2.1.1
  obtain ⟨q1, q2, q3⟩ := h.2 v (by omega)
  have hx : (zV A)[v]? = some (zV A)[v] := List.getElem?_eq_getElem hv
  unfold hld
  rcases hy : (zV A)[v] with u | bs | ⟨j, D⟩
  · rw [hy] at hx
    rw [hx]
    simp (disch := omega) only [f_X3_heldOf, s_X3_heldOf_39, q1 u hx, mR_1, mW_1, mR_2, mW_2, mR_3, mW_3, mR_4, mW_4, mR_5, mW_5, mR_6, mW_6, mR_7, mW_7, mR_9, mW_9, mR_10, mW_10, mR_11, mW_11, mR_12, mW_12, mR_13, mW_13, mR_14, mW_14, mR_15, mW_15, mR_17, mW_17, mR_18, mW_18, mR_19, mW_19, mR_20, mW_20, mR_21, mW_21, mR_25, mW_25, mR_27, mW_27, mR_31, mW_31, mR_32, mW_32, mR_33, mW_33, mR_34, mW_34, mRL_8, mWL_8, pb1, pb2, nq_lit, nq_add, nq_mul, nq_lt, nq_le, nq_eq, nq_lt0, nq10, nq00, Nat.one_ne_zero, Nat.reduceEqDiff, Nat.not_lt_zero, nq20, nq30, zb1, zb0, eq_self, mP_i, mP_o, mP_2', wr_1, wr_ne, wr_i, reduceIte, m_may1, m_may0, m_both1, m_both2, m_both0, m_all1, m_all3, m_all2, m_all0]
  · rw [hy] at hx
    rw [hx]
    obtain ⟨t1, t2, t3⟩ := q2 bs hx
    simp (disch := omega) only [f_X3_heldOf, s_X3_heldOf_39, t1, t2, mR_1, mW_1, mR_2, mW_2, mR_3, mW_3, mR_4, mW_4, mR_5, mW_5, mR_6, mW_6, mR_7, mW_7, mR_9, mW_9, mR_10, mW_10, mR_11, mW_11, mR_12, mW_12, mR_13, mW_13, mR_14, mW_14, mR_15, mW_15, mR_17, mW_17, mR_18, mW_18, mR_19, mW_19, mR_20, mW_20, mR_21, mW_21, mR_25, mW_25, mR_27, mW_27, mR_31, mW_31, mR_32, mW_32, mR_33, mW_33, mR_34, mW_34, mRL_8, mWL_8, pb1, pb2, nq_lit, nq_add, nq_mul, nq_lt, nq_le, nq_eq, nq_lt0, nq10, nq00, Nat.one_ne_zero, Nat.reduceEqDiff, Nat.not_lt_zero, nq20, nq30, zb1, zb0, eq_self, mP_i, mP_o, mP_2', wr_1, wr_ne, wr_i, reduceIte, m_may1, m_may0, m_both1, m_both2, m_both0, m_all1, m_all3, m_all2, m_all0]
  · rw [hy] at hx
    rw [hx]
    obtain ⟨t1, t2, t3⟩ := q3 j D hx
    have h21 : (nq 2 = nq 1) = False := by
      apply eq_false
      decide
    have e := m_costOf (σ := σ) (d := 4 + v) (by omega) (MDl_is t3) (DOk_len (zV_del hA hx).2)
    simp (disch := omega) only [f_X3_heldOf, s_X3_heldOf_39, t1, e, h21, mR_1, mW_1, mR_2, mW_2, mR_3, mW_3, mR_4, mW_4, mR_5, mW_5, mR_6, mW_6, mR_7, mW_7, mR_9, mW_9, mR_10, mW_10, mR_11, mW_11, mR_12, mW_12, mR_13, mW_13, mR_14, mW_14, mR_15, mW_15, mR_17, mW_17, mR_18, mW_18, mR_19, mW_19, mR_20, mW_20, mR_21, mW_21, mR_25, mW_25, mR_27, mW_27, mR_31, mW_31, mR_32, mW_32, mR_33, mW_33, mR_34, mW_34, mRL_8, mWL_8, pb1, pb2, nq_lit, nq_add, nq_mul, nq_lt, nq_le, nq_eq, nq_lt0, nq10, nq00, Nat.one_ne_zero, Nat.reduceEqDiff, Nat.not_lt_zero, nq20, nq30, zb1, zb0, eq_self, mP_i, mP_o, mP_2', wr_1, wr_ne, wr_i, reduceIte, m_may1, m_may0, m_both1, m_both2, m_both0, m_all1, m_all3, m_all2, m_all0]
theorem m_heldBy {A : AA} {σ : Sg} (hA : AOk A) (h : MRep A σ) (x1 : Int32) : okm (f_X3_heldBy x1 σ) (MO LI (o_heldBy A x1)) := by
  have h16 : σ.1 16 = nq (zV A).length := h.2.2.2.1.1
  have hvl : (zV A).length ≤ 20 := hA.2.2.2.1.1
  unfold o_heldBy
  by_cases c1 : okI x1 (zV A).length
  · rw [if_pos c1]
    obtain ⟨v, hv, hv2, rfl⟩ := okI_get c1
    simp only [ix, ixq hv2]
    have e := m_heldOf (σ := mP σ 35 (nq 0)) hA (h.thr (nq 0)).2.2.2.1 hv
    simp (disch := omega) only [f_X3_heldBy, s_X3_heldBy_21, m_isVersion_t h16 (by omega) c1, e, pb1, pb2, nq_lit, nq_add, nq_mul, nq_lt, nq_le, nq_eq, nq_lt0, nq10, nq00, Nat.one_ne_zero, Nat.reduceEqDiff, Nat.not_lt_zero, nq20, nq30, zb1, zb0, eq_self, mP_i, mP_o, mP_2', wr_1, wr_ne, wr_i, reduceIte, m_may1, m_may0, m_both1, m_both2, m_both0, m_all1, m_all3, m_all2, m_all0]
    exact okm_some (MO_ok h rfl)
  · rw [if_neg c1]
    simp (disch := omega) only [f_X3_heldBy, s_X3_heldBy_21, m_isVersion_f h16 (by omega) c1, pb1, pb2, nq_lit, nq_add, nq_mul, nq_lt, nq_le, nq_eq, nq_lt0, nq10, nq00, Nat.one_ne_zero, Nat.reduceEqDiff, Nat.not_lt_zero, nq20, nq30, zb1, zb0, eq_self, mP_i, mP_o, mP_2', wr_1, wr_ne, wr_i, reduceIte, m_may1, m_may0, m_both1, m_both2, m_both0, m_all1, m_all3, m_all2, m_all0]
    exact okm_some (MO_bad h (by decide))
theorem m_lose {A : AA} {σ : Sg} (hA : AOk A) (h : MRep A σ) (x1 : Int32) : okm (f_X3_lose x1 σ) (MO LI (o_lose A x1)) := by
  have h16 : σ.1 16 = nq (zV A).length := h.2.2.2.1.1
  have hvl : (zV A).length ≤ 20 := hA.2.2.2.1.1
  unfold o_lose
  by_cases c1 : okI x1 (zV A).length
  · rw [if_pos c1]
    obtain ⟨v, hv, hv2, rfl⟩ := okI_get c1
    simp only [ix, ixq hv2]
    have hh := h.thr (nq 0)
    have e := m_heldOf (σ := mP σ 35 (nq 0)) hA hh.2.2.2.1 hv
    simp (disch := omega) only [f_X3_lose, m_isVersion_t h16 (by omega) c1, e, mR_1, mW_1, mR_2, mW_2, mR_3, mW_3, mR_4, mW_4, mR_5, mW_5, mR_6, mW_6, mR_7, mW_7, mR_9, mW_9, mR_10, mW_10, mR_11, mW_11, mR_12, mW_12, mR_13, mW_13, mR_14, mW_14, mR_15, mW_15, mR_17, mW_17, mR_18, mW_18, mR_19, mW_19, mR_20, mW_20, mR_21, mW_21, mR_25, mW_25, mR_27, mW_27, mR_31, mW_31, mR_32, mW_32, mR_33, mW_33, mR_34, mW_34, mRL_8, mWL_8, pb1, pb2, nq_lit, nq_add, nq_mul, nq_lt, nq_le, nq_eq, nq_lt0, nq10, nq00, Nat.one_ne_zero, Nat.reduceEqDiff, Nat.not_lt_zero, nq20, nq30, zb1, zb0, eq_self, mP_i, mP_o, mP_2', wr_1, wr_ne, wr_i, reduceIte, m_may1, m_may0, m_both1, m_both2, m_both0, m_all1, m_all3, m_all2, m_all0]
    have hX : Sx (mP σ 35 (nq 0)) (wr (mP σ 35 (nq 0)) 17 v (nq 0)) [] [17] := (Sx.refl _ _ _).wr (by decide)
    refine okm_some ⟨MRep_V hh (hX.mono (by decide) (by decide)) ⟨by rw [wr_1, List.length_set, mP_o _ _ (by decide)]; exact h16, fun x hx => ?_⟩, (show (wr (mP σ 35 (nq 0)) 17 v (nq 0)).1 35 = _ by rw [wr_1, mP_i]), fun _ => rfl⟩
    rw [gV_set _ _ hv]
    by_cases q : x = v
    · rw [if_pos q, q]
      exact ⟨fun u e => wr_i _ _ _ _, fun bs' e => (by cases e), fun j D e => (by cases e)⟩
    · rw [if_neg q]
      obtain ⟨q1, q2, q3⟩ := hh.2.2.2.1.2 x hx
      refine ⟨fun u e => (by rw [wr_o _ _ q]; exact q1 u e), fun bs' e => ?_, fun j D e => ?_⟩
      · obtain ⟨t1, t2, t3⟩ := q2 bs' e
        exact ⟨by rw [wr_o _ _ q]; exact t1, by rw [wr_ne _ _ _ (by decide)]; exact t2, fun j hj => by rw [wr_ne _ _ _ (by decide)]; exact t3 j hj⟩
      · obtain ⟨t1, t2, t3⟩ := q3 j D e
        rw [wr_o _ _ q, wr_ne _ _ _ (by decide)]
        exact ⟨t1, t2, t3.same hX (by decide) (by decide) (by decide) (by decide) (by decide) (by decide) (by decide)⟩
  · rw [if_neg c1]
    simp (disch := omega) only [f_X3_lose, m_isVersion_f h16 (by omega) c1, pb1, pb2, nq_lit, nq_add, nq_mul, nq_lt, nq_le, nq_eq, nq_lt0, nq10, nq00, Nat.one_ne_zero, Nat.reduceEqDiff, Nat.not_lt_zero, nq20, nq30, zb1, zb0, eq_self, mP_i, mP_o, mP_2', wr_1, wr_ne, wr_i, reduceIte, m_may1, m_may0, m_both1, m_both2, m_both0, m_all1, m_all3, m_all2, m_all0]
    exact okm_some (MO_bad h (by decide))
theorem m_rebuild {A : AA} {σ : Sg} (hA : AOk A) (h : MRep A σ) (x1 x2 : Int32) : okm (f_X3_rebuild x1 x2 σ) (MO LI (o_rebuild A x1 x2)) := by
  have h0 := h.1.1
  have hn := hA.1.1
  have h16 : σ.1 16 = nq (zV A).length := h.2.2.2.1.1
  have hvl : (zV A).length ≤ 20 := hA.2.2.2.1.1
  unfold o_rebuild
  have hx1 : okm (some ((nq 0 : Int32), mP σ 35 (nq 1))) (MO LI (no 1 A)) := okm_some (MO_bad h (by decide))
  by_cases c1 : okI x1 (zV A).length
  · by_cases c2 : okI x2 A.1.length
    · rw [if_pos ⟨c1, c2⟩]
      obtain ⟨v, hv, hv2, rfl⟩ := okI_get c1
      obtain ⟨f, hf, hf2, rfl⟩ := okI_get c2
      simp only [ix, ixq hf2, ixq hv2]
      simp (disch := omega) only [f_X3_rebuild, s_X3_rebuild_21, m_isVersion_t h16 (by omega) c1, m_isFile_t h0 (by omega) c2, pb1, pb2, nq_lit, nq_add, nq_mul, nq_lt, nq_le, nq_eq, nq_lt0, nq10, nq00, Nat.one_ne_zero, Nat.reduceEqDiff, Nat.not_lt_zero, nq20, nq30, zb1, zb0, eq_self, mP_i, mP_o, mP_2', wr_1, wr_ne, wr_i, reduceIte, m_may1, m_may0, m_both1, m_both2, m_both0, m_all1, m_all3, m_all2, m_all0]
      refine okm_bd2 (okm_mono (m_makes hA.2.2.2.1 h.2.2.2.1 hv) fun r hr => ?_)
      obtain ⟨r1, r2⟩ := hr
      have hr2 : MRep A r.2 := h.aux (r2.mono (by decide) (by decide))
      cases e : mkV (zV A) v with
      | inl y =>
        obtain ⟨a, f', x⟩ := y
        rw [e] at r1
        dsimp only
        simp (disch := omega) only [s_X3_rebuild_40, s_X3_rebuild_41, s_X3_rebuild_56, r1.1, pb1, pb2, nq_lit, nq_add, nq_mul, nq_lt, nq_le, nq_eq, nq_lt0, nq10, nq00, Nat.one_ne_zero, Nat.reduceEqDiff, Nat.not_lt_zero, nq20, nq30, zb1, zb0, eq_self, mP_i, mP_o, mP_2', wr_1, wr_ne, wr_i, reduceIte, m_may1, m_may0, m_both1, m_both2, m_both0, m_all1, m_all3, m_all2, m_all0]
        exact okm_some (MO_bad hr2 (by decide))
      | inr bs =>
        rw [e] at r1
        dsimp only
        have hbs := mkV_ok hA.2.2.2.1 (v + 1) v (by omega) hv bs e
        simp (disch := omega) only [s_X3_rebuild_41, s_X3_rebuild_56, r1.1, pb1, pb2, nq_lit, nq_add, nq_mul, nq_lt, nq_le, nq_eq, nq_lt0, nq10, nq00, Nat.one_ne_zero, Nat.reduceEqDiff, Nat.not_lt_zero, nq20, nq30, zb1, zb0, eq_self, mP_i, mP_o, mP_2', wr_1, wr_ne, wr_i, reduceIte, m_may1, m_may0, m_both1, m_both2, m_both0, m_all1, m_all3, m_all2, m_all0]
        refine okm_bd2 (okm_mono (m_give (σ := mP r.2 35 (nq 0)) hbs.1 r1.2.1 (i := f) (by omega)) fun u hu => ?_)
        obtain ⟨u1, u2, u3⟩ := hu
        refine okm_some (MO_FS hA (hr2.thr (nq 0)) (u3.mono (by decide) (by decide)) u2 hf ?_ (by rw [u1]; rfl))
        rw [u3.1 35 (by decide), mP_i]
    · rw [if_neg (fun q => c2 q.2)]
      simp (disch := omega) only [f_X3_rebuild, s_X3_rebuild_20, s_X3_rebuild_21, s_X3_rebuild_40, s_X3_rebuild_41, s_X3_rebuild_56, m_isVersion_t h16 (by omega) c1, m_isFile_f h0 (by omega) c2, pb1, pb2, nq_lit, nq_add, nq_mul, nq_lt, nq_le, nq_eq, nq_lt0, nq10, nq00, Nat.one_ne_zero, Nat.reduceEqDiff, Nat.not_lt_zero, nq20, nq30, zb1, zb0, eq_self, mP_i, mP_o, mP_2', wr_1, wr_ne, wr_i, reduceIte, m_may1, m_may0, m_both1, m_both2, m_both0, m_all1, m_all3, m_all2, m_all0]
      exact hx1
  · rw [if_neg (fun q => c1 q.1)]
    simp (disch := omega) only [f_X3_rebuild, s_X3_rebuild_20, s_X3_rebuild_21, s_X3_rebuild_40, s_X3_rebuild_41, s_X3_rebuild_56, m_isVersion_f h16 (by omega) c1, pb1, pb2, nq_lit, nq_add, nq_mul, nq_lt, nq_le, nq_eq, nq_lt0, nq10, nq00, Nat.one_ne_zero, Nat.reduceEqDiff, Nat.not_lt_zero, nq20, nq30, zb1, zb0, eq_self, mP_i, mP_o, mP_2', wr_1, wr_ne, wr_i, reduceIte, m_may1, m_may0, m_both1, m_both2, m_both0, m_all1, m_all3, m_all2, m_all0]
    exact hx1
theorem MM_brk {σ : Sg} {r : (Nat × Nat × Nat) ⊕ List Nat} {v : Int32} (h : MM σ r v) : LI (σ.1 22) = brk r (fun x => x.1) ∧ LI (σ.1 23) = brk r (fun x => x.2.1) ∧ LI (σ.1 24) = brk r (fun x => x.2.2) := by
  rcases r with ⟨a, f, x⟩ | bs
  · obtain ⟨-, h1, h2, h3⟩ := h
    rw [h1, h2, h3]
    exact ⟨rfl, rfl, rfl⟩
  · obtain ⟨-, -, h1, h2, h3⟩ := h
    rw [h1, h2, h3]
    exact ⟨rfl, rfl, rfl⟩
theorem m_brokenAt {A : AA} {σ : Sg} (hA : AOk A) (h : MRep A σ) (x1 : Int32) : okm (f_X3_brokenAt x1 σ) (MO LI (o_brokenAt A x1)) := by
  have h16 : σ.1 16 = nq (zV A).length := h.2.2.2.1.1
  have hvl : (zV A).length ≤ 20 := hA.2.2.2.1.1
  unfold o_brokenAt
  by_cases c1 : okI x1 (zV A).length
  · rw [if_pos c1]
    obtain ⟨v, hv, hv2, rfl⟩ := okI_get c1
    simp only [ix, ixq hv2]
    have hh := h.thr (nq 0)
    simp (disch := omega) only [f_X3_brokenAt, m_isVersion_t h16 (by omega) c1, pb1, pb2, nq_lit, nq_add, nq_mul, nq_lt, nq_le, nq_eq, nq_lt0, nq10, nq00, Nat.one_ne_zero, Nat.reduceEqDiff, Nat.not_lt_zero, nq20, nq30, zb1, zb0, eq_self, mP_i, mP_o, mP_2', wr_1, wr_ne, wr_i, reduceIte, m_may1, m_may0, m_both1, m_both2, m_both0, m_all1, m_all3, m_all2, m_all0]
    refine okm_bd2 (okm_mono (m_makes hA.2.2.2.1 hh.2.2.2.1 hv) fun r hr => ?_)
    obtain ⟨r1, r2⟩ := hr
    refine okm_some ⟨hh.aux (r2.mono (by decide) (by decide)), ?_, fun _ => (MM_brk r1).1⟩
    rw [r2.1 35 (by decide), mP_i]
  · rw [if_neg c1]
    simp (disch := omega) only [f_X3_brokenAt, m_isVersion_f h16 (by omega) c1, pb1, pb2, nq_lit, nq_add, nq_mul, nq_lt, nq_le, nq_eq, nq_lt0, nq10, nq00, Nat.one_ne_zero, Nat.reduceEqDiff, Nat.not_lt_zero, nq20, nq30, zb1, zb0, eq_self, mP_i, mP_o, mP_2', wr_1, wr_ne, wr_i, reduceIte, m_may1, m_may0, m_both1, m_both2, m_both0, m_all1, m_all3, m_all2, m_all0]
    exact okm_some (MO_bad h (by decide))
theorem m_brokenAfter {A : AA} {σ : Sg} (hA : AOk A) (h : MRep A σ) (x1 : Int32) : okm (f_X3_brokenAfter x1 σ) (MO LI (o_brokenAfter A x1)) := by
  have h16 : σ.1 16 = nq (zV A).length := h.2.2.2.1.1
  have hvl : (zV A).length ≤ 20 := hA.2.2.2.1.1
  unfold o_brokenAfter
  by_cases c1 : okI x1 (zV A).length
  · rw [if_pos c1]
    obtain ⟨v, hv, hv2, rfl⟩ := okI_get c1
    simp only [ix, ixq hv2]
    have hh := h.thr (nq 0)
    simp (disch := omega) only [f_X3_brokenAfter, m_isVersion_t h16 (by omega) c1, pb1, pb2, nq_lit, nq_add, nq_mul, nq_lt, nq_le, nq_eq, nq_lt0, nq10, nq00, Nat.one_ne_zero, Nat.reduceEqDiff, Nat.not_lt_zero, nq20, nq30, zb1, zb0, eq_self, mP_i, mP_o, mP_2', wr_1, wr_ne, wr_i, reduceIte, m_may1, m_may0, m_both1, m_both2, m_both0, m_all1, m_all3, m_all2, m_all0]
    refine okm_bd2 (okm_mono (m_makes hA.2.2.2.1 hh.2.2.2.1 hv) fun r hr => ?_)
    obtain ⟨r1, r2⟩ := hr
    refine okm_some ⟨hh.aux (r2.mono (by decide) (by decide)), ?_, fun _ => (MM_brk r1).2.1⟩
    rw [r2.1 35 (by decide), mP_i]
  · rw [if_neg c1]
    simp (disch := omega) only [f_X3_brokenAfter, m_isVersion_f h16 (by omega) c1, pb1, pb2, nq_lit, nq_add, nq_mul, nq_lt, nq_le, nq_eq, nq_lt0, nq10, nq00, Nat.one_ne_zero, Nat.reduceEqDiff, Nat.not_lt_zero, nq20, nq30, zb1, zb0, eq_self, mP_i, mP_o, mP_2', wr_1, wr_ne, wr_i, reduceIte, m_may1, m_may0, m_both1, m_both2, m_both0, m_all1, m_all3, m_all2, m_all0]
    exact okm_some (MO_bad h (by decide))
theorem m_reason {A : AA} {σ : Sg} (hA : AOk A) (h : MRep A σ) (x1 : Int32) : okm (f_X3_reason x1 σ) (MO LI (o_reason A x1)) := by
  have h16 : σ.1 16 = nq (zV A).length := h.2.2.2.1.1
  have hvl : (zV A).length ≤ 20 := hA.2.2.2.1.1
  unfold o_reason
  by_cases c1 : okI x1 (zV A).length
  · rw [if_pos c1]
    obtain ⟨v, hv, hv2, rfl⟩ := okI_get c1
    simp only [ix, ixq hv2]
    have hh := h.thr (nq 0)
    simp (disch := omega) only [f_X3_reason, m_isVersion_t h16 (by omega) c1, pb1, pb2, nq_lit, nq_add, nq_mul, nq_lt, nq_le, nq_eq, nq_lt0, nq10, nq00, Nat.one_ne_zero, Nat.reduceEqDiff, Nat.not_lt_zero, nq20, nq30, zb1, zb0, eq_self, mP_i, mP_o, mP_2', wr_1, wr_ne, wr_i, reduceIte, m_may1, m_may0, m_both1, m_both2, m_both0, m_all1, m_all3, m_all2, m_all0]
    refine okm_bd2 (okm_mono (m_makes hA.2.2.2.1 hh.2.2.2.1 hv) fun r hr => ?_)
    obtain ⟨r1, r2⟩ := hr
    refine okm_some ⟨hh.aux (r2.mono (by decide) (by decide)), ?_, fun _ => (MM_brk r1).2.2⟩
    rw [r2.1 35 (by decide), mP_i]
  · rw [if_neg c1]
    simp (disch := omega) only [f_X3_reason, m_isVersion_f h16 (by omega) c1, pb1, pb2, nq_lit, nq_add, nq_mul, nq_lt, nq_le, nq_eq, nq_lt0, nq10, nq00, Nat.one_ne_zero, Nat.reduceEqDiff, Nat.not_lt_zero, nq20, nq30, zb1, zb0, eq_self, mP_i, mP_o, mP_2', wr_1, wr_ne, wr_i, reduceIte, m_may1, m_may0, m_both1, m_both2, m_both0, m_all1, m_all3, m_all2, m_all0]
    exact okm_some (MO_bad h (by decide))
theorem m_keepDelta_in {A : AA} {σ : Sg} {v f b : Nat} {bs : List Nat} (hA : AOk A) (h : MRep A σ) (hv : v < (zV A).length) (hf : f < A.1.length) (hb : 1 ≤ b ∧ b ≤ 7) (hl : (zV A).length < 20) (hB : MB σ bs) (hbs : FOk bs) :
    okm (s_X3_keepDelta_73 (nq f) (nq v) (nq b) (nq 1) (nq 1) (nq 1) σ) (MO LI (yn (zV A).length (uV A (zV A ++ [.inr (.inr (v, cmpD b 256 bs (fl A f)))])))) := by
  have hn := hA.1.1
  have h16 : σ.1 16 = nq (zV A).length := h.2.2.2.1.1
  have hh := h.thr (nq 0)
  simp (disch := omega) only [s_X3_keepDelta_73, pb1, pb2, nq_lit, nq_add, nq_mul, nq_lt, nq_le, nq_eq, nq_lt0, nq10, nq00, Nat.one_ne_zero, Nat.reduceEqDiff, Nat.not_lt_zero, nq20, nq30, zb1, zb0, eq_self, mP_i, mP_o, mP_2', wr_1, wr_ne, wr_i, reduceIte, m_may1, m_may0, m_both1, m_both2, m_both0, m_all1, m_all3, m_all2, m_all0]
  refine okm_bd2 (okm_mono (m_signs (σ := mP σ 35 (nq 0)) (p := 4) (b := b) (m := 256) (by omega) hb (by omega) hbs hB) fun r hr => ?_)
  obtain ⟨r1, r2, r3⟩ := hr
  have e16 : r.2.1 16 = nq (zV A).length := by rw [r3.1 16 (by decide), mP_o _ _ (by decide)]; exact h16
  simp (disch := omega) only [e16, mR_1, mW_1, mR_2, mW_2, mR_3, mW_3, mR_4, mW_4, mR_5, mW_5, mR_6, mW_6, mR_7, mW_7, mR_9, mW_9, mR_10, mW_10, mR_11, mW_11, mR_12, mW_12, mR_13, mW_13, mR_14, mW_14, mR_15, mW_15, mR_17, mW_17, mR_18, mW_18, mR_19, mW_19, mR_20, mW_20, mR_21, mW_21, mR_25, mW_25, mR_27, mW_27, mR_31, mW_31, mR_32, mW_32, mR_33, mW_33, mR_34, mW_34, mRL_8, mWL_8, pb1, pb2, nq_lit, nq_add, nq_mul, nq_lt, nq_le, nq_eq, nq_lt0, nq10, nq00, Nat.one_ne_zero, Nat.reduceEqDiff, Nat.not_lt_zero, nq20, nq30, zb1, zb0, eq_self, mP_i, mP_o, mP_2', wr_1, wr_ne, wr_i, reduceIte, m_may1, m_may0, m_both1, m_both2, m_both0, m_all1, m_all3, m_all2, m_all0]
  have hX1 : Sx r.2 (wr (wr r.2 17 (zV A).length (nq 2)) 18 (zV A).length (nq v)) [] [17, 18] := ((Sx.refl _ _ _).wr (by decide)).wr (by decide)
  have hF : ∀ x, x < 6 → (wr (wr r.2 17 (zV A).length (nq 2)) 18 (zV A).length (nq v)).2.1 1 x = nq (fl A x).length ∧ ∀ y, y < (fl A x).length → (wr (wr r.2 17 (zV A).length (nq 2)) 18 (zV A).length (nq v)).2.1 2 (120 * x + y) = nq (gd (fl A x) y) := fun x hx => by
    rw [hX1.2.1 1 (by decide), hX1.2.1 2 (by decide), r3.2.1 1 (by decide), r3.2.1 2 (by decide)]
    exact hh.1.2 x hx
  refine okm_bd2 (okm_mono (m_compares (σ := wr (wr r.2 17 (zV A).length (nq 2)) 18 (zV A).length (nq v)) (d := 4 + (zV A).length) (sp := 4) (f := f) (by omega) (by omega) (by omega) hb (by omega) hbs (fl_ok hA f) (r1.same hX1 (by decide) (by decide) (by decide) (by decide) (by decide) (by decide)) (hF f (by omega)).1 (hF f (by omega)).2) fun t ht => ?_)
  obtain ⟨t1, t2, t3⟩ := ht
  have e16' : t.2.1 16 = nq (zV A).length := by rw [t3.1 16 (by decide)]; exact e16
  simp (disch := omega) only [e16', pb1, pb2, nq_lit, nq_add, nq_mul, nq_lt, nq_le, nq_eq, nq_lt0, nq10, nq00, Nat.one_ne_zero, Nat.reduceEqDiff, Nat.not_lt_zero, nq20, nq30, zb1, zb0, eq_self, mP_i, mP_o, mP_2', wr_1, wr_ne, wr_i, reduceIte, m_may1, m_may0, m_both1, m_both2, m_both0, m_all1, m_all3, m_all2, m_all0]
  have hXa : Sx (mP σ 35 (nq 0)) t.2 [] [3, 4, 5, 6, 7, 8, 9, 10, 11, 12, 13, 14, 15, 17, 18] := ((r3.mono (by decide) (by decide)).trans (hX1.mono (by decide) (by decide))).trans (t3.mono (by decide) (by decide))
  have hXb : Sx (mP σ 35 (nq 0)) (mP t.2 16 (nq ((zV A).length + 1))) [16] [3, 4, 5, 6, 7, 8, 9, 10, 11, 12, 13, 14, 15, 17, 18] := (hXa.mono (by decide) (by decide)).mP (by decide)
  have hXc : Sx (wr (wr r.2 17 (zV A).length (nq 2)) 18 (zV A).length (nq v)) (mP t.2 16 (nq ((zV A).length + 1))) [16] J9 := (t3.mono (by decide) (by decide)).mP (by decide)
  have hD : DO (mP σ 35 (nq 0)) (mP t.2 16 (nq ((zV A).length + 1))) (4 + (zV A).length) := by
    refine ⟨fun d' hd' a ha => ?_, fun x hx a ha => ?_⟩
    · show t.2.2.1 a d' = _
      rw [t2.1 d' hd' a ha, hX1.2.1 a (by revert ha; revert a; decide), r3.2.1 a (by revert ha; revert a; decide)]
    · show t.2.2.1 a x = _
      rw [t2.2 x hx a ha, hX1.2.1 a (by revert ha; revert a; decide), r3.2.1 a (by revert ha; revert a; decide)]
  obtain ⟨g1, g2, g3, g4, g5, g6⟩ := hh
  refine okm_some ⟨⟨g1.same hXb (by decide) (by decide) (by decide), fun p hp => ?_, fun p hp => ?_, ⟨?_, fun x hx => ?_⟩, g5.same hXb (by decide) (by decide) (by decide) (by decide), g6.same hXb (by decide) (by decide) (by decide)⟩, ?_, fun _ => rfl⟩
  · obtain ⟨q1, q2⟩ := g2 p hp
    obtain ⟨⟨w1, w2⟩, w3⟩ := r2 p (by omega) (by omega)
    have hXd : Sx r.2 (mP t.2 16 (nq ((zV A).length + 1))) [16] [9, 10, 11, 12, 13, 14, 15, 17, 18] := (hX1.mono (by decide) (by decide)).trans (hXc.mono (by decide) (by decide))
    refine ⟨fun e => ?_, fun s e => (w3 s (zS_ok hA e).2.2.1 (zS_ok hA e).1.1 (q2 s e)).same hXd (by decide) (by decide) (by decide) (by decide) (by decide) (by decide)⟩
    rw [hXd.2.1 3 (by decide), hXd.2.1 6 (by decide), w1, w2]
    exact q1 e
  · obtain ⟨q1, q2⟩ := g3 p hp
    refine ⟨fun e => ?_, fun D e => MDl_other (q2 D e) hD (by omega) (DOk_len (zD_ok hA e)) (zD_ok hA e).2.2.1.1⟩
    rw [hD.1 p (by omega) 9 (by decide), hD.1 p (by omega) 10 (by decide), hD.1 p (by omega) 11 (by decide)]
    exact q1 e
  · show (mP t.2 16 _).1 16 = nq (zV A ++ _).length
    rw [mP_i, List.length_append]
    rfl
  · have hx17 : ∀ y, y ≠ (zV A).length → (mP t.2 16 (nq ((zV A).length + 1))).2.1 17 y = σ.2.1 17 y ∧ (mP t.2 16 (nq ((zV A).length + 1))).2.1 18 y = σ.2.1 18 y := fun y hy => by
      rw [hXc.2.1 17 (by decide), hXc.2.1 18 (by decide)]
      simp (disch := omega) only [wr_ne, wr_o]
      rw [r3.2.1 17 (by decide), r3.2.1 18 (by decide)]
      exact ⟨rfl, rfl⟩
    dsimp only [uV, zV]
    rw [gV_app]
    by_cases q : x = (zV A).length
    · rw [if_pos q, q]
      refine ⟨fun u e => (by cases e), fun bs' e => (by cases e), fun j D e => ?_⟩
      cases e
      refine ⟨?_, ?_, ?_⟩
      · rw [hXc.2.1 17 (by decide), wr_ne _ _ _ (by decide), wr_i]
      · rw [hXc.2.1 18 (by decide), wr_i]
      · exact t1.same ((Sx.refl t.2 [16] []).mP (by decide)) (by decide) (by decide) (by decide) (by decide) (by decide) (by decide) (by decide)
    · rw [if_neg q, (hx17 x q).1, (hx17 x q).2]
      obtain ⟨q1, q2, q3⟩ := g4.2 x hx
      refine ⟨q1, fun bs' e => ?_, fun j D e => ?_⟩
      · obtain ⟨s1, s2, s3⟩ := q2 bs' e
        refine ⟨by rw [(hx17 x q).1]; exact s1, by rw [hXb.2.1 19 (by decide)]; exact s2, fun j hj => by rw [hXb.2.1 20 (by decide)]; exact s3 j hj⟩
      · obtain ⟨s1, s2, s3⟩ := q3 j D e
        exact ⟨s1, s2, MDl_other s3 hD (by omega) (DOk_len (zV_del hA e).2) (zV_del hA e).2.2.2.1.1⟩
  · show (mP t.2 16 _).1 35 = _
    rw [mP_o _ _ (by decide), t3.1 35 (by decide), wr_1, wr_1, r3.1 35 (by decide), mP_i]
theorem m_keepDelta {A : AA} {σ : Sg} (hA : AOk A) (h : MRep A σ) (x1 x2 x3 : Int32) : okm (f_X3_keepDelta x1 x2 x3 σ) (MO LI (o_keepDelta A x1 x2 x3)) := by
  have h0 := h.1.1
  have hn := hA.1.1
  have h16 : σ.1 16 = nq (zV A).length := h.2.2.2.1.1
  have hvl : (zV A).length ≤ 20 := hA.2.2.2.1.1
  have hr := okI_r (x := x3) (n := 7) (by omega)
  unfold o_keepDelta
  have e21 : ∀ t, (okI x3 8 ∧ ¬ ix x3 = 0) → s_X3_keepDelta_21 x1 x2 x3 t σ = s_X3_keepDelta_39 x1 x2 x3 t (nq 1) σ := fun t c => by
    obtain ⟨g1, g2⟩ := hr.mp c
    simp (disch := omega) only [s_X3_keepDelta_21, g1, g2, pb1, pb2, nq_lit, nq_add, nq_mul, nq_lt, nq_le, nq_eq, nq_lt0, nq10, nq00, Nat.one_ne_zero, Nat.reduceEqDiff, Nat.not_lt_zero, nq20, nq30, zb1, zb0, eq_self, mP_i, mP_o, mP_2', wr_1, wr_ne, wr_i, reduceIte, m_may1, m_may0, m_both1, m_both2, m_both0, m_all1, m_all3, m_all2, m_all0]
  have e20 : ∀ t, ¬ (okI x3 8 ∧ ¬ ix x3 = 0) → s_X3_keepDelta_21 x1 x2 x3 t σ = s_X3_keepDelta_39 x1 x2 x3 t (nq 0) σ := fun t c => by
    by_cases g1 : x3 < nq 1
    · simp (disch := omega) only [s_X3_keepDelta_21, s_X3_keepDelta_38, g1, pb1, pb2, nq_lit, nq_add, nq_mul, nq_lt, nq_le, nq_eq, nq_lt0, nq10, nq00, Nat.one_ne_zero, Nat.reduceEqDiff, Nat.not_lt_zero, nq20, nq30, zb1, zb0, eq_self, mP_i, mP_o, mP_2', wr_1, wr_ne, wr_i, reduceIte, m_may1, m_may0, m_both1, m_both2, m_both0, m_all1, m_all3, m_all2, m_all0]
    · by_cases g2 : nq 7 < x3
      · simp (disch := omega) only [s_X3_keepDelta_21, s_X3_keepDelta_38, g1, g2, pb1, pb2, nq_lit, nq_add, nq_mul, nq_lt, nq_le, nq_eq, nq_lt0, nq10, nq00, Nat.one_ne_zero, Nat.reduceEqDiff, Nat.not_lt_zero, nq20, nq30, zb1, zb0, eq_self, mP_i, mP_o, mP_2', wr_1, wr_ne, wr_i, reduceIte, m_may1, m_may0, m_both1, m_both2, m_both0, m_all1, m_all3, m_all2, m_all0]
      · exact absurd (hr.mpr ⟨g1, g2⟩) c
  by_cases c : okI x1 A.1.length ∧ okI x2 (zV A).length
  · rw [if_pos c]
    obtain ⟨c1, c2⟩ := c
    have e0 : f_X3_keepDelta x1 x2 x3 σ = s_X3_keepDelta_21 x1 x2 x3 (nq 1) σ := by
      simp (disch := omega) only [f_X3_keepDelta, m_isFile_t h0 (by omega) c1, m_isVersion_t h16 (by omega) c2, pb1, pb2, nq_lit, nq_add, nq_mul, nq_lt, nq_le, nq_eq, nq_lt0, nq10, nq00, Nat.one_ne_zero, Nat.reduceEqDiff, Nat.not_lt_zero, nq20, nq30, zb1, zb0, eq_self, mP_i, mP_o, mP_2', wr_1, wr_ne, wr_i, reduceIte, m_may1, m_may0, m_both1, m_both2, m_both0, m_all1, m_all3, m_all2, m_all0]
    rw [e0]
    obtain ⟨f, hf, hf2, rfl⟩ := okI_get c1
    obtain ⟨v, hv, hv2, rfl⟩ := okI_get c2
    simp only [ix, ixq hf2, ixq hv2] at e20 e21 ⊢
    by_cases c3 : okI x3 8 ∧ ¬ x3.toNatClampNeg = 0
    · rw [if_pos c3, e21 _ c3]
      by_cases c4 : (zV A).length < 20
      · rw [if_pos c4]
        have c4' : ¬ 20 ≤ (zV A).length := by omega
        simp (disch := omega) only [s_X3_keepDelta_39, h16, c4', pb1, pb2, nq_lit, nq_add, nq_mul, nq_lt, nq_le, nq_eq, nq_lt0, nq10, nq00, Nat.one_ne_zero, Nat.reduceEqDiff, Nat.not_lt_zero, nq20, nq30, zb1, zb0, eq_self, mP_i, mP_o, mP_2', wr_1, wr_ne, wr_i, reduceIte, m_may1, m_may0, m_both1, m_both2, m_both0, m_all1, m_all3, m_all2, m_all0]
        refine okm_bd2 (okm_mono (m_makes hA.2.2.2.1 h.2.2.2.1 hv) fun r hr => ?_)
        obtain ⟨r1, r2⟩ := hr
        have hr2 : MRep A r.2 := h.aux (r2.mono (by decide) (by decide))
        cases e : mkV (zV A) v with
        | inl y =>
          obtain ⟨a, f', x⟩ := y
          rw [e] at r1
          dsimp only
          simp (disch := omega) only [s_X3_keepDelta_72, s_X3_keepDelta_73, r1.1, pb1, pb2, nq_lit, nq_add, nq_mul, nq_lt, nq_le, nq_eq, nq_lt0, nq10, nq00, Nat.one_ne_zero, Nat.reduceEqDiff, Nat.not_lt_zero, nq20, nq30, zb1, zb0, eq_self, mP_i, mP_o, mP_2', wr_1, wr_ne, wr_i, reduceIte, m_may1, m_may0, m_both1, m_both2, m_both0, m_all1, m_all3, m_all2, m_all0]
          exact okm_some (MO_bad hr2 (by decide))
        | inr bs =>
          rw [e] at r1
          dsimp only
          have hbs := mkV_ok hA.2.2.2.1 (v + 1) v (by omega) hv bs e
          obtain ⟨d1, d2⟩ := c3
          obtain ⟨b, hb, hb2, rfl⟩ := okI_get d1
          simp only [ixq hb2] at d2 ⊢
          refine okm_iff (by rw [r1.1]; decide) ?_
          exact m_keepDelta_in hA hr2 hv hf (by omega) c4 r1.2.1 hbs
      · rw [if_neg c4]
        have c4' : 20 ≤ (zV A).length := by omega
        simp (disch := omega) only [s_X3_keepDelta_39, s_X3_keepDelta_72, s_X3_keepDelta_73, h16, c4', pb1, pb2, nq_lit, nq_add, nq_mul, nq_lt, nq_le, nq_eq, nq_lt0, nq10, nq00, Nat.one_ne_zero, Nat.reduceEqDiff, Nat.not_lt_zero, nq20, nq30, zb1, zb0, eq_self, mP_i, mP_o, mP_2', wr_1, wr_ne, wr_i, reduceIte, m_may1, m_may0, m_both1, m_both2, m_both0, m_all1, m_all3, m_all2, m_all0]
        exact okm_some (MO_bad h (by decide))
    · rw [if_neg c3, e20 _ c3]
      by_cases c4 : 20 ≤ (zV A).length
      · simp (disch := omega) only [s_X3_keepDelta_39, s_X3_keepDelta_72, s_X3_keepDelta_73, h16, c4, pb1, pb2, nq_lit, nq_add, nq_mul, nq_lt, nq_le, nq_eq, nq_lt0, nq10, nq00, Nat.one_ne_zero, Nat.reduceEqDiff, Nat.not_lt_zero, nq20, nq30, zb1, zb0, eq_self, mP_i, mP_o, mP_2', wr_1, wr_ne, wr_i, reduceIte, m_may1, m_may0, m_both1, m_both2, m_both0, m_all1, m_all3, m_all2, m_all0]
        exact okm_some (MO_bad h (by decide))
      · simp (disch := omega) only [s_X3_keepDelta_39, h16, c4, pb1, pb2, nq_lit, nq_add, nq_mul, nq_lt, nq_le, nq_eq, nq_lt0, nq10, nq00, Nat.one_ne_zero, Nat.reduceEqDiff, Nat.not_lt_zero, nq20, nq30, zb1, zb0, eq_self, mP_i, mP_o, mP_2', wr_1, wr_ne, wr_i, reduceIte, m_may1, m_may0, m_both1, m_both2, m_both0, m_all1, m_all3, m_all2, m_all0]
        refine okm_bd2 (okm_mono (m_makes hA.2.2.2.1 h.2.2.2.1 hv) fun r hr => ?_)
        obtain ⟨r1, r2⟩ := hr
        have hr2 : MRep A r.2 := h.aux (r2.mono (by decide) (by decide))
        simp (disch := omega) only [s_X3_keepDelta_72, s_X3_keepDelta_73, pb1, pb2, nq_lit, nq_add, nq_mul, nq_lt, nq_le, nq_eq, nq_lt0, nq10, nq00, Nat.one_ne_zero, Nat.reduceEqDiff, Nat.not_lt_zero, nq20, nq30, zb1, zb0, eq_self, mP_i, mP_o, mP_2', wr_1, wr_ne, wr_i, reduceIte, m_may1, m_may0, m_both1, m_both2, m_both0, m_all1, m_all3, m_all2, m_all0]
        exact okm_if (fun _ => okm_some (MO_bad hr2 (by decide))) (fun _ => okm_some (MO_bad hr2 (by decide)))
  · rw [if_neg c]
    have e0 : f_X3_keepDelta x1 x2 x3 σ = s_X3_keepDelta_21 x1 x2 x3 (nq 0) σ := by
      by_cases c1 : okI x1 A.1.length
      · have c2 : ¬ okI x2 (zV A).length := fun q => c ⟨c1, q⟩
        simp (disch := omega) only [f_X3_keepDelta, s_X3_keepDelta_20, m_isFile_t h0 (by omega) c1, m_isVersion_f h16 (by omega) c2, pb1, pb2, nq_lit, nq_add, nq_mul, nq_lt, nq_le, nq_eq, nq_lt0, nq10, nq00, Nat.one_ne_zero, Nat.reduceEqDiff, Nat.not_lt_zero, nq20, nq30, zb1, zb0, eq_self, mP_i, mP_o, mP_2', wr_1, wr_ne, wr_i, reduceIte, m_may1, m_may0, m_both1, m_both2, m_both0, m_all1, m_all3, m_all2, m_all0]
      · simp (disch := omega) only [f_X3_keepDelta, s_X3_keepDelta_20, m_isFile_f h0 (by omega) c1, pb1, pb2, nq_lit, nq_add, nq_mul, nq_lt, nq_le, nq_eq, nq_lt0, nq10, nq00, Nat.one_ne_zero, Nat.reduceEqDiff, Nat.not_lt_zero, nq20, nq30, zb1, zb0, eq_self, mP_i, mP_o, mP_2', wr_1, wr_ne, wr_i, reduceIte, m_may1, m_may0, m_both1, m_both2, m_both0, m_all1, m_all3, m_all2, m_all0]
    rw [e0]
    have hx1 : okm (some ((nq 0 : Int32), mP σ 35 (nq 1))) (MO LI (no 1 A)) := okm_some (MO_bad h (by decide))
    by_cases c3 : okI x3 8 ∧ ¬ ix x3 = 0
    · rw [e21 _ c3]
      simp (disch := omega) only [s_X3_keepDelta_39, s_X3_keepDelta_72, s_X3_keepDelta_73, pb1, pb2, nq_lit, nq_add, nq_mul, nq_lt, nq_le, nq_eq, nq_lt0, nq10, nq00, Nat.one_ne_zero, Nat.reduceEqDiff, Nat.not_lt_zero, nq20, nq30, zb1, zb0, eq_self, mP_i, mP_o, mP_2', wr_1, wr_ne, wr_i, reduceIte, m_may1, m_may0, m_both1, m_both2, m_both0, m_all1, m_all3, m_all2, m_all0]
      exact hx1
    · rw [e20 _ c3]
      simp (disch := omega) only [s_X3_keepDelta_39, s_X3_keepDelta_72, s_X3_keepDelta_73, pb1, pb2, nq_lit, nq_add, nq_mul, nq_lt, nq_le, nq_eq, nq_lt0, nq10, nq00, Nat.one_ne_zero, Nat.reduceEqDiff, Nat.not_lt_zero, nq20, nq30, zb1, zb0, eq_self, mP_i, mP_o, mP_2', wr_1, wr_ne, wr_i, reduceIte, m_may1, m_may0, m_both1, m_both2, m_both0, m_all1, m_all3, m_all2, m_all0]
      exact hx1
theorem m_cuts {A : AA} {σ : Sg} (hA : AOk A) (h : MRep A σ) (x1 x2 x3 : Int32) : okm (f_X3_cuts x1 x2 x3 σ) (MO LU (o_cuts A x1 x2 x3)) := by
  have r1 := okI_r (x := x1) (n := 16) (by omega)
  have r3 := okI_r (x := x3) (n := 64) (by omega)
  have r2 := okI_s (x := x2) (n := 40) (by omega)
  unfold o_cuts
  have hx1 : okm (some ((), mP σ 35 (nq 1))) (MO LU (no 1 A)) := okm_some (MO_bad h (by decide))
  have bad : okm (s_X3_cuts_38 x1 x2 x3 σ) (MO LU (no 1 A)) := by
    simp (disch := omega) only [s_X3_cuts_38, s_X3_cuts_39, s_X3_cuts_60, pb1, pb2, nq_lit, nq_add, nq_mul, nq_lt, nq_le, nq_eq, nq_lt0, nq10, nq00, Nat.one_ne_zero, Nat.reduceEqDiff, Nat.not_lt_zero, nq20, nq30, zb1, zb0, eq_self, mP_i, mP_o, mP_2', wr_1, wr_ne, wr_i, reduceIte, m_may1, m_may0, m_both1, m_both2, m_both0, m_all1, m_all3, m_all2, m_all0]
    exact hx1
  by_cases c1 : okI x1 17 ∧ ¬ ix x1 = 0
  · obtain ⟨g1, g2⟩ := r1.mp c1
    obtain ⟨a, ha, ha2, rfl⟩ := okI_get c1.1
    simp only [ix, ixq ha2] at c1 ⊢
    by_cases c2 : okI x2 41 ∧ a ≤ x2.toNatClampNeg
    · obtain ⟨b, hb, hb2, rfl⟩ := okI_get c2.1
      simp only [ixq hb2] at c2 ⊢
      have k1 : ¬ a < 1 := by omega
      have k2 : ¬ 16 < a := by omega
      have k3 : ¬ b < a := by omega
      have k4 : ¬ 40 < b := by omega
      by_cases c3 : okI x3 65 ∧ ¬ x3.toNatClampNeg = 0
      · rw [if_pos ⟨c1, c2, c3⟩]
        obtain ⟨d, hd, hd2, rfl⟩ := okI_get c3.1
        simp only [ixq hd2] at c3 ⊢
        have k5 : ¬ d < 1 := by omega
        have k6 : ¬ 64 < d := by omega
        simp (disch := omega) only [f_X3_cuts, s_X3_cuts_39, s_X3_cuts_60, k1, k2, k3, k4, k5, k6, pb1, pb2, nq_lit, nq_add, nq_mul, nq_lt, nq_le, nq_eq, nq_lt0, nq10, nq00, Nat.one_ne_zero, Nat.reduceEqDiff, Nat.not_lt_zero, nq20, nq30, zb1, zb0, eq_self, mP_i, mP_o, mP_2', wr_1, wr_ne, wr_i, reduceIte, m_may1, m_may0, m_both1, m_both2, m_both0, m_all1, m_all3, m_all2, m_all0]
        obtain ⟨e1, e2, e3, e4, e5, e6⟩ := h
        have hX : Sx σ (mP (mP (mP (mP σ 35 (nq 0)) 28 (nq a)) 29 (nq b)) 30 (nq d)) [28, 29, 30, 35] [] := ((((Sx.refl σ _ _).mP (by decide)).mP (by decide)).mP (by decide)).mP (by decide)
        refine okm_some ⟨⟨e1.same hX (by decide) (by decide) (by decide), e2.same hX (by decide) (by decide) (by decide) (by decide) (by decide) (by decide), e3.same hX (by decide) (by decide) (by decide) (by decide) (by decide) (by decide) (by decide),
          e4.same hX (by decide) (by decide) (by decide) (by decide) (by decide) (by decide) (by decide) (by decide) (by decide) (by decide) (by decide) (by decide), e5.same hX (by decide) (by decide) (by decide) (by decide), ⟨?_, ?_, ?_⟩⟩, ?_, fun _ => rfl⟩
        · rw [mP_o _ _ (by decide), mP_o _ _ (by decide), mP_i]
          rfl
        · rw [mP_o _ _ (by decide), mP_i]
          rfl
        · rw [mP_i]
          rfl
        · show (mP _ 30 _).1 35 = _
          rw [mP_o _ _ (by decide), mP_o _ _ (by decide), mP_o _ _ (by decide), mP_i]
      · rw [if_neg (fun q => c3 q.2.2)]
        by_cases g3 : x3 < nq 1
        · simp (disch := omega) only [f_X3_cuts, k1, k2, k3, k4, g3, pb1, pb2, nq_lit, nq_add, nq_mul, nq_lt, nq_le, nq_eq, nq_lt0, nq10, nq00, Nat.one_ne_zero, Nat.reduceEqDiff, Nat.not_lt_zero, nq20, nq30, zb1, zb0, eq_self, mP_i, mP_o, mP_2', wr_1, wr_ne, wr_i, reduceIte, m_may1, m_may0, m_both1, m_both2, m_both0, m_all1, m_all3, m_all2, m_all0]
          exact bad
        · by_cases g4 : nq 64 < x3
          · simp (disch := omega) only [f_X3_cuts, k1, k2, k3, k4, g3, g4, pb1, pb2, nq_lit, nq_add, nq_mul, nq_lt, nq_le, nq_eq, nq_lt0, nq10, nq00, Nat.one_ne_zero, Nat.reduceEqDiff, Nat.not_lt_zero, nq20, nq30, zb1, zb0, eq_self, mP_i, mP_o, mP_2', wr_1, wr_ne, wr_i, reduceIte, m_may1, m_may0, m_both1, m_both2, m_both0, m_all1, m_all3, m_all2, m_all0]
            exact bad
          · exact absurd (r3.mpr ⟨g3, g4⟩) c3
    · rw [if_neg (fun q => c2 q.2.1)]
      have k1 : ¬ a < 1 := by omega
      have k2 : ¬ 16 < a := by omega
      by_cases g3 : x2 < nq a
      · simp (disch := omega) only [f_X3_cuts, k1, k2, g3, pb1, pb2, nq_lit, nq_add, nq_mul, nq_lt, nq_le, nq_eq, nq_lt0, nq10, nq00, Nat.one_ne_zero, Nat.reduceEqDiff, Nat.not_lt_zero, nq20, nq30, zb1, zb0, eq_self, mP_i, mP_o, mP_2', wr_1, wr_ne, wr_i, reduceIte, m_may1, m_may0, m_both1, m_both2, m_both0, m_all1, m_all3, m_all2, m_all0]
        exact bad
      · by_cases g4 : nq 40 < x2
        · simp (disch := omega) only [f_X3_cuts, k1, k2, g3, g4, pb1, pb2, nq_lit, nq_add, nq_mul, nq_lt, nq_le, nq_eq, nq_lt0, nq10, nq00, Nat.one_ne_zero, Nat.reduceEqDiff, Nat.not_lt_zero, nq20, nq30, zb1, zb0, eq_self, mP_i, mP_o, mP_2', wr_1, wr_ne, wr_i, reduceIte, m_may1, m_may0, m_both1, m_both2, m_both0, m_all1, m_all3, m_all2, m_all0]
          exact bad
        · refine absurd ?_ c2
          rcases nq_cases x2 with q | ⟨b, hb, rfl⟩
          · exact absurd (lt_1 q ha2) g3
          · rw [nq_lt (by omega) (by omega)] at g3
            rw [nq_lt (by omega) (by omega)] at g4
            rw [okI_nq hb, ixq hb]
            omega
  · rw [if_neg (fun q => c1 q.1)]
    by_cases g1 : x1 < nq 1
    · simp (disch := omega) only [f_X3_cuts, g1, pb1, pb2, nq_lit, nq_add, nq_mul, nq_lt, nq_le, nq_eq, nq_lt0, nq10, nq00, Nat.one_ne_zero, Nat.reduceEqDiff, Nat.not_lt_zero, nq20, nq30, zb1, zb0, eq_self, mP_i, mP_o, mP_2', wr_1, wr_ne, wr_i, reduceIte, m_may1, m_may0, m_both1, m_both2, m_both0, m_all1, m_all3, m_all2, m_all0]
      exact bad
    · by_cases g2 : nq 16 < x1
      · simp (disch := omega) only [f_X3_cuts, g1, g2, pb1, pb2, nq_lit, nq_add, nq_mul, nq_lt, nq_le, nq_eq, nq_lt0, nq10, nq00, Nat.one_ne_zero, Nat.reduceEqDiff, Nat.not_lt_zero, nq20, nq30, zb1, zb0, eq_self, mP_i, mP_o, mP_2', wr_1, wr_ne, wr_i, reduceIte, m_may1, m_may0, m_both1, m_both2, m_both0, m_all1, m_all3, m_all2, m_all0]
        exact bad
      · exact absurd (r1.mpr ⟨g1, g2⟩) c1
