/-! PURE: the reference stores, releases, fetches -/
set_option maxRecDepth 100000
theorem MRep_P {A : AA} {σ σ' : Sg} {ps : Nat → Option (List (List Nat))} (h : MRep A σ) (k : Sx σ σ' [22, 23, 24, 26, 35] [21, 25, 27, 31, 32, 33, 34]) (hP : MPp σ' ps) : MRep (uP A ps) σ' := by
  obtain ⟨h1, h2, h3, h4, h5, h6⟩ := h
  exact ⟨h1.same k (by decide) (by decide) (by decide), h2.same k (by decide) (by decide) (by decide) (by decide) (by decide) (by decide),
    h3.same k (by decide) (by decide) (by decide) (by decide) (by decide) (by decide) (by decide),
    h4.same k (by decide) (by decide) (by decide) (by decide) (by decide) (by decide) (by decide) (by decide) (by decide) (by decide) (by decide) (by decide), hP,
    h6.same k (by decide) (by decide) (by decide)⟩
theorem m_fetch_l {σ0 : Sg} {p f : Nat} {bs : List Nat} (hp : p < 12) (hf : f < 6) (hL : bs.length ≤ 120) (h34 : ∀ j, j < bs.length → σ0.2.1 34 (120 * p + j) = nq (gd bs j)) : ∀ (N k n : Nat) (σ : Sg), N < n → k + N = bs.length → σ.1 26 = nq bs.length → Sx σ0 σ [26] [25] → (∀ j, j < k → σ.2.1 25 j = nq (gd bs j)) →
    okm (l_X3_fetch_52 n (nq p, nq f, nq k) σ) fun r => ∃ σ1, r.1 = nq bs.length ∧ Sx σ0 σ1 [26] [25] ∧ FS σ1 r.2 f bs ∧ Sx σ1 r.2 [] [1, 2] := by
  intro N
  induction N with
  | zero =>
    intro k n σ hn hk h26 hX h25
    obtain ⟨n, rfl⟩ := pre_n hn
    have hk' : bs.length ≤ k := by omega
    rw [l_X3_fetch_52_s]
    simp (disch := omega) only [s_X3_fetch_52, h26, hk', mR_1, mW_1, mR_2, mW_2, mR_3, mW_3, mR_4, mW_4, mR_5, mW_5, mR_6, mW_6, mR_7, mW_7, mR_9, mW_9, mR_10, mW_10, mR_11, mW_11, mR_12, mW_12, mR_13, mW_13, mR_14, mW_14, mR_15, mW_15, mR_17, mW_17, mR_18, mW_18, mR_19, mW_19, mR_20, mW_20, mR_21, mW_21, mR_25, mW_25, mR_27, mW_27, mR_31, mW_31, mR_32, mW_32, mR_33, mW_33, mR_34, mW_34, mRL_8, mWL_8, pb1, pb2, nq_lit, nq_add, nq_mul, nq_lt, nq_le, nq_eq, nq_lt0, nq10, nq00, Nat.one_ne_zero, Nat.reduceEqDiff, Nat.not_lt_zero, nq20, nq30, zb1, zb0, eq_self, mP_i, mP_o, mP_2', wr_1, wr_ne, wr_i, reduceIte, m_may1, m_may0, m_both1, m_both2, m_both0, m_all1, m_all3, m_all2, m_all0]
    refine okm_bd2 (okm_mono (m_give hL ⟨h26, fun j hj => h25 j (by omega)⟩ hf) fun u hu => ?_)
    obtain ⟨u1, u2, u3⟩ := hu
    exact okm_some ⟨σ, u1, hX, u2, u3⟩
  | succ N ih =>
    intro k n σ hn hk h26 hX h25
    obtain ⟨n, rfl⟩ := pre_n hn
    have hk' : ¬ bs.length ≤ k := by omega
    have e34 : σ.2.1 34 (120 * p + k) = nq (gd bs k) := by rw [hX.2.1 34 (by decide)]; exact h34 k (by omega)
    rw [l_X3_fetch_52_s]
    simp (disch := omega) only [s_X3_fetch_52, h26, hk', e34, mR_1, mW_1, mR_2, mW_2, mR_3, mW_3, mR_4, mW_4, mR_5, mW_5, mR_6, mW_6, mR_7, mW_7, mR_9, mW_9, mR_10, mW_10, mR_11, mW_11, mR_12, mW_12, mR_13, mW_13, mR_14, mW_14, mR_15, mW_15, mR_17, mW_17, mR_18, mW_18, mR_19, mW_19, mR_20, mW_20, mR_21, mW_21, mR_25, mW_25, mR_27, mW_27, mR_31, mW_31, mR_32, mW_32, mR_33, mW_33, mR_34, mW_34, mRL_8, mWL_8, pb1, pb2, nq_lit, nq_add, nq_mul, nq_lt, nq_le, nq_eq, nq_lt0, nq10, nq00, Nat.one_ne_zero, Nat.reduceEqDiff, Nat.not_lt_zero, nq20, nq30, zb1, zb0, eq_self, mP_i, mP_o, mP_2', wr_1, wr_ne, wr_i, reduceIte, m_may1, m_may0, m_both1, m_both2, m_both0, m_all1, m_all3, m_all2, m_all0]
    refine ih (k + 1) n _ (by omega) (by omega) h26 (hX.wr (by decide)) (fun j hj => ?_)
    rw [wr_at]
    by_cases q : j = k
    · rw [if_pos q, q]
    · rw [if_neg q]
      exact h25 j (by omega)
theorem m_fetch {A : AA} {σ : Sg} (hA : AOk A) (h : MRep A σ) (x1 x2 : Int32) : okm (f_X3_fetch x1 x2 σ) (MO LI (o_fetch A x1 x2)) := by
  have h0 := h.1.1
  have hn := hA.1.1
  unfold o_fetch
  have hP := h.2.2.2.2.1
  have e := m_isThere hP x1
  have hx1 : okm (some ((nq 0 : Int32), mP σ 35 (nq 1))) (MO LI (no 1 A)) := okm_some (MO_bad h (by decide))
  by_cases c : okI x1 12 ∧ (zP A (ix x1)).isSome = true
  · rw [if_pos c] at e
    by_cases c3 : okI x2 A.1.length
    · rw [if_pos ⟨c, c3⟩]
      obtain ⟨c1, c2⟩ := c
      obtain ⟨p, hp, hp2, rfl⟩ := okI_get c1
      obtain ⟨f, hf, hf2, rfl⟩ := okI_get c3
      simp only [ix, ixq hp2, ixq hf2] at c2 ⊢
      have hh := h.thr (nq 0)
      have hM := MPp_t hh.2.2.2.2.1 hp c2
      have hok := zP_ok hA p
      have eb := m_begin hp hM hok (Nat.le_refl _)
      rw [offs_all] at eb
      have e32 : σ.2.1 32 p = nq (prt (zP A) p).length := hM.2.1
      have hll := POk_len hok
      have hfl := hok.2.1
      simp (disch := omega) only [f_X3_fetch, s_X3_fetch_22, e, m_isFile_t h0 (by omega) c3, e32, eb, nq_sub, mR_1, mW_1, mR_2, mW_2, mR_3, mW_3, mR_4, mW_4, mR_5, mW_5, mR_6, mW_6, mR_7, mW_7, mR_9, mW_9, mR_10, mW_10, mR_11, mW_11, mR_12, mW_12, mR_13, mW_13, mR_14, mW_14, mR_15, mW_15, mR_17, mW_17, mR_18, mW_18, mR_19, mW_19, mR_20, mW_20, mR_21, mW_21, mR_25, mW_25, mR_27, mW_27, mR_31, mW_31, mR_32, mW_32, mR_33, mW_33, mR_34, mW_34, mRL_8, mWL_8, pb1, pb2, nq_lit, nq_add, nq_mul, nq_lt, nq_le, nq_eq, nq_lt0, nq10, nq00, Nat.one_ne_zero, Nat.reduceEqDiff, Nat.not_lt_zero, nq20, nq30, zb1, zb0, eq_self, mP_i, mP_o, mP_2', wr_1, wr_ne, wr_i, reduceIte, m_may1, m_may0, m_both1, m_both2, m_both0, m_all1, m_all3, m_all2, m_all0]
      rw [Nat.add_sub_cancel_left]
      refine okm_mono (m_fetch_l (σ0 := mP σ 35 (nq 0)) hp (f := f) (by omega) hfl hM.2.2.2 (prt (zP A) p).flatten.length 0 FU _ (by unfold FU; omega) (by omega) (mP_i _ _ _) ((Sx.refl _ _ _).mP (by decide)) (fun j hj => absurd hj (Nat.not_lt_zero j))) fun r hr => ?_
      obtain ⟨σ1, r1, r2, r3, r4⟩ := hr
      have hh1 : MRep A σ1 := hh.aux (r2.mono (by decide) (by decide))
      refine MO_FS hA hh1 (r4.mono (by decide) (by decide)) r3 hf ?_ (by rw [r1]; rfl)
      rw [r4.1 35 (by decide), r2.1 35 (by decide), mP_i]
    · rw [if_neg (fun q => c3 q.2)]
      simp (disch := omega) only [f_X3_fetch, s_X3_fetch_21, s_X3_fetch_22, e, m_isFile_f h0 (by omega) c3, pb1, pb2, nq_lit, nq_add, nq_mul, nq_lt, nq_le, nq_eq, nq_lt0, nq10, nq00, Nat.one_ne_zero, Nat.reduceEqDiff, Nat.not_lt_zero, nq20, nq30, zb1, zb0, eq_self, mP_i, mP_o, mP_2', wr_1, wr_ne, wr_i, reduceIte, m_may1, m_may0, m_both1, m_both2, m_both0, m_all1, m_all3, m_all2, m_all0]
      exact hx1
  · rw [if_neg c] at e
    rw [if_neg (fun q => c q.1)]
    simp (disch := omega) only [f_X3_fetch, s_X3_fetch_21, s_X3_fetch_22, e, pb1, pb2, nq_lit, nq_add, nq_mul, nq_lt, nq_le, nq_eq, nq_lt0, nq10, nq00, Nat.one_ne_zero, Nat.reduceEqDiff, Nat.not_lt_zero, nq20, nq30, zb1, zb0, eq_self, mP_i, mP_o, mP_2', wr_1, wr_ne, wr_i, reduceIte, m_may1, m_may0, m_both1, m_both2, m_both0, m_all1, m_all3, m_all2, m_all0]
    exact hx1
/-! ### release -/
theorem m_release_l {σ0 : Sg} {ps : Nat → Option (List (List Nat))} {p : Nat} (hP : MPp σ0 ps) (hps : ∀ p, POk (prt ps p)) (hp : p < 12) (hs : (ps p).isSome = true) : ∀ (N k n m : Nat), N < n → k + N = (prt ps p).length →
    l_X3_release_24 n (nq p, nq m, nq (120 * p + offs (prt ps p) k), nq k) σ0 = some (nq (m + ((frs ((prt ps p).take k) ((prt ps p).drop k)).filter fun c => decide ((allP (wth ps p) 12).count c = 0)).length), wr σ0 31 p (nq 0)) := by
  have hM := MPp_t hP hp hs
  have hll := POk_len (hps p)
  have e32 := hM.2.1
  intro N
  induction N with
  | zero =>
    intro k n m hn hk
    obtain ⟨n, rfl⟩ := pre_n hn
    have hk' : (prt ps p).length ≤ k := by omega
    rw [l_X3_release_24_s, List.drop_eq_nil_of_le hk']
    simp (disch := omega) only [s_X3_release_24, e32, hk', vp_nar0, mR_1, mW_1, mR_2, mW_2, mR_3, mW_3, mR_4, mW_4, mR_5, mW_5, mR_6, mW_6, mR_7, mW_7, mR_9, mW_9, mR_10, mW_10, mR_11, mW_11, mR_12, mW_12, mR_13, mW_13, mR_14, mW_14, mR_15, mW_15, mR_17, mW_17, mR_18, mW_18, mR_19, mW_19, mR_20, mW_20, mR_21, mW_21, mR_25, mW_25, mR_27, mW_27, mR_31, mW_31, mR_32, mW_32, mR_33, mW_33, mR_34, mW_34, mRL_8, mWL_8, pb1, pb2, nq_lit, nq_add, nq_mul, nq_lt, nq_le, nq_eq, nq_lt0, nq10, nq00, Nat.one_ne_zero, Nat.reduceEqDiff, Nat.not_lt_zero, nq20, nq30, zb1, zb0, eq_self, mP_i, mP_o, mP_2', wr_1, wr_ne, wr_i, reduceIte, m_may1, m_may0, m_both1, m_both2, m_both0, m_all1, m_all3, m_all2, m_all0]
    rfl
  | succ N ih =>
    intro k n m hn hk
    obtain ⟨n, rfl⟩ := pre_n hn
    have hk' : ¬ (prt ps p).length ≤ k := by omega
    have hkl : k < (prt ps p).length := by omega
    obtain ⟨g1, g2, g3⟩ := POk_gp (hps p) hkl
    have hat := MPa_at hM hp (hps p) hkl
    have e33 : σ0.2.1 33 (120 * p + k) = nq (gp (prt ps p) k).length := hM.2.2.1 k hkl
    have n1 := m_names (last := p) (lp := k) (wo := none) (x4 := nq k) hP hps hat g2 hp (fun j hj => nomatch hj) (fun _ _ => ⟨rfl, by omega⟩)
    have n2 := m_names (last := p) (lp := 0) (wo := none) (x4 := nq 0) hP hps hat g2 hp (fun j hj => nomatch hj) (fun _ _ => ⟨rfl, Nat.zero_le _⟩)
    have n3 := m_names (last := 11) (lp := (prt ps 11).length) (wo := some p) (x4 := σ0.2.1 32 11) hP hps hat g2 (by omega) (fun j hj => by cases hj; omega) (fun h _ => ⟨MPa_32 hP h, Nat.le_refl _⟩)
    rw [tot_k] at n1 n2
    rw [tot_wth] at n3
    rw [List.take_zero, List.append_nil] at n2
    rw [List.count_append] at n1
    have c1 : (allP ps p).count (gp (prt ps p) k) ≤ 1440 := cnt_le (by have := allP_len hps p; omega)
    have c2 : ((prt ps p).take k).count (gp (prt ps p) k) ≤ 120 := cnt_le (by rw [List.length_take]; omega)
    have c3 : (allP (wth ps p) 12).count (gp (prt ps p) k) ≤ 1440 := cnt_le (allP_len (wth_ok hps p) 12)
    have n1 : f_X3_names (nq (120 * p + offs (prt ps p) k)) (nq (gp (prt ps p) k).length) (nq p) (nq k) (-(nq 1)) σ0 = some (nq ((allP ps p).count (gp (prt ps p) k) + ((prt ps p).take k).count (gp (prt ps p) k)), σ0) := n1
    have n2 : f_X3_names (nq (120 * p + offs (prt ps p) k)) (nq (gp (prt ps p) k).length) (nq p) (nq 0) (-(nq 1)) σ0 = some (nq ((allP ps p).count (gp (prt ps p) k)), σ0) := n2
    have n3 : f_X3_names (nq (120 * p + offs (prt ps p) k)) (nq (gp (prt ps p) k).length) (nq 11) (σ0.2.1 32 11) (nq p) σ0 = some (nq ((allP (wth ps p) 12).count (gp (prt ps p) k)), σ0) := n3
    have ih' := fun m => ih (k + 1) n m (by omega) (by omega)
    rw [take_gp hkl, offs_s hkl, ← Nat.add_assoc] at ih'
    rw [l_X3_release_24_s, drop_gp hkl, frs]
    by_cases hx : gp (prt ps p) k ∈ (prt ps p).take k
    · rw [if_pos hx]
      have h0 : 0 < ((prt ps p).take k).count (gp (prt ps p) k) := List.count_pos_iff.mpr hx
      have h1 : ¬ (allP ps p).count (gp (prt ps p) k) + ((prt ps p).take k).count (gp (prt ps p) k) = (allP ps p).count (gp (prt ps p) k) := by omega
      simp (disch := omega) only [s_X3_release_24, s_X3_release_78, s_X3_release_110, s_X3_release_111, e32, hk', e33, n1, n2, h1, Nat.add_zero, mR_1, mW_1, mR_2, mW_2, mR_3, mW_3, mR_4, mW_4, mR_5, mW_5, mR_6, mW_6, mR_7, mW_7, mR_9, mW_9, mR_10, mW_10, mR_11, mW_11, mR_12, mW_12, mR_13, mW_13, mR_14, mW_14, mR_15, mW_15, mR_17, mW_17, mR_18, mW_18, mR_19, mW_19, mR_20, mW_20, mR_21, mW_21, mR_25, mW_25, mR_27, mW_27, mR_31, mW_31, mR_32, mW_32, mR_33, mW_33, mR_34, mW_34, mRL_8, mWL_8, pb1, pb2, nq_lit, nq_add, nq_mul, nq_lt, nq_le, nq_eq, nq_lt0, nq10, nq00, Nat.one_ne_zero, Nat.reduceEqDiff, Nat.not_lt_zero, nq20, nq30, zb1, zb0, eq_self, mP_i, mP_o, mP_2', wr_1, wr_ne, wr_i, reduceIte, m_may1, m_may0, m_both1, m_both2, m_both0, m_all1, m_all3, m_all2, m_all0]
      exact ih' m
    · rw [if_neg hx, List.filter_cons]
      have h0 : ((prt ps p).take k).count (gp (prt ps p) k) = 0 := List.count_eq_zero.mpr hx
      rw [h0, Nat.add_zero] at n1
      by_cases hz : (allP (wth ps p) 12).count (gp (prt ps p) k) = 0
      · rw [decide_eq_true hz, if_pos rfl, List.length_cons]
        rw [hz] at n3
        simp (disch := omega) only [s_X3_release_24, s_X3_release_78, s_X3_release_111, e32, hk', e33, n1, n2, n3, mR_1, mW_1, mR_2, mW_2, mR_3, mW_3, mR_4, mW_4, mR_5, mW_5, mR_6, mW_6, mR_7, mW_7, mR_9, mW_9, mR_10, mW_10, mR_11, mW_11, mR_12, mW_12, mR_13, mW_13, mR_14, mW_14, mR_15, mW_15, mR_17, mW_17, mR_18, mW_18, mR_19, mW_19, mR_20, mW_20, mR_21, mW_21, mR_25, mW_25, mR_27, mW_27, mR_31, mW_31, mR_32, mW_32, mR_33, mW_33, mR_34, mW_34, mRL_8, mWL_8, pb1, pb2, nq_lit, nq_add, nq_mul, nq_lt, nq_le, nq_eq, nq_lt0, nq10, nq00, Nat.one_ne_zero, Nat.reduceEqDiff, Nat.not_lt_zero, nq20, nq30, zb1, zb0, eq_self, mP_i, mP_o, mP_2', wr_1, wr_ne, wr_i, reduceIte, m_may1, m_may0, m_both1, m_both2, m_both0, m_all1, m_all3, m_all2, m_all0]
        rw [ih' (m + 1)]
        congr 3
        omega
      · rw [decide_eq_false hz, if_neg (by decide)]
        simp (disch := omega) only [s_X3_release_24, s_X3_release_78, s_X3_release_110, s_X3_release_111, e32, hk', e33, n1, n2, n3, hz, Nat.add_zero, mR_1, mW_1, mR_2, mW_2, mR_3, mW_3, mR_4, mW_4, mR_5, mW_5, mR_6, mW_6, mR_7, mW_7, mR_9, mW_9, mR_10, mW_10, mR_11, mW_11, mR_12, mW_12, mR_13, mW_13, mR_14, mW_14, mR_15, mW_15, mR_17, mW_17, mR_18, mW_18, mR_19, mW_19, mR_20, mW_20, mR_21, mW_21, mR_25, mW_25, mR_27, mW_27, mR_31, mW_31, mR_32, mW_32, mR_33, mW_33, mR_34, mW_34, mRL_8, mWL_8, pb1, pb2, nq_lit, nq_add, nq_mul, nq_lt, nq_le, nq_eq, nq_lt0, nq10, nq00, Nat.one_ne_zero, Nat.reduceEqDiff, Nat.not_lt_zero, nq20, nq30, zb1, zb0, eq_self, mP_i, mP_o, mP_2', wr_1, wr_ne, wr_i, reduceIte, m_may1, m_may0, m_both1, m_both2, m_both0, m_all1, m_all3, m_all2, m_all0]
        exact ih' m
theorem MPa_o {σ σ' : Sg} {p r : Nat} {l : List (List Nat)} (h : MPa σ p l) (hl : POk l) (hpr : p ≠ r) (k1 : ∀ x, x ≠ r → σ'.2.1 31 x = σ.2.1 31 x ∧ σ'.2.1 32 x = σ.2.1 32 x) (k2 : ∀ x, (x < 120 * r ∨ 120 * r + 120 ≤ x) → σ'.2.1 33 x = σ.2.1 33 x ∧ σ'.2.1 34 x = σ.2.1 34 x) : MPa σ' p l := by
  have hll := POk_len hl
  have hfl := hl.2.1
  obtain ⟨a1, a2, a3, a4⟩ := h
  obtain ⟨b1, b2⟩ := k1 p hpr
  refine ⟨by rw [b1]; exact a1, by rw [b2]; exact a2, fun k hk => ?_, fun j hj => ?_⟩
  · rw [(k2 (120 * p + k) (by omega)).1]
    exact a3 k hk
  · rw [(k2 (120 * p + j) (by omega)).2]
    exact a4 j hj
theorem prt_e {ps : Nat → Option (List (List Nat))} {p : Nat} {l : List (List Nat)} (h : ps p = some l) : prt ps p = l := by
  unfold prt
  rw [h]
  rfl
theorem m_release {A : AA} {σ : Sg} (hA : AOk A) (h : MRep A σ) (x1 : Int32) : okm (f_X3_release x1 σ) (MO LI (o_release A x1)) := by
  unfold o_release
  have hP := h.2.2.2.2.1
  have e := m_isThere hP x1
  by_cases c : okI x1 12 ∧ (zP A (ix x1)).isSome = true
  · rw [if_pos c] at e ⊢
    obtain ⟨c1, c2⟩ := c
    obtain ⟨p, hp, hp2, rfl⟩ := okI_get c1
    simp only [ix, ixq hp2] at c2 ⊢
    have hh := h.thr (nq 0)
    have er := m_release_l (σ0 := mP σ 35 (nq 0)) hh.2.2.2.2.1 (zP_ok hA) hp c2 (prt (zP A) p).length 0 FU 0 (by have := POk_len (zP_ok hA p); unfold FU; omega) (by omega)
    have e0 : 120 * p + offs (prt (zP A) p) 0 = 120 * p := rfl
    rw [e0, List.take_zero, List.drop_zero, Nat.zero_add] at er
    simp (disch := omega) only [f_X3_release, e, er, pb1, pb2, nq_lit, nq_add, nq_mul, nq_lt, nq_le, nq_eq, nq_lt0, nq10, nq00, Nat.one_ne_zero, Nat.reduceEqDiff, Nat.not_lt_zero, nq20, nq30, zb1, zb0, eq_self, mP_i, mP_o, mP_2', wr_1, wr_ne, wr_i, reduceIte, m_may1, m_may0, m_both1, m_both2, m_both0, m_all1, m_all3, m_all2, m_all0]
    have hX : Sx (mP σ 35 (nq 0)) (wr (mP σ 35 (nq 0)) 31 p (nq 0)) [] [31] := (Sx.refl _ _ _).wr (by decide)
    refine okm_some ⟨MRep_P hh (hX.mono (by decide) (by decide)) (fun q hq => ?_), (show (wr (mP σ 35 (nq 0)) 31 p (nq 0)).1 35 = _ by rw [wr_1, mP_i]), fun _ => rfl⟩
    unfold wth
    by_cases hqp : q = p
    · rw [hqp, va_up_self]
      exact ⟨fun _ => wr_i _ _ _ _, fun l e => (nomatch e)⟩
    · rw [va_up_ne _ _ hqp]
      obtain ⟨t1, t2⟩ := hh.2.2.2.2.1 q hq
      refine ⟨fun e => (by rw [wr_o _ _ hqp]; exact t1 e), fun l e => MPa_o (r := p) (t2 l e) (by rw [← prt_e e]; exact zP_ok hA q) hqp (fun x hx => ?_) (fun x hx => ?_)⟩
      · rw [wr_o _ _ hx, wr_ne _ _ _ (by decide)]
        exact ⟨rfl, rfl⟩
      · rw [wr_ne _ _ _ (by decide), wr_ne _ _ _ (by decide)]
        exact ⟨rfl, rfl⟩
  · rw [if_neg c] at e ⊢
    simp (disch := omega) only [f_X3_release, e, pb1, pb2, nq_lit, nq_add, nq_mul, nq_lt, nq_le, nq_eq, nq_lt0, nq10, nq00, Nat.one_ne_zero, Nat.reduceEqDiff, Nat.not_lt_zero, nq20, nq30, zb1, zb0, eq_self, mP_i, mP_o, mP_2', wr_1, wr_ne, wr_i, reduceIte, m_may1, m_may0, m_both1, m_both2, m_both0, m_all1, m_all3, m_all2, m_all0]
    exact okm_some (MO_bad h (by decide))
/-! ### store -/
theorem hsh_le {f : Nat → Nat} (hf : ∀ x, f x < 256) (p : Nat) : ∀ k, k ≤ 4 → hsh f p k ≤ 1020 * k := by
  intro k
  induction k with
  | zero => intro _; exact Nat.le_refl _
  | succ k ih =>
    intro hk
    have := ih (by omega)
    show hsh f p k + (if k ≤ p then (k + 1) * f (p - k) else 0) ≤ _
    split
    · have : (k + 1) * f (p - k) ≤ 4 * 255 := Nat.mul_le_mul (by omega) (by have := hf (p - k); omega)
      omega
    · omega
theorem hsh_end {f : Nat → Nat} {p : Nat} : ∀ d k, k + d = 4 → p < k → hsh f p 4 = hsh f p k := by
  intro d
  induction d with
  | zero => intro k hk _; rw [show k = 4 by omega]
  | succ d ih =>
    intro k hk hp
    rw [ih (k + 1) (by omega) (by omega)]
    show hsh f p k + (if k ≤ p then (k + 1) * f (p - k) else 0) = _
    rw [if_neg (by omega), Nat.add_zero]
theorem m_hash_l {σ : Sg} {f p : Nat} {bs : List Nat} (hf : f < 6) (hp : p < 120) (h : ∀ j, j ≤ p → σ.2.1 2 (120 * f + j) = nq (gd bs j)) : ∀ (d k n : Nat), d < n → k + d = 4 → l_X3_hash_5 n (nq f, nq p, nq (hsh (gd bs) p k), nq k) σ = some (nq (hsh (gd bs) p 4), σ) := by
  intro d
  induction d with
  | zero =>
    intro k n hn hk
    obtain ⟨n, rfl⟩ := pre_n hn
    have e : k = 4 := by omega
    subst e
    rw [l_X3_hash_5_s]
    simp (disch := omega) only [s_X3_hash_5, s_X3_hash_45, Nat.le_refl, pb1, pb2, nq_lit, nq_add, nq_mul, nq_lt, nq_le, nq_eq, nq_lt0, nq10, nq00, Nat.one_ne_zero, Nat.reduceEqDiff, Nat.not_lt_zero, nq20, nq30, zb1, zb0, eq_self, mP_i, mP_o, mP_2', wr_1, wr_ne, wr_i, reduceIte, m_may1, m_may0, m_both1, m_both2, m_both0, m_all1, m_all3, m_all2, m_all0]
  | succ d ih =>
    intro k n hn hk
    obtain ⟨n, rfl⟩ := pre_n hn
    have hk' : ¬ 4 ≤ k := by omega
    rw [l_X3_hash_5_s]
    by_cases hpk : p < k
    · simp (disch := omega) only [s_X3_hash_5, s_X3_hash_45, hk', hpk, pb1, pb2, nq_lit, nq_add, nq_mul, nq_lt, nq_le, nq_eq, nq_lt0, nq10, nq00, Nat.one_ne_zero, Nat.reduceEqDiff, Nat.not_lt_zero, nq20, nq30, zb1, zb0, eq_self, mP_i, mP_o, mP_2', wr_1, wr_ne, wr_i, reduceIte, m_may1, m_may0, m_both1, m_both2, m_both0, m_all1, m_all3, m_all2, m_all0]
      rw [hsh_end (d + 1) k hk hpk]
    · have e2 : σ.2.1 2 (120 * f + p - k) = nq (gd bs (p - k)) := by
        rw [show 120 * f + p - k = 120 * f + (p - k) by omega]
        exact h _ (by omega)
      simp (disch := omega) only [s_X3_hash_5, hk', hpk, e2, nq_sub, mR_1, mW_1, mR_2, mW_2, mR_3, mW_3, mR_4, mW_4, mR_5, mW_5, mR_6, mW_6, mR_7, mW_7, mR_9, mW_9, mR_10, mW_10, mR_11, mW_11, mR_12, mW_12, mR_13, mW_13, mR_14, mW_14, mR_15, mW_15, mR_17, mW_17, mR_18, mW_18, mR_19, mW_19, mR_20, mW_20, mR_21, mW_21, mR_25, mW_25, mR_27, mW_27, mR_31, mW_31, mR_32, mW_32, mR_33, mW_33, mR_34, mW_34, mRL_8, mWL_8, pb1, pb2, nq_lit, nq_add, nq_mul, nq_lt, nq_le, nq_eq, nq_lt0, nq10, nq00, Nat.one_ne_zero, Nat.reduceEqDiff, Nat.not_lt_zero, nq20, nq30, zb1, zb0, eq_self, mP_i, mP_o, mP_2', wr_1, wr_ne, wr_i, reduceIte, m_may1, m_may0, m_both1, m_both2, m_both0, m_all1, m_all3, m_all2, m_all0]
      have := ih (k + 1) n (by omega) (by omega)
      have ee : hsh (gd bs) p (k + 1) = hsh (gd bs) p k + (k + 1) * gd bs (p - k) := by
        show hsh (gd bs) p k + (if k ≤ p then (k + 1) * gd bs (p - k) else 0) = _
        rw [if_pos (by omega)]
      rw [ee] at this
      exact this
theorem m_hash {σ : Sg} {f p : Nat} {bs : List Nat} (hf : f < 6) (hp : p < 120) (h : ∀ j, j ≤ p → σ.2.1 2 (120 * f + j) = nq (gd bs j)) : f_X3_hash (nq f) (nq p) σ = some (nq (hsh (gd bs) p 4), σ) := m_hash_l hf hp h 4 0 FU (by unfold FU; omega) rfl
/-- paper r is being written: its chunks so far -/
def PW (σ0 σ : Sg) (r : Nat) (l : List (List Nat)) (fb : List Nat) (p : Nat) : Prop := σ.2.1 31 r = nq 1 ∧ σ.2.1 32 r = nq l.length ∧ (∀ k, k < l.length → σ.2.1 33 (120 * r + k) = nq (gp l k).length) ∧ (∀ j, j < p → σ.2.1 34 (120 * r + j) = nq (gd fb j)) ∧
  (∀ x, x ≠ r → σ.2.1 31 x = σ0.2.1 31 x ∧ σ.2.1 32 x = σ0.2.1 32 x) ∧ (∀ x, (x < 120 * r ∨ 120 * r + 120 ≤ x) → σ.2.1 33 x = σ0.2.1 33 x ∧ σ.2.1 34 x = σ0.2.1 34 x) ∧ Sx σ0 σ [] [31, 32, 33, 34]
theorem cutG_s (c : Nat × Nat × Nat) (fb : List Nat) (n s p : Nat) : cutG c fb (n + 1) s p = if fb.length ≤ p then [] else if cutE c fb p (p + 1 - s) = true then slc fb s (p + 1 - s) :: cutG c fb n (p + 1) (p + 1) else cutG c fb n s (p + 1) := rfl
theorem gp_app (l : List (List Nat)) (x : List Nat) {k : Nat} (hk : k < l.length + 1) : gp (l ++ [x]) k = if k = l.length then x else gp l k := by
  unfold gp
  rw [List.getD_eq_getElem?_getD, List.getD_eq_getElem?_getD]
  by_cases h : k = l.length
  · rw [if_pos h, h, List.getElem?_append_right (Nat.le_refl _), Nat.sub_self]
    rfl
  · rw [if_neg h, List.getElem?_append_left (by omega)]
theorem m_store_l {σ0 : Sg} {f r : Nat} {fb : List Nat} {c : Nat × Nat × Nat} (hf : f < 6) (hr : r < 12) (hfb : FOk fb) (hc : COk c) (hl0 : σ0.2.1 1 f = nq fb.length) (hr0 : ∀ j, j < fb.length → σ0.2.1 2 (120 * f + j) = nq (gd fb j)) (hc0 : MCt σ0 c) : ∀ (N s p n : Nat) (l : List (List Nat)) (σ : Sg), N < n → p + N = fb.length → s ≤ p → l.length ≤ s → PW σ0 σ r l fb p →
    okm (l_X3_store_67 n (nq f, nq r, nq (p - s), nq p) σ) fun t => t.1 = nq r ∧ PW σ0 t.2 r (l ++ cutG c fb N s p) fb fb.length := by
  have hL := hfb.1
  obtain ⟨k1, k2, k3⟩ := hc
  intro N
  induction N with
  | zero =>
    intro s p n l σ hn hp hs hl hW
    obtain ⟨n, rfl⟩ := pre_n hn
    have hX := hW.2.2.2.2.2.2
    have e1 : σ.2.1 1 f = nq fb.length := by rw [hX.2.1 1 (by decide)]; exact hl0
    have hp' : fb.length ≤ p := by omega
    rw [l_X3_store_67_s]
    simp (disch := omega) only [s_X3_store_67, e1, hp', mR_1, mW_1, mR_2, mW_2, mR_3, mW_3, mR_4, mW_4, mR_5, mW_5, mR_6, mW_6, mR_7, mW_7, mR_9, mW_9, mR_10, mW_10, mR_11, mW_11, mR_12, mW_12, mR_13, mW_13, mR_14, mW_14, mR_15, mW_15, mR_17, mW_17, mR_18, mW_18, mR_19, mW_19, mR_20, mW_20, mR_21, mW_21, mR_25, mW_25, mR_27, mW_27, mR_31, mW_31, mR_32, mW_32, mR_33, mW_33, mR_34, mW_34, mRL_8, mWL_8, pb1, pb2, nq_lit, nq_add, nq_mul, nq_lt, nq_le, nq_eq, nq_lt0, nq10, nq00, Nat.one_ne_zero, Nat.reduceEqDiff, Nat.not_lt_zero, nq20, nq30, zb1, zb0, eq_self, mP_i, mP_o, mP_2', wr_1, wr_ne, wr_i, reduceIte, m_may1, m_may0, m_both1, m_both2, m_both0, m_all1, m_all3, m_all2, m_all0]
    refine okm_some ⟨rfl, ?_⟩
    rw [show fb.length = p by omega]
    have : cutG c fb 0 s p = [] := rfl
    rw [this, List.append_nil]
    exact hW
  | succ N ih =>
    intro s p n l σ hn hp hs hl hW
    obtain ⟨n, rfl⟩ := pre_n hn
    obtain ⟨w1, w2, w3, w4, w5, w6, hX⟩ := hW
    have e1 : σ.2.1 1 f = nq fb.length := by rw [hX.2.1 1 (by decide)]; exact hl0
    have e2 : σ.2.1 2 (120 * f + p) = nq (gd fb p) := by rw [hX.2.1 2 (by decide)]; exact hr0 p (by omega)
    have hp' : ¬ fb.length ≤ p := by omega
    obtain ⟨c28, c29, c30⟩ := hc0
    have e28 : σ.1 28 = nq c.1 := by rw [hX.1 28 (by decide)]; exact c28
    have e29 : σ.1 29 = nq c.2.1 := by rw [hX.1 29 (by decide)]; exact c29
    have e30 : σ.1 30 = nq c.2.2 := by rw [hX.1 30 (by decide)]; exact c30
    have hz : nz (nq c.2.2) = some () := nz_ok (by omega) (by omega)
    have eh : f_X3_hash (nq f) (nq p) (wr σ 34 (120 * r + p) (nq (gd fb p))) = some (nq (hsh (gd fb) p 4), wr σ 34 (120 * r + p) (nq (gd fb p))) := m_hash hf (by omega) fun j hj => by
      rw [wr_ne _ _ _ (by decide), hX.2.1 2 (by decide)]
      exact hr0 j (by omega)
    have hhl := hsh_le (f := gd fb) (gd_by hfb.2) p 4 (Nat.le_refl _)
    have erun : p - s + 1 = p + 1 - s := by omega
    have h34 : ∀ σ' : Sg, σ'.2.1 34 = (wr σ 34 (120 * r + p) (nq (gd fb p))).2.1 34 → (∀ j, j < p + 1 → σ'.2.1 34 (120 * r + j) = nq (gd fb j)) ∧ ∀ x, (x < 120 * r ∨ 120 * r + 120 ≤ x) → σ'.2.1 34 x = σ0.2.1 34 x := fun σ' hs' => by
      refine ⟨fun j hj => ?_, fun x hx => ?_⟩
      · rw [hs', wr_at]
        by_cases q : j = p
        · rw [if_pos (by omega), q]
        · rw [if_neg (by omega)]
          exact w4 j (by omega)
      · rw [hs', wr_at, if_neg (by omega)]
        exact (w6 x hx).2
    have hno : okm (s_X3_store_184 (l_X3_store_67 n) (nq f) (nq r) (nq (p + 1 - s)) (nq p) (wr σ 34 (120 * r + p) (nq (gd fb p)))) fun t => t.1 = nq r ∧ PW σ0 t.2 r (l ++ cutG c fb N s (p + 1)) fb fb.length := by
      simp only [s_X3_store_184, nq_lit, nq_add]
      obtain ⟨q1, q2⟩ := h34 (wr σ 34 (120 * r + p) (nq (gd fb p))) rfl
      refine ih s (p + 1) n l _ (by omega) (by omega) (by omega) hl ⟨?_, ?_, fun k hk => ?_, q1, fun x hx => ?_, fun x hx => ⟨?_, q2 x hx⟩, hX.wr (by decide)⟩
      · rw [wr_ne _ _ _ (by decide)]
        exact w1
      · rw [wr_ne _ _ _ (by decide)]
        exact w2
      · rw [wr_ne _ _ _ (by decide)]
        exact w3 k hk
      · rw [wr_ne _ _ _ (by decide), wr_ne _ _ _ (by decide)]
        exact w5 x hx
      · rw [wr_ne _ _ _ (by decide)]
        exact (w6 x hx).1
    have hyes : okm (s_X3_store_155 (l_X3_store_67 n) (nq f) (nq r) (nq (p + 1 - s)) (nq p) (wr σ 34 (120 * r + p) (nq (gd fb p)))) fun t => t.1 = nq r ∧ PW σ0 t.2 r (l ++ (slc fb s (p + 1 - s) :: cutG c fb N (p + 1) (p + 1))) fb fb.length := by
      have e32 : (wr σ 34 (120 * r + p) (nq (gd fb p))).2.1 32 r = nq l.length := by rw [wr_ne _ _ _ (by decide)]; exact w2
      simp (disch := omega) only [s_X3_store_155, s_X3_store_184, w2, mR_1, mW_1, mR_2, mW_2, mR_3, mW_3, mR_4, mW_4, mR_5, mW_5, mR_6, mW_6, mR_7, mW_7, mR_9, mW_9, mR_10, mW_10, mR_11, mW_11, mR_12, mW_12, mR_13, mW_13, mR_14, mW_14, mR_15, mW_15, mR_17, mW_17, mR_18, mW_18, mR_19, mW_19, mR_20, mW_20, mR_21, mW_21, mR_25, mW_25, mR_27, mW_27, mR_31, mW_31, mR_32, mW_32, mR_33, mW_33, mR_34, mW_34, mRL_8, mWL_8, pb1, pb2, nq_lit, nq_add, nq_mul, nq_lt, nq_le, nq_eq, nq_lt0, nq10, nq00, Nat.one_ne_zero, Nat.reduceEqDiff, Nat.not_lt_zero, nq20, nq30, zb1, zb0, eq_self, mP_i, mP_o, mP_2', wr_1, wr_ne, wr_i, reduceIte, m_may1, m_may0, m_both1, m_both2, m_both0, m_all1, m_all3, m_all2, m_all0]
      have e0 : nq 0 = nq (p + 1 - (p + 1)) := by rw [Nat.sub_self]
      rw [e0, List.append_cons]
      obtain ⟨q1, q2⟩ := h34 (wr (wr (wr σ 34 (120 * r + p) (nq (gd fb p))) 33 (120 * r + l.length) (nq (p + 1 - s))) 32 r (nq (l.length + 1))) (by rw [wr_ne _ _ _ (by decide), wr_ne _ _ _ (by decide)])
      refine ih (p + 1) (p + 1) n (l ++ [slc fb s (p + 1 - s)]) _ (by omega) (by omega) (by omega) (by rw [List.length_append, List.length_singleton]; omega) ⟨?_, ?_, fun k hk => ?_, q1, fun x hx => ?_, fun x hx => ⟨?_, q2 x hx⟩, ((hX.wr (by decide)).wr (by decide)).wr (by decide)⟩
      · rw [wr_ne _ _ _ (by decide), wr_ne _ _ _ (by decide), wr_ne _ _ _ (by decide)]
        exact w1
      · rw [wr_i, List.length_append]
        rfl
      · rw [List.length_append, List.length_singleton] at hk
        rw [wr_ne _ _ _ (by decide), wr_at, gp_app _ _ hk]
        by_cases q : k = l.length
        · rw [if_pos q, if_pos (by omega), slc_len (by omega)]
        · rw [if_neg q, if_neg (by omega), wr_ne _ _ _ (by decide)]
          exact w3 k (by omega)
      · rw [wr_o _ _ hx, wr_ne _ _ _ (by decide), wr_ne _ _ _ (by decide), wr_ne _ _ _ (by decide), wr_ne _ _ _ (by decide), wr_ne _ _ _ (by decide)]
        exact w5 x hx
      · rw [wr_ne _ _ _ (by decide), wr_at, if_neg (by omega), wr_ne _ _ _ (by decide)]
        exact (w6 x hx).1
    rw [l_X3_store_67_s, cutG_s, if_neg hp']
    have hp1 : fb.length - 1 < 120 := by omega
    have e142 : okm (s_X3_store_142 (l_X3_store_67 n) (nq f) (nq r) (nq (p + 1 - s)) (nq p) (wr σ 34 (120 * r + p) (nq (gd fb p)))) fun t => t.1 = nq r ∧ PW σ0 t.2 r (l ++ (if p = fb.length - 1 then slc fb s (p + 1 - s) :: cutG c fb N (p + 1) (p + 1) else cutG c fb N s (p + 1))) fb fb.length := by
      by_cases hlast : p = fb.length - 1
      · rw [if_pos hlast]
        simp (disch := omega) only [s_X3_store_142, e1, nq_sub, ← hlast, mR_1, mW_1, mR_2, mW_2, mR_3, mW_3, mR_4, mW_4, mR_5, mW_5, mR_6, mW_6, mR_7, mW_7, mR_9, mW_9, mR_10, mW_10, mR_11, mW_11, mR_12, mW_12, mR_13, mW_13, mR_14, mW_14, mR_15, mW_15, mR_17, mW_17, mR_18, mW_18, mR_19, mW_19, mR_20, mW_20, mR_21, mW_21, mR_25, mW_25, mR_27, mW_27, mR_31, mW_31, mR_32, mW_32, mR_33, mW_33, mR_34, mW_34, mRL_8, mWL_8, pb1, pb2, nq_lit, nq_add, nq_mul, nq_lt, nq_le, nq_eq, nq_lt0, nq10, nq00, Nat.one_ne_zero, Nat.reduceEqDiff, Nat.not_lt_zero, nq20, nq30, zb1, zb0, eq_self, mP_i, mP_o, mP_2', wr_1, wr_ne, wr_i, reduceIte, m_may1, m_may0, m_both1, m_both2, m_both0, m_all1, m_all3, m_all2, m_all0]
        exact hyes
      · rw [if_neg hlast]
        simp (disch := omega) only [s_X3_store_142, e1, nq_sub, hlast, mR_1, mW_1, mR_2, mW_2, mR_3, mW_3, mR_4, mW_4, mR_5, mW_5, mR_6, mW_6, mR_7, mW_7, mR_9, mW_9, mR_10, mW_10, mR_11, mW_11, mR_12, mW_12, mR_13, mW_13, mR_14, mW_14, mR_15, mW_15, mR_17, mW_17, mR_18, mW_18, mR_19, mW_19, mR_20, mW_20, mR_21, mW_21, mR_25, mW_25, mR_27, mW_27, mR_31, mW_31, mR_32, mW_32, mR_33, mW_33, mR_34, mW_34, mRL_8, mWL_8, pb1, pb2, nq_lit, nq_add, nq_mul, nq_lt, nq_le, nq_eq, nq_lt0, nq10, nq00, Nat.one_ne_zero, Nat.reduceEqDiff, Nat.not_lt_zero, nq20, nq30, zb1, zb0, eq_self, mP_i, mP_o, mP_2', wr_1, wr_ne, wr_i, reduceIte, m_may1, m_may0, m_both1, m_both2, m_both0, m_all1, m_all3, m_all2, m_all0]
        exact hno
    by_cases g1 : p + 1 - s = c.2.1
    · have hE : cutE c fb p (p + 1 - s) = true := decide_eq_true (Or.inl g1)
      rw [hE, if_pos rfl]
      simp (disch := omega) only [s_X3_store_67, e1, e2, hp', e29, erun, g1, mR_1, mW_1, mR_2, mW_2, mR_3, mW_3, mR_4, mW_4, mR_5, mW_5, mR_6, mW_6, mR_7, mW_7, mR_9, mW_9, mR_10, mW_10, mR_11, mW_11, mR_12, mW_12, mR_13, mW_13, mR_14, mW_14, mR_15, mW_15, mR_17, mW_17, mR_18, mW_18, mR_19, mW_19, mR_20, mW_20, mR_21, mW_21, mR_25, mW_25, mR_27, mW_27, mR_31, mW_31, mR_32, mW_32, mR_33, mW_33, mR_34, mW_34, mRL_8, mWL_8, pb1, pb2, nq_lit, nq_add, nq_mul, nq_lt, nq_le, nq_eq, nq_lt0, nq10, nq00, Nat.one_ne_zero, Nat.reduceEqDiff, Nat.not_lt_zero, nq20, nq30, zb1, zb0, eq_self, mP_i, mP_o, mP_2', wr_1, wr_ne, wr_i, reduceIte, m_may1, m_may0, m_both1, m_both2, m_both0, m_all1, m_all3, m_all2, m_all0]
      rw [← g1]
      exact hyes
    · by_cases g2 : p + 1 - s < c.1
      · have hE : cutE c fb p (p + 1 - s) = decide (p = fb.length - 1) := by
          unfold cutE
          by_cases q : p = fb.length - 1
          · rw [decide_eq_true (Or.inr (Or.inr q)), decide_eq_true q]
          · rw [decide_eq_false (by omega), decide_eq_false q]
        rw [hE]
        simp (disch := omega) only [s_X3_store_67, e1, e2, hp', e28, e29, erun, g1, g2, mR_1, mW_1, mR_2, mW_2, mR_3, mW_3, mR_4, mW_4, mR_5, mW_5, mR_6, mW_6, mR_7, mW_7, mR_9, mW_9, mR_10, mW_10, mR_11, mW_11, mR_12, mW_12, mR_13, mW_13, mR_14, mW_14, mR_15, mW_15, mR_17, mW_17, mR_18, mW_18, mR_19, mW_19, mR_20, mW_20, mR_21, mW_21, mR_25, mW_25, mR_27, mW_27, mR_31, mW_31, mR_32, mW_32, mR_33, mW_33, mR_34, mW_34, mRL_8, mWL_8, pb1, pb2, nq_lit, nq_add, nq_mul, nq_lt, nq_le, nq_eq, nq_lt0, nq10, nq00, Nat.one_ne_zero, Nat.reduceEqDiff, Nat.not_lt_zero, nq20, nq30, zb1, zb0, eq_self, mP_i, mP_o, mP_2', wr_1, wr_ne, wr_i, reduceIte, m_may1, m_may0, m_both1, m_both2, m_both0, m_all1, m_all3, m_all2, m_all0]
        simpa only [decide_eq_true_eq] using e142
      · by_cases g3 : hsh (gd fb) p 4 % c.2.2 = c.2.2 - 1
        · have hE : cutE c fb p (p + 1 - s) = true := decide_eq_true (Or.inr (Or.inl ⟨by omega, g3⟩))
          rw [hE, if_pos rfl]
          simp (disch := omega) only [s_X3_store_67, e1, e2, hp', e28, e29, e30, erun, g1, g2, eh, hz, nq_mod, nq_sub, g3, mR_1, mW_1, mR_2, mW_2, mR_3, mW_3, mR_4, mW_4, mR_5, mW_5, mR_6, mW_6, mR_7, mW_7, mR_9, mW_9, mR_10, mW_10, mR_11, mW_11, mR_12, mW_12, mR_13, mW_13, mR_14, mW_14, mR_15, mW_15, mR_17, mW_17, mR_18, mW_18, mR_19, mW_19, mR_20, mW_20, mR_21, mW_21, mR_25, mW_25, mR_27, mW_27, mR_31, mW_31, mR_32, mW_32, mR_33, mW_33, mR_34, mW_34, mRL_8, mWL_8, pb1, pb2, nq_lit, nq_add, nq_mul, nq_lt, nq_le, nq_eq, nq_lt0, nq10, nq00, Nat.one_ne_zero, Nat.reduceEqDiff, Nat.not_lt_zero, nq20, nq30, zb1, zb0, eq_self, mP_i, mP_o, mP_2', wr_1, wr_ne, wr_i, reduceIte, m_may1, m_may0, m_both1, m_both2, m_both0, m_all1, m_all3, m_all2, m_all0]
          exact hyes
        · have hmod : hsh (gd fb) p 4 % c.2.2 < c.2.2 := Nat.mod_lt _ (by omega)
          have hE : cutE c fb p (p + 1 - s) = decide (p = fb.length - 1) := by
            unfold cutE
            by_cases q : p = fb.length - 1
            · rw [decide_eq_true (Or.inr (Or.inr q)), decide_eq_true q]
            · rw [decide_eq_false (fun z => z.elim g1 fun z => z.elim (fun z => g3 z.2) q), decide_eq_false q]
          rw [hE]
          simp (disch := omega) only [s_X3_store_67, e1, e2, hp', e28, e29, e30, erun, g1, g2, eh, hz, nq_mod, nq_sub, g3, mR_1, mW_1, mR_2, mW_2, mR_3, mW_3, mR_4, mW_4, mR_5, mW_5, mR_6, mW_6, mR_7, mW_7, mR_9, mW_9, mR_10, mW_10, mR_11, mW_11, mR_12, mW_12, mR_13, mW_13, mR_14, mW_14, mR_15, mW_15, mR_17, mW_17, mR_18, mW_18, mR_19, mW_19, mR_20, mW_20, mR_21, mW_21, mR_25, mW_25, mR_27, mW_27, mR_31, mW_31, mR_32, mW_32, mR_33, mW_33, mR_34, mW_34, mRL_8, mWL_8, pb1, pb2, nq_lit, nq_add, nq_mul, nq_lt, nq_le, nq_eq, nq_lt0, nq10, nq00, Nat.one_ne_zero, Nat.reduceEqDiff, Nat.not_lt_zero, nq20, nq30, zb1, zb0, eq_self, mP_i, mP_o, mP_2', wr_1, wr_ne, wr_i, reduceIte, m_may1, m_may0, m_both1, m_both2, m_both0, m_all1, m_all3, m_all2, m_all0]
          simpa only [decide_eq_true_eq] using e142
theorem slc_cat {fb : List Nat} {s p : Nat} (h1 : s ≤ p) (h2 : p ≤ fb.length) : slc fb s (p - s) ++ fb.drop p = fb.drop s := by
  apply gd_ext
  · rw [List.length_append, slc_len (by omega), List.length_drop, List.length_drop]
    omega
  · intro j hj
    rw [gd_app, slc_len (by omega), gd_drop, gd_drop]
    by_cases q : j < p - s
    · rw [if_pos q, slc_gd q]
    · rw [if_neg q]
      congr 1
      omega
theorem cut_flat {c : Nat × Nat × Nat} {fb : List Nat} : ∀ (N s p : Nat), p + N = fb.length → s ≤ p → (p = fb.length → s = p) → (cutG c fb N s p).flatten = fb.drop s := by
  intro N
  induction N with
  | zero =>
    intro s p hp hs he
    rw [List.drop_eq_nil_of_le (by have := he (by omega); omega)]
    rfl
  | succ N ih =>
    intro s p hp hs he
    rw [cutG_s, if_neg (by omega)]
    by_cases hE : cutE c fb p (p + 1 - s) = true
    · rw [if_pos hE, List.flatten_cons, ih (p + 1) (p + 1) (by omega) (by omega) (fun _ => rfl), slc_cat (by omega) (by omega)]
    · rw [if_neg hE]
      refine ih s (p + 1) (by omega) (by omega) (fun q => ?_)
      exfalso
      apply hE
      unfold cutE
      exact decide_eq_true (Or.inr (Or.inr (by omega)))
theorem cutA_flat (c : Nat × Nat × Nat) (fb : List Nat) : (cutA c fb).flatten = fb := by
  unfold cutA
  rw [cut_flat fb.length 0 0 (Nat.zero_add _) (Nat.le_refl _) (fun _ => rfl), List.drop_zero]
theorem fre_le (ps : Nat → Option (List (List Nat))) : ∀ N p, fre ps N p ≤ p + N := by
  intro N
  induction N with
  | zero => intro p; exact Nat.le_refl _
  | succ N ih =>
    intro p
    rw [fre]
    split
    · have := ih (p + 1)
      omega
    · omega
theorem fre_none (ps : Nat → Option (List (List Nat))) : ∀ N p, fre ps N p < p + N → ps (fre ps N p) = none := by
  intro N
  induction N with
  | zero => intro p h; exact absurd h (Nat.lt_irrefl _)
  | succ N ih =>
    intro p h
    rw [fre] at h ⊢
    by_cases hs : (ps p).isSome = true
    · rw [if_pos hs] at h ⊢
      exact ih (p + 1) (by omega)
    · rw [if_neg hs]
      cases e : ps p with
      | none => rfl
      | some l =>
        rw [e] at hs
        exact absurd rfl hs
theorem m_store_f {σ : Sg} {ps : Nat → Option (List (List Nat))} {x1 : Int32} (h : MPp σ ps) : ∀ (N p n : Nat), N < n → p + N = 12 → l_X3_store_2 n (x1, nq p) σ = s_X3_store_23 x1 (nq (fre ps N p)) σ := by
  intro N
  induction N with
  | zero =>
    intro p n hn hp
    obtain ⟨n, rfl⟩ := pre_n hn
    have e : p = 12 := by omega
    subst e
    rw [l_X3_store_2_s, s_X3_store_2, if_pos (by decide)]
    rfl
  | succ N ih =>
    intro p n hn hp
    obtain ⟨n, rfl⟩ := pre_n hn
    have hp' : ¬ 12 ≤ p := by omega
    rw [l_X3_store_2_s, fre]
    by_cases hs : (ps p).isSome = true
    · rw [if_pos hs]
      have := ih (p + 1) n (by omega) (by omega)
      simp (disch := omega) only [s_X3_store_2, hp', (MPp_t h (by omega) hs).1, mR_1, mW_1, mR_2, mW_2, mR_3, mW_3, mR_4, mW_4, mR_5, mW_5, mR_6, mW_6, mR_7, mW_7, mR_9, mW_9, mR_10, mW_10, mR_11, mW_11, mR_12, mW_12, mR_13, mW_13, mR_14, mW_14, mR_15, mW_15, mR_17, mW_17, mR_18, mW_18, mR_19, mW_19, mR_20, mW_20, mR_21, mW_21, mR_25, mW_25, mR_27, mW_27, mR_31, mW_31, mR_32, mW_32, mR_33, mW_33, mR_34, mW_34, mRL_8, mWL_8, pb1, pb2, nq_lit, nq_add, nq_mul, nq_lt, nq_le, nq_eq, nq_lt0, nq10, nq00, Nat.one_ne_zero, Nat.reduceEqDiff, Nat.not_lt_zero, nq20, nq30, zb1, zb0, eq_self, mP_i, mP_o, mP_2', wr_1, wr_ne, wr_i, reduceIte, m_may1, m_may0, m_both1, m_both2, m_both0, m_all1, m_all3, m_all2, m_all0]
      exact this
    · rw [if_neg hs]
      simp (disch := omega) only [s_X3_store_2, hp', (MPp_f h (by omega) hs).1, mR_1, mW_1, mR_2, mW_2, mR_3, mW_3, mR_4, mW_4, mR_5, mW_5, mR_6, mW_6, mR_7, mW_7, mR_9, mW_9, mR_10, mW_10, mR_11, mW_11, mR_12, mW_12, mR_13, mW_13, mR_14, mW_14, mR_15, mW_15, mR_17, mW_17, mR_18, mW_18, mR_19, mW_19, mR_20, mW_20, mR_21, mW_21, mR_25, mW_25, mR_27, mW_27, mR_31, mW_31, mR_32, mW_32, mR_33, mW_33, mR_34, mW_34, mRL_8, mWL_8, pb1, pb2, nq_lit, nq_add, nq_mul, nq_lt, nq_le, nq_eq, nq_lt0, nq10, nq00, Nat.one_ne_zero, Nat.reduceEqDiff, Nat.not_lt_zero, nq20, nq30, zb1, zb0, eq_self, mP_i, mP_o, mP_2', wr_1, wr_ne, wr_i, reduceIte, m_may1, m_may0, m_both1, m_both2, m_both0, m_all1, m_all3, m_all2, m_all0]
theorem m_store {A : AA} {σ : Sg} (hA : AOk A) (h : MRep A σ) (x1 : Int32) : okm (f_X3_store x1 σ) (MO LI (o_store A x1)) := by
  have h0 := h.1.1
  have hn := hA.1.1
  have hP := h.2.2.2.2.1
  have ef := m_store_f (x1 := x1) hP 12 0 FU (by unfold FU; omega) rfl
  have ef : f_X3_store x1 σ = s_X3_store_23 x1 (nq (fre (zP A) 12 0)) σ := ef
  have hfl := fre_le (zP A) 12 0
  unfold o_store
  rw [ef]
  by_cases c1 : okI x1 A.1.length
  · rw [if_pos c1]
    by_cases c2 : fre (zP A) 12 0 < 12
    · rw [if_pos c2]
      have c2' : ¬ 12 ≤ fre (zP A) 12 0 := by omega
      obtain ⟨f, hf, hf2, rfl⟩ := okI_get c1
      simp only [ix, ixq hf2]
      have hno := fre_none (zP A) 12 0 (by omega)
      generalize fre (zP A) 12 0 = r at c2 c2' hno ⊢
      simp (disch := omega) only [s_X3_store_23, s_X3_store_40, m_isFile_t h0 (by omega) c1, c2', vp_nar1, mR_1, mW_1, mR_2, mW_2, mR_3, mW_3, mR_4, mW_4, mR_5, mW_5, mR_6, mW_6, mR_7, mW_7, mR_9, mW_9, mR_10, mW_10, mR_11, mW_11, mR_12, mW_12, mR_13, mW_13, mR_14, mW_14, mR_15, mW_15, mR_17, mW_17, mR_18, mW_18, mR_19, mW_19, mR_20, mW_20, mR_21, mW_21, mR_25, mW_25, mR_27, mW_27, mR_31, mW_31, mR_32, mW_32, mR_33, mW_33, mR_34, mW_34, mRL_8, mWL_8, pb1, pb2, nq_lit, nq_add, nq_mul, nq_lt, nq_le, nq_eq, nq_lt0, nq10, nq00, Nat.one_ne_zero, Nat.reduceEqDiff, Nat.not_lt_zero, nq20, nq30, zb1, zb0, eq_self, mP_i, mP_o, mP_2', wr_1, wr_ne, wr_i, reduceIte, m_may1, m_may0, m_both1, m_both2, m_both0, m_all1, m_all3, m_all2, m_all0]
      have hh := h.thr (nq 0)
      have hfb := fl_ok hA f
      have hX0 : Sx (mP σ 35 (nq 0)) (wr (wr (mP σ 35 (nq 0)) 31 r (nq 1)) 32 r (nq 0)) [] [31, 32, 33, 34] := ((Sx.refl _ _ _).wr (by decide)).wr (by decide)
      have := m_store_l (σ0 := mP σ 35 (nq 0)) (r := r) (f := f) (c := zC A) (by omega) c2 hfb hA.2.2.2.2.2 (hh.1.2 f (by omega)).1 (hh.1.2 f (by omega)).2 hh.2.2.2.2.2 (fl A f).length 0 0 FU [] (wr (wr (mP σ 35 (nq 0)) 31 r (nq 1)) 32 r (nq 0)) (by have := hfb.1; unfold FU; omega) (Nat.zero_add _) (Nat.le_refl _) (Nat.le_refl _) ⟨by rw [wr_ne _ _ _ (by decide), wr_i], by rw [wr_i]; rfl, fun k hk => absurd hk (Nat.not_lt_zero k), fun k hk => absurd hk (Nat.not_lt_zero k), fun x hx => ?_, fun x hx => ?_, hX0⟩
      · refine okm_mono this fun t ht => ?_
        obtain ⟨t1, w1, w2, w3, w4, w5, w6, hX⟩ := ht
        rw [List.nil_append] at w2 w3
        refine ⟨MRep_P hh (hX.mono (by decide) (by decide)) (fun q hq => ?_), ?_, fun _ => by rw [t1]; rfl⟩
        · by_cases hqr : q = r
          · rw [hqr, va_up_self]
            refine ⟨fun e => (nomatch e), fun l e => ?_⟩
            cases e
            refine ⟨w1, w2, w3, fun j hj => ?_⟩
            rw [cutA_flat] at hj ⊢
            exact w4 j hj
          · rw [va_up_ne _ _ hqr]
            obtain ⟨t1, t2⟩ := hh.2.2.2.2.1 q hq
            exact ⟨fun e => (by rw [(w5 q hqr).1]; exact t1 e), fun l e => MPa_o (r := r) (t2 l e) (by rw [← prt_e e]; exact zP_ok hA q) hqr w5 w6⟩
        · rw [hX.1 35 (by decide), mP_i]
      · rw [wr_ne _ _ _ (by decide), wr_o _ _ hx, wr_o _ _ hx, wr_ne _ _ _ (by decide)]
        exact ⟨rfl, rfl⟩
      · rw [wr_ne _ _ _ (by decide), wr_ne _ _ _ (by decide), wr_ne _ _ _ (by decide), wr_ne _ _ _ (by decide)]
        exact ⟨rfl, rfl⟩
    · rw [if_neg c2]
      have c2' : 12 ≤ fre (zP A) 12 0 := by omega
      simp (disch := omega) only [s_X3_store_23, s_X3_store_40, m_isFile_t h0 (by omega) c1, c2', pb1, pb2, nq_lit, nq_add, nq_mul, nq_lt, nq_le, nq_eq, nq_lt0, nq10, nq00, Nat.one_ne_zero, Nat.reduceEqDiff, Nat.not_lt_zero, nq20, nq30, zb1, zb0, eq_self, mP_i, mP_o, mP_2', wr_1, wr_ne, wr_i, reduceIte, m_may1, m_may0, m_both1, m_both2, m_both0, m_all1, m_all3, m_all2, m_all0]
      exact okm_some (MO_bad h (by decide))
  · rw [if_neg c1]
    by_cases c2 : 12 ≤ fre (zP A) 12 0
    · simp (disch := omega) only [s_X3_store_23, s_X3_store_40, m_isFile_f h0 (by omega) c1, c2, pb1, pb2, nq_lit, nq_add, nq_mul, nq_lt, nq_le, nq_eq, nq_lt0, nq10, nq00, Nat.one_ne_zero, Nat.reduceEqDiff, Nat.not_lt_zero, nq20, nq30, zb1, zb0, eq_self, mP_i, mP_o, mP_2', wr_1, wr_ne, wr_i, reduceIte, m_may1, m_may0, m_both1, m_both2, m_both0, m_all1, m_all3, m_all2, m_all0]
      exact okm_some (MO_bad h (by decide))
    · simp (disch := omega) only [s_X3_store_23, s_X3_store_40, m_isFile_f h0 (by omega) c1, c2, pb1, pb2, nq_lit, nq_add, nq_mul, nq_lt, nq_le, nq_eq, nq_lt0, nq10, nq00, Nat.one_ne_zero, Nat.reduceEqDiff, Nat.not_lt_zero, nq20, nq30, zb1, zb0, eq_self, mP_i, mP_o, mP_2', wr_1, wr_ne, wr_i, reduceIte, m_may1, m_may0, m_both1, m_both2, m_both0, m_all1, m_all3, m_all2, m_all0]
      exact okm_some (MO_bad h (by decide))
