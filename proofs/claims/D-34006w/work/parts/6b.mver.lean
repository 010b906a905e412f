/-! PURE: the reference's versions -/
set_option maxRecDepth 100000
/-- one link of a chain -/
def stp (vs : List Vr) (v : Nat) (r : (Nat × Nat × Nat) ⊕ List Nat) : (Nat × Nat × Nat) ⊕ List Nat := match vs[v]? with
  | some (.inr (.inr (_, D))) => (match r with
    | .inl (a, f, x) => .inl (a, f + 1, x)
    | .inr bs => if byd D.2.1 bs.length = true then .inl (v, 0, 2) else .inr (app D.2.1 D.2.2 bs))
  | _ => r
theorem mkG_d {vs : List Vr} {v j n : Nat} {D : Dl} (h : vs[v]? = some (.inr (.inr (j, D)))) : mkG vs (n + 1) v = stp vs v (mkG vs n j) := by
  unfold stp
  rw [mkG, h]
  rfl
theorem mkG_f {vs : List Vr} (hv : VOk vs) : ∀ (k v n n' : Nat), v < k → v < n → v < n' → mkG vs n v = mkG vs n' v := by
  intro k
  induction k with
  | zero => intro v n n' hk; omega
  | succ k ih =>
    intro v n n' hk hn hn'
    obtain ⟨n, rfl⟩ := pre_n hn
    obtain ⟨n', rfl⟩ := pre_n hn'
    cases h : vs[v]? with
    | none => rw [mkG, mkG, h]
    | some x =>
      rcases x with u | bs | ⟨j, D⟩
      · rw [mkG, mkG, h]
      · rw [mkG, mkG, h]
      · have hj := (hv.2.2 v j D h).1
        rw [mkG_d h, mkG_d h, ih j n n' (by omega) (by omega) (by omega)]
theorem mkV_d {vs : List Vr} (hv : VOk vs) {v j : Nat} {D : Dl} (h : vs[v]? = some (.inr (.inr (j, D)))) : mkV vs v = stp vs v (mkV vs j) := by
  have hj := (hv.2.2 v j D h).1
  unfold mkV
  rw [mkG_d h, mkG_f hv (j + 1) j v (j + 1) (by omega) hj (by omega)]
theorem mkV_l {vs : List Vr} {v : Nat} {u : Unit} (h : vs[v]? = some (.inl u)) : mkV vs v = .inl (v, 0, 1) := by
  unfold mkV
  rw [mkG, h]
theorem mkV_w {vs : List Vr} {v : Nat} {bs : List Nat} (h : vs[v]? = some (.inr (.inl bs))) : mkV vs v = .inr bs := by
  unfold mkV
  rw [mkG, h]
theorem stp_ok {vs : List Vr} (hv : VOk vs) {v : Nat} {r : (Nat × Nat × Nat) ⊕ List Nat} (hr : ∀ bs, r = .inr bs → FOk bs) : ∀ bs, stp vs v r = .inr bs → FOk bs := by
  intro bs h
  unfold stp at h
  split at h
  · rename_i j D hD
    split at h
    · cases h
    · rename_i bs'
      split at h
      · cases h
      · cases h
        exact app_ok (hv.2.2 v j D hD).2 (hr bs' rfl)
  · exact hr bs h
theorem mkV_ok {vs : List Vr} (hv : VOk vs) : ∀ (k v : Nat), v < k → v < vs.length → ∀ bs, mkV vs v = .inr bs → FOk bs := by
  intro k
  induction k with
  | zero => intro v hk; omega
  | succ k ih =>
    intro v hk hl bs h
    have hx : vs[v]? = some vs[v] := List.getElem?_eq_getElem hl
    rcases hy : vs[v] with u | bs' | ⟨j, D⟩
    · rw [hy] at hx
      rw [mkV_l hx] at h
      cases h
    · rw [hy] at hx
      rw [mkV_w hx] at h
      cases h
      exact hv.2.1 v _ hx
    · rw [hy] at hx
      have hj := (hv.2.2 v j D hx).1
      rw [mkV_d hv hx] at h
      exact stp_ok hv (ih j (by omega) (by omega)) bs h
theorem stp_l {vs : List Vr} {v j a f x : Nat} {D : Dl} (h : vs[v]? = some (.inr (.inr (j, D)))) : stp vs v (.inl (a, f, x)) = .inl (a, f + 1, x) := by
  unfold stp
  rw [h]
theorem stp_r {vs : List Vr} {v j : Nat} {D : Dl} {bs : List Nat} (h : vs[v]? = some (.inr (.inr (j, D)))) : stp vs v (.inr bs) = if byd D.2.1 bs.length = true then .inl (v, 0, 2) else .inr (app D.2.1 D.2.2 bs) := by
  unfold stp
  rw [h]
theorem fold_l {vs : List Vr} : ∀ (cs : List Nat) (a f x : Nat), (∀ v ∈ cs, ∃ j D, vs[v]? = some (.inr (.inr (j, D)))) → cs.foldr (stp vs) (.inl (a, f, x)) = .inl (a, f + cs.length, x) := by
  intro cs
  induction cs with
  | nil => intro a f x h; rfl
  | cons c cs ih =>
    intro a f x h
    obtain ⟨j, D, hc⟩ := h c List.mem_cons_self
    rw [List.foldr_cons, ih a f x (fun v hv => h v (List.mem_cons_of_mem _ hv)), stp_l hc, List.length_cons, Nat.add_assoc]
/-- what makes leaves: the bytes, or what is broken -/
def MM (σ : Sg) (r : (Nat × Nat × Nat) ⊕ List Nat) (v : Int32) : Prop := match r with
  | .inl (a, f, x) => v = nq 0 ∧ σ.1 22 = nq a ∧ σ.1 23 = nq f ∧ σ.1 24 = nq x
  | .inr bs => v = nq 1 ∧ MB σ bs ∧ σ.1 22 = -(nq 1) ∧ σ.1 23 = -(nq 1) ∧ σ.1 24 = -(nq 1)
abbrev I22 : List Nat := [22, 23, 24, 26]
abbrev J21 : List Nat := [21, 25, 27]
theorem xm_pred (c : Nat) : xm (c + 1) + -(nq 1) = xm c := by
  show nq c + -(nq 1) = xm c
  unfold xm
  by_cases h : c = 0
  · rw [if_pos h, h]
    exact nq_zpred
  · rw [if_neg h]
    exact nq_pred (by omega)
theorem take_s {cs : List Nat} {c : Nat} (h : c < cs.length) : cs.take (c + 1) = cs.take c ++ [gd cs c] := by
  rw [List.take_succ, gd_lt h]
  rfl
theorem m_mk_up {σ0 : Sg} {vs : List Vr} (hv : VOk vs) (hV : MVr σ0 vs) {cs : List Nat} (hcl : cs.length ≤ 20) (hc : ∀ v ∈ cs, v < 20 ∧ ∃ j D, vs[v]? = some (.inr (.inr (j, D)))) : ∀ (c f : Nat) (σ : Sg) (bs : List Nat), c < f → c ≤ cs.length → Sx σ0 σ I22 J21 → (∀ k, k < cs.length → σ.2.1 21 k = nq (gd cs k)) → MB σ bs → FOk bs → σ.1 22 = -(nq 1) → σ.1 23 = -(nq 1) → σ.1 24 = -(nq 1) →
    okm (l_X3_makes_127 f (xm c) σ) fun r => MM r.2 ((cs.take c).foldr (stp vs) (.inr bs)) r.1 ∧ Sx σ0 r.2 I22 J21 := by
  intro c
  induction c with
  | zero =>
    intro f σ bs hf hcc hX h21 hB hbs h22 h23 h24
    obtain ⟨f, rfl⟩ := pre_n hf
    have : -(nq 1) < nq 0 := m1_lt (by omega)
    rw [l_X3_makes_127_s]
    simp (disch := omega) only [s_X3_makes_127, show xm 0 = -(nq 1) from rfl, this, mR_1, mW_1, mR_2, mW_2, mR_3, mW_3, mR_4, mW_4, mR_5, mW_5, mR_6, mW_6, mR_7, mW_7, mR_9, mW_9, mR_10, mW_10, mR_11, mW_11, mR_12, mW_12, mR_13, mW_13, mR_14, mW_14, mR_15, mW_15, mR_17, mW_17, mR_18, mW_18, mR_19, mW_19, mR_20, mW_20, mR_21, mW_21, mR_25, mW_25, mR_27, mW_27, mR_31, mW_31, mR_32, mW_32, mR_33, mW_33, mR_34, mW_34, mRL_8, mWL_8, pb1, pb2, nq_lit, nq_add, nq_mul, nq_lt, nq_le, nq_eq, nq_lt0, nq10, nq00, Nat.one_ne_zero, Nat.reduceEqDiff, Nat.not_lt_zero, nq20, nq30, zb1, zb0, eq_self, mP_i, mP_o, mP_2', wr_1, wr_ne, wr_i, reduceIte, m_may1, m_may0, m_both1, m_both2, m_both0, m_all1, m_all3, m_all2, m_all0]
    exact okm_some ⟨⟨rfl, hB, h22, h23, h24⟩, hX⟩
  | succ c ih =>
    intro f σ bs hf hcc hX h21 hB hbs h22 h23 h24
    obtain ⟨f, rfl⟩ := pre_n hf
    obtain ⟨hlt, j, D, hD⟩ := hc _ (gd_mem (bs := cs) (j := c) (by omega))
    have hDk := (hv.2.2 _ j D hD).2
    have hM : MDl σ (4 + gd cs c) D := ((hV.2 _ hlt).2.2 j D hD).2.2.same hX (by decide) (by decide) (by decide) (by decide) (by decide) (by decide) (by decide)
    have eg := m_goes (σ := σ) (d := 4 + gd cs c) (by omega) hM hDk hbs.1 hB.1
    rw [l_X3_makes_127_s, take_s (by omega), List.foldr_append, List.foldr_cons, List.foldr_nil, stp_r hD]
    by_cases hb : byd D.2.1 bs.length = true
    · rw [if_pos hb, fold_l _ _ _ _ (fun v hv => (hc v (List.mem_of_mem_take hv)).2), List.length_take, Nat.min_eq_left (by omega), Nat.zero_add]
      rw [hb] at eg
      simp (disch := omega) only [s_X3_makes_127, show xm (c + 1) = nq c from rfl, h21 c (by omega), eg, bq_t, mR_1, mW_1, mR_2, mW_2, mR_3, mW_3, mR_4, mW_4, mR_5, mW_5, mR_6, mW_6, mR_7, mW_7, mR_9, mW_9, mR_10, mW_10, mR_11, mW_11, mR_12, mW_12, mR_13, mW_13, mR_14, mW_14, mR_15, mW_15, mR_17, mW_17, mR_18, mW_18, mR_19, mW_19, mR_20, mW_20, mR_21, mW_21, mR_25, mW_25, mR_27, mW_27, mR_31, mW_31, mR_32, mW_32, mR_33, mW_33, mR_34, mW_34, mRL_8, mWL_8, pb1, pb2, nq_lit, nq_add, nq_mul, nq_lt, nq_le, nq_eq, nq_lt0, nq10, nq00, Nat.one_ne_zero, Nat.reduceEqDiff, Nat.not_lt_zero, nq20, nq30, zb1, zb0, eq_self, mP_i, mP_o, mP_2', wr_1, wr_ne, wr_i, reduceIte, m_may1, m_may0, m_both1, m_both2, m_both0, m_all1, m_all3, m_all2, m_all0]
      refine okm_some ⟨⟨rfl, ?_, ?_, ?_⟩, ((hX.mP (by decide)).mP (by decide)).mP (by decide)⟩
      · rw [mP_o _ _ (by decide), mP_o _ _ (by decide), mP_i]
      · rw [mP_o _ _ (by decide), mP_i]
      · rw [mP_i]
    · rw [if_neg hb]
      have hb' := Bool.eq_false_iff.mpr hb
      rw [hb'] at eg
      simp (disch := omega) only [s_X3_makes_127, show xm (c + 1) = nq c from rfl, h21 c (by omega), eg, bq_f, mR_1, mW_1, mR_2, mW_2, mR_3, mW_3, mR_4, mW_4, mR_5, mW_5, mR_6, mW_6, mR_7, mW_7, mR_9, mW_9, mR_10, mW_10, mR_11, mW_11, mR_12, mW_12, mR_13, mW_13, mR_14, mW_14, mR_15, mW_15, mR_17, mW_17, mR_18, mW_18, mR_19, mW_19, mR_20, mW_20, mR_21, mW_21, mR_25, mW_25, mR_27, mW_27, mR_31, mW_31, mR_32, mW_32, mR_33, mW_33, mR_34, mW_34, mRL_8, mWL_8, pb1, pb2, nq_lit, nq_add, nq_mul, nq_lt, nq_le, nq_eq, nq_lt0, nq10, nq00, Nat.one_ne_zero, Nat.reduceEqDiff, Nat.not_lt_zero, nq20, nq30, zb1, zb0, eq_self, mP_i, mP_o, mP_2', wr_1, wr_ne, wr_i, reduceIte, m_may1, m_may0, m_both1, m_both2, m_both0, m_all1, m_all3, m_all2, m_all0]
      refine okm_bd2 (okm_mono (m_applies (σ := σ) (d := 4 + gd cs c) (by omega) hM hDk hB hbs.1 hb') fun t ht => ?_)
      obtain ⟨t1, t2⟩ := ht
      have e : nq c + -(nq 1) = xm c := xm_pred c
      rw [e]
      exact ih f t.2 _ (by omega) (by omega) (hX.trans (t2.mono (by decide) (by decide))) (fun k hk => by rw [t2.2.1 21 (by decide)]; exact h21 k hk) t1 (app_ok hDk hbs) (by rw [t2.1 22 (by decide)]; exact h22) (by rw [t2.1 23 (by decide)]; exact h23) (by rw [t2.1 24 (by decide)]; exact h24)
theorem m_mk_wh {σ0 : Sg} {vs : List Vr} (hv : VOk vs) (hV : MVr σ0 vs) {cs bs : List Nat} {w : Nat} (hw : w < 20) (hW : MWh σ0 w bs) (hbs : FOk bs) (hcl : cs.length ≤ 20) (hc : ∀ v ∈ cs, v < 20 ∧ ∃ j D, vs[v]? = some (.inr (.inr (j, D)))) : ∀ (N k f : Nat) (σ : Sg), N < f → k + N = bs.length → Sx σ0 σ I22 J21 → (∀ k, k < cs.length → σ.2.1 21 k = nq (gd cs k)) → σ.1 26 = nq bs.length → (∀ j, j < k → σ.2.1 25 j = nq (gd bs j)) → σ.1 22 = -(nq 1) → σ.1 23 = -(nq 1) → σ.1 24 = -(nq 1) →
    okm (l_X3_makes_88 f (nq cs.length, nq w, nq k) σ) fun r => MM r.2 (cs.foldr (stp vs) (.inr bs)) r.1 ∧ Sx σ0 r.2 I22 J21 := by
  intro N
  have hbl := hbs.1
  induction N with
  | zero =>
    intro k f σ hf hk hX h21 h26 h25 h22 h23 h24
    obtain ⟨f, rfl⟩ := pre_n hf
    have hk' : bs.length ≤ k := by omega
    have e : nq cs.length - nq 1 = xm cs.length := by
      unfold xm
      by_cases h : cs.length = 0
      · rw [if_pos h, h]
        exact nq_zsub
      · rw [if_neg h]
        exact nq_sub (by omega)
    rw [l_X3_makes_88_s]
    simp (disch := omega) only [s_X3_makes_88, h26, hk', e, mR_1, mW_1, mR_2, mW_2, mR_3, mW_3, mR_4, mW_4, mR_5, mW_5, mR_6, mW_6, mR_7, mW_7, mR_9, mW_9, mR_10, mW_10, mR_11, mW_11, mR_12, mW_12, mR_13, mW_13, mR_14, mW_14, mR_15, mW_15, mR_17, mW_17, mR_18, mW_18, mR_19, mW_19, mR_20, mW_20, mR_21, mW_21, mR_25, mW_25, mR_27, mW_27, mR_31, mW_31, mR_32, mW_32, mR_33, mW_33, mR_34, mW_34, mRL_8, mWL_8, pb1, pb2, nq_lit, nq_add, nq_mul, nq_lt, nq_le, nq_eq, nq_lt0, nq10, nq00, Nat.one_ne_zero, Nat.reduceEqDiff, Nat.not_lt_zero, nq20, nq30, zb1, zb0, eq_self, mP_i, mP_o, mP_2', wr_1, wr_ne, wr_i, reduceIte, m_may1, m_may0, m_both1, m_both2, m_both0, m_all1, m_all3, m_all2, m_all0]
    have := m_mk_up hv hV hcl hc cs.length FU σ bs (by unfold FU; omega) (Nat.le_refl _) hX h21 ⟨h26, fun j hj => h25 j (by omega)⟩ hbs h22 h23 h24
    rw [List.take_length] at this
    exact this
  | succ N ih =>
    intro k f σ hf hk hX h21 h26 h25 h22 h23 h24
    obtain ⟨f, rfl⟩ := pre_n hf
    have hk' : ¬ bs.length ≤ k := by omega
    have h20 : σ.2.1 20 (120 * w + k) = nq (gd bs k) := by rw [hX.2.1 20 (by decide)]; exact hW.2.2 k (by omega)
    rw [l_X3_makes_88_s]
    simp (disch := omega) only [s_X3_makes_88, h26, hk', h20, mR_1, mW_1, mR_2, mW_2, mR_3, mW_3, mR_4, mW_4, mR_5, mW_5, mR_6, mW_6, mR_7, mW_7, mR_9, mW_9, mR_10, mW_10, mR_11, mW_11, mR_12, mW_12, mR_13, mW_13, mR_14, mW_14, mR_15, mW_15, mR_17, mW_17, mR_18, mW_18, mR_19, mW_19, mR_20, mW_20, mR_21, mW_21, mR_25, mW_25, mR_27, mW_27, mR_31, mW_31, mR_32, mW_32, mR_33, mW_33, mR_34, mW_34, mRL_8, mWL_8, pb1, pb2, nq_lit, nq_add, nq_mul, nq_lt, nq_le, nq_eq, nq_lt0, nq10, nq00, Nat.one_ne_zero, Nat.reduceEqDiff, Nat.not_lt_zero, nq20, nq30, zb1, zb0, eq_self, mP_i, mP_o, mP_2', wr_1, wr_ne, wr_i, reduceIte, m_may1, m_may0, m_both1, m_both2, m_both0, m_all1, m_all3, m_all2, m_all0]
    refine ih (k + 1) f _ (by omega) (by omega) (hX.wr (by decide)) (fun j hj => ?_) h26 (fun j hj => ?_) h22 h23 h24
    · rw [wr_ne _ _ _ (by decide)]
      exact h21 j hj
    · rw [wr_at]
      by_cases q : j = k
      · rw [if_pos q, q]
      · rw [if_neg q]
        exact h25 j (by omega)
theorem m_mk_dn {σ0 : Sg} {vs : List Vr} (hv : VOk vs) (hV : MVr σ0 vs) : ∀ (N at9 f : Nat) (σ : Sg) (cs : List Nat), at9 < N → N < f → at9 < vs.length → cs.length + at9 < 20 → Sx σ0 σ I22 J21 → (∀ k, k < cs.length → σ.2.1 21 k = nq (gd cs k)) → (∀ v ∈ cs, v < 20 ∧ ∃ j D, vs[v]? = some (.inr (.inr (j, D)))) →
    okm (l_X3_makes_4 f (nq cs.length, nq at9) σ) fun r => MM r.2 (cs.foldr (stp vs) (mkV vs at9)) r.1 ∧ Sx σ0 r.2 I22 J21 := by
  intro N
  induction N with
  | zero => intro at9 f σ cs h; omega
  | succ N ih =>
    intro at9 f σ cs hN hf hl hcl hX h21 hc
    obtain ⟨f, rfl⟩ := pre_n hf
    have hvl := hv.1
    obtain ⟨v1, v2, v3⟩ := hV.2 at9 (by omega)
    have hx : vs[at9]? = some vs[at9] := List.getElem?_eq_getElem hl
    rw [l_X3_makes_4_s]
    rcases hy : vs[at9] with u | bs | ⟨j, D⟩
    · rw [hy] at hx
      have e17 : σ.2.1 17 at9 = nq 0 := by rw [hX.2.1 17 (by decide)]; exact v1 u hx
      rw [mkV_l hx, fold_l _ _ _ _ (fun v hv => (hc v hv).2), Nat.zero_add]
      have h02 : (nq 0 = nq 2) = False := by
        apply eq_false
        decide
      simp (disch := omega) only [s_X3_makes_4, e17, h02, mR_1, mW_1, mR_2, mW_2, mR_3, mW_3, mR_4, mW_4, mR_5, mW_5, mR_6, mW_6, mR_7, mW_7, mR_9, mW_9, mR_10, mW_10, mR_11, mW_11, mR_12, mW_12, mR_13, mW_13, mR_14, mW_14, mR_15, mW_15, mR_17, mW_17, mR_18, mW_18, mR_19, mW_19, mR_20, mW_20, mR_21, mW_21, mR_25, mW_25, mR_27, mW_27, mR_31, mW_31, mR_32, mW_32, mR_33, mW_33, mR_34, mW_34, mRL_8, mWL_8, pb1, pb2, nq_lit, nq_add, nq_mul, nq_lt, nq_le, nq_eq, nq_lt0, nq10, nq00, Nat.one_ne_zero, Nat.reduceEqDiff, Nat.not_lt_zero, nq20, nq30, zb1, zb0, eq_self, mP_i, mP_o, mP_2', wr_1, wr_ne, wr_i, reduceIte, m_may1, m_may0, m_both1, m_both2, m_both0, m_all1, m_all3, m_all2, m_all0]
      refine okm_some ⟨⟨rfl, ?_, ?_, ?_⟩, (((((hX.mP (by decide)).mP (by decide)).mP (by decide)).mP (by decide)).mP (by decide)).mP (by decide)⟩
      · rw [mP_o _ _ (by decide), mP_o _ _ (by decide), mP_i]
      · rw [mP_o _ _ (by decide), mP_i]
      · rw [mP_i]
    · rw [hy] at hx
      have hW := v2 bs hx
      have e17 : σ.2.1 17 at9 = nq 1 := by rw [hX.2.1 17 (by decide)]; exact hW.1
      have e19 : σ.2.1 19 at9 = nq bs.length := by rw [hX.2.1 19 (by decide)]; exact hW.2.1
      rw [mkV_w hx]
      have h12 : (nq 1 = nq 2) = False := by
        apply eq_false
        decide
      simp (disch := omega) only [s_X3_makes_4, e17, e19, h12, mR_1, mW_1, mR_2, mW_2, mR_3, mW_3, mR_4, mW_4, mR_5, mW_5, mR_6, mW_6, mR_7, mW_7, mR_9, mW_9, mR_10, mW_10, mR_11, mW_11, mR_12, mW_12, mR_13, mW_13, mR_14, mW_14, mR_15, mW_15, mR_17, mW_17, mR_18, mW_18, mR_19, mW_19, mR_20, mW_20, mR_21, mW_21, mR_25, mW_25, mR_27, mW_27, mR_31, mW_31, mR_32, mW_32, mR_33, mW_33, mR_34, mW_34, mRL_8, mWL_8, pb1, pb2, nq_lit, nq_add, nq_mul, nq_lt, nq_le, nq_eq, nq_lt0, nq10, nq00, Nat.one_ne_zero, Nat.reduceEqDiff, Nat.not_lt_zero, nq20, nq30, zb1, zb0, eq_self, mP_i, mP_o, mP_2', wr_1, wr_ne, wr_i, reduceIte, m_may1, m_may0, m_both1, m_both2, m_both0, m_all1, m_all3, m_all2, m_all0]
      refine m_mk_wh hv hV (by omega) hW (hv.2.1 _ _ hx) (by omega) hc bs.length 0 FU _ (by have := (hv.2.1 _ _ hx).1; unfold FU; omega) (by omega) ((((hX.mP (by decide)).mP (by decide)).mP (by decide)).mP (by decide)) h21 (mP_i _ _ _) (fun j hj => absurd hj (Nat.not_lt_zero j)) ?_ ?_ ?_
      · rw [mP_o _ _ (by decide), mP_o _ _ (by decide), mP_o _ _ (by decide), mP_i]
      · rw [mP_o _ _ (by decide), mP_o _ _ (by decide), mP_i]
      · rw [mP_o _ _ (by decide), mP_i]
    · rw [hy] at hx
      obtain ⟨w1, w2, w3⟩ := v3 j D hx
      have hj := (hv.2.2 at9 j D hx).1
      have e17 : σ.2.1 17 at9 = nq 2 := by rw [hX.2.1 17 (by decide)]; exact w1
      have e18 : σ.2.1 18 at9 = nq j := by rw [hX.2.1 18 (by decide)]; exact w2
      rw [mkV_d hv hx]
      simp (disch := omega) only [s_X3_makes_4, e17, e18, mR_1, mW_1, mR_2, mW_2, mR_3, mW_3, mR_4, mW_4, mR_5, mW_5, mR_6, mW_6, mR_7, mW_7, mR_9, mW_9, mR_10, mW_10, mR_11, mW_11, mR_12, mW_12, mR_13, mW_13, mR_14, mW_14, mR_15, mW_15, mR_17, mW_17, mR_18, mW_18, mR_19, mW_19, mR_20, mW_20, mR_21, mW_21, mR_25, mW_25, mR_27, mW_27, mR_31, mW_31, mR_32, mW_32, mR_33, mW_33, mR_34, mW_34, mRL_8, mWL_8, pb1, pb2, nq_lit, nq_add, nq_mul, nq_lt, nq_le, nq_eq, nq_lt0, nq10, nq00, Nat.one_ne_zero, Nat.reduceEqDiff, Nat.not_lt_zero, nq20, nq30, zb1, zb0, eq_self, mP_i, mP_o, mP_2', wr_1, wr_ne, wr_i, reduceIte, m_may1, m_may0, m_both1, m_both2, m_both0, m_all1, m_all3, m_all2, m_all0]
      have := ih j f (wr σ 21 cs.length (nq at9)) (cs ++ [at9]) (by omega) (by omega) (by omega) (by rw [List.length_append, List.length_singleton]; omega) (hX.wr (by decide)) (fun k hk => by
        rw [List.length_append, List.length_singleton] at hk
        rw [wr_at, gd_app]
        by_cases q : k < cs.length
        · rw [if_neg (by omega), if_pos q]
          exact h21 k q
        · rw [if_pos (by omega), if_neg q, show k - cs.length = 0 by omega]
          rfl) (fun v hv => by
        rcases List.mem_append.mp hv with q | q
        · exact hc v q
        · rw [List.mem_singleton] at q
          rw [q]
          exact ⟨by omega, j, D, hx⟩)
      rw [List.length_append, List.length_singleton, List.foldr_append, List.foldr_cons, List.foldr_nil] at this
      exact this
theorem m_makes {σ : Sg} {vs : List Vr} {v : Nat} (hv : VOk vs) (hV : MVr σ vs) (hl : v < vs.length) : okm (f_X3_makes (nq v) σ) fun r => MM r.2 (mkV vs v) r.1 ∧ Sx σ r.2 I22 J21 := by
  have := hv.1
  exact m_mk_dn hv hV (v + 1) v FU σ [] (by omega) (by unfold FU; omega) hl (by simp only [List.length_nil]; omega) (Sx.refl _ _ _) (fun k hk => absurd hk (Nat.not_lt_zero k)) (fun x hx => by cases hx)
