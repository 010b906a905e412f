/-! PURE: the reference's signatures -/
set_option maxRecDepth 100000
theorem nb_lt {L b k : Nat} (hb : 1 ≤ b) (h : k < nb L b) : k * b < L := by
  unfold nb at h
  have h1 : k + 1 ≤ (L + b - 1) / b := h
  rw [Nat.le_div_iff_mul_le (by omega), Nat.add_mul] at h1
  omega
theorem nb_le {L b : Nat} (hb : 1 ≤ b) (hL : L ≤ 120) : nb L b ≤ 120 := by
  by_cases h : nb L b = 0
  · omega
  · have h1 := nb_lt (L := L) (k := nb L b - 1) hb (by omega)
    have : nb L b - 1 ≤ (nb L b - 1) * b := Nat.le_mul_of_pos_right _ (by omega)
    omega
theorem bln_pos {L b k : Nat} (hb : 1 ≤ b) (h : k * b < L) : 1 ≤ bln L b k := by
  unfold bln
  split <;> omega
theorem bln_le (L b k : Nat) : bln L b k ≤ b := by
  unfold bln
  split <;> omega
theorem bln_in {L b k : Nat} (h : k * b < L) : k * b + bln L b k ≤ L := by
  unfold bln
  split <;> omega
theorem s1_le {f : Nat → Nat} (hf : ∀ x, f x < 256) (p n : Nat) : s1 f p n ≤ 255 * n := by
  induction n with
  | zero => exact Nat.le_refl _
  | succ n ih =>
    have := hf (p + n)
    show s1 f p n + f (p + n) ≤ _
    omega
theorem s2w_le {f : Nat → Nat} (hf : ∀ x, f x < 256) {w : Nat} (hw : w ≤ 7) (p n : Nat) : s2w f p w n ≤ 1785 * n := by
  induction n with
  | zero => exact Nat.le_refl _
  | succ n ih =>
    have h1 := hf (p + n)
    have h2 : (w - n) * f (p + n) ≤ 7 * 255 := Nat.mul_le_mul (by omega) (by omega)
    show s2w f p w n + (w - n) * f (p + n) ≤ _
    omega
theorem wk_lt {f : Nat → Nat} (p w : Nat) {m : Nat} (h1 : 1 ≤ m) (hm : m ≤ 4096) : wk f p w m < 16777216 := by
  unfold wk
  have a1 : s2w f p w w % m < m := Nat.mod_lt _ (by omega)
  have a2 : s1 f p w % m < m := Nat.mod_lt _ (by omega)
  have a3 : s2w f p w w % m * m ≤ 4095 * 4096 := Nat.mul_le_mul (by omega) hm
  omega
theorem m_lengthOf {σ : Sg} {p k b L : Nat} (hp : p < 5) (h3 : σ.2.1 3 p = nq b) (h5 : σ.2.1 5 p = nq L) (hk : k * b ≤ L) (hL : L ≤ 120) (hb : b ≤ 7) : f_X3_lengthOf (nq p) (nq k) σ = some (nq (bln L b k), σ) := by
  unfold bln
  by_cases c : b ≤ L - k * b
  · rw [if_pos c]
    simp (disch := omega) only [f_X3_lengthOf, s_X3_lengthOf_36, h3, h5, nq_sub, c, mR_1, mW_1, mR_2, mW_2, mR_3, mW_3, mR_4, mW_4, mR_5, mW_5, mR_6, mW_6, mR_7, mW_7, mR_9, mW_9, mR_10, mW_10, mR_11, mW_11, mR_12, mW_12, mR_13, mW_13, mR_14, mW_14, mR_15, mW_15, mR_17, mW_17, mR_18, mW_18, mR_19, mW_19, mR_20, mW_20, mR_21, mW_21, mR_25, mW_25, mR_27, mW_27, mR_31, mW_31, mR_32, mW_32, mR_33, mW_33, mR_34, mW_34, mRL_8, mWL_8, pb1, pb2, nq_lit, nq_add, nq_mul, nq_lt, nq_le, nq_eq, nq_lt0, nq10, nq00, Nat.one_ne_zero, Nat.reduceEqDiff, Nat.not_lt_zero, nq20, nq30, zb1, zb0, mP_i, mP_o, mP_2', wr_1, wr_ne, wr_i, reduceIte, m_may1, m_may0, m_both1, m_both2, m_both0, m_all1, m_all3, m_all2, m_all0]
  · rw [if_neg c]
    simp (disch := omega) only [f_X3_lengthOf, s_X3_lengthOf_36, h3, h5, nq_sub, c, mR_1, mW_1, mR_2, mW_2, mR_3, mW_3, mR_4, mW_4, mR_5, mW_5, mR_6, mW_6, mR_7, mW_7, mR_9, mW_9, mR_10, mW_10, mR_11, mW_11, mR_12, mW_12, mR_13, mW_13, mR_14, mW_14, mR_15, mW_15, mR_17, mW_17, mR_18, mW_18, mR_19, mW_19, mR_20, mW_20, mR_21, mW_21, mR_25, mW_25, mR_27, mW_27, mR_31, mW_31, mR_32, mW_32, mR_33, mW_33, mR_34, mW_34, mRL_8, mWL_8, pb1, pb2, nq_lit, nq_add, nq_mul, nq_lt, nq_le, nq_eq, nq_lt0, nq10, nq00, Nat.one_ne_zero, Nat.reduceEqDiff, Nat.not_lt_zero, nq20, nq30, zb1, zb0, mP_i, mP_o, mP_2', wr_1, wr_ne, wr_i, reduceIte, m_may1, m_may0, m_both1, m_both2, m_both0, m_all1, m_all3, m_all2, m_all0]
theorem m_weakOf_l {σ : Sg} {k0 p base w m : Nat} {f : Nat → Nat} (hf : ∀ x, f x < 256) (hw : w ≤ 7) (h1 : 1 ≤ m) (hm : m ≤ 4096) (hr : ∀ x, x < w → mR σ k0 (nq (p + x)) = some (nq (f (base + x)))) : ∀ (d k n : Nat), d < n → k + d = w →
    l_X3_weakOf_9 k0 n (nq p, nq w, nq m, nq (s1 f base k), nq (s2w f base w k), nq k) σ = some (nq (wk f base w m), σ) := by
  intro d
  induction d with
  | zero =>
    intro k n hn hk
    obtain ⟨n, rfl⟩ := pre_n hn
    have hk' : w ≤ k := by omega
    have e : k = w := by omega
    have b1 := s1_le hf base k
    have b2 := s2w_le hf hw base k
    have a1 : s2w f base w k % m < m := Nat.mod_lt _ (by omega)
    have a3 : s2w f base w k % m * m ≤ 4095 * 4096 := Nat.mul_le_mul (by omega) hm
    have hz : nz (nq m) = some () := nz_ok (by omega) (by omega)
    rw [l_X3_weakOf_9_s]
    simp (disch := omega) only [s_X3_weakOf_9, hk', hz, nq_mod, pb1, pb2, nq_lit, nq_add, nq_mul, nq_lt, nq_le, nq_eq, nq_lt0, nq10, nq00, Nat.one_ne_zero, Nat.reduceEqDiff, Nat.not_lt_zero, nq20, nq30, zb1, zb0, mP_i, mP_o, mP_2', wr_1, wr_ne, wr_i, reduceIte, m_may1, m_may0, m_both1, m_both2, m_both0, m_all1, m_all3, m_all2, m_all0]
    rw [e]
    rfl
  | succ d ih =>
    intro k n hn hk
    obtain ⟨n, rfl⟩ := pre_n hn
    have hk' : ¬ w ≤ k := by omega
    rw [l_X3_weakOf_9_s]
    simp (disch := omega) only [s_X3_weakOf_9, hk', hr k (by omega), nq_sub, pb1, pb2, nq_lit, nq_add, nq_mul, nq_lt, nq_le, nq_eq, nq_lt0, nq10, nq00, Nat.one_ne_zero, Nat.reduceEqDiff, Nat.not_lt_zero, nq20, nq30, zb1, zb0, mP_i, mP_o, mP_2', wr_1, wr_ne, wr_i, reduceIte, m_may1, m_may0, m_both1, m_both2, m_both0, m_all1, m_all3, m_all2, m_all0]
    exact ih (k + 1) n (by omega) (by omega)
theorem m_weakOf {σ : Sg} {k0 p base w m : Nat} {f : Nat → Nat} (hf : ∀ x, f x < 256) (hw : w ≤ 7) (h1 : 1 ≤ m) (hm : m ≤ 4096) (hr : ∀ x, x < w → mR σ k0 (nq (p + x)) = some (nq (f (base + x)))) : f_X3_weakOf k0 (nq p) (nq w) (nq m) σ = some (nq (wk f base w m), σ) :=
  m_weakOf_l hf hw h1 hm hr w 0 FU (by unfold FU; omega) (by omega)
def xm (c : Nat) : Int32 := if c = 0 then -(nq 1) else nq (c - 1)
theorem m_strongOf_l {σ : Sg} {k0 p base w : Nat} {f : Nat → Nat} (hw : w ≤ 7) (hr : ∀ x, x < w → mR σ k0 (nq (p + x)) = some (nq (f (base + x)))) : ∀ (c n : Nat), c < n → c ≤ w →
    l_X3_strongOf_7 k0 n (nq p, st64 f (w - c) (base + c), xm c) σ = some (st64 f w base, σ) := by
  intro c
  induction c with
  | zero =>
    intro n hn hc
    obtain ⟨n, rfl⟩ := pre_n hn
    rw [l_X3_strongOf_7_s]
    have : -(nq 1) < nq 0 := m1_lt (by omega)
    simp (disch := omega) only [s_X3_strongOf_7, xm, this, pb1, pb2, nq_lit, nq_add, nq_mul, nq_lt, nq_le, nq_eq, nq_lt0, nq10, nq00, Nat.one_ne_zero, Nat.reduceEqDiff, Nat.not_lt_zero, nq20, nq30, zb1, zb0, mP_i, mP_o, mP_2', wr_1, wr_ne, wr_i, reduceIte, m_may1, m_may0, m_both1, m_both2, m_both0, m_all1, m_all3, m_all2, m_all0]
    rfl
  | succ c ih =>
    intro n hn hc
    obtain ⟨n, rfl⟩ := pre_n hn
    rw [l_X3_strongOf_7_s]
    have e1 : xm (c + 1) = nq c := rfl
    have e2 : nq c + -(nq 1) = xm c := by
      unfold xm
      by_cases h : c = 0
      · rw [if_pos h, h]
        exact nq_zpred
      · rw [if_neg h]
        exact nq_pred (by omega)
    simp (disch := omega) only [s_X3_strongOf_7, e1, e2, hr c (by omega), pb1, pb2, nq_lit, nq_add, nq_mul, nq_lt, nq_le, nq_eq, nq_lt0, nq10, nq00, Nat.one_ne_zero, Nat.reduceEqDiff, Nat.not_lt_zero, nq20, nq30, zb1, zb0, mP_i, mP_o, mP_2', wr_1, wr_ne, wr_i, reduceIte, m_may1, m_may0, m_both1, m_both2, m_both0, m_all1, m_all3, m_all2, m_all0]
    have := ih n (by omega) (by omega)
    have e3 : w - c = (w - (c + 1)) + 1 := by omega
    rw [e3] at this
    exact this
theorem m_strongOf {σ : Sg} {k0 p base w : Nat} {f : Nat → Nat} (hw : w ≤ 7) (hw1 : 1 ≤ w) (hr : ∀ x, x < w → mR σ k0 (nq (p + x)) = some (nq (f (base + x)))) : f_X3_strongOf k0 (nq p) (nq w) σ = some (st64 f w base, σ) := by
  have := m_strongOf_l (f := f) (base := base) hw hr w FU (by unfold FU; omega) (Nat.le_refl _)
  rw [Nat.sub_self] at this
  unfold f_X3_strongOf
  rw [nq_lit, nq_sub hw1]
  have e : xm w = nq (w - 1) := by
    unfold xm
    rw [if_neg (by omega)]
  rw [e] at this
  exact this
theorem m_signs_l {σ0 : Sg} {p b m : Nat} {bs : List Nat} (hp : p < 5) (hb : 1 ≤ b ∧ b ≤ 7) (hm : 1 ≤ m ∧ m ≤ 4096) (hbs : FOk bs) : ∀ (d k n : Nat) (σ : Sg), d < n → k + d = nb bs.length b → σ.2.1 3 p = nq b → σ.2.1 4 p = nq m → σ.2.1 5 p = nq bs.length → σ.2.1 6 p = nq (nb bs.length b) → (∀ j, j < bs.length → σ.2.1 25 j = nq (gd bs j)) →
    (∀ x, x < k → σ.2.1 7 (120 * p + x) = nq (sWk (b, m, bs) x) ∧ σ.2.2 8 (120 * p + x) = sSt (b, m, bs) x) → (∀ x, (x < 120 * p ∨ 120 * p + 120 ≤ x) → σ.2.1 7 x = σ0.2.1 7 x ∧ σ.2.2 8 x = σ0.2.2 8 x) → Sx σ0 σ [] [7, 8] →
    okm (l_X3_signs_43 n (nq p, nq b, nq m, nq k) σ) fun r => MSg r.2 p (b, m, bs) ∧ (∀ x, (x < 120 * p ∨ 120 * p + 120 ≤ x) → r.2.2.1 7 x = σ0.2.1 7 x ∧ r.2.2.2 8 x = σ0.2.2 8 x) ∧ Sx σ0 r.2 [] [7, 8] := by
  intro d
  induction d with
  | zero =>
    intro k n σ hn hk h3 h4 h5 h6 h25 h7 h8 h9
    have bn := nb_le hb.1 hbs.1
    obtain ⟨n, rfl⟩ := pre_n hn
    have hk' : nb bs.length b ≤ k := by omega
    rw [l_X3_signs_43_s]
    simp (disch := omega) only [s_X3_signs_43, h6, hk', mR_1, mW_1, mR_2, mW_2, mR_3, mW_3, mR_4, mW_4, mR_5, mW_5, mR_6, mW_6, mR_7, mW_7, mR_9, mW_9, mR_10, mW_10, mR_11, mW_11, mR_12, mW_12, mR_13, mW_13, mR_14, mW_14, mR_15, mW_15, mR_17, mW_17, mR_18, mW_18, mR_19, mW_19, mR_20, mW_20, mR_21, mW_21, mR_25, mW_25, mR_27, mW_27, mR_31, mW_31, mR_32, mW_32, mR_33, mW_33, mR_34, mW_34, mRL_8, mWL_8, pb1, pb2, nq_lit, nq_add, nq_mul, nq_lt, nq_le, nq_eq, nq_lt0, nq10, nq00, Nat.one_ne_zero, Nat.reduceEqDiff, Nat.not_lt_zero, nq20, nq30, zb1, zb0, mP_i, mP_o, mP_2', wr_1, wr_ne, wr_i, reduceIte, m_may1, m_may0, m_both1, m_both2, m_both0, m_all1, m_all3, m_all2, m_all0]
    exact okm_some ⟨⟨h3, h4, h5, h6, fun x hx => h7 x (by
      have hx' : x < nb bs.length b := hx
      omega)⟩, h8, h9⟩
  | succ d ih =>
    intro k n σ hn hk h3 h4 h5 h6 h25 h7 h8 h9
    have bn := nb_le hb.1 hbs.1
    obtain ⟨n, rfl⟩ := pre_n hn
    have hk' : ¬ nb bs.length b ≤ k := by omega
    have hkb := nb_lt hb.1 (show k < nb bs.length b by omega)
    have hL := hbs.1
    have hin := bln_in hkb
    have hbl := bln_le bs.length b k
    have hbp := bln_pos hb.1 hkb
    have e1 := m_lengthOf (σ := σ) (k := k) hp h3 h5 (by omega) hL hb.2
    have e2 : f_X3_weakOf 25 (nq (k * b)) (nq (bln bs.length b k)) (nq m) σ = some (nq (sWk (b, m, bs) k), σ) := m_weakOf (f := gd bs) (gd_by hbs.2) (by omega) hm.1 hm.2 fun x hx => by
      rw [mR_25 (by omega), h25 _ (by omega)]
    have e3 : f_X3_lengthOf (nq p) (nq k) (wr σ 7 (120 * p + k) (nq (sWk (b, m, bs) k))) = some (nq (bln bs.length b k), wr σ 7 (120 * p + k) (nq (sWk (b, m, bs) k))) := m_lengthOf hp (by rw [wr_ne _ _ _ (by decide)]; exact h3) (by rw [wr_ne _ _ _ (by decide)]; exact h5) (by omega) hL hb.2
    have e4 : f_X3_strongOf 25 (nq (k * b)) (nq (bln bs.length b k)) (wr σ 7 (120 * p + k) (nq (sWk (b, m, bs) k))) = some (sSt (b, m, bs) k, wr σ 7 (120 * p + k) (nq (sWk (b, m, bs) k))) := m_strongOf (f := gd bs) (by omega) hbp fun x hx => by
      rw [mR_25 (by omega), wr_ne _ _ _ (by decide), h25 _ (by omega)]
    rw [l_X3_signs_43_s]
    simp (disch := omega) only [s_X3_signs_43, h6, hk', e1, e2, e3, e4, mR_1, mW_1, mR_2, mW_2, mR_3, mW_3, mR_4, mW_4, mR_5, mW_5, mR_6, mW_6, mR_7, mW_7, mR_9, mW_9, mR_10, mW_10, mR_11, mW_11, mR_12, mW_12, mR_13, mW_13, mR_14, mW_14, mR_15, mW_15, mR_17, mW_17, mR_18, mW_18, mR_19, mW_19, mR_20, mW_20, mR_21, mW_21, mR_25, mW_25, mR_27, mW_27, mR_31, mW_31, mR_32, mW_32, mR_33, mW_33, mR_34, mW_34, mRL_8, mWL_8, pb1, pb2, nq_lit, nq_add, nq_mul, nq_lt, nq_le, nq_eq, nq_lt0, nq10, nq00, Nat.one_ne_zero, Nat.reduceEqDiff, Nat.not_lt_zero, nq20, nq30, zb1, zb0, mP_i, mP_o, mP_2', wr_1, wr_ne, wr_i, reduceIte, m_may1, m_may0, m_both1, m_both2, m_both0, m_all1, m_all3, m_all2, m_all0]
    refine ih (k + 1) n _ (by omega) (by omega) ?_ ?_ ?_ ?_ (fun j hj => ?_) (fun x hx => ?_) (fun x hx => ?_) ((h9.wr (by decide)).wrL (by decide))
    · rw [wrL_2, wr_ne _ _ _ (by decide)]
      exact h3
    · rw [wrL_2, wr_ne _ _ _ (by decide)]
      exact h4
    · rw [wrL_2, wr_ne _ _ _ (by decide)]
      exact h5
    · rw [wrL_2, wr_ne _ _ _ (by decide)]
      exact h6
    · rw [wrL_2, wr_ne _ _ _ (by decide)]
      exact h25 j hj
    · rw [wrL_2, wr_at, wrL_at]
      by_cases q : x = k
      · rw [if_pos (by omega), if_pos (by omega), q]
        exact ⟨rfl, rfl⟩
      · rw [if_neg (by omega), if_neg (by omega)]
        exact h7 x (by omega)
    · rw [wrL_2, wr_at, wrL_at, if_neg (by omega), if_neg (by omega)]
      exact h8 x hx
/-- the bytes that were made are signed -/
theorem m_signs {σ : Sg} {p b m : Nat} {bs : List Nat} (hp : p < 5) (hb : 1 ≤ b ∧ b ≤ 7) (hm : 1 ≤ m ∧ m ≤ 4096) (hbs : FOk bs) (h : MB σ bs) : okm (f_X3_signs (nq p) (nq b) (nq m) σ) fun r => MSg r.2 p (b, m, bs) ∧
    (∀ p', p' < 5 → p' ≠ p → (r.2.2.1 3 p' = σ.2.1 3 p' ∧ r.2.2.1 6 p' = σ.2.1 6 p') ∧ ∀ s, s.2.2.length ≤ 120 → 1 ≤ s.1 → MSg σ p' s → MSg r.2 p' s) ∧ Sx σ r.2 [] [3, 4, 5, 6, 7, 8] := by
  have hL := hbs.1
  have hz : nz (nq b) = some () := nz_ok (by omega) (by omega)
  have bn := nb_le hb.1 hbs.1
  simp (disch := omega) only [f_X3_signs, h.1, hz, nq_sub, nq_div, mR_1, mW_1, mR_2, mW_2, mR_3, mW_3, mR_4, mW_4, mR_5, mW_5, mR_6, mW_6, mR_7, mW_7, mR_9, mW_9, mR_10, mW_10, mR_11, mW_11, mR_12, mW_12, mR_13, mW_13, mR_14, mW_14, mR_15, mW_15, mR_17, mW_17, mR_18, mW_18, mR_19, mW_19, mR_20, mW_20, mR_21, mW_21, mR_25, mW_25, mR_27, mW_27, mR_31, mW_31, mR_32, mW_32, mR_33, mW_33, mR_34, mW_34, mRL_8, mWL_8, pb1, pb2, nq_lit, nq_add, nq_mul, nq_lt, nq_le, nq_eq, nq_lt0, nq10, nq00, Nat.one_ne_zero, Nat.reduceEqDiff, Nat.not_lt_zero, nq20, nq30, zb1, zb0, mP_i, mP_o, mP_2', wr_1, wr_ne, wr_i, reduceIte, m_may1, m_may0, m_both1, m_both2, m_both0, m_all1, m_all3, m_all2, m_all0]
  have := m_signs_l (σ0 := wr (wr (wr (wr σ 3 p (nq b)) 4 p (nq m)) 5 p (nq bs.length)) 6 p (nq (nb bs.length b))) hp hb hm hbs (nb bs.length b) 0 FU (wr (wr (wr (wr σ 3 p (nq b)) 4 p (nq m)) 5 p (nq bs.length)) 6 p (nq (nb bs.length b))) (by unfold FU; omega) (by omega)
    (by rw [wr_ne _ _ _ (by decide), wr_ne _ _ _ (by decide), wr_ne _ _ _ (by decide), wr_i]) (by rw [wr_ne _ _ _ (by decide), wr_ne _ _ _ (by decide), wr_i]) (by rw [wr_ne _ _ _ (by decide), wr_i]) (by rw [wr_i])
    (fun j hj => by rw [wr_ne _ _ _ (by decide), wr_ne _ _ _ (by decide), wr_ne _ _ _ (by decide), wr_ne _ _ _ (by decide)]; exact h.2 j hj) (fun x hx => absurd hx (Nat.not_lt_zero x)) (fun _ _ => ⟨rfl, rfl⟩) (Sx.refl _ _ _)
  refine okm_mono this fun r hr => ?_
  obtain ⟨r1, r2, r3⟩ := hr
  have g3 : r.2.2.1 3 = (wr σ 3 p (nq b)).2.1 3 := by rw [r3.2.1 3 (by decide), wr_ne _ _ _ (by decide), wr_ne _ _ _ (by decide), wr_ne _ _ _ (by decide)]
  have g4 : r.2.2.1 4 = (wr σ 4 p (nq m)).2.1 4 := by
    rw [r3.2.1 4 (by decide), wr_ne _ _ _ (by decide), wr_ne _ _ _ (by decide)]
    funext j
    rw [wr_at, wr_at, wr_ne _ _ _ (by decide)]
  have g5 : r.2.2.1 5 = (wr σ 5 p (nq bs.length)).2.1 5 := by
    rw [r3.2.1 5 (by decide), wr_ne _ _ _ (by decide)]
    funext j
    rw [wr_at, wr_at, wr_ne _ _ _ (by decide), wr_ne _ _ _ (by decide)]
  have g6 : r.2.2.1 6 = (wr σ 6 p (nq (nb bs.length b))).2.1 6 := by
    rw [r3.2.1 6 (by decide)]
    funext j
    rw [wr_at, wr_at, wr_ne _ _ _ (by decide), wr_ne _ _ _ (by decide), wr_ne _ _ _ (by decide)]
  refine ⟨r1, fun p' hp' hne => ⟨⟨by rw [g3, wr_o _ _ hne], by rw [g6, wr_o _ _ hne]⟩, fun s hs hs1 hM => ?_⟩, (((((Sx.refl σ _ _).wr (by decide)).wr (by decide)).wr (by decide)).wr (by decide)).trans (r3.mono (by decide) (by decide))⟩
  obtain ⟨m1, m2, m3, m4, m5⟩ := hM
  refine ⟨by rw [g3, wr_o _ _ hne]; exact m1, by rw [g4, wr_o _ _ hne]; exact m2, by rw [g5, wr_o _ _ hne]; exact m3, by rw [g6, wr_o _ _ hne]; exact m4, fun k hk => ?_⟩
  have := nb_le hs1 hs
  obtain ⟨q1, q2⟩ := r2 (120 * p' + k) (by omega)
  rw [q1, q2, wr_ne _ _ _ (by decide), wr_ne _ _ _ (by decide), wr_ne _ _ _ (by decide), wr_ne _ _ _ (by decide)]
  exact m5 k hk
