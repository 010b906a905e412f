/-! PURE: the reference's comparing -/
set_option maxRecDepth 100000
theorem lg_cmp0 (x y : Int64) : lg_cmp x y = nq 0 ↔ x = y := by
  unfold lg_cmp
  by_cases h1 : x > y
  · rw [if_pos h1]
    constructor
    · intro h
      exact absurd h (by decide)
    · intro h
      rw [h] at h1
      exact absurd h1 Int64.lt_irrefl
  · rw [if_neg h1]
    by_cases h2 : x = y
    · rw [if_pos h2]
      exact ⟨fun _ => h2, fun _ => rfl⟩
    · rw [if_neg h2]
      exact ⟨fun h => absurd h (by decide), fun h => absurd h h2⟩
def oq (o : Option Nat) : Int32 := match o with
  | none => -(nq 1)
  | some k => nq k
def ob (o : Option Nat) : Prop := ∀ k, o = some k → k < 1000
theorem oq_m1 {o : Option Nat} (h : ob o) : oq o = -(nq 1) ↔ o = none := by
  cases o with
  | none => exact ⟨fun _ => rfl, fun _ => rfl⟩
  | some k =>
    have := h k rfl
    exact ⟨fun q => absurd q (fun q => (nq_m1 (by omega)).mp q), fun q => nomatch q⟩
theorem oq_eq {o : Option Nat} (h : ob o) {k : Nat} (hk : k < 1000) : nq k = oq o ↔ some k = o := by
  cases o with
  | none => exact ⟨fun q => absurd q (fun q => (nq_m1 (by omega)).mp q), fun q => nomatch q⟩
  | some j =>
    have := h j rfl
    show nq k = nq j ↔ _
    rw [nq_eq (by omega) (by omega)]
    exact ⟨fun q => by rw [q], fun q => Option.some.inj q⟩
theorem fnd_ob {sf ff : Nat → Nat} {sl b m p w : Nat} {bh : Option Nat} {n : Nat} : ∀ k, k ≤ n → ∀ j, (fnd sf ff sl b m p w bh k).1 = some j → j < n := by
  intro k
  induction k with
  | zero => intro hk j h; cases h
  | succ k ih =>
    intro hk j h
    unfold fnd at h
    split at h
    · dsimp only at h
      split at h
      · cases h
        omega
      · exact ih (by omega) j h
    · exact ih (by omega) j h
theorem vp_nar1 : vp_nar .boolean (nq 1) = nq 1 := rfl
theorem vp_nar0 : vp_nar .boolean (nq 0) = nq 0 := rfl
theorem m_cmp_in {σ : Sg} {rc : Int32 × Int32 × Int32 × Int32 × Int32 × Int32 × Int32 × Int32 → Sg → Option (Unit × Sg)} {x1 x3 x4 x5 x8 : Int32} {sp b m p w : Nat} {sb fb : List Nat} {bh : Option Nat} (hsp : sp < 5) (hb : 1 ≤ b ∧ b ≤ 7) (hm : 1 ≤ m ∧ m ≤ 4096) (hsb : FOk sb) (hfb : FOk fb) (hw : w ≤ 7) (hbh : ob bh) (hS : MSg σ sp (b, m, sb)) {E : Option (Unit × Sg)} (hE : ∀ rc2, s_X3_compares_172 rc rc2 x1 (nq sp) x3 x4 x5 (nq b) (oq bh) x8 (nq w) (nq (wk (gd fb) p w m)) (st64 (gd fb) w p) (oq (fnd (gd sb) (gd fb) sb.length b m p w bh (nb sb.length b)).1) (bq (fnd (gd sb) (gd fb) sb.length b m p w bh (nb sb.length b)).2) (nq (nb sb.length b)) σ = E) : ∀ (d k n : Nat), d < n → k + d = nb sb.length b →
    l_X3_compares_172 rc n (x1, nq sp, x3, x4, x5, nq b, oq bh, x8, nq w, nq (wk (gd fb) p w m), st64 (gd fb) w p, oq (fnd (gd sb) (gd fb) sb.length b m p w bh k).1, bq (fnd (gd sb) (gd fb) sb.length b m p w bh k).2, nq k) σ = E := by
  intro d
  induction d with
  | zero =>
    intro k n hn hk
    obtain ⟨n, rfl⟩ := pre_n hn
    have e : k = nb sb.length b := by omega
    rw [l_X3_compares_172_s, e]
    exact hE _
  | succ d ih =>
    intro k n hn hk
    obtain ⟨n, rfl⟩ := pre_n hn
    have bn := nb_le hb.1 hsb.1
    have hk1 : k < nb sb.length b := by omega
    have hk' : ¬ nb sb.length b ≤ k := by omega
    have hkb := nb_lt hb.1 hk1
    have hL := hsb.1
    obtain ⟨m1, m2, m3, m4, m5⟩ := hS
    have m1 : σ.2.1 3 sp = nq b := m1
    have m3 : σ.2.1 5 sp = nq sb.length := m3
    have m4 : σ.2.1 6 sp = nq (nb sb.length b) := m4
    obtain ⟨g1, g2⟩ := m5 k hk1
    have e1 := m_lengthOf (σ := σ) (k := k) hsp m1 m3 (by omega) hL hb.2
    have hbl := bln_le sb.length b k
    have wb1 := wk_lt (f := gd sb) (k * b) (bln sb.length b k) hm.1 hm.2
    have wb2 := wk_lt (f := gd fb) p w hm.1 hm.2
    have ho : ob (fnd (gd sb) (gd fb) sb.length b m p w bh k).1 := fun j hj => by
      have := fnd_ob (n := nb sb.length b) k (by omega) j hj
      omega
    have key : fnd (gd sb) (gd fb) sb.length b m p w bh (k + 1) = if hit (gd sb) (gd fb) sb.length b m p w k = true then (if hitS (gd sb) (gd fb) p w b k = true ∧ ((fnd (gd sb) (gd fb) sb.length b m p w bh k).1 = none ∨ some k = bh) then some k else (fnd (gd sb) (gd fb) sb.length b m p w bh k).1, true) else fnd (gd sb) (gd fb) sb.length b m p w bh k := rfl
    have ih' := ih (k + 1) n (by omega) (by omega)
    clear hE
    rw [l_X3_compares_172_s]
    by_cases c1 : bln sb.length b k = w
    · have g1' : σ.2.1 7 (120 * sp + k) = nq (wk (gd sb) (k * b) w m) := by
        rw [g1]
        unfold sWk
        dsimp only
        rw [c1]
      have g2' : σ.2.2 8 (120 * sp + k) = st64 (gd sb) w (k * b) := by
        rw [g2]
        unfold sSt
        dsimp only
        rw [c1]
      by_cases c2 : wk (gd sb) (k * b) w m = wk (gd fb) p w m
      · have hh : hit (gd sb) (gd fb) sb.length b m p w k = true := decide_eq_true ⟨c1, c2⟩
        rw [hh, if_pos rfl] at key
        by_cases c3 : st64 (gd sb) w (k * b) = st64 (gd fb) w p
        · have hs : hitS (gd sb) (gd fb) p w b k = true := decide_eq_true c3
          by_cases c4 : (fnd (gd sb) (gd fb) sb.length b m p w bh k).1 = none
          · rw [if_pos ⟨hs, Or.inl c4⟩] at key
            rw [key] at ih'
            have q := (oq_m1 ho).mpr c4
            generalize hfo : (fnd (gd sb) (gd fb) sb.length b m p w bh k).1 = fo at *
            simp (disch := omega) only [s_X3_compares_172, s_X3_compares_235, s_X3_compares_258, s_X3_compares_265, s_X3_compares_267, m4, hk', e1, c1, g1', c2, mRL_8, g2', (lg_cmp0 _ _).mpr c3, q, mR_1, mW_1, mR_2, mW_2, mR_3, mW_3, mR_4, mW_4, mR_5, mW_5, mR_6, mW_6, mR_7, mW_7, mR_9, mW_9, mR_10, mW_10, mR_11, mW_11, mR_12, mW_12, mR_13, mW_13, mR_14, mW_14, mR_15, mW_15, mR_17, mW_17, mR_18, mW_18, mR_19, mW_19, mR_20, mW_20, mR_21, mW_21, mR_25, mW_25, mR_27, mW_27, mR_31, mW_31, mR_32, mW_32, mR_33, mW_33, mR_34, mW_34, mRL_8, mWL_8, pb1, pb2, nq_lit, nq_add, nq_mul, nq_lt, nq_le, nq_eq, nq_lt0, nq10, nq00, Nat.one_ne_zero, Nat.reduceEqDiff, Nat.not_lt_zero, nq20, nq30, zb1, zb0, eq_self, mP_i, mP_o, mP_2', wr_1, wr_ne, wr_i, reduceIte, m_may1, m_may0, m_both1, m_both2, m_both0, m_all1, m_all3, m_all2, m_all0]
            exact ih'
          · have q : ¬ oq (fnd (gd sb) (gd fb) sb.length b m p w bh k).1 = -(nq 1) := fun q => c4 ((oq_m1 ho).mp q)
            by_cases c5 : some k = bh
            · rw [if_pos ⟨hs, Or.inr c5⟩] at key
              rw [key] at ih'
              have q2 : nq k = oq bh := (oq_eq hbh (by omega)).mpr c5
              simp (disch := omega) only [s_X3_compares_172, s_X3_compares_235, s_X3_compares_258, s_X3_compares_265, s_X3_compares_267, m4, hk', e1, c1, g1', c2, mRL_8, g2', (lg_cmp0 _ _).mpr c3, q, ← q2, mR_1, mW_1, mR_2, mW_2, mR_3, mW_3, mR_4, mW_4, mR_5, mW_5, mR_6, mW_6, mR_7, mW_7, mR_9, mW_9, mR_10, mW_10, mR_11, mW_11, mR_12, mW_12, mR_13, mW_13, mR_14, mW_14, mR_15, mW_15, mR_17, mW_17, mR_18, mW_18, mR_19, mW_19, mR_20, mW_20, mR_21, mW_21, mR_25, mW_25, mR_27, mW_27, mR_31, mW_31, mR_32, mW_32, mR_33, mW_33, mR_34, mW_34, mRL_8, mWL_8, pb1, pb2, nq_lit, nq_add, nq_mul, nq_lt, nq_le, nq_eq, nq_lt0, nq10, nq00, Nat.one_ne_zero, Nat.reduceEqDiff, Nat.not_lt_zero, nq20, nq30, zb1, zb0, eq_self, mP_i, mP_o, mP_2', wr_1, wr_ne, wr_i, reduceIte, m_may1, m_may0, m_both1, m_both2, m_both0, m_all1, m_all3, m_all2, m_all0]
              rw [q2]
              rw [show oq ((some k, true) : Option Nat × Bool).1 = oq bh from q2] at ih'
              exact ih'
            · rw [if_neg (fun r => r.2.elim c4 c5)] at key
              rw [key] at ih'
              have q2 : ¬ nq k = oq bh := fun q => c5 ((oq_eq hbh (by omega)).mp q)
              simp (disch := omega) only [s_X3_compares_172, s_X3_compares_235, s_X3_compares_263, s_X3_compares_265, s_X3_compares_267, m4, hk', e1, c1, g1', c2, mRL_8, g2', (lg_cmp0 _ _).mpr c3, q, q2, mR_1, mW_1, mR_2, mW_2, mR_3, mW_3, mR_4, mW_4, mR_5, mW_5, mR_6, mW_6, mR_7, mW_7, mR_9, mW_9, mR_10, mW_10, mR_11, mW_11, mR_12, mW_12, mR_13, mW_13, mR_14, mW_14, mR_15, mW_15, mR_17, mW_17, mR_18, mW_18, mR_19, mW_19, mR_20, mW_20, mR_21, mW_21, mR_25, mW_25, mR_27, mW_27, mR_31, mW_31, mR_32, mW_32, mR_33, mW_33, mR_34, mW_34, mRL_8, mWL_8, pb1, pb2, nq_lit, nq_add, nq_mul, nq_lt, nq_le, nq_eq, nq_lt0, nq10, nq00, Nat.one_ne_zero, Nat.reduceEqDiff, Nat.not_lt_zero, nq20, nq30, zb1, zb0, eq_self, mP_i, mP_o, mP_2', wr_1, wr_ne, wr_i, reduceIte, m_may1, m_may0, m_both1, m_both2, m_both0, m_all1, m_all3, m_all2, m_all0]
              exact ih'
        · have hs : ¬ hitS (gd sb) (gd fb) p w b k = true := fun q => c3 (of_decide_eq_true q)
          rw [if_neg (fun r => hs r.1)] at key
          rw [key] at ih'
          have c3' : ¬ lg_cmp (st64 (gd sb) w (k * b)) (st64 (gd fb) w p) = nq 0 := fun q => c3 ((lg_cmp0 _ _).mp q)
          simp (disch := omega) only [s_X3_compares_172, s_X3_compares_235, s_X3_compares_263, s_X3_compares_265, s_X3_compares_267, m4, hk', e1, c1, g1', c2, mRL_8, g2', c3', mR_1, mW_1, mR_2, mW_2, mR_3, mW_3, mR_4, mW_4, mR_5, mW_5, mR_6, mW_6, mR_7, mW_7, mR_9, mW_9, mR_10, mW_10, mR_11, mW_11, mR_12, mW_12, mR_13, mW_13, mR_14, mW_14, mR_15, mW_15, mR_17, mW_17, mR_18, mW_18, mR_19, mW_19, mR_20, mW_20, mR_21, mW_21, mR_25, mW_25, mR_27, mW_27, mR_31, mW_31, mR_32, mW_32, mR_33, mW_33, mR_34, mW_34, mRL_8, mWL_8, pb1, pb2, nq_lit, nq_add, nq_mul, nq_lt, nq_le, nq_eq, nq_lt0, nq10, nq00, Nat.one_ne_zero, Nat.reduceEqDiff, Nat.not_lt_zero, nq20, nq30, zb1, zb0, eq_self, mP_i, mP_o, mP_2', wr_1, wr_ne, wr_i, reduceIte, m_may1, m_may0, m_both1, m_both2, m_both0, m_all1, m_all3, m_all2, m_all0]
          exact ih'
      · have hh : ¬ hit (gd sb) (gd fb) sb.length b m p w k = true := fun q => c2 (of_decide_eq_true q).2
        rw [if_neg hh] at key
        rw [key] at ih'
        rw [c1] at wb1
        simp (disch := omega) only [s_X3_compares_172, s_X3_compares_267, m4, hk', e1, c1, g1', c2, mR_1, mW_1, mR_2, mW_2, mR_3, mW_3, mR_4, mW_4, mR_5, mW_5, mR_6, mW_6, mR_7, mW_7, mR_9, mW_9, mR_10, mW_10, mR_11, mW_11, mR_12, mW_12, mR_13, mW_13, mR_14, mW_14, mR_15, mW_15, mR_17, mW_17, mR_18, mW_18, mR_19, mW_19, mR_20, mW_20, mR_21, mW_21, mR_25, mW_25, mR_27, mW_27, mR_31, mW_31, mR_32, mW_32, mR_33, mW_33, mR_34, mW_34, mRL_8, mWL_8, pb1, pb2, nq_lit, nq_add, nq_mul, nq_lt, nq_le, nq_eq, nq_lt0, nq10, nq00, Nat.one_ne_zero, Nat.reduceEqDiff, Nat.not_lt_zero, nq20, nq30, zb1, zb0, eq_self, mP_i, mP_o, mP_2', wr_1, wr_ne, wr_i, reduceIte, m_may1, m_may0, m_both1, m_both2, m_both0, m_all1, m_all3, m_all2, m_all0]
        exact ih'
    · have hh : ¬ hit (gd sb) (gd fb) sb.length b m p w k = true := fun q => c1 (of_decide_eq_true q).1
      rw [if_neg hh] at key
      rw [key] at ih'
      simp (disch := omega) only [s_X3_compares_172, s_X3_compares_267, m4, hk', e1, c1, mR_1, mW_1, mR_2, mW_2, mR_3, mW_3, mR_4, mW_4, mR_5, mW_5, mR_6, mW_6, mR_7, mW_7, mR_9, mW_9, mR_10, mW_10, mR_11, mW_11, mR_12, mW_12, mR_13, mW_13, mR_14, mW_14, mR_15, mW_15, mR_17, mW_17, mR_18, mW_18, mR_19, mW_19, mR_20, mW_20, mR_21, mW_21, mR_25, mW_25, mR_27, mW_27, mR_31, mW_31, mR_32, mW_32, mR_33, mW_33, mR_34, mW_34, mRL_8, mWL_8, pb1, pb2, nq_lit, nq_add, nq_mul, nq_lt, nq_le, nq_eq, nq_lt0, nq10, nq00, Nat.one_ne_zero, Nat.reduceEqDiff, Nat.not_lt_zero, nq20, nq30, zb1, zb0, eq_self, mP_i, mP_o, mP_2', wr_1, wr_ne, wr_i, reduceIte, m_may1, m_may0, m_both1, m_both2, m_both0, m_all1, m_all3, m_all2, m_all0]
      exact ih'
/-! ### one delta is written -/
def DO (σ0 σ : Sg) (d : Nat) : Prop := (∀ d', d' ≠ d → ∀ a, a ∈ [9, 10, 11] → σ.2.1 a d' = σ0.2.1 a d') ∧ ∀ x, (x < 120 * d ∨ 120 * d + 120 ≤ x) → ∀ a, a ∈ [12, 13, 14, 15] → σ.2.1 a x = σ0.2.1 a x
theorem DO.refl (σ : Sg) (d : Nat) : DO σ σ d := ⟨fun _ _ _ _ => rfl, fun _ _ _ _ => rfl⟩
theorem DO.wr1 {σ0 σ : Sg} {d a : Nat} {v : Int32} (h : DO σ0 σ d) (ha : a ∉ [12, 13, 14, 15]) : DO σ0 (wr σ a d v) d := by
  refine ⟨fun d' hd a' ha' => ?_, fun x hx a' ha' => ?_⟩
  · by_cases q : a' = a
    · rw [q, wr_o _ _ hd, ← q]
      exact h.1 d' hd a' ha'
    · rw [wr_ne _ _ _ q]
      exact h.1 d' hd a' ha'
  · rw [wr_ne _ _ _ (fun q => ha (by rw [← q]; exact ha'))]
    exact h.2 x hx a' ha'
theorem DO.wr2 {σ0 σ : Sg} {d a i : Nat} {v : Int32} (h : DO σ0 σ d) (ha : a ∉ [9, 10, 11]) (hi : 120 * d ≤ i ∧ i < 120 * d + 120) : DO σ0 (wr σ a i v) d := by
  refine ⟨fun d' hd a' ha' => ?_, fun x hx a' ha' => ?_⟩
  · rw [wr_ne _ _ _ (fun q => ha (by rw [← q]; exact ha'))]
    exact h.1 d' hd a' ha'
  · by_cases q : a' = a
    · rw [q, wr_o _ _ (by omega), ← q]
      exact h.2 x hx a' ha'
    · rw [wr_ne _ _ _ q]
      exact h.2 x hx a' ha'
theorem MDl_other {σ σ' : Sg} {d p : Nat} {D : Dl} (h : MDl σ p D) (k : DO σ σ' d) (hp : p ≠ d) (h1 : D.2.1.length ≤ 120) (h2 : D.2.2.length ≤ 120) : MDl σ' p D := by
  obtain ⟨a1, a2, a3, a4, a5⟩ := h
  obtain ⟨b1, b2⟩ := k
  refine ⟨by rw [b1 p hp 9 (by decide)]; exact a1, by rw [b1 p hp 10 (by decide)]; exact a2, by rw [b1 p hp 11 (by decide)]; exact a3, fun k hk => ?_, fun j hj => ?_⟩
  · rw [b2 (120 * p + k) (by omega) 12 (by decide), b2 (120 * p + k) (by omega) 13 (by decide), b2 (120 * p + k) (by omega) 14 (by decide)]
    exact a4 k hk
  · rw [b2 (120 * p + j) (by omega) 15 (by decide)]
    exact a5 j hj
/-- the instructions of a delta -/
def MIs (σ : Sg) (d : Nat) (is : List In) : Prop := σ.2.1 10 d = nq is.length ∧ ∀ k, k < is.length → σ.2.1 12 (120 * d + k) = bq (is.getD k i0).1 ∧ σ.2.1 13 (120 * d + k) = nq (is.getD k i0).2.1 ∧ σ.2.1 14 (120 * d + k) = nq (is.getD k i0).2.2
theorem gI_app (is : List In) (i : In) (k : Nat) (hk : k < is.length + 1) : (is ++ [i]).getD k i0 = if k = is.length then i else is.getD k i0 := by
  rw [List.getD_eq_getElem?_getD, List.getD_eq_getElem?_getD]
  by_cases h : k = is.length
  · rw [if_pos h, h, List.getElem?_append_right (Nat.le_refl _), Nat.sub_self]
    rfl
  · rw [if_neg h, List.getElem?_append_left (by omega)]
theorem gI_set (is : List In) (i : In) {n : Nat} (hn : n < is.length) (k : Nat) : (is.set n i).getD k i0 = if k = n then i else is.getD k i0 := by
  rw [List.getD_eq_getElem?_getD, List.getD_eq_getElem?_getD]
  by_cases h : k = n
  · rw [if_pos h, h, List.getElem?_set_self hn]
    rfl
  · rw [if_neg h, List.getElem?_set_ne (Ne.symm h)]
/-- a new instruction -/
theorem m_begins {σ0 σ : Sg} {d fr ct : Nat} {c : Bool} {is : List In} (hd : d < 24) (hn : is.length < 120) (h : MIs σ d is) (k : DO σ0 σ d) (s : Sx σ0 σ [] [9, 10, 11, 12, 13, 14, 15]) : okm (f_X3_begins (nq d) (bq c) (nq fr) (nq ct) σ) fun r => MIs r.2 d (is ++ [(c, fr, ct)]) ∧ DO σ0 r.2 d ∧ Sx σ0 r.2 [] [9, 10, 11, 12, 13, 14, 15] ∧ r.2.2.1 11 = σ.2.1 11 ∧ r.2.2.1 9 = σ.2.1 9 ∧ r.2.2.1 15 = σ.2.1 15 := by
  obtain ⟨h1, h2⟩ := h
  have hv : vp_nar .boolean (bq c) = bq c := by cases c <;> rfl
  simp (disch := omega) only [f_X3_begins, h1, hv, mR_1, mW_1, mR_2, mW_2, mR_3, mW_3, mR_4, mW_4, mR_5, mW_5, mR_6, mW_6, mR_7, mW_7, mR_9, mW_9, mR_10, mW_10, mR_11, mW_11, mR_12, mW_12, mR_13, mW_13, mR_14, mW_14, mR_15, mW_15, mR_17, mW_17, mR_18, mW_18, mR_19, mW_19, mR_20, mW_20, mR_21, mW_21, mR_25, mW_25, mR_27, mW_27, mR_31, mW_31, mR_32, mW_32, mR_33, mW_33, mR_34, mW_34, mRL_8, mWL_8, pb1, pb2, nq_lit, nq_add, nq_mul, nq_lt, nq_le, nq_eq, nq_lt0, nq10, nq00, Nat.one_ne_zero, Nat.reduceEqDiff, Nat.not_lt_zero, nq20, nq30, zb1, zb0, eq_self, mP_i, mP_o, mP_2', wr_1, wr_ne, wr_i, reduceIte, m_may1, m_may0, m_both1, m_both2, m_both0, m_all1, m_all3, m_all2, m_all0]
  refine okm_some ⟨⟨?_, fun j hj => ?_⟩, ((((k.wr2 (by decide) (by omega)).wr2 (by decide) (by omega)).wr2 (by decide) (by omega)).wr1 (by decide)), ((((s.wr (by decide)).wr (by decide)).wr (by decide)).wr (by decide)), ?_, ?_, ?_⟩
  · rw [wr_i, List.length_append]
    rfl
  · rw [List.length_append, List.length_singleton] at hj
    rw [gI_app _ _ _ hj]
    simp (disch := omega) only [wr_ne, wr_at]
    by_cases q : j = is.length
    · rw [if_pos q, if_pos (by omega), if_pos (by omega), if_pos (by omega)]
      exact ⟨rfl, rfl, rfl⟩
    · rw [if_neg q, if_neg (by omega), if_neg (by omega), if_neg (by omega)]
      exact h2 j (by omega)
  · rw [wr_ne _ _ _ (by decide), wr_ne _ _ _ (by decide), wr_ne _ _ _ (by decide), wr_ne _ _ _ (by decide)]
  · rw [wr_ne _ _ _ (by decide), wr_ne _ _ _ (by decide), wr_ne _ _ _ (by decide), wr_ne _ _ _ (by decide)]
  · rw [wr_ne _ _ _ (by decide), wr_ne _ _ _ (by decide), wr_ne _ _ _ (by decide), wr_ne _ _ _ (by decide)]
/-- the last one grows -/
theorem m_ext {σ : Sg} {d w : Nat} {is : List In} (hn : 0 < is.length) (h : MIs σ d is) : σ.2.1 14 (120 * d + is.length - 1) = nq (lsI is).2.2 ∧ MIs (wr σ 14 (120 * d + is.length - 1) (nq ((lsI is).2.2 + w))) d (ext is w) := by
  obtain ⟨h1, h2⟩ := h
  have e : 120 * d + is.length - 1 = 120 * d + (is.length - 1) := by omega
  rw [e]
  refine ⟨(h2 (is.length - 1) (by omega)).2.2, ?_, fun j hj => ?_⟩
  · rw [wr_ne _ _ _ (by decide), ext, List.length_set]
    exact h1
  · rw [ext, List.length_set] at hj
    rw [ext, gI_set _ _ (by omega), wr_ne _ _ _ (by decide), wr_ne _ _ _ (by decide), wr_at]
    obtain ⟨q1, q2, q3⟩ := h2 j hj
    by_cases q : j = is.length - 1
    · rw [if_pos q, if_pos (by omega), q1, q2, q]
      exact ⟨rfl, rfl, rfl⟩
    · rw [if_neg q, if_neg (by omega)]
      exact ⟨q1, q2, q3⟩
