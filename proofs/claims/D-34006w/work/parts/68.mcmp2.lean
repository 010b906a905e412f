/-! PURE: the reference's comparing, the loop over the file -/
set_option maxRecDepth 100000
theorem wnd_ok {b len p : Nat} (hb : 1 ≤ b ∧ b ≤ 7) (h : p < len) : 1 ≤ wnd b len p ∧ wnd b len p ≤ 7 ∧ p + wnd b len p ≤ len := by
  unfold wnd
  split <;> omega
theorem cmpG_s (b m : Nat) (sb fb : List Nat) (n p : Nat) (bh : Option Nat) (al : Nat) (is : List In) : cmpG b m sb fb (n + 1) p bh al is = if fb.length ≤ p then (al, is)
    else match (fnd (gd sb) (gd fb) sb.length b m p (wnd b fb.length p) bh (nb sb.length b)) with
      | (some k, _) => cmpG b m sb fb n (p + wnd b fb.length p) (some (k + 1)) al (if some k = bh then ext is (wnd b fb.length p) else is ++ [(true, k * b, wnd b fb.length p)])
      | (none, x) => cmpG b m sb fb n (p + 1) none (if x = true then al + 1 else al) (if lit is = true then ext is 1 else is ++ [(false, p, 1)]) := rfl
theorem ext_len (is : List In) (w : Nat) : (ext is w).length = is.length := List.length_set
theorem bq_0 (c : Bool) (h : ¬ c = true) : bq c = nq 0 := by cases c with
  | false => rfl
  | true => exact absurd rfl h
theorem m_lsI {σ : Sg} {d : Nat} {is : List In} (hn : 0 < is.length) (h : MIs σ d is) : σ.2.1 12 (120 * d + is.length - 1) = bq (lsI is).1 := by
  have := (h.2 (is.length - 1) (by omega)).1
  rw [show 120 * d + is.length - 1 = 120 * d + (is.length - 1) by omega]
  exact this
abbrev J9 : List Nat := [9, 10, 11, 12, 13, 14, 15]
theorem m_cmp_out {σ0 : Sg} {d sp f b m : Nat} {sb fb : List Nat} (hd : d < 24) (hsp : sp < 5) (hf : f < 6) (hb : 1 ≤ b ∧ b ≤ 7) (hm : 1 ≤ m ∧ m ≤ 4096) (hsb : FOk sb) (hfb : FOk fb) (hS0 : MSg σ0 sp (b, m, sb)) (hl0 : σ0.2.1 1 f = nq fb.length) (hr0 : ∀ x, x < fb.length → σ0.2.1 2 (120 * f + x) = nq (gd fb x)) :
    ∀ (N p n : Nat) (bh : Option Nat) (al : Nat) (is : List In) (σ : Sg), N < n → fb.length ≤ p + N → p ≤ fb.length → is.length ≤ p → (∀ j, bh = some j → 0 < is.length ∧ j < 1000) → MIs σ d is → σ.2.1 11 d = nq al → DO σ0 σ d → Sx σ0 σ [] J9 →
    okm (l_X3_compares_87 n (nq d, nq sp, nq f, nq (120 * d), nq (120 * f), nq b, oq bh, nq p) σ) fun r => MIs r.2 d (cmpG b m sb fb N p bh al is).2 ∧ r.2.2.1 11 d = nq (cmpG b m sb fb N p bh al is).1 ∧ DO σ0 r.2 d ∧ Sx σ0 r.2 [] J9 ∧ r.2.2.1 9 = σ.2.1 9 ∧ r.2.2.1 15 = σ.2.1 15 := by
  have hL := hfb.1
  have hex : ∀ (p n : Nat) (bh : Option Nat) (al : Nat) (is : List In) (σ : Sg), fb.length ≤ p → p < 1000 → MIs σ d is → σ.2.1 11 d = nq al → DO σ0 σ d → Sx σ0 σ [] J9 → okm (l_X3_compares_87 (n + 1) (nq d, nq sp, nq f, nq (120 * d), nq (120 * f), nq b, oq bh, nq p) σ) fun r => MIs r.2 d is ∧ r.2.2.1 11 d = nq al ∧ DO σ0 r.2 d ∧ Sx σ0 r.2 [] J9 ∧ r.2.2.1 9 = σ.2.1 9 ∧ r.2.2.1 15 = σ.2.1 15 := fun p n bh al is σ hp hp2 h1 h2 h3 h4 => by
    have hl : σ.2.1 1 f = nq fb.length := by rw [h4.2.1 1 (by decide)]; exact hl0
    rw [l_X3_compares_87_s]
    simp (disch := omega) only [s_X3_compares_87, hl, hp, mR_1, mW_1, mR_2, mW_2, mR_3, mW_3, mR_4, mW_4, mR_5, mW_5, mR_6, mW_6, mR_7, mW_7, mR_9, mW_9, mR_10, mW_10, mR_11, mW_11, mR_12, mW_12, mR_13, mW_13, mR_14, mW_14, mR_15, mW_15, mR_17, mW_17, mR_18, mW_18, mR_19, mW_19, mR_20, mW_20, mR_21, mW_21, mR_25, mW_25, mR_27, mW_27, mR_31, mW_31, mR_32, mW_32, mR_33, mW_33, mR_34, mW_34, mRL_8, mWL_8, pb1, pb2, nq_lit, nq_add, nq_mul, nq_lt, nq_le, nq_eq, nq_lt0, nq10, nq00, Nat.one_ne_zero, Nat.reduceEqDiff, Nat.not_lt_zero, nq20, nq30, zb1, zb0, eq_self, mP_i, mP_o, mP_2', wr_1, wr_ne, wr_i, reduceIte, m_may1, m_may0, m_both1, m_both2, m_both0, m_all1, m_all3, m_all2, m_all0]
    exact okm_some ⟨h1, h2, h3, h4, rfl, rfl⟩
  intro N
  induction N with
  | zero =>
    intro p n bh al is σ hn hp hpl his hbh hI hal hD hX
    obtain ⟨n, rfl⟩ := pre_n hn
    exact hex p n bh al is σ (by omega) (by omega) hI hal hD hX
  | succ N ih =>
    intro p n bh al is σ hn hp hpl his hbh hI hal hD hX
    obtain ⟨n, rfl⟩ := pre_n hn
    rw [cmpG_s]
    by_cases c : fb.length ≤ p
    · rw [if_pos c]
      exact hex p n bh al is σ (by omega) (by omega) hI hal hD hX
    · rw [if_neg c]
      have hl : σ.2.1 1 f = nq fb.length := by rw [hX.2.1 1 (by decide)]; exact hl0
      have hr : ∀ x, x < fb.length → σ.2.1 2 (120 * f + x) = nq (gd fb x) := fun x hx => by rw [hX.2.1 2 (by decide)]; exact hr0 x hx
      have hS : MSg σ sp (b, m, sb) := hS0.same hX (by decide) (by decide) (by decide) (by decide) (by decide) (by decide)
      have m2 : σ.2.1 4 sp = nq m := hS.2.1
      have m4 : σ.2.1 6 sp = nq (nb sb.length b) := hS.2.2.2.1
      have bn := nb_le hb.1 hsb.1
      obtain ⟨w1, w2, w3⟩ := wnd_ok hb (show p < fb.length by omega)
      have e1 : f_X3_weakOf 2 (nq (120 * f + p)) (nq (wnd b fb.length p)) (nq m) σ = some (nq (wk (gd fb) p (wnd b fb.length p) m), σ) := m_weakOf (gd_by hfb.2) w2 hm.1 hm.2 fun x hx => by
        rw [mR_2 (by omega), Nat.add_assoc, hr (p + x) (by omega)]
      have e2 : f_X3_strongOf 2 (nq (120 * f + p)) (nq (wnd b fb.length p)) σ = some (st64 (gd fb) (wnd b fb.length p) p, σ) := m_strongOf w2 w1 fun x hx => by
        rw [mR_2 (by omega), Nat.add_assoc, hr (p + x) (by omega)]
      have hob : ob bh := fun j hj => (hbh j hj).2
      have e3 : l_X3_compares_87 (n + 1) (nq d, nq sp, nq f, nq (120 * d), nq (120 * f), nq b, oq bh, nq p) σ = l_X3_compares_172 (l_X3_compares_87 n) FU (nq d, nq sp, nq f, nq (120 * d), nq (120 * f), nq b, oq bh, nq p, nq (wnd b fb.length p), nq (wk (gd fb) p (wnd b fb.length p) m), st64 (gd fb) (wnd b fb.length p) p, -(nq 1), nq 0, nq 0) σ := by
        rw [l_X3_compares_87_s]
        by_cases c2 : b ≤ fb.length - p
        · have c2' : ¬ fb.length - p < b := by omega
          have ew : wnd b fb.length p = b := if_pos c2
          rw [ew] at e1 e2 ⊢
          simp (disch := omega) only [s_X3_compares_87, s_X3_compares_123, hl, c, c2', nq_sub, m2, e1, e2, mR_1, mW_1, mR_2, mW_2, mR_3, mW_3, mR_4, mW_4, mR_5, mW_5, mR_6, mW_6, mR_7, mW_7, mR_9, mW_9, mR_10, mW_10, mR_11, mW_11, mR_12, mW_12, mR_13, mW_13, mR_14, mW_14, mR_15, mW_15, mR_17, mW_17, mR_18, mW_18, mR_19, mW_19, mR_20, mW_20, mR_21, mW_21, mR_25, mW_25, mR_27, mW_27, mR_31, mW_31, mR_32, mW_32, mR_33, mW_33, mR_34, mW_34, mRL_8, mWL_8, pb1, pb2, nq_lit, nq_add, nq_mul, nq_lt, nq_le, nq_eq, nq_lt0, nq10, nq00, Nat.one_ne_zero, Nat.reduceEqDiff, Nat.not_lt_zero, nq20, nq30, zb1, zb0, eq_self, mP_i, mP_o, mP_2', wr_1, wr_ne, wr_i, reduceIte, m_may1, m_may0, m_both1, m_both2, m_both0, m_all1, m_all3, m_all2, m_all0]
        · have c2' : fb.length - p < b := by omega
          have ew : wnd b fb.length p = fb.length - p := if_neg c2
          rw [ew] at e1 e2 ⊢
          simp (disch := omega) only [s_X3_compares_87, s_X3_compares_123, hl, c, c2', nq_sub, m2, e1, e2, mR_1, mW_1, mR_2, mW_2, mR_3, mW_3, mR_4, mW_4, mR_5, mW_5, mR_6, mW_6, mR_7, mW_7, mR_9, mW_9, mR_10, mW_10, mR_11, mW_11, mR_12, mW_12, mR_13, mW_13, mR_14, mW_14, mR_15, mW_15, mR_17, mW_17, mR_18, mW_18, mR_19, mW_19, mR_20, mW_20, mR_21, mW_21, mR_25, mW_25, mR_27, mW_27, mR_31, mW_31, mR_32, mW_32, mR_33, mW_33, mR_34, mW_34, mRL_8, mWL_8, pb1, pb2, nq_lit, nq_add, nq_mul, nq_lt, nq_le, nq_eq, nq_lt0, nq10, nq00, Nat.one_ne_zero, Nat.reduceEqDiff, Nat.not_lt_zero, nq20, nq30, zb1, zb0, eq_self, mP_i, mP_o, mP_2', wr_1, wr_ne, wr_i, reduceIte, m_may1, m_may0, m_both1, m_both2, m_both0, m_all1, m_all3, m_all2, m_all0]
      have e4 := m_cmp_in (σ := σ) (rc := l_X3_compares_87 n) (x1 := nq d) (x3 := nq f) (x4 := nq (120 * d)) (x5 := nq (120 * f)) (x8 := nq p) (p := p) (w := wnd b fb.length p) (bh := bh) hsp hb hm hsb hfb w2 hob hS (E := s_X3_compares_172 (l_X3_compares_87 n) (fun _ _ => none) (nq d) (nq sp) (nq f) (nq (120 * d)) (nq (120 * f)) (nq b) (oq bh) (nq p) (nq (wnd b fb.length p)) (nq (wk (gd fb) p (wnd b fb.length p) m)) (st64 (gd fb) (wnd b fb.length p) p) (oq (fnd (gd sb) (gd fb) sb.length b m p (wnd b fb.length p) bh (nb sb.length b)).1) (bq (fnd (gd sb) (gd fb) sb.length b m p (wnd b fb.length p) bh (nb sb.length b)).2) (nq (nb sb.length b)) σ)
        (fun rc2 => by simp (disch := omega) only [s_X3_compares_172, m4, Nat.le_refl, mR_1, mW_1, mR_2, mW_2, mR_3, mW_3, mR_4, mW_4, mR_5, mW_5, mR_6, mW_6, mR_7, mW_7, mR_9, mW_9, mR_10, mW_10, mR_11, mW_11, mR_12, mW_12, mR_13, mW_13, mR_14, mW_14, mR_15, mW_15, mR_17, mW_17, mR_18, mW_18, mR_19, mW_19, mR_20, mW_20, mR_21, mW_21, mR_25, mW_25, mR_27, mW_27, mR_31, mW_31, mR_32, mW_32, mR_33, mW_33, mR_34, mW_34, mRL_8, mWL_8, pb1, pb2, nq_lit, nq_add, nq_mul, nq_lt, nq_le, nq_eq, nq_lt0, nq10, nq00, Nat.one_ne_zero, Nat.reduceEqDiff, Nat.not_lt_zero, nq20, nq30, zb1, zb0, eq_self, mP_i, mP_o, mP_2', wr_1, wr_ne, wr_i, reduceIte, m_may1, m_may0, m_both1, m_both2, m_both0, m_all1, m_all3, m_all2, m_all0]) (nb sb.length b) 0 FU (by unfold FU; omega) (by omega)
      rw [e3]
      refine okm_eq e4 ?_
      clear e1 e2 e3 e4
      have hfo := fnd_ob (sf := gd sb) (ff := gd fb) (sl := sb.length) (b := b) (m := m) (p := p) (w := wnd b fb.length p) (bh := bh) (n := nb sb.length b) (nb sb.length b) (Nat.le_refl _)
      generalize fnd (gd sb) (gd fb) sb.length b m p (wnd b fb.length p) bh (nb sb.length b) = F at hfo ⊢
      obtain ⟨fo, xx⟩ := F
      dsimp only at hfo ⊢
      have h10 : σ.2.1 10 d = nq is.length := hI.1
      cases fo with
      | none =>
        dsimp only
        have key : ∀ (σ1 : Sg) (al1 : Nat), MIs σ1 d is → σ1.2.1 11 d = nq al1 → DO σ0 σ1 d → Sx σ0 σ1 [] J9 → σ1.2.1 9 = σ.2.1 9 → σ1.2.1 15 = σ.2.1 15 →
            okm (if is.length ≤ 0 then s_X3_compares_395 (l_X3_compares_87 n) (nq d) (nq sp) (nq f) (nq (120 * d)) (nq (120 * f)) (nq b) (nq p) σ1 else bd1 (mR σ1 12 (nq (120 * d + is.length) - nq 1)) fun v37 => if v37 = nq 0 then bd1 (mR σ1 14 (nq (120 * d + is.length) - nq 1)) fun v39 => bd1 (mW σ1 14 (nq (120 * d + is.length) - nq 1) (v39 + nq 1)) fun S41 => s_X3_compares_404 (l_X3_compares_87 n) (nq d) (nq sp) (nq f) (nq (120 * d)) (nq (120 * f)) (nq b) (nq p) S41 else s_X3_compares_395 (l_X3_compares_87 n) (nq d) (nq sp) (nq f) (nq (120 * d)) (nq (120 * f)) (nq b) (nq p) σ1)
              fun r => MIs r.2 d (cmpG b m sb fb N (p + 1) none al1 (if lit is = true then ext is 1 else is ++ [(false, p, 1)])).2 ∧ r.2.2.1 11 d = nq (cmpG b m sb fb N (p + 1) none al1 (if lit is = true then ext is 1 else is ++ [(false, p, 1)])).1 ∧ DO σ0 r.2 d ∧ Sx σ0 r.2 [] J9 ∧ r.2.2.1 9 = σ.2.1 9 ∧ r.2.2.1 15 = σ.2.1 15 := fun σ1 al1 k1 k2 k3 k4 k5 k6 => by
          have knew : lit is = false → okm (s_X3_compares_395 (l_X3_compares_87 n) (nq d) (nq sp) (nq f) (nq (120 * d)) (nq (120 * f)) (nq b) (nq p) σ1) fun r => MIs r.2 d (cmpG b m sb fb N (p + 1) none al1 (if lit is = true then ext is 1 else is ++ [(false, p, 1)])).2 ∧ r.2.2.1 11 d = nq (cmpG b m sb fb N (p + 1) none al1 (if lit is = true then ext is 1 else is ++ [(false, p, 1)])).1 ∧ DO σ0 r.2 d ∧ Sx σ0 r.2 [] J9 ∧ r.2.2.1 9 = σ.2.1 9 ∧ r.2.2.1 15 = σ.2.1 15 := fun hlit => by
            rw [hlit, if_neg (by decide)]
            unfold s_X3_compares_395
            refine okm_bd2 (okm_mono (m_begins (c := false) (fr := p) (ct := 1) hd (by omega) k1 k3 k4) fun r hr => ?_)
            obtain ⟨r1, r2, r3, r4, r5, r6⟩ := hr
            simp only [s_X3_compares_404, s_X3_compares_410, nq_lit, nq_add]
            refine okm_mono (ih (p + 1) n none al1 _ r.2 (by omega) (by omega) (by omega) (by rw [List.length_append, List.length_singleton]; omega) (fun j hj => nomatch hj) r1 (by rw [r4]; exact k2) r2 r3) fun t ht => ?_
            obtain ⟨t1, t2, t3, t4, t5, t6⟩ := ht
            exact ⟨t1, t2, t3, t4, t5.trans (r5.trans k5), t6.trans (r6.trans k6)⟩
          by_cases hn0 : is.length ≤ 0
          · rw [if_pos hn0]
            exact knew (by unfold lit; rw [decide_eq_false (by omega)]; rfl)
          · rw [if_neg hn0, nq_sub (by omega), mR_12 (by omega), pb1, m_lsI (by omega) k1]
            by_cases hc : (lsI is).1 = true
            · rw [if_neg (by rw [hc]; decide)]
              exact knew (by unfold lit; rw [hc]; exact Bool.and_false _)
            · have hlit : lit is = true := by
                unfold lit
                rw [decide_eq_true (by omega), Bool.eq_false_iff.mpr hc]
                rfl
              obtain ⟨x1, x2⟩ := m_ext (w := 1) (by omega) k1
              rw [if_pos (bq_0 _ hc), mR_14 (by omega), pb1, x1, nq_add, mW_14 (by omega), pb1, hlit, if_pos rfl]
              simp only [s_X3_compares_404, s_X3_compares_410, nq_lit, nq_add]
              refine okm_mono (ih (p + 1) n none al1 _ _ (by omega) (by omega) (by omega) (by rw [ext_len]; omega) (fun j hj => nomatch hj) x2 (by rw [wr_ne _ _ _ (by decide)]; exact k2) (k3.wr2 (by decide) (by omega)) (k4.wr (by decide))) fun t ht => ?_
              obtain ⟨t1, t2, t3, t4, t5, t6⟩ := ht
              exact ⟨t1, t2, t3, t4, t5.trans (by rw [wr_ne _ _ _ (by decide)]; exact k5), t6.trans (by rw [wr_ne _ _ _ (by decide)]; exact k6)⟩
        have hI' : ∀ v, MIs (wr σ 11 d v) d is := fun v => ⟨by rw [wr_ne _ _ _ (by decide)]; exact hI.1, fun k hk => by
          rw [wr_ne _ _ _ (by decide), wr_ne _ _ _ (by decide), wr_ne _ _ _ (by decide)]
          exact hI.2 k hk⟩
        have h10' : ∀ v, (wr σ 11 d v).2.1 10 d = nq is.length := fun v => (hI' v).1
        cases xx with
        | false =>
          have kk := key (wr σ 11 d (nq (al + 0))) al (hI' _) (wr_i _ _ _ _) (hD.wr1 (by decide)) (hX.wr (by decide)) (by rw [wr_ne _ _ _ (by decide)]) (by rw [wr_ne _ _ _ (by decide)])
          simp (disch := omega) only [s_X3_compares_172, s_X3_compares_360, m4, Nat.le_refl, h10, hal, oq, bq_f, mR_1, mW_1, mR_2, mW_2, mR_3, mW_3, mR_4, mW_4, mR_5, mW_5, mR_6, mW_6, mR_7, mW_7, mR_9, mW_9, mR_10, mW_10, mR_11, mW_11, mR_12, mW_12, mR_13, mW_13, mR_14, mW_14, mR_15, mW_15, mR_17, mW_17, mR_18, mW_18, mR_19, mW_19, mR_20, mW_20, mR_21, mW_21, mR_25, mW_25, mR_27, mW_27, mR_31, mW_31, mR_32, mW_32, mR_33, mW_33, mR_34, mW_34, mRL_8, mWL_8, pb1, pb2, nq_lit, nq_add, nq_mul, nq_lt, nq_le, nq_eq, nq_lt0, nq10, nq00, Nat.one_ne_zero, Nat.reduceEqDiff, Nat.not_lt_zero, nq20, nq30, zb1, zb0, eq_self, mP_i, mP_o, mP_2', wr_1, wr_ne, wr_i, reduceIte, m_may1, m_may0, m_both1, m_both2, m_both0, m_all1, m_all3, m_all2, m_all0]
          exact kk
        | true =>
          have kk := key (wr σ 11 d (nq (al + 1))) (al + 1) (hI' _) (wr_i _ _ _ _) (hD.wr1 (by decide)) (hX.wr (by decide)) (by rw [wr_ne _ _ _ (by decide)]) (by rw [wr_ne _ _ _ (by decide)])
          simp (disch := omega) only [s_X3_compares_172, s_X3_compares_360, m4, Nat.le_refl, h10, hal, oq, bq_t, mR_1, mW_1, mR_2, mW_2, mR_3, mW_3, mR_4, mW_4, mR_5, mW_5, mR_6, mW_6, mR_7, mW_7, mR_9, mW_9, mR_10, mW_10, mR_11, mW_11, mR_12, mW_12, mR_13, mW_13, mR_14, mW_14, mR_15, mW_15, mR_17, mW_17, mR_18, mW_18, mR_19, mW_19, mR_20, mW_20, mR_21, mW_21, mR_25, mW_25, mR_27, mW_27, mR_31, mW_31, mR_32, mW_32, mR_33, mW_33, mR_34, mW_34, mRL_8, mWL_8, pb1, pb2, nq_lit, nq_add, nq_mul, nq_lt, nq_le, nq_eq, nq_lt0, nq10, nq00, Nat.one_ne_zero, Nat.reduceEqDiff, Nat.not_lt_zero, nq20, nq30, zb1, zb0, eq_self, mP_i, mP_o, mP_2', wr_1, wr_ne, wr_i, reduceIte, m_may1, m_may0, m_both1, m_both2, m_both0, m_all1, m_all3, m_all2, m_all0]
          exact kk
      | some k =>
        dsimp only
        have hk := hfo k rfl
        have hko : ¬ nq k = -(nq 1) := fun q => (nq_m1 (by omega)).mp q
        by_cases q : some k = bh
        · have q2 : nq k = oq bh := (oq_eq hob (by omega)).mpr q
          have hn0 := (hbh k q.symm).1
          rw [if_pos q]
          obtain ⟨x1, x2⟩ := m_ext (w := wnd b fb.length p) hn0 hI
          simp (disch := omega) only [s_X3_compares_172, s_X3_compares_327, s_X3_compares_410, m4, Nat.le_refl, h10, show oq (some k) = nq k from rfl, ← q2, hko, nq_sub, x1, mR_1, mW_1, mR_2, mW_2, mR_3, mW_3, mR_4, mW_4, mR_5, mW_5, mR_6, mW_6, mR_7, mW_7, mR_9, mW_9, mR_10, mW_10, mR_11, mW_11, mR_12, mW_12, mR_13, mW_13, mR_14, mW_14, mR_15, mW_15, mR_17, mW_17, mR_18, mW_18, mR_19, mW_19, mR_20, mW_20, mR_21, mW_21, mR_25, mW_25, mR_27, mW_27, mR_31, mW_31, mR_32, mW_32, mR_33, mW_33, mR_34, mW_34, mRL_8, mWL_8, pb1, pb2, nq_lit, nq_add, nq_mul, nq_lt, nq_le, nq_eq, nq_lt0, nq10, nq00, Nat.one_ne_zero, Nat.reduceEqDiff, Nat.not_lt_zero, nq20, nq30, zb1, zb0, eq_self, mP_i, mP_o, mP_2', wr_1, wr_ne, wr_i, reduceIte, m_may1, m_may0, m_both1, m_both2, m_both0, m_all1, m_all3, m_all2, m_all0]
          refine okm_mono (ih (p + wnd b fb.length p) n (some (k + 1)) al _ _ (by omega) (by omega) (by omega) (by rw [ext_len]; omega) (fun j hj => by cases hj; rw [ext_len]; omega) x2 (by rw [wr_ne _ _ _ (by decide)]; exact hal) (hD.wr2 (by decide) (by omega)) (hX.wr (by decide))) fun t ht => ?_
          obtain ⟨t1, t2, t3, t4, t5, t6⟩ := ht
          exact ⟨t1, t2, t3, t4, t5.trans (by rw [wr_ne _ _ _ (by decide)]), t6.trans (by rw [wr_ne _ _ _ (by decide)])⟩
        · have q2 : ¬ nq k = oq bh := fun r => q ((oq_eq hob (by omega)).mp r)
          rw [if_neg q]
          simp (disch := omega) only [s_X3_compares_172, m4, Nat.le_refl, h10, show oq (some k) = nq k from rfl, q2, hko, mR_1, mW_1, mR_2, mW_2, mR_3, mW_3, mR_4, mW_4, mR_5, mW_5, mR_6, mW_6, mR_7, mW_7, mR_9, mW_9, mR_10, mW_10, mR_11, mW_11, mR_12, mW_12, mR_13, mW_13, mR_14, mW_14, mR_15, mW_15, mR_17, mW_17, mR_18, mW_18, mR_19, mW_19, mR_20, mW_20, mR_21, mW_21, mR_25, mW_25, mR_27, mW_27, mR_31, mW_31, mR_32, mW_32, mR_33, mW_33, mR_34, mW_34, mRL_8, mWL_8, pb1, pb2, nq_lit, nq_add, nq_mul, nq_lt, nq_le, nq_eq, nq_lt0, nq10, nq00, Nat.one_ne_zero, Nat.reduceEqDiff, Nat.not_lt_zero, nq20, nq30, zb1, zb0, eq_self, mP_i, mP_o, mP_2', wr_1, wr_ne, wr_i, reduceIte, m_may1, m_may0, m_both1, m_both2, m_both0, m_all1, m_all3, m_all2, m_all0]
          refine okm_bd2 (okm_mono (m_begins (c := true) (fr := k * b) (ct := wnd b fb.length p) hd (by omega) hI hD hX) fun r hr => ?_)
          obtain ⟨r1, r2, r3, r4, r5, r6⟩ := hr
          simp only [s_X3_compares_327, s_X3_compares_410, nq_lit, nq_add]
          refine okm_mono (ih (p + wnd b fb.length p) n (some (k + 1)) al _ r.2 (by omega) (by omega) (by omega) (by rw [List.length_append, List.length_singleton]; omega) (fun j hj => by cases hj; rw [List.length_append, List.length_singleton]; omega) r1 (by rw [r4]; exact hal) r2 r3) fun t ht => ?_
          obtain ⟨t1, t2, t3, t4, t5, t6⟩ := ht
          exact ⟨t1, t2, t3, t4, t5.trans r5, t6.trans r6⟩
/-- comparing: the delta d is the one that the mathematics says -/
theorem m_copy15_l {σ0 : Sg} {d f : Nat} {fb : List Nat} {x2 x6 : Int32} {Q : Unit × Sg → Prop} (hd : d < 24) (hf : f < 6) (hL : fb.length ≤ 120) (hl0 : σ0.2.1 1 f = nq fb.length) (hr0 : ∀ x, x < fb.length → σ0.2.1 2 (120 * f + x) = nq (gd fb x))
    (hQ : ∀ σ, DO σ0 σ d → Sx σ0 σ [] [15] → (∀ x, x < fb.length → σ.2.1 15 (120 * d + x) = nq (gd fb x)) → okm (l_X3_compares_87 FU (nq d, x2, nq f, nq (120 * d), nq (120 * f), x6, -(nq 1), nq 0) σ) Q) : ∀ (N k n : Nat) (σ : Sg), N < n → k + N = fb.length → DO σ0 σ d → Sx σ0 σ [] [15] → (∀ x, x < k → σ.2.1 15 (120 * d + x) = nq (gd fb x)) →
    okm (l_X3_compares_44 n (nq d, x2, nq f, nq (120 * d), nq (120 * f), x6, nq k) σ) Q := by
  intro N
  induction N with
  | zero =>
    intro k n σ hn hk hD hX h15
    obtain ⟨n, rfl⟩ := pre_n hn
    have hl : σ.2.1 1 f = nq fb.length := by rw [hX.2.1 1 (by decide)]; exact hl0
    have hk' : fb.length ≤ k := by omega
    rw [l_X3_compares_44_s]
    simp (disch := omega) only [s_X3_compares_44, hl, hk', mR_1, mW_1, mR_2, mW_2, mR_3, mW_3, mR_4, mW_4, mR_5, mW_5, mR_6, mW_6, mR_7, mW_7, mR_9, mW_9, mR_10, mW_10, mR_11, mW_11, mR_12, mW_12, mR_13, mW_13, mR_14, mW_14, mR_15, mW_15, mR_17, mW_17, mR_18, mW_18, mR_19, mW_19, mR_20, mW_20, mR_21, mW_21, mR_25, mW_25, mR_27, mW_27, mR_31, mW_31, mR_32, mW_32, mR_33, mW_33, mR_34, mW_34, mRL_8, mWL_8, pb1, pb2, nq_lit, nq_add, nq_mul, nq_lt, nq_le, nq_eq, nq_lt0, nq10, nq00, Nat.one_ne_zero, Nat.reduceEqDiff, Nat.not_lt_zero, nq20, nq30, zb1, zb0, eq_self, mP_i, mP_o, mP_2', wr_1, wr_ne, wr_i, reduceIte, m_may1, m_may0, m_both1, m_both2, m_both0, m_all1, m_all3, m_all2, m_all0]
    exact hQ σ hD hX (fun x hx => h15 x (by omega))
  | succ N ih =>
    intro k n σ hn hk hD hX h15
    obtain ⟨n, rfl⟩ := pre_n hn
    have hl : σ.2.1 1 f = nq fb.length := by rw [hX.2.1 1 (by decide)]; exact hl0
    have hr : σ.2.1 2 (120 * f + k) = nq (gd fb k) := by rw [hX.2.1 2 (by decide)]; exact hr0 k (by omega)
    have hk' : ¬ fb.length ≤ k := by omega
    rw [l_X3_compares_44_s]
    simp (disch := omega) only [s_X3_compares_44, hl, hk', hr, mR_1, mW_1, mR_2, mW_2, mR_3, mW_3, mR_4, mW_4, mR_5, mW_5, mR_6, mW_6, mR_7, mW_7, mR_9, mW_9, mR_10, mW_10, mR_11, mW_11, mR_12, mW_12, mR_13, mW_13, mR_14, mW_14, mR_15, mW_15, mR_17, mW_17, mR_18, mW_18, mR_19, mW_19, mR_20, mW_20, mR_21, mW_21, mR_25, mW_25, mR_27, mW_27, mR_31, mW_31, mR_32, mW_32, mR_33, mW_33, mR_34, mW_34, mRL_8, mWL_8, pb1, pb2, nq_lit, nq_add, nq_mul, nq_lt, nq_le, nq_eq, nq_lt0, nq10, nq00, Nat.one_ne_zero, Nat.reduceEqDiff, Nat.not_lt_zero, nq20, nq30, zb1, zb0, eq_self, mP_i, mP_o, mP_2', wr_1, wr_ne, wr_i, reduceIte, m_may1, m_may0, m_both1, m_both2, m_both0, m_all1, m_all3, m_all2, m_all0]
    refine ih (k + 1) n _ (by omega) (by omega) (hD.wr2 (by decide) (by omega)) (hX.wr (by decide)) (fun x hx => ?_)
    rw [wr_at]
    by_cases q : x = k
    · rw [if_pos (by omega), q]
    · rw [if_neg (by omega)]
      exact h15 x (by omega)
theorem m_compares {σ : Sg} {d sp f b m : Nat} {sb fb : List Nat} (hd : d < 24) (hsp : sp < 5) (hf : f < 6) (hb : 1 ≤ b ∧ b ≤ 7) (hm : 1 ≤ m ∧ m ≤ 4096) (hsb : FOk sb) (hfb : FOk fb) (hS : MSg σ sp (b, m, sb)) (hl : σ.2.1 1 f = nq fb.length) (hr : ∀ x, x < fb.length → σ.2.1 2 (120 * f + x) = nq (gd fb x)) :
    okm (f_X3_compares (nq d) (nq sp) (nq f) σ) fun r => MDl r.2 d (cmpD b m sb fb) ∧ DO σ r.2 d ∧ Sx σ r.2 [] J9 := by
  have m1 : σ.2.1 3 sp = nq b := hS.1
  have hL := hfb.1
  simp (disch := omega) only [f_X3_compares, m1, vp_nar1, mR_1, mW_1, mR_2, mW_2, mR_3, mW_3, mR_4, mW_4, mR_5, mW_5, mR_6, mW_6, mR_7, mW_7, mR_9, mW_9, mR_10, mW_10, mR_11, mW_11, mR_12, mW_12, mR_13, mW_13, mR_14, mW_14, mR_15, mW_15, mR_17, mW_17, mR_18, mW_18, mR_19, mW_19, mR_20, mW_20, mR_21, mW_21, mR_25, mW_25, mR_27, mW_27, mR_31, mW_31, mR_32, mW_32, mR_33, mW_33, mR_34, mW_34, mRL_8, mWL_8, pb1, pb2, nq_lit, nq_add, nq_mul, nq_lt, nq_le, nq_eq, nq_lt0, nq10, nq00, Nat.one_ne_zero, Nat.reduceEqDiff, Nat.not_lt_zero, nq20, nq30, zb1, zb0, eq_self, mP_i, mP_o, mP_2', wr_1, wr_ne, wr_i, reduceIte, m_may1, m_may0, m_both1, m_both2, m_both0, m_all1, m_all3, m_all2, m_all0]
  have hD0 : DO σ (wr (wr (wr σ 9 d (nq 1)) 10 d (nq 0)) 11 d (nq 0)) d := (((DO.refl σ d).wr1 (by decide)).wr1 (by decide)).wr1 (by decide)
  have hX0 : Sx σ (wr (wr (wr σ 9 d (nq 1)) 10 d (nq 0)) 11 d (nq 0)) [] J9 := (((Sx.refl σ _ _).wr (by decide)).wr (by decide)).wr (by decide)
  refine m_copy15_l (σ0 := wr (wr (wr σ 9 d (nq 1)) 10 d (nq 0)) 11 d (nq 0)) hd hf hL (by rw [hX0.2.1 1 (by decide)]; exact hl) (by rw [hX0.2.1 2 (by decide)]; exact hr) (fun σ1 k1 k2 k3 => ?_) fb.length 0 FU _ (by unfold FU; omega) (by omega) (DO.refl _ _) (Sx.refl _ _ _) (fun x hx => absurd hx (Nat.not_lt_zero x))
  have hX1 : Sx σ σ1 [] J9 := hX0.trans (k2.mono (by decide) (by decide))
  have hD1 : DO σ σ1 d := ⟨fun d' hd' a ha => (k1.1 d' hd' a ha).trans (hD0.1 d' hd' a ha), fun x hx a ha => (k1.2 x hx a ha).trans (hD0.2 x hx a ha)⟩
  have g9 : σ1.2.1 9 d = nq 1 := by rw [k2.2.1 9 (by decide), wr_ne _ _ _ (by decide), wr_ne _ _ _ (by decide), wr_i]
  have g10 : σ1.2.1 10 d = nq 0 := by rw [k2.2.1 10 (by decide), wr_ne _ _ _ (by decide), wr_i]
  have g11 : σ1.2.1 11 d = nq 0 := by rw [k2.2.1 11 (by decide), wr_i]
  refine okm_mono (m_cmp_out hd hsp hf hb hm hsb hfb hS hl hr fb.length 0 FU none 0 [] σ1 (by unfold FU; omega) (by omega) (by omega) (Nat.le_refl _) (fun j hj => nomatch hj) ⟨g10, fun k hk => absurd hk (Nat.not_lt_zero k)⟩ g11 hD1 hX1) fun r hr => ?_
  obtain ⟨r1, r2, r3, r4, r5, r6⟩ := hr
  exact ⟨⟨by rw [r5]; exact g9, r1.1, r2, r1.2, fun j hj => by rw [r6]; exact k3 j hj⟩, r3, r4⟩
