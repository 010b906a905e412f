/-! PURE: apply, cuts, file -/
set_option maxRecDepth 100000
section Appl
variable {S : St} {x out : Nat} {A : AA}
theorem q_apply (x1 x2 x3 : Int32) (h : SRep S x out A) (hA : AOk A) (k1 : 9000 ≤ S.2.2.1) (k2 : 110000 ≤ S.2.2.2.1) : OQ S x out (o_apply A x1 x2 x3) (f_X0_apply (some x) x1 x2 x3 (some out) S) := by
  obtain ⟨ρ, e0, fa, sg, de, vl, st, pp, h⟩ := h
  have ho := h.o
  have hd : Dom S := h.2.2.2.2.1
  obtain ⟨p1, p2⟩ := x_there (S := S) (y := x1) (n := 4) (by omega) (by omega) (by omega)
  obtain ⟨t1, t2⟩ := x_strip (y := x2) h hA (by omega) (by omega)
  obtain ⟨u1, u2⟩ := x_strip (y := x3) h hA (by omega) (by omega)
  have hx := fun k (hk : k ≠ 0) => oq_x (out := out) (k := k) (h.xt (by omega) (by omega)) hk (xt_rm (by omega) (by omega)) (by omega) (by omega)
  have n1 := x_can1 S
  have n0 := x_can0 (S := S) (by omega) (by omega)
  unfold o_apply
  by_cases o1 : okI x1 4
  · have e1 := p1 o1
    by_cases o2 : okI x2 A.1.length
    · obtain ⟨a, b, e2, hs, -⟩ := t1 o2
      by_cases o3 : okI x3 A.1.length
      · rw [if_pos ⟨o1, o2, o3⟩]
        obtain ⟨a', b', e3, hs', r1, r2, hset⟩ := u1 o3
        obtain ⟨p, q1, q2, rfl⟩ := okI_get o1
        have i1 : ix (nq p) = p := nq_idx q2
        rw [i1]
        obtain ⟨o, y1, y2, y3, y4⟩ := x_del h q1
        cases hz : zD A p with
        | none =>
          have := y4 hz
          subst this
          have E : f_X0_apply (some x) (nq p) x2 x3 (some out) S = some (nq 2, xt S) := by
            simp (disch := omega) only [f_X0_apply, f_X1_apply, s_X1_apply_33, ho, e1, e2, e3, y1, y2, n0, pb1, pb2, nq_lit, nq_add, nq_mul, nq_lt, nq_le, nq_eq, nq_lt0, nq10, nq00, Nat.one_ne_zero, Nat.reduceEqDiff, Nat.not_lt_zero, zb1, zb0, eq_self, reduceIte, String.reduceEq, reduceCtorEq]
          rw [E]
          exact hx 2 (by decide)
        | some D =>
          obtain ⟨da, rfl, y5⟩ := y3 D hz
          have hD := hA.2.2.1 p D hz
          obtain ⟨A1, A2⟩ := d_applied (by omega) hD y5 hs hd (by omega) (by omega)
          have ed : isO S (some da) 6 = some () := by
            obtain ⟨l, d, cap', sp, ias, sf, z1, -⟩ := y5
            exact isO_ok z1
          have hFl : Fl A (ix x2) = fl A (ix x2) := rfl
          rw [hFl] at A1 A2
          dsimp only
          by_cases hb : byd D.2.1 (fl A (ix x2)).length = true
          · rw [if_pos hb]
            obtain ⟨q, S1, v1, v2⟩ := A2 hb
            have m1 := v2.2.2.1
            have m2 := v2.2.2.2.1
            have et := thr_ok (S := S1) (E := "java/lang/IllegalStateException") (by omega) (by omega)
            have E : f_X0_apply (some x) (nq p) x2 x3 (some out) S = some (nq 2, xt S1) := by
              simp (disch := omega) only [f_X0_apply, f_X1_apply, s_X1_apply_33, ho, e1, e2, e3, y1, y2, n1, ed, v1, et, pb1, pb2, nq_lit, nq_add, nq_mul, nq_lt, nq_le, nq_eq, nq_lt0, nq10, nq00, Nat.one_ne_zero, Nat.reduceEqDiff, Nat.not_lt_zero, zb1, zb0, eq_self, reduceIte, String.reduceEq, reduceCtorEq]
            rw [E]
            exact oq_x ((h.ch0 v2).xt (by omega) (by omega)) (by decide) (v2.rm.trans (xt_rm (by omega) (by omega))) (by omega) (by omega)
          · rw [if_neg hb]
            obtain ⟨r, rb, S1, v1, v2, -, -, v5⟩ := A1 (Bool.eq_false_iff.mpr hb)
            have hs1 := hs'.sub (v5.sub hd (Sub.refl _) fun _ q => q.elim)
            have hal := app_len hD (fl A (ix x2))
            obtain ⟨S2, w1, w2, w3⟩ := t_become hs1 v2 hal (by omega) (by omega)
            have C : Ch (fun z => z = a' ∨ z = b') 2 122 S S2 := (v5.mono (B := fun z => z = a' ∨ z = b') (fun _ _ q => q.elim) (Nat.le_refl _) (Nat.le_refl _)).trans w3 fun _ _ q => q
            have e4 := isO_ok hs1.1
            have e5 : oI S2 (some a') 3 1 = some (nq (app D.2.1 D.2.2 (fl A (ix x2))).length) := oI_ok w2.1 rfl
            have E : f_X0_apply (some x) (nq p) x2 x3 (some out) S = bd1 (jS S2 (some out) (nq 0) (nq (app D.2.1 D.2.2 (fl A (ix x2))).length).toInt64) fun S8 => some (nq 0, S8) := by
              simp (disch := omega) only [f_X0_apply, f_X1_apply, s_X1_apply_33, ho, e1, e2, e3, y1, y2, n1, ed, v1, e4, w1, e5, pb1, pb2, nq_lit, nq_add, nq_mul, nq_lt, nq_le, nq_eq, nq_lt0, nq10, nq00, Nat.one_ne_zero, Nat.reduceEqDiff, Nat.not_lt_zero, zb1, zb0, eq_self, reduceIte, String.reduceEq, reduceCtorEq]
            rw [E]
            exact oq_v (an := yn _ (uF A (ix x3) (app D.2.1 D.2.2 (fl A (ix x2))))) (hset S2 _ _ _ C w2) rfl rfl C.rm (by omega) (by omega)
      · rw [if_neg (fun q => o3 q.2.2)]
        have e3 := u2 o3
        have E : f_X0_apply (some x) x1 x2 x3 (some out) S = some (nq 1, xt S) := by
          simp (disch := omega) only [f_X0_apply, f_X1_apply, ho, e1, e2, e3, pb1, pb2, nq_lit, nq_add, nq_mul, nq_lt, nq_le, nq_eq, nq_lt0, nq10, nq00, Nat.one_ne_zero, Nat.reduceEqDiff, Nat.not_lt_zero, zb1, zb0, eq_self, reduceIte, String.reduceEq, reduceCtorEq]
        rw [E]
        exact hx 1 (by decide)
    · rw [if_neg (fun q => o2 q.2.1)]
      have e2 := t2 o2
      have E : f_X0_apply (some x) x1 x2 x3 (some out) S = some (nq 1, xt S) := by
        simp (disch := omega) only [f_X0_apply, f_X1_apply, ho, e1, e2, pb1, pb2, nq_lit, nq_add, nq_mul, nq_lt, nq_le, nq_eq, nq_lt0, nq10, nq00, Nat.one_ne_zero, Nat.reduceEqDiff, Nat.not_lt_zero, zb1, zb0, eq_self, reduceIte, String.reduceEq, reduceCtorEq]
      rw [E]
      exact hx 1 (by decide)
  · rw [if_neg (fun q => o1 q.1)]
    have e1 := p2 o1
    have E : f_X0_apply (some x) x1 x2 x3 (some out) S = some (nq 1, xt S) := by
      simp (disch := omega) only [f_X0_apply, f_X1_apply, ho, e1, pb1, pb2, nq_lit, nq_add, nq_mul, nq_lt, nq_le, nq_eq, nq_lt0, nq10, nq00, Nat.one_ne_zero, Nat.reduceEqDiff, Nat.not_lt_zero, zb1, zb0, eq_self, reduceIte, String.reduceEq, reduceCtorEq]
    rw [E]
    exact hx 1 (by decide)
theorem fit_2 {y : Int32} {a n : Nat} (h1 : 1 ≤ a) (ha : a < 2147483648) (hn : n < 2147483647) : (okI y (n + 1) ∧ a ≤ ix y) ↔ ¬ y < nq a ∧ ¬ nq n < y := by
  rcases nq_cases y with h | ⟨b, hb, rfl⟩
  · exact ⟨fun q => absurd h q.1.1, fun q => absurd (lt_1 h ha) q.1⟩
  · have e : ix (nq b) = b := nq_idx hb
    rw [okI_nq hb, nq_lt hb ha, nq_lt (by omega) hb, e]
    omega
theorem q_cuts (x1 x2 x3 : Int32) (h : SRep S x out A) (k1 : 9000 ≤ S.2.2.1) (k2 : 110000 ≤ S.2.2.2.1) : OV S x out (o_cuts A x1 x2 x3) (f_X0_cuts (some x) x1 x2 x3 S) := by
  obtain ⟨ρ, e0, fa, sg, de, vl, st, pp, h⟩ := h
  have ho := h.o
  have hd : Dom S := h.2.2.2.2.1
  have hx := ov_v (out := out) (an := no 1 A) (h.xt (by omega) (by omega)) (xt_rm (by omega) (by omega)) (by omega) (by omega)
  obtain ⟨a1, a2⟩ := x_fit (S := S) (okI_r (x := x1) (n := 16) (by omega)) (by omega) (by omega)
  obtain ⟨c1, c2⟩ := x_fit (S := S) (okI_r (x := x3) (n := 64) (by omega)) (by omega) (by omega)
  unfold o_cuts
  by_cases o1 : okI x1 17 ∧ ¬ ix x1 = 0
  · have e1 := a1 o1
    obtain ⟨a, q1, q2, rfl⟩ := okI_get o1.1
    have i1 : ix (nq a) = a := nq_idx q2
    have n1 := o1.2
    rw [i1] at n1
    obtain ⟨b1, b2⟩ := x_fit (S := S) (fit_2 (y := x2) (a := a) (n := 40) (by omega) q2 (by omega)) (by omega) (by omega)
    by_cases o2 : okI x2 41 ∧ a ≤ ix x2
    · have e2 := b1 o2
      by_cases o3 : okI x3 65 ∧ ¬ ix x3 = 0
      · have e3 := c1 o3
        rw [if_pos ⟨o1, by rw [i1]; exact o2, o3⟩]
        obtain ⟨g, g1, g2, rfl⟩ := okI_get o2.1
        obtain ⟨d, d1, d2, rfl⟩ := okI_get o3.1
        have i2 : ix (nq g) = g := nq_idx g2
        have i3 : ix (nq d) = d := nq_idx d2
        rw [i1, i2, i3]
        have hox := h.ox
        obtain ⟨⟨h1, h2, h3, h4⟩, ⟨h5, h6, h7⟩, h8, h9, h10, h11⟩ := h
        have r1 := (mk_e h1).1
        obtain ⟨S1, d1⟩ : ∃ S1, x_set S x (.inl (0, [.ref fa, .ref sg, .ref de, .ref vl, .ref st, .ref pp, .int (nq a), .int (nq (zC A).2.1), .int (nq (zC A).2.2)])) = S1 := ⟨_, rfl⟩
        have p1 : pV S (some x) 0 6 (.int (nq a)) = some S1 := (pV_ok hox (by simp)).trans (congrArg some d1)
        have k1' : Ch (fun z => z = x) 0 0 S S1 := by rw [← d1]; exact Ch.set S _ hox
        have w1 : S1.1 x = some (.inl (0, [.ref fa, .ref sg, .ref de, .ref vl, .ref st, .ref pp, .int (nq a), .int (nq (zC A).2.1), .int (nq (zC A).2.2)])) := by rw [← d1]; exact xs_i _ _ _
        obtain ⟨S2, d2⟩ : ∃ S2, x_set S1 x (.inl (0, [.ref fa, .ref sg, .ref de, .ref vl, .ref st, .ref pp, .int (nq a), .int (nq g), .int (nq (zC A).2.2)])) = S2 := ⟨_, rfl⟩
        have p2 : pV S1 (some x) 0 7 (.int (nq g)) = some S2 := (pV_ok w1 (by simp)).trans (congrArg some d2)
        have k2' : Ch (fun z => z = x) 0 0 S1 S2 := by rw [← d2]; exact Ch.set S1 _ w1
        have w2 : S2.1 x = some (.inl (0, [.ref fa, .ref sg, .ref de, .ref vl, .ref st, .ref pp, .int (nq a), .int (nq g), .int (nq (zC A).2.2)])) := by rw [← d2]; exact xs_i _ _ _
        obtain ⟨S3, d3⟩ : ∃ S3, x_set S2 x (.inl (0, [.ref fa, .ref sg, .ref de, .ref vl, .ref st, .ref pp, .int (nq a), .int (nq g), .int (nq d)])) = S3 := ⟨_, rfl⟩
        have p3 : pV S2 (some x) 0 8 (.int (nq d)) = some S3 := (pV_ok w2 (by simp)).trans (congrArg some d3)
        have k3' : Ch (fun z => z = x) 0 0 S2 S3 := by rw [← d3]; exact Ch.set S2 _ w2
        have w3 : S3.1 x = some (.inl (0, [.ref fa, .ref sg, .ref de, .ref vl, .ref st, .ref pp, .int (nq a), .int (nq g), .int (nq d)])) := by rw [← d3]; exact xs_i _ _ _
        have C : Ch (fun z => z = x) 0 0 S S3 := (k1'.trans k2' fun _ _ q => q).trans k3' fun _ _ q => q
        have m : ∀ j, j ≠ 1 → Sub (mk S ρ j) (mk S3 ρ j) := fun j hj => mk_ch C h10 (fun _ _ q => q) (fun z q w => hj (by rw [← w, (show z = x from q), r1]))
        have h' : SR S3 x out (uC A (a, g, d)) ρ e0 fa sg de vl st pp := ⟨⟨mk_i r1 w3, h2.sub (m 2 (by decide)), h3.sub (m 3 (by decide)) (m 0 (by decide)), h4.sub (m 4 (by decide)) (m 0 (by decide))⟩, ⟨h5.sub (m 5 (by decide)) (m 0 (by decide)), h6.sub (m 6 (by decide)) (m 7 (by decide)) (m 0 (by decide)), h7.sub (m 8 (by decide))⟩, h8.sub (m 0 (by decide)), C.2.2.2.2.1 ▸ h9, C.2.2.2.2.2 h10, fun z hz => h11 z (Nat.le_trans C.2.1 hz)⟩
        have E : f_X0_cuts (some x) (nq a) (nq g) (nq d) S = some (nq 0, S3) := by
          simp (disch := omega) only [f_X0_cuts, f_X1_cuts, ho, e1, e2, e3, p1, p2, p3, pb1, pb2, nq_lit, nq_add, nq_mul, nq_lt, nq_le, nq_eq, nq_lt0, nq10, nq00, Nat.one_ne_zero, Nat.reduceEqDiff, Nat.not_lt_zero, zb1, zb0, eq_self, reduceIte, String.reduceEq, reduceCtorEq]
        rw [E]
        exact ov_v (an := yn 0 _) h' C.rm (by omega) (by omega)
      · rw [if_neg (fun q => o3 q.2.2)]
        have e3 := c2 o3
        have E : f_X0_cuts (some x) (nq a) x2 x3 S = some (nq 1, xt S) := by
          simp (disch := omega) only [f_X0_cuts, f_X1_cuts, ho, e1, e2, e3, pb1, pb2, nq_lit, nq_add, nq_mul, nq_lt, nq_le, nq_eq, nq_lt0, nq10, nq00, Nat.one_ne_zero, Nat.reduceEqDiff, Nat.not_lt_zero, zb1, zb0, eq_self, reduceIte, String.reduceEq, reduceCtorEq]
        rw [E]
        exact hx
    · rw [if_neg (fun q => o2 (by rw [← i1]; exact ⟨q.2.1.1, by have := q.2.1.2; rw [i1] at this ⊢; exact this⟩))]
      have e2 := b2 o2
      have E : f_X0_cuts (some x) (nq a) x2 x3 S = some (nq 1, xt S) := by
        simp (disch := omega) only [f_X0_cuts, f_X1_cuts, ho, e1, e2, pb1, pb2, nq_lit, nq_add, nq_mul, nq_lt, nq_le, nq_eq, nq_lt0, nq10, nq00, Nat.one_ne_zero, Nat.reduceEqDiff, Nat.not_lt_zero, zb1, zb0, eq_self, reduceIte, String.reduceEq, reduceCtorEq]
      rw [E]
      exact hx
  · rw [if_neg (fun q => o1 q.1)]
    have e1 := a2 o1
    have E : f_X0_cuts (some x) x1 x2 x3 S = some (nq 1, xt S) := by
      simp (disch := omega) only [f_X0_cuts, f_X1_cuts, ho, e1, pb1, pb2, nq_lit, nq_add, nq_mul, nq_lt, nq_le, nq_eq, nq_lt0, nq10, nq00, Nat.one_ne_zero, Nat.reduceEqDiff, Nat.not_lt_zero, zb1, zb0, eq_self, reduceIte, String.reduceEq, reduceCtorEq]
    rw [E]
    exact hx
end Appl
