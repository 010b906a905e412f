/-! PURE: sign, compare, apply, cuts -/
set_option maxRecDepth 100000
section Sign
variable {S : St} {x out : Nat} {A : AA}
/-- a new thing's cells are of kind 0 -/
theorem nw_mk {ρ : Nat → Nat} {n m : Nat} {T : St} (hr : ∀ y, m ≤ y → ρ y = 0) (h : m ≤ n) : Sub (nw n T.1) (mk T ρ 0) := fun y e q => mk_i (hr y (Nat.le_trans h (nw_e q).1)) (nw_e q).2
theorem SR.setS {ρ : Nat → Nat} {e0 : Option Nat} {fa sg de vl st pp p a : Nat} {s : Nat × Nat × List Nat} (h : SR S x out A ρ e0 fa sg de vl st pp) (hp : p < 4) (hg : iSig (mk S ρ 0) a s) : ∃ S', aS S (some sg) 5 (nq p) (some a) = some S' ∧ SR S' x out (uS A p s) ρ e0 fa sg de vl st pp ∧ Rm 0 0 S S' := by
  obtain ⟨⟨h1, h2, ⟨f, g1, g2⟩, h4⟩, ⟨h5, h6, h7⟩, h8, h9, h10, h11⟩ := h
  obtain ⟨r1, g1u⟩ := mk_e g1
  obtain ⟨S', d⟩ : ∃ S', x_set S sg (.inr (5, 4, .inr (.inr (.inr (.inr (va_up f p (some a))))))) = S' := ⟨_, rfl⟩
  have hc : Ch (fun z => z = sg) 0 0 S S' := by rw [← d]; exact Ch.set S _ g1u
  have w : S'.1 sg = some (.inr (5, 4, .inr (.inr (.inr (.inr (va_up f p (some a))))))) := by rw [← d]; exact xs_i _ _ _
  have m : ∀ j, j ≠ 3 → Sub (mk S ρ j) (mk S' ρ j) := fun j hj => mk_ch hc h10 (fun _ _ q => q) (fun z q w => hj (by rw [← w, (show z = sg from q), r1]))
  have hasg : asgOk S 5 (some a) = true := by
    obtain ⟨so, r1, r2, g, F1, F2, y1, -⟩ := hg
    exact asg_ok (mk_e y1).2 (by decide)
  refine ⟨S', (aS_ok g1u hp (by omega) hasg).trans (congrArg some d), ⟨⟨h1.sub (m 1 (by decide)), h2.sub (m 2 (by decide)), ⟨_, mk_i r1 w, fun q hq => ?_⟩, h4.sub (m 4 (by decide)) (m 0 (by decide))⟩, ⟨h5.sub (m 5 (by decide)) (m 0 (by decide)), h6.sub (m 6 (by decide)) (m 7 (by decide)) (m 0 (by decide)), h7.sub (m 8 (by decide))⟩, h8.sub (m 0 (by decide)), hc.2.2.2.2.1 ▸ h9, hc.2.2.2.2.2 h10, fun z hz => h11 z (Nat.le_trans hc.2.1 hz)⟩, hc.rm⟩
  show (∀ s', va_up (zS A) p (some s) q = some s' → ∃ a', va_up f p (some a) q = some a' ∧ iSig (mk S' ρ 0) a' s') ∧ (va_up (zS A) p (some s) q = none → va_up f p (some a) q = none)
  unfold va_up
  by_cases z : q = p
  · rw [if_pos z, if_pos z]
    refine ⟨fun s' hs' => ?_, fun q => (nomatch q)⟩
    cases hs'
    exact ⟨a, rfl, hg.sub (m 0 (by decide))⟩
  · rw [if_neg z, if_neg z]
    refine ⟨fun s' hs' => ?_, (g2 q hq).2⟩
    obtain ⟨a', t1, t2⟩ := (g2 q hq).1 s' hs'
    exact ⟨a', t1, t2.sub (m 0 (by decide))⟩
theorem SR.setD {ρ : Nat → Nat} {e0 : Option Nat} {fa sg de vl st pp p a : Nat} {s : Dl} (h : SR S x out A ρ e0 fa sg de vl st pp) (hp : p < 4) (hg : iDel (mk S ρ 0) e0 a s) : ∃ S', aS S (some de) 6 (nq p) (some a) = some S' ∧ SR S' x out (uD A p s) ρ e0 fa sg de vl st pp ∧ Rm 0 0 S S' := by
  obtain ⟨⟨h1, h2, h3, ⟨f, g1, g2⟩⟩, ⟨h5, h6, h7⟩, h8, h9, h10, h11⟩ := h
  obtain ⟨r1, g1u⟩ := mk_e g1
  obtain ⟨S', d⟩ : ∃ S', x_set S de (.inr (6, 4, .inr (.inr (.inr (.inr (va_up f p (some a))))))) = S' := ⟨_, rfl⟩
  have hc : Ch (fun z => z = de) 0 0 S S' := by rw [← d]; exact Ch.set S _ g1u
  have w : S'.1 de = some (.inr (6, 4, .inr (.inr (.inr (.inr (va_up f p (some a))))))) := by rw [← d]; exact xs_i _ _ _
  have m : ∀ j, j ≠ 4 → Sub (mk S ρ j) (mk S' ρ j) := fun j hj => mk_ch hc h10 (fun _ _ q => q) (fun z q w => hj (by rw [← w, (show z = de from q), r1]))
  have hasg : asgOk S 6 (some a) = true := by
    obtain ⟨l, d, cap, sp, ias, sf, y1, -⟩ := hg
    exact asg_ok (mk_e y1).2 (by decide)
  refine ⟨S', (aS_ok g1u hp (by omega) hasg).trans (congrArg some d), ⟨⟨h1.sub (m 1 (by decide)), h2.sub (m 2 (by decide)), h3.sub (m 3 (by decide)) (m 0 (by decide)), ⟨_, mk_i r1 w, fun q hq => ?_⟩⟩, ⟨h5.sub (m 5 (by decide)) (m 0 (by decide)), h6.sub (m 6 (by decide)) (m 7 (by decide)) (m 0 (by decide)), h7.sub (m 8 (by decide))⟩, h8.sub (m 0 (by decide)), hc.2.2.2.2.1 ▸ h9, hc.2.2.2.2.2 h10, fun z hz => h11 z (Nat.le_trans hc.2.1 hz)⟩, hc.rm⟩
  show (∀ s', va_up (zD A) p (some s) q = some s' → ∃ a', va_up f p (some a) q = some a' ∧ iDel (mk S' ρ 0) e0 a' s') ∧ (va_up (zD A) p (some s) q = none → va_up f p (some a) q = none)
  unfold va_up
  by_cases z : q = p
  · rw [if_pos z, if_pos z]
    refine ⟨fun s' hs' => ?_, fun q => (nomatch q)⟩
    cases hs'
    exact ⟨a, rfl, hg.sub (m 0 (by decide))⟩
  · rw [if_neg z, if_neg z]
    refine ⟨fun s' hs' => ?_, (g2 q hq).2⟩
    obtain ⟨a', t1, t2⟩ := (g2 q hq).1 s' hs'
    exact ⟨a', t1, t2.sub (m 0 (by decide))⟩
theorem q_sign (x1 x2 x3 x4 : Int32) (h : SRep S x out A) (hA : AOk A) (k1 : 9000 ≤ S.2.2.1) (k2 : 110000 ≤ S.2.2.2.1) : OQ S x out (o_sign A x1 x2 x3 x4) (f_X0_sign (some x) x1 x2 x3 x4 (some out) S) := by
  obtain ⟨ρ, e0, fa, sg, de, vl, st, pp, h⟩ := h
  have ho := h.o
  have hd : Dom S := h.2.2.2.2.1
  have hr0 : ∀ z, S.2.1 ≤ z → ρ z = 0 := h.2.2.2.2.2
  obtain ⟨p1, p2⟩ := x_there (S := S) (y := x1) (n := 4) (by omega) (by omega) (by omega)
  obtain ⟨t1, t2⟩ := x_strip (y := x2) h hA (by omega) (by omega)
  have hx := fun k (hk : k ≠ 0) => oq_x (out := out) (k := k) (h.xt (by omega) (by omega)) hk (xt_rm (by omega) (by omega)) (by omega) (by omega)
  obtain ⟨b1, b2⟩ := x_fit (S := S) (okI_r (x := x3) (n := 7) (by omega)) (by omega) (by omega)
  obtain ⟨c1, c2⟩ := x_fit (S := S) (okI_r (x := x4) (n := 4096) (by omega)) (by omega) (by omega)
  unfold o_sign
  by_cases o1 : okI x1 4
  · have e1 := p1 o1
    by_cases o2 : okI x2 A.1.length
    · rw [if_pos ⟨o1, o2⟩]
      obtain ⟨a, b, e2, hs, -⟩ := t1 o2
      by_cases o3 : okI x3 8 ∧ ¬ ix x3 = 0
      · have e3 := b1 o3
        by_cases o4 : okI x4 4097 ∧ ¬ ix x4 = 0
        · have e4 := c1 o4
          rw [if_pos ⟨o3, o4⟩]
          obtain ⟨p, q1, q2, rfl⟩ := okI_get o1
          obtain ⟨bl, l1, l2, rfl⟩ := okI_get o3.1
          obtain ⟨m, m1, m2, rfl⟩ := okI_get o4.1
          have i1 : ix (nq p) = p := nq_idx q2
          have i2 : ix (nq bl) = bl := nq_idx l2
          have i3 : ix (nq m) = m := nq_idx m2
          have n3 := o3.2
          have n4 := o4.2
          rw [i2] at n3
          rw [i3] at n4
          rw [i1, i2, i3]
          obtain ⟨S1, d1⟩ : ∃ S1, x_new S 5 (.inl (4, [.int (nq 0), .int (nq 0), .int (nq 0), .int (nq 0), .null])) = S1 := ⟨_, rfl⟩
          have g1 : nO S 4 5 [.int (nq 0), .int (nq 0), .int (nq 0), .int (nq 0), .null] = some (some S.2.1, S1) := (nO_ok (by omega) (by omega)).trans (by rw [d1])
          have ch1 : Ch (fun _ => False) 1 5 S S1 := by rw [← d1]; exact Ch.new _ S _ (by omega) (by omega)
          have w1 : S1.1 S.2.1 = some (.inl (4, [.int (nq 0), .int (nq 0), .int (nq 0), .int (nq 0), .null])) := by rw [← d1]; exact xn_i _ _ _
          have hd1 := ch1.2.2.2.2.2 hd
          have r1 := ch1.2.2.1
          have r2 := ch1.2.2.2.1
          obtain ⟨S2, f2, i2', c2'⟩ := sg_init (b := bl) (m := m) ⟨by omega, by omega⟩ ⟨by omega, by omega⟩ (fl_ok hA (ix x2)) (by omega) w1 (hs.sub (ch1.sub hd (Sub.refl _) fun _ q => q.elim)) hd1 (by omega) (by omega)
          have C : Ch (fun _ => False) 5 253 S S2 := (ch1.trans c2' fun z hz q => absurd q (Nat.ne_of_lt hz)).mono (fun _ _ q => q) (by omega) (by omega)
          have h2 := h.ch0 C
          obtain ⟨S3, f3, h3, rm3⟩ := h2.setS (p := p) q1 (i2'.sub (nw_mk hr0 (Nat.le_refl _)))
          obtain ⟨o, y1, y2, y3, -⟩ := x_sig h3 q1
          obtain ⟨a', rfl, so, ra, rb, gg, F1, F2, y4, -⟩ := y3 (bl, m, fl A (ix x2)) (by show va_up (zS A) p _ p = _; unfold va_up; rw [if_pos rfl])
          have e6 : oI S3 (some a') 4 2 = some (nq (nb (fl A (ix x2)).length bl)) := oI_ok y4 rfl
          have e5 : oA S (some x) 0 1 = some (some sg) := oA_ok (o := some sg) h.ox rfl
          have E : f_X0_sign (some x) (nq p) x2 (nq bl) (nq m) (some out) S = bd1 (jS S3 (some out) (nq 0) (nq (nb (fl A (ix x2)).length bl)).toInt64) fun S8 => some (nq 0, S8) := by
            simp (disch := omega) only [f_X0_sign, f_X1_sign, ho, e1, e2, e3, e4, e5, g1, f2, f3, y1, y2, e6, pb1, pb2, nq_lit, nq_add, nq_mul, nq_lt, nq_le, nq_eq, nq_lt0, nq10, nq00, Nat.one_ne_zero, Nat.reduceEqDiff, Nat.not_lt_zero, zb1, zb0, eq_self, reduceIte, String.reduceEq, reduceCtorEq]
          rw [E]
          exact oq_v h3 rfl rfl (C.rm.trans rm3) (by omega) (by omega)
        · rw [if_neg (fun q => o4 q.2)]
          have e4 := c2 o4
          have E : f_X0_sign (some x) x1 x2 x3 x4 (some out) S = some (nq 2, xt S) := by
            simp (disch := omega) only [f_X0_sign, f_X1_sign, ho, e1, e2, e3, e4, pb1, pb2, nq_lit, nq_add, nq_mul, nq_lt, nq_le, nq_eq, nq_lt0, nq10, nq00, Nat.one_ne_zero, Nat.reduceEqDiff, Nat.not_lt_zero, zb1, zb0, eq_self, reduceIte, String.reduceEq, reduceCtorEq]
          rw [E]
          exact hx 2 (by decide)
      · rw [if_neg (fun q => o3 q.1)]
        have e3 := b2 o3
        have E : f_X0_sign (some x) x1 x2 x3 x4 (some out) S = some (nq 2, xt S) := by
          simp (disch := omega) only [f_X0_sign, f_X1_sign, ho, e1, e2, e3, pb1, pb2, nq_lit, nq_add, nq_mul, nq_lt, nq_le, nq_eq, nq_lt0, nq10, nq00, Nat.one_ne_zero, Nat.reduceEqDiff, Nat.not_lt_zero, zb1, zb0, eq_self, reduceIte, String.reduceEq, reduceCtorEq]
        rw [E]
        exact hx 2 (by decide)
    · rw [if_neg (fun q => o2 q.2)]
      have e2 := t2 o2
      have E : f_X0_sign (some x) x1 x2 x3 x4 (some out) S = some (nq 1, xt S) := by
        simp (disch := omega) only [f_X0_sign, f_X1_sign, ho, e1, e2, pb1, pb2, nq_lit, nq_add, nq_mul, nq_lt, nq_le, nq_eq, nq_lt0, nq10, nq00, Nat.one_ne_zero, Nat.reduceEqDiff, Nat.not_lt_zero, zb1, zb0, eq_self, reduceIte, String.reduceEq, reduceCtorEq]
      rw [E]
      exact hx 1 (by decide)
  · rw [if_neg (fun q => o1 q.1)]
    have e1 := p2 o1
    have E : f_X0_sign (some x) x1 x2 x3 x4 (some out) S = some (nq 1, xt S) := by
      simp (disch := omega) only [f_X0_sign, f_X1_sign, ho, e1, pb1, pb2, nq_lit, nq_add, nq_mul, nq_lt, nq_le, nq_eq, nq_lt0, nq10, nq00, Nat.one_ne_zero, Nat.reduceEqDiff, Nat.not_lt_zero, zb1, zb0, eq_self, reduceIte, String.reduceEq, reduceCtorEq]
    rw [E]
    exact hx 1 (by decide)
theorem q_compare (x1 x2 x3 : Int32) (h : SRep S x out A) (hA : AOk A) (k1 : 9000 ≤ S.2.2.1) (k2 : 110000 ≤ S.2.2.2.1) : OQ S x out (o_compare A x1 x2 x3) (f_X0_compare (some x) x1 x2 x3 (some out) S) := by
  obtain ⟨ρ, e0, fa, sg, de, vl, st, pp, h⟩ := h
  have ho := h.o
  have hd : Dom S := h.2.2.2.2.1
  have hr0 : ∀ z, S.2.1 ≤ z → ρ z = 0 := h.2.2.2.2.2
  have hE : iE0 S.1 e0 := h.2.2.1.sub (mk_sub S ρ 0)
  have h00 : S.2.2.2.2.2 0 = e0 := h.2.2.2.1
  obtain ⟨p1, p2⟩ := x_there (S := S) (y := x1) (n := 4) (by omega) (by omega) (by omega)
  obtain ⟨p3, p4⟩ := x_there (S := S) (y := x2) (n := 4) (by omega) (by omega) (by omega)
  obtain ⟨t1, t2⟩ := x_strip (y := x3) h hA (by omega) (by omega)
  have hx := fun k (hk : k ≠ 0) => oq_x (out := out) (k := k) (h.xt (by omega) (by omega)) hk (xt_rm (by omega) (by omega)) (by omega) (by omega)
  have n1 := x_can1 S
  have n0 := x_can0 (S := S) (by omega) (by omega)
  unfold o_compare
  by_cases o1 : okI x1 4
  · have e1 := p1 o1
    by_cases o2 : okI x2 4
    · have e2 := p3 o2
      by_cases o3 : okI x3 A.1.length
      · rw [if_pos ⟨o1, o2, o3⟩]
        obtain ⟨a, b, e3, hs, -⟩ := t1 o3
        obtain ⟨p, q1, q2, rfl⟩ := okI_get o1
        obtain ⟨r, r1, r2, rfl⟩ := okI_get o2
        have i1 : ix (nq p) = p := nq_idx q2
        have i2 : ix (nq r) = r := nq_idx r2
        rw [i1, i2]
        obtain ⟨o, y1, y2, y3, y4⟩ := x_sig h r1
        cases hz : zS A r with
        | none =>
          have := y4 hz
          subst this
          have E : f_X0_compare (some x) (nq p) (nq r) x3 (some out) S = some (nq 2, xt S) := by
            simp (disch := omega) only [f_X0_compare, f_X1_compare, s_X1_compare_31, ho, e1, e2, e3, y1, y2, n0, pb1, pb2, nq_lit, nq_add, nq_mul, nq_lt, nq_le, nq_eq, nq_lt0, nq10, nq00, Nat.one_ne_zero, Nat.reduceEqDiff, Nat.not_lt_zero, zb1, zb0, eq_self, reduceIte, String.reduceEq, reduceCtorEq]
          rw [E]
          exact hx 2 (by decide)
        | some s =>
          obtain ⟨s1, s2, s3⟩ := s
          obtain ⟨a', rfl, y5⟩ := y3 _ hz
          obtain ⟨S1, d1⟩ : ∃ S1, x_new S 4 (.inl (6, [.null, .int (nq 0), .int (nq 0), .null])) = S1 := ⟨_, rfl⟩
          have g1 : nO S 6 4 [.null, .int (nq 0), .int (nq 0), .null] = some (some S.2.1, S1) := (nO_ok (by omega) (by omega)).trans (by rw [d1])
          have ch1 : Ch (fun _ => False) 1 4 S S1 := by rw [← d1]; exact Ch.new _ S _ (by omega) (by omega)
          have w1 : S1.1 S.2.1 = some (.inl (6, [.null, .int (nq 0), .int (nq 0), .null])) := by rw [← d1]; exact xn_i _ _ _
          have hd1 := ch1.2.2.2.2.2 hd
          have rr1 := ch1.2.2.1
          have rr2 := ch1.2.2.2.1
          have hFa : S.1 S.2.1 = none := by
            cases hz : S.1 S.2.1 with
            | none => rfl
            | some e => exact absurd (hd _ e hz) (Nat.lt_irrefl _)
          obtain ⟨S2, f2, i2', c2'⟩ := d_init (F := S.1) (hA.2.1 r _ hz) (fl_ok hA (ix x3)) (by omega) y5 hs hE (ch1.sub hd (Sub.refl _) fun _ q => q.elim) hFa (by rw [ch1.2.2.2.2.1]; exact h00) w1 hd1 (by omega) (by omega)
          have C : Ch (fun _ => False) 544 1693 S S2 := (ch1.trans c2' fun z hz q => absurd q (Nat.ne_of_lt hz)).mono (fun _ _ q => q) (by omega) (by omega)
          have h2 := h.ch0 C
          have h1' := h.ch0 ch1
          obtain ⟨o', z1, z2, z3, -⟩ := x_sig h1' r1
          have zz : o' = some a' := by
            have hsg := h.1.2.2.1
            obtain ⟨f, g1, g2⟩ := hsg
            have u1 : aL S (some sg) 5 (nq r) = some (f r) := aL_ok (mk_e g1).2 r1 (by omega)
            have u2 : aL S1 (some sg) 5 (nq r) = some (f r) := aL_ok (ch1.at hd (mk_e g1).2 (fun q => q)) r1 (by omega)
            rw [u2] at z2
            rw [u1] at y2
            exact (Option.some.inj z2).symm.trans (Option.some.inj y2)
          subst zz
          obtain ⟨S3, f3, h3, rm3⟩ := h2.setD (p := p) q1 (i2'.sub (nw_mk hr0 (Nat.le_refl _)))
          obtain ⟨o, v1, v2, v3, -⟩ := x_del h3 q1
          obtain ⟨a2, rfl, l, d, cap, sp, ias, sf, v4, v5, v6, v7, -⟩ := v3 (cmpD s1 s2 s3 (fl A (ix x3))) (by show va_up (zD A) p _ p = _; unfold va_up; rw [if_pos rfl])
          have e6 : oA S3 (some a2) 6 0 = some (some l) := oA_ok (o := some l) v4 rfl
          have e7 := v5.isO
          have e8 := la_size v5
          rw [v7] at e8
          have e5 : oA S (some x) 0 2 = some (some de) := oA_ok (o := some de) h.ox rfl
          have E : f_X0_compare (some x) (nq p) (nq r) x3 (some out) S = bd1 (jS S3 (some out) (nq 0) (nq (cmpD s1 s2 s3 (fl A (ix x3))).2.1.length).toInt64) fun S8 => some (nq 0, S8) := by
            simp (disch := omega) only [f_X0_compare, f_X1_compare, s_X1_compare_31, ho, e1, e2, e3, y1, y2, n1, e5, g1, z1, z2, f2, f3, v1, v2, e6, e7, e8, pb1, pb2, nq_lit, nq_add, nq_mul, nq_lt, nq_le, nq_eq, nq_lt0, nq10, nq00, Nat.one_ne_zero, Nat.reduceEqDiff, Nat.not_lt_zero, zb1, zb0, eq_self, reduceIte, String.reduceEq, reduceCtorEq]
          rw [E]
          exact oq_v (an := yn _ (uD A p (cmpD s1 s2 s3 (fl A (ix x3))))) h3 rfl rfl (C.rm.trans rm3) (by omega) (by omega)
      · rw [if_neg (fun q => o3 q.2.2)]
        have e3 := t2 o3
        have E : f_X0_compare (some x) x1 x2 x3 (some out) S = some (nq 1, xt S) := by
          simp (disch := omega) only [f_X0_compare, f_X1_compare, ho, e1, e2, e3, pb1, pb2, nq_lit, nq_add, nq_mul, nq_lt, nq_le, nq_eq, nq_lt0, nq10, nq00, Nat.one_ne_zero, Nat.reduceEqDiff, Nat.not_lt_zero, zb1, zb0, eq_self, reduceIte, String.reduceEq, reduceCtorEq]
        rw [E]
        exact hx 1 (by decide)
    · rw [if_neg (fun q => o2 q.2.1)]
      have e2 := p4 o2
      have E : f_X0_compare (some x) x1 x2 x3 (some out) S = some (nq 1, xt S) := by
        simp (disch := omega) only [f_X0_compare, f_X1_compare, ho, e1, e2, pb1, pb2, nq_lit, nq_add, nq_mul, nq_lt, nq_le, nq_eq, nq_lt0, nq10, nq00, Nat.one_ne_zero, Nat.reduceEqDiff, Nat.not_lt_zero, zb1, zb0, eq_self, reduceIte, String.reduceEq, reduceCtorEq]
      rw [E]
      exact hx 1 (by decide)
  · rw [if_neg (fun q => o1 q.1)]
    have e1 := p2 o1
    have E : f_X0_compare (some x) x1 x2 x3 (some out) S = some (nq 1, xt S) := by
      simp (disch := omega) only [f_X0_compare, f_X1_compare, ho, e1, pb1, pb2, nq_lit, nq_add, nq_mul, nq_lt, nq_le, nq_eq, nq_lt0, nq10, nq00, Nat.one_ne_zero, Nat.reduceEqDiff, Nat.not_lt_zero, zb1, zb0, eq_self, reduceIte, String.reduceEq, reduceCtorEq]
    rw [E]
    exact hx 1 (by decide)
end Sign
