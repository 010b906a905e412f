/-! PURE: the calls over versions -/
set_option maxRecDepth 100000
section Vers
variable {S : St} {x out : Nat} {A : AA}
theorem x_version {ρ : Nat → Nat} {e0 : Option Nat} {fa sg de vl st pp : Nat} (x1 : Int32) (h : SR S x out A ρ e0 fa sg de vl st pp) (hA : AOk A) (k1 : 1 ≤ S.2.2.1) (k2 : 6 ≤ S.2.2.2.1) :
    (okI x1 (zV A).length → ∃ a hh y vv, f_X1_version (some x) x1 S = some (.inr (some a), S) ∧ S.1 a = some (.inl (10, [.int (nq (ix x1)), .ref hh])) ∧ vv[ix x1]? = some a ∧ iVers S.1 e0 vv (zV A) ∧ (zV A)[ix x1]? = some y ∧ iHeld S.1 e0 vv hh y ∧
      (∀ z, S.2.1 ≤ z → z ≠ a) ∧ ∀ S' c s h' y', Ch (fun z => z = a) c s S S' → S'.1 a = some (.inl (10, [.int (nq (ix x1)), .ref h'])) → iHeld (mk S' ρ 0) e0 vv h' y' → SR S' x out (uV A ((zV A).set (ix x1) y')) ρ e0 fa sg de vl st pp) ∧
    (¬ okI x1 (zV A).length → f_X1_version (some x) x1 S = some (.inl ("java/lang/IndexOutOfBoundsException", S.2.1), xt S)) := by
  have hx := h.ox
  have e3 : oA S (some x) 0 3 = some (some vl) := oA_ok (o := some vl) hx rfl
  obtain ⟨⟨h1, h2, h3, h4⟩, ⟨⟨vd, cap, vv, v1, v2, v3, v4⟩, h6, h7⟩, h8, h9, h10, h11⟩ := h
  have hl := v1.sub (mk_sub S ρ 5)
  have ei := hl.isO
  have es := la_size hl
  have hlen := hA.2.2.2.1.1
  rw [v3] at es
  obtain ⟨t1, t2⟩ := x_there (S := S) (y := x1) (n := (zV A).length) (by omega) k1 k2
  have hI : iVers S.1 e0 vv (zV A) := ⟨v3, fun v y hy => by
    obtain ⟨a, hh, w1, w2, w3⟩ := v4 v y hy
    exact ⟨a, hh, w1, (mk_e w2).2, w3.sub (mk_sub S ρ 0)⟩⟩
  constructor
  · intro ok
    have t1 := t1 ok
    obtain ⟨i, i1, i2, rfl⟩ := okI_get ok
    have hi : ix (nq i) = i := nq_idx i2
    rw [hi]
    have hy : (zV A)[i]? = some (zV A)[i] := List.getElem?_eq_getElem i1
    obtain ⟨a, hh, w1, w2, w3⟩ := v4 i _ hy
    have eg := la_get (i := i) hl (by omega) (by omega)
    rw [w1] at eg
    obtain ⟨r1, w2u⟩ := mk_e w2
    have ec := ckO_ok w2u
    refine ⟨a, hh, _, vv, ?_, w2u, w1, hI, hy, w3.sub (mk_sub S ρ 0), fun z hz q => ?_, fun S' c s h' y' hc hs' hh' => ?_⟩
    · simp (disch := omega) only [f_X1_version, e3, ei, es, t1, eg, ec, pb1, pb2, nq_lit, nq_add, nq_mul, nq_lt, nq_le, nq_eq, nq_lt0, nq10, nq00, Nat.one_ne_zero, Nat.reduceEqDiff, Nat.not_lt_zero, zb1, zb0, eq_self, reduceIte, String.reduceEq, reduceCtorEq]
    · have := h10 _ _ w2u
      omega
    · have m : ∀ j, j ≠ 5 → Sub (mk S ρ j) (mk S' ρ j) := fun j hj => mk_ch hc h10 (fun _ _ q => q) (fun z q w => hj (by rw [← w, (show z = a from q), r1]))
      have tr : ∀ z e, mk S ρ 5 z = some e → z ≠ a → mk S' ρ 5 z = some e := fun z e hz n1 => mk_i (mk_e hz).1 (hc.at h10 (mk_e hz).2 n1)
      refine ⟨⟨h1.sub (m 1 (by decide)), h2.sub (m 2 (by decide)), h3.sub (m 3 (by decide)) (m 0 (by decide)), h4.sub (m 4 (by decide)) (m 0 (by decide))⟩, ⟨⟨vd, cap, vv, ?_, v2, ?_, fun v y hv => ?_⟩, h6.sub (m 6 (by decide)) (m 7 (by decide)) (m 0 (by decide)), h7.sub (m 8 (by decide))⟩, h8.sub (m 0 (by decide)), hc.2.2.2.2.1 ▸ h9, hc.2.2.2.2.2 h10, fun z hz => h11 z (Nat.le_trans hc.2.1 hz)⟩
      · obtain ⟨⟨mc, q1⟩, q2, q3⟩ := v1
        exact ⟨⟨mc, tr _ _ q1 (obne (mk_e q1).2 w2u (by simp))⟩, q2, fun q => ⟨tr _ _ (q3 q).1 (obne (mk_e (q3 q).1).2 w2u (by simp)), (q3 q).2⟩⟩
      · show vv.length = ((zV A).set i y').length
        rw [List.length_set, v3]
      · have hv : ((zV A).set i y')[v]? = some y := hv
        by_cases q : v = i
        · subst q
          rw [List.getElem?_set_self i1] at hv
          cases hv
          exact ⟨a, h', w1, mk_i r1 hs', hh'⟩
        · rw [List.getElem?_set_ne (fun z => q z.symm)] at hv
          obtain ⟨a', h2', u1, u2, u3⟩ := v4 v y hv
          have hvl : v < (zV A).length := (List.getElem?_eq_some_iff.mp hv).1
          have hne : a' ≠ a := fun z => by
            rw [z] at u2
            have u2 := (mk_e u2).2
            rw [w2u] at u2
            have : nq v = nq i := by
              have t1 := (Prod.mk.inj (Sum.inl.inj (Option.some.inj u2))).2
              exact (Value.int.inj (List.cons.inj t1).1).symm
            exact q ((nq_eq (by omega) (by omega)).mp this)
          exact ⟨a', h2', u1, tr _ _ u2 hne, u3.sub (m 0 (by decide))⟩
  · intro ok
    have t2 := t2 ok
    simp (disch := omega) only [f_X1_version, e3, ei, es, t2, pb1, pb2, nq_lit, nq_add, nq_mul, nq_lt, nq_le, nq_eq, nq_lt0, nq10, nq00, Nat.one_ne_zero, Nat.reduceEqDiff, Nat.not_lt_zero, zb1, zb0, eq_self, reduceIte, String.reduceEq, reduceCtorEq]

theorem q_brokenAt (x1 : Int32) (h : SRep S x out A) (hA : AOk A) (k1 : 9000 ≤ S.2.2.1) (k2 : 110000 ≤ S.2.2.2.1) : OQ S x out (o_brokenAt A x1) (f_X0_brokenAt (some x) x1 (some out) S) := by
  obtain ⟨ρ, e0, fa, sg, de, vl, st, pp, h⟩ := h
  have ho := h.o
  obtain ⟨t1, t2⟩ := x_version x1 h hA (by omega) (by omega)
  unfold o_brokenAt
  by_cases ok : okI x1 (zV A).length
  · rw [if_pos ok]
    obtain ⟨a, hh, y, vv, e, ha, hvv, hI, hy, hH, -⟩ := t1 ok
    have hd : Dom S := h.2.2.2.2.1
    obtain ⟨o, S1, g1, g2, g3, g4⟩ := v_broken hA.2.2.2.1 hI ok.2 hvv hd (by omega) (by omega)
    have e1 := isO_ok ha
    have h' := h.ch0 g2
    cases hm : mkV (zV A) (ix x1) with
    | inr bs =>
      have := g3 bs hm
      subst this
      have E : f_X0_brokenAt (some x) x1 (some out) S = bd1 (jS S1 (some out) (nq 0) (-(nq 1)).toInt64) fun S8 => some (nq 0, S8) := by
        simp only [f_X0_brokenAt, f_X1_brokenAt, s_X1_brokenAt_21, ho, e, e1, g1, pb1, pb2, nq_lit, nq_add, nq_mul, nq_lt, nq_le, nq_eq, nq_lt0, nq10, nq00, Nat.one_ne_zero, Nat.reduceEqDiff, Nat.not_lt_zero, zb1, zb0, eq_self, reduceIte, String.reduceEq, reduceCtorEq]
      rw [E]
      exact oq_v h' rfl rfl g2.rm (by omega) (by omega)
    | inl z =>
      obtain ⟨w1, q, rfl, w3⟩ := g4 z hm
      obtain ⟨fs, w4⟩ := w3.o
      have e2 := isO_ok w4
      have e3 := b_root (by omega) w3
      have E : f_X0_brokenAt (some x) x1 (some out) S = bd1 (jS S1 (some out) (nq 0) (nq z.1).toInt64) fun S8 => some (nq 0, S8) := by
        simp only [f_X0_brokenAt, f_X1_brokenAt, s_X1_brokenAt_21, ho, e, e1, g1, e2, e3, pb1, pb2, nq_lit, nq_add, nq_mul, nq_lt, nq_le, nq_eq, nq_lt0, nq10, nq00, Nat.one_ne_zero, Nat.reduceEqDiff, Nat.not_lt_zero, zb1, zb0, eq_self, reduceIte, String.reduceEq, reduceCtorEq]
      rw [E]
      exact oq_v h' rfl rfl g2.rm (by omega) (by omega)
  · rw [if_neg ok]
    have e := t2 ok
    have E : f_X0_brokenAt (some x) x1 (some out) S = some (nq 1, xt S) := by
      simp only [f_X0_brokenAt, f_X1_brokenAt, ho, e, pb1, pb2, nq_lit, nq_add, nq_mul, nq_lt, nq_le, nq_eq, nq_lt0, nq10, nq00, Nat.one_ne_zero, Nat.reduceEqDiff, Nat.not_lt_zero, zb1, zb0, eq_self, reduceIte, String.reduceEq, reduceCtorEq]
    rw [E]
    exact oq_x (h.xt (by omega) (by omega)) (by decide) (xt_rm (by omega) (by omega)) (by omega) (by omega)

theorem q_brokenAfter (x1 : Int32) (h : SRep S x out A) (hA : AOk A) (k1 : 9000 ≤ S.2.2.1) (k2 : 110000 ≤ S.2.2.2.1) : OQ S x out (o_brokenAfter A x1) (f_X0_brokenAfter (some x) x1 (some out) S) := by
  obtain ⟨ρ, e0, fa, sg, de, vl, st, pp, h⟩ := h
  have ho := h.o
  obtain ⟨t1, t2⟩ := x_version x1 h hA (by omega) (by omega)
  unfold o_brokenAfter
  by_cases ok : okI x1 (zV A).length
  · rw [if_pos ok]
    obtain ⟨a, hh, y, vv, e, ha, hvv, hI, hy, hH, -⟩ := t1 ok
    have hd : Dom S := h.2.2.2.2.1
    obtain ⟨o, S1, g1, g2, g3, g4⟩ := v_broken hA.2.2.2.1 hI ok.2 hvv hd (by omega) (by omega)
    have e1 := isO_ok ha
    have h' := h.ch0 g2
    cases hm : mkV (zV A) (ix x1) with
    | inr bs =>
      have := g3 bs hm
      subst this
      have E : f_X0_brokenAfter (some x) x1 (some out) S = bd1 (jS S1 (some out) (nq 0) (-(nq 1)).toInt64) fun S8 => some (nq 0, S8) := by
        simp only [f_X0_brokenAfter, f_X1_brokenAfter, s_X1_brokenAfter_21, ho, e, e1, g1, pb1, pb2, nq_lit, nq_add, nq_mul, nq_lt, nq_le, nq_eq, nq_lt0, nq10, nq00, Nat.one_ne_zero, Nat.reduceEqDiff, Nat.not_lt_zero, zb1, zb0, eq_self, reduceIte, String.reduceEq, reduceCtorEq]
      rw [E]
      exact oq_v h' rfl rfl g2.rm (by omega) (by omega)
    | inl z =>
      obtain ⟨w1, q, rfl, w3⟩ := g4 z hm
      obtain ⟨fs, w4⟩ := w3.o
      have e2 := isO_ok w4
      have e3 := b_steps (by omega) w3
      have E : f_X0_brokenAfter (some x) x1 (some out) S = bd1 (jS S1 (some out) (nq 0) (nq z.2.1).toInt64) fun S8 => some (nq 0, S8) := by
        simp only [f_X0_brokenAfter, f_X1_brokenAfter, s_X1_brokenAfter_21, ho, e, e1, g1, e2, e3, pb1, pb2, nq_lit, nq_add, nq_mul, nq_lt, nq_le, nq_eq, nq_lt0, nq10, nq00, Nat.one_ne_zero, Nat.reduceEqDiff, Nat.not_lt_zero, zb1, zb0, eq_self, reduceIte, String.reduceEq, reduceCtorEq]
      rw [E]
      exact oq_v h' rfl rfl g2.rm (by omega) (by omega)
  · rw [if_neg ok]
    have e := t2 ok
    have E : f_X0_brokenAfter (some x) x1 (some out) S = some (nq 1, xt S) := by
      simp only [f_X0_brokenAfter, f_X1_brokenAfter, ho, e, pb1, pb2, nq_lit, nq_add, nq_mul, nq_lt, nq_le, nq_eq, nq_lt0, nq10, nq00, Nat.one_ne_zero, Nat.reduceEqDiff, Nat.not_lt_zero, zb1, zb0, eq_self, reduceIte, String.reduceEq, reduceCtorEq]
    rw [E]
    exact oq_x (h.xt (by omega) (by omega)) (by decide) (xt_rm (by omega) (by omega)) (by omega) (by omega)

theorem q_reason (x1 : Int32) (h : SRep S x out A) (hA : AOk A) (k1 : 9000 ≤ S.2.2.1) (k2 : 110000 ≤ S.2.2.2.1) : OQ S x out (o_reason A x1) (f_X0_reason (some x) x1 (some out) S) := by
  obtain ⟨ρ, e0, fa, sg, de, vl, st, pp, h⟩ := h
  have ho := h.o
  obtain ⟨t1, t2⟩ := x_version x1 h hA (by omega) (by omega)
  unfold o_reason
  by_cases ok : okI x1 (zV A).length
  · rw [if_pos ok]
    obtain ⟨a, hh, y, vv, e, ha, hvv, hI, hy, hH, -⟩ := t1 ok
    have hd : Dom S := h.2.2.2.2.1
    obtain ⟨o, S1, g1, g2, g3, g4⟩ := v_broken hA.2.2.2.1 hI ok.2 hvv hd (by omega) (by omega)
    have e1 := isO_ok ha
    have h' := h.ch0 g2
    cases hm : mkV (zV A) (ix x1) with
    | inr bs =>
      have := g3 bs hm
      subst this
      have E : f_X0_reason (some x) x1 (some out) S = bd1 (jS S1 (some out) (nq 0) (-(nq 1)).toInt64) fun S8 => some (nq 0, S8) := by
        simp only [f_X0_reason, f_X1_reason, s_X1_reason_21, ho, e, e1, g1, pb1, pb2, nq_lit, nq_add, nq_mul, nq_lt, nq_le, nq_eq, nq_lt0, nq10, nq00, Nat.one_ne_zero, Nat.reduceEqDiff, Nat.not_lt_zero, zb1, zb0, eq_self, reduceIte, String.reduceEq, reduceCtorEq]
      rw [E]
      exact oq_v h' rfl rfl g2.rm (by omega) (by omega)
    | inl z =>
      obtain ⟨w1, q, rfl, w3⟩ := g4 z hm
      obtain ⟨fs, w4⟩ := w3.o
      have e2 := isO_ok w4
      have e3 := w3.reason
      have E : f_X0_reason (some x) x1 (some out) S = bd1 (jS S1 (some out) (nq 0) (nq z.2.2).toInt64) fun S8 => some (nq 0, S8) := by
        simp only [f_X0_reason, f_X1_reason, s_X1_reason_21, ho, e, e1, g1, e2, e3, pb1, pb2, nq_lit, nq_add, nq_mul, nq_lt, nq_le, nq_eq, nq_lt0, nq10, nq00, Nat.one_ne_zero, Nat.reduceEqDiff, Nat.not_lt_zero, zb1, zb0, eq_self, reduceIte, String.reduceEq, reduceCtorEq]
      rw [E]
      exact oq_v h' rfl rfl g2.rm (by omega) (by omega)
  · rw [if_neg ok]
    have e := t2 ok
    have E : f_X0_reason (some x) x1 (some out) S = some (nq 1, xt S) := by
      simp only [f_X0_reason, f_X1_reason, ho, e, pb1, pb2, nq_lit, nq_add, nq_mul, nq_lt, nq_le, nq_eq, nq_lt0, nq10, nq00, Nat.one_ne_zero, Nat.reduceEqDiff, Nat.not_lt_zero, zb1, zb0, eq_self, reduceIte, String.reduceEq, reduceCtorEq]
    rw [E]
    exact oq_x (h.xt (by omega) (by omega)) (by decide) (xt_rm (by omega) (by omega)) (by omega) (by omega)

theorem q_heldBy (x1 : Int32) (h : SRep S x out A) (hA : AOk A) (k1 : 9000 ≤ S.2.2.1) (k2 : 110000 ≤ S.2.2.2.1) : OQ S x out (o_heldBy A x1) (f_X0_heldBy (some x) x1 (some out) S) := by
  obtain ⟨ρ, e0, fa, sg, de, vl, st, pp, h⟩ := h
  have ho := h.o
  obtain ⟨t1, t2⟩ := x_version x1 h hA (by omega) (by omega)
  unfold o_heldBy
  by_cases ok : okI x1 (zV A).length
  · rw [if_pos ok]
    obtain ⟨a, hh, y, vv, e, ha, hvv, hI, hy, hH, -⟩ := t1 ok
    have e1 : oA S (some a) 10 1 = some (some hh) := oA_ok (o := some hh) ha rfl
    have e2 := v_size hy hH
    have E : f_X0_heldBy (some x) x1 (some out) S = bd1 (jS S (some out) (nq 0) (nq (hld (zV A) (ix x1))).toInt64) fun S8 => some (nq 0, S8) := by
      simp only [f_X0_heldBy, f_X1_heldBy, ho, e, e1, e2, pb1, pb2, nq_lit, nq_add, nq_mul, nq_lt, nq_le, nq_eq, nq_lt0, nq10, nq00, Nat.one_ne_zero, Nat.reduceEqDiff, Nat.not_lt_zero, zb1, zb0, eq_self, reduceIte, String.reduceEq, reduceCtorEq]
    rw [E]
    exact oq_v h rfl rfl (Rm.refl S) (by omega) (by omega)
  · rw [if_neg ok]
    have e := t2 ok
    have E : f_X0_heldBy (some x) x1 (some out) S = some (nq 1, xt S) := by
      simp only [f_X0_heldBy, f_X1_heldBy, ho, e, pb1, pb2, nq_lit, nq_add, nq_mul, nq_lt, nq_le, nq_eq, nq_lt0, nq10, nq00, Nat.one_ne_zero, Nat.reduceEqDiff, Nat.not_lt_zero, zb1, zb0, eq_self, reduceIte, String.reduceEq, reduceCtorEq]
    rw [E]
    exact oq_x (h.xt (by omega) (by omega)) (by decide) (xt_rm (by omega) (by omega)) (by omega) (by omega)
theorem q_lose (x1 : Int32) (h : SRep S x out A) (hA : AOk A) (k1 : 9000 ≤ S.2.2.1) (k2 : 110000 ≤ S.2.2.2.1) : OQ S x out (o_lose A x1) (f_X0_lose (some x) x1 (some out) S) := by
  obtain ⟨ρ, e0, fa, sg, de, vl, st, pp, h⟩ := h
  have ho := h.o
  obtain ⟨t1, t2⟩ := x_version x1 h hA (by omega) (by omega)
  unfold o_lose
  by_cases ok : okI x1 (zV A).length
  · rw [if_pos ok]
    obtain ⟨a, hh, y, vv, e, ha, hvv, hI, hy, hH, hnew, hset⟩ := t1 ok
    have hd : Dom S := h.2.2.2.2.1
    have hr0 : ∀ z, S.2.1 ≤ z → ρ z = 0 := h.2.2.2.2.2
    have e1 : oA S (some a) 10 1 = some (some hh) := oA_ok (o := some hh) ha rfl
    have e2 := v_size hy hH
    obtain ⟨S1, d1⟩ : ∃ S1, x_new S 0 (.inl (13, [])) = S1 := ⟨_, rfl⟩
    have q1 : nO S 13 0 [] = some (some S.2.1, S1) := (nO_ok (by omega) (by omega)).trans (by rw [d1])
    have c1 : Ch (fun _ => False) 1 0 S S1 := by rw [← d1]; exact Ch.new _ S _ (by omega) (by omega)
    have w1 : S1.1 S.2.1 = some (.inl (13, [])) := by rw [← d1]; exact xn_i _ _ _
    have hd1 := c1.2.2.2.2.2 hd
    have ha1 := c1.at hd ha (fun q => q)
    obtain ⟨S2, d2⟩ : ∃ S2, x_set S1 a (.inl (10, [.int (nq (ix x1)), va_rf (some S.2.1)])) = S2 := ⟨_, rfl⟩
    have p2 : pV S1 (some a) 10 1 (va_rf (some S.2.1)) = some S2 := (pV_ok ha1 (by simp)).trans (congrArg some d2)
    have c2 : Ch (fun z => z = a) 0 0 S1 S2 := by rw [← d2]; exact Ch.set S1 _ ha1
    have w2 : S2.1 a = some (.inl (10, [.int (nq (ix x1)), .ref S.2.1])) := by rw [← d2]; exact xs_i _ _ _
    have w3 := c2.at hd1 w1 (hnew _ (Nat.le_refl _))
    have C : Ch (fun z => z = a) 1 0 S S2 := (c1.mono (B := fun z => z = a) (fun _ _ q => q.elim) (Nat.le_refl _) (Nat.le_refl _)).trans c2 fun _ _ q => q
    have h' := hset S2 1 0 S.2.1 (.inl ()) C w2 (mk_i (hr0 _ (Nat.le_refl _)) w3)
    have E : f_X0_lose (some x) x1 (some out) S = bd1 (jS S2 (some out) (nq 0) (nq (hld (zV A) (ix x1))).toInt64) fun S8 => some (nq 0, S8) := by
      simp only [f_X0_lose, f_X1_lose, f_X14_init, ho, e, e1, e2, q1, p2, pb1, pb2, nq_lit, nq_add, nq_mul, nq_lt, nq_le, nq_eq, nq_lt0, nq10, nq00, Nat.one_ne_zero, Nat.reduceEqDiff, Nat.not_lt_zero, zb1, zb0, eq_self, reduceIte, String.reduceEq, reduceCtorEq]
    rw [E]
    exact oq_v h' rfl rfl C.rm (by omega) (by omega)
  · rw [if_neg ok]
    have e := t2 ok
    have E : f_X0_lose (some x) x1 (some out) S = some (nq 1, xt S) := by
      simp only [f_X0_lose, f_X1_lose, ho, e, pb1, pb2, nq_lit, nq_add, nq_mul, nq_lt, nq_le, nq_eq, nq_lt0, nq10, nq00, Nat.one_ne_zero, Nat.reduceEqDiff, Nat.not_lt_zero, zb1, zb0, eq_self, reduceIte, String.reduceEq, reduceCtorEq]
    rw [E]
    exact oq_x (h.xt (by omega) (by omega)) (by decide) (xt_rm (by omega) (by omega)) (by omega) (by omega)
/-- a whole version's things -/
theorem wh_init {n s b cap : Nat} {bs : List Nat} {v : Value} (hn : S.1 n = some (.inl (9, [v]))) (hs : iStr S.1 s b cap bs) (hb : bs.length ≤ 120) (hcap : cap ≤ 1000) (hd : Dom S) (k1 : 2 ≤ S.2.2.1) (k2 : 122 ≤ S.2.2.2.1) : ∃ S' r rb, f_X10_init (some n) (some s) S = some ((), S') ∧ S'.1 n = some (.inl (9, [.ref r])) ∧ iStr S'.1 r rb bs.length bs ∧ S.2.1 ≤ r ∧ S.2.1 ≤ rb ∧ Ch (fun z => z = n) 2 122 S S' := by
  have ei := isO_ok hs.1
  obtain ⟨S1, e1, i1, c1⟩ := t_copy hs (by omega) hd (by omega) (by omega)
  have hd1 := c1.2.2.2.2.2 hd
  have hn1 := c1.at hd hn (fun q => q)
  have hlt := hd _ _ hn
  obtain ⟨S2, d2⟩ : ∃ S2, x_set S1 n (.inl (9, [va_rf (some S.2.1)])) = S2 := ⟨_, rfl⟩
  have p2 : pV S1 (some n) 9 0 (va_rf (some S.2.1)) = some S2 := (pV_ok hn1 (by simp)).trans (congrArg some d2)
  have c2 : Ch (fun z => z = n) 0 0 S1 S2 := by rw [← d2]; exact Ch.set S1 _ hn1
  have w2 : S2.1 n = some (.inl (9, [.ref S.2.1])) := by rw [← d2]; exact xs_i _ _ _
  refine ⟨S2, S.2.1, S.2.1 + 1, ?_, w2, ?_, Nat.le_refl _, Nat.le_succ _, ((c1.mono (B := fun z => z = n) (fun _ _ q => q.elim) (Nat.le_refl _) (Nat.le_refl _)).trans c2 fun _ _ q => q).mono (fun _ _ q => q) (by omega) (by omega)⟩
  · simp only [f_X10_init, ei, e1, p2, pb1, pb2, nq_lit, nq_add, nq_mul, nq_lt, nq_le, nq_eq, nq_lt0, nq10, nq00, Nat.one_ne_zero, Nat.reduceEqDiff, Nat.not_lt_zero, zb1, zb0, eq_self, reduceIte, String.reduceEq, reduceCtorEq]
  · obtain ⟨q1, f, q2, q3⟩ := i1
    exact ⟨c2.at hd1 q1 (by omega), f, c2.at hd1 q2 (by omega), q3⟩
theorem q_replace (x1 x2 : Int32) (h : SRep S x out A) (hA : AOk A) (k1 : 9000 ≤ S.2.2.1) (k2 : 110000 ≤ S.2.2.2.1) : OV S x out (o_replace A x1 x2) (f_X0_replace (some x) x1 x2 S) := by
  obtain ⟨ρ, e0, fa, sg, de, vl, st, pp, h⟩ := h
  have ho := h.o
  obtain ⟨t1, t2⟩ := x_version x1 h hA (by omega) (by omega)
  have hd : Dom S := h.2.2.2.2.1
  have hr0 : ∀ z, S.2.1 ≤ z → ρ z = 0 := h.2.2.2.2.2
  unfold o_replace
  by_cases ok : okI x1 (zV A).length
  · obtain ⟨a, hh, y, vv, e, ha, hvv, hI, hy, hH, hnew, hset⟩ := t1 ok
    obtain ⟨S1, d1⟩ : ∃ S1, x_new S 1 (.inl (9, [.null])) = S1 := ⟨_, rfl⟩
    have q1 : nO S 9 1 [.null] = some (some S.2.1, S1) := (nO_ok (by omega) (by omega)).trans (by rw [d1])
    have c1 : Ch (fun _ => False) 1 1 S S1 := by rw [← d1]; exact Ch.new _ S _ (by omega) (by omega)
    have w1 : S1.1 S.2.1 = some (.inl (9, [.null])) := by rw [← d1]; exact xn_i _ _ _
    have nx1 : S1.2.1 = S.2.1 + 1 := by rw [← d1]; rfl
    have hd1 := c1.2.2.2.2.2 hd
    have h1 := h.ch0 c1
    have ho1 := h1.o
    have m1 := c1.2.2.1
    have m2 := c1.2.2.2.1
    obtain ⟨u1, u2⟩ := x_strip (y := x2) h1 hA (by omega) (by omega)
    by_cases ok2 : okI x2 A.1.length
    · rw [if_pos ⟨ok, ok2⟩]
      obtain ⟨s, b, e', hs, -⟩ := u1 ok2
      obtain ⟨S2, r, rb, f2, w2, i2, n1, n2, c2⟩ := wh_init w1 hs (fl_ok hA _).1 (by omega) hd1 (by omega) (by omega)
      have hd2 := c2.2.2.2.2.2 hd1
      have ha1 := c1.at hd ha (fun q => q)
      have ha2 := c2.at hd1 ha1 (fun q => hnew _ (Nat.le_refl _) (Eq.symm q))
      obtain ⟨S3, d3⟩ : ∃ S3, x_set S2 a (.inl (10, [.int (nq (ix x1)), va_rf (some S.2.1)])) = S3 := ⟨_, rfl⟩
      have p3 : pV S2 (some a) 10 1 (va_rf (some S.2.1)) = some S3 := (pV_ok ha2 (by simp)).trans (congrArg some d3)
      have c3 : Ch (fun z => z = a) 0 0 S2 S3 := by rw [← d3]; exact Ch.set S2 _ ha2
      have w3 : S3.1 a = some (.inl (10, [.int (nq (ix x1)), .ref S.2.1])) := by rw [← d3]; exact xs_i _ _ _
      have C : Ch (fun z => z = a) 3 123 S S3 := ((c1.or c2).or c3).mono (fun z hz q => by
        rcases q with (q | q) | q
        · exact q.elim
        · exact absurd q (Nat.ne_of_lt hz)
        · exact q) (by omega) (by omega)
      have tr : ∀ z e, S2.1 z = some e → S.2.1 ≤ z → mk S3 ρ 0 z = some e := fun z e hz hl => mk_i (hr0 z hl) (c3.at hd2 hz (hnew z hl))
      have h' := hset S3 3 123 S.2.1 (.inr (.inl (fl A (ix x2)))) C w3 (by
        obtain ⟨g1, g, g2, g3⟩ := i2
        exact ⟨r, rb, _, tr _ _ w2 (Nat.le_refl _), ⟨tr _ _ g1 (by omega), g, tr _ _ g2 (by omega), g3⟩, by have := (fl_ok hA (ix x2)).1; show (fl A (ix x2)).length ≤ 1000; omega⟩)
      have E : f_X0_replace (some x) x1 x2 S = some (nq 0, S3) := by
        simp only [f_X0_replace, f_X1_replace, ho, e, q1, ho1, e', f2, p3, pb1, pb2, nq_lit, nq_add, nq_mul, nq_lt, nq_le, nq_eq, nq_lt0, nq10, nq00, Nat.one_ne_zero, Nat.reduceEqDiff, Nat.not_lt_zero, zb1, zb0, eq_self, reduceIte, String.reduceEq, reduceCtorEq]
      rw [E]
      exact ov_v (an := yn 0 _) h' C.rm (by omega) (by omega)
    · rw [if_neg (fun q => ok2 q.2)]
      have e' := u2 ok2
      have E : f_X0_replace (some x) x1 x2 S = some (nq 1, xt S1) := by
        simp only [f_X0_replace, f_X1_replace, ho, e, q1, ho1, e', pb1, pb2, nq_lit, nq_add, nq_mul, nq_lt, nq_le, nq_eq, nq_lt0, nq10, nq00, Nat.one_ne_zero, Nat.reduceEqDiff, Nat.not_lt_zero, zb1, zb0, eq_self, reduceIte, String.reduceEq, reduceCtorEq]
      rw [E]
      exact ov_v (an := no 1 A) (h1.xt (by omega) (by omega)) (c1.rm.trans (xt_rm (by omega) (by omega))) (by omega) (by omega)
  · rw [if_neg (fun q => ok q.1)]
    have e := t2 ok
    have E : f_X0_replace (some x) x1 x2 S = some (nq 1, xt S) := by
      simp only [f_X0_replace, f_X1_replace, ho, e, pb1, pb2, nq_lit, nq_add, nq_mul, nq_lt, nq_le, nq_eq, nq_lt0, nq10, nq00, Nat.one_ne_zero, Nat.reduceEqDiff, Nat.not_lt_zero, zb1, zb0, eq_self, reduceIte, String.reduceEq, reduceCtorEq]
    rw [E]
    exact ov_v (an := no 1 A) (h.xt (by omega) (by omega)) (xt_rm (by omega) (by omega)) (by omega) (by omega)
theorem q_rebuild (x1 x2 : Int32) (h : SRep S x out A) (hA : AOk A) (k1 : 9000 ≤ S.2.2.1) (k2 : 110000 ≤ S.2.2.2.1) : OQ S x out (o_rebuild A x1 x2) (f_X0_rebuild (some x) x1 x2 (some out) S) := by
  obtain ⟨ρ, e0, fa, sg, de, vl, st, pp, h⟩ := h
  have ho := h.o
  have hd : Dom S := h.2.2.2.2.1
  obtain ⟨t1, t2⟩ := x_version x1 h hA (by omega) (by omega)
  obtain ⟨u1, u2⟩ := x_strip (y := x2) h hA (by omega) (by omega)
  have hx := oq_x (out := out) (k := 1) (h.xt (by omega) (by omega)) (by decide) (xt_rm (by omega) (by omega)) (by omega) (by omega)
  unfold o_rebuild
  by_cases ok : okI x1 (zV A).length
  · obtain ⟨a, hh, y, vv, e, ha, hvv, hI, hy, hH, hnew, -⟩ := t1 ok
    by_cases ok2 : okI x2 A.1.length
    · rw [if_pos ⟨ok, ok2⟩]
      obtain ⟨s, b, e', hs, r1, r2, hset⟩ := u1 ok2
      obtain ⟨g1, g2⟩ := v_ver hA.2.2.2.1 hI ok.2 hvv hd (by omega) (by omega)
      have e1 := isO_ok ha
      cases hm : mkV (zV A) (ix x1) with
      | inl z =>
        obtain ⟨-, q, S1, w1, w2, w3⟩ := g2 z hm
        have m1 := w3.2.2.1
        have m2 := w3.2.2.2.1
        have et := thr_ok (S := S1) (E := "java/lang/IllegalStateException") (by omega) (by omega)
        have E : f_X0_rebuild (some x) x1 x2 (some out) S = some (nq 2, xt S1) := by
          simp only [f_X0_rebuild, f_X1_rebuild, ho, e, e', e1, w1, et, pb1, pb2, nq_lit, nq_add, nq_mul, nq_lt, nq_le, nq_eq, nq_lt0, nq10, nq00, Nat.one_ne_zero, Nat.reduceEqDiff, Nat.not_lt_zero, zb1, zb0, eq_self, reduceIte, String.reduceEq, reduceCtorEq]
        rw [E]
        exact oq_x ((h.ch0 w3).xt (by omega) (by omega)) (by decide) (w3.rm.trans (xt_rm (by omega) (by omega))) (by omega) (by omega)
      | inr bs =>
        obtain ⟨r, rb, cap, S1, w1, w2, w3, w4⟩ := g1 bs hm
        have hd1 := w4.2.2.2.2.2 hd
        have hbs := mkV_ok hA.2.2.2.1 (ix x1 + 1) (ix x1) (by omega) ok.2 bs hm
        have hs1 := hs.sub (w4.sub hd (Sub.refl _) fun _ q => q.elim)
        obtain ⟨S2, v1, v2, v3⟩ := t_become hs1 w2 hbs.1 (by omega) (by omega)
        have C : Ch (fun z => z = s ∨ z = b) 80 2720 S S2 := (w4.mono (B := fun z => z = s ∨ z = b) (fun _ _ q => q.elim) (Nat.le_refl _) (Nat.le_refl _)).trans v3 fun _ _ q => q
        have e2 := isO_ok hs1.1
        have e3 : oI S2 (some s) 3 1 = some (nq bs.length) := oI_ok v2.1 rfl
        have E : f_X0_rebuild (some x) x1 x2 (some out) S = bd1 (jS S2 (some out) (nq 0) (nq bs.length).toInt64) fun S8 => some (nq 0, S8) := by
          simp only [f_X0_rebuild, f_X1_rebuild, ho, e, e', e1, w1, e2, v1, e3, pb1, pb2, nq_lit, nq_add, nq_mul, nq_lt, nq_le, nq_eq, nq_lt0, nq10, nq00, Nat.one_ne_zero, Nat.reduceEqDiff, Nat.not_lt_zero, zb1, zb0, eq_self, reduceIte, String.reduceEq, reduceCtorEq]
        rw [E]
        exact oq_v (hset S2 _ _ bs C v2) rfl rfl C.rm (by omega) (by omega)
    · rw [if_neg (fun q => ok2 q.2)]
      have e' := u2 ok2
      have E : f_X0_rebuild (some x) x1 x2 (some out) S = some (nq 1, xt S) := by
        simp only [f_X0_rebuild, f_X1_rebuild, ho, e, e', pb1, pb2, nq_lit, nq_add, nq_mul, nq_lt, nq_le, nq_eq, nq_lt0, nq10, nq00, Nat.one_ne_zero, Nat.reduceEqDiff, Nat.not_lt_zero, zb1, zb0, eq_self, reduceIte, String.reduceEq, reduceCtorEq]
      rw [E]
      exact hx
  · rw [if_neg (fun q => ok q.1)]
    have e := t2 ok
    have E : f_X0_rebuild (some x) x1 x2 (some out) S = some (nq 1, xt S) := by
      simp only [f_X0_rebuild, f_X1_rebuild, ho, e, pb1, pb2, nq_lit, nq_add, nq_mul, nq_lt, nq_le, nq_eq, nq_lt0, nq10, nq00, Nat.one_ne_zero, Nat.reduceEqDiff, Nat.not_lt_zero, zb1, zb0, eq_self, reduceIte, String.reduceEq, reduceCtorEq]
    rw [E]
    exact hx
end Vers
