/-! PURE: keepDelta -/
set_option maxRecDepth 100000
section KDel
variable {S : St} {x out : Nat} {A : AA}
/-- the versions' list, as x_version finds it -/
theorem x_vlist {ρ : Nat → Nat} {e0 : Option Nat} {fa sg de vl st pp : Nat} (x1 : Int32) (h : SR S x out A ρ e0 fa sg de vl st pp) (hA : AOk A) (ok : okI x1 (zV A).length) (k1 : 1 ≤ S.2.2.1) (k2 : 6 ≤ S.2.2.2.1) : ∃ a vd cap vv, f_X1_version (some x) x1 S = some (.inr (some a), S) ∧ vv[ix x1]? = some a ∧ cap ≤ 28 ∧ iLst S.1 e0 vl vd vv cap := by
  have hx := h.ox
  have e3 : oA S (some x) 0 3 = some (some vl) := oA_ok (o := some vl) hx rfl
  obtain ⟨-, ⟨⟨vd, cap, vv, v1, v2, v3, v4⟩, h6, h7⟩, -⟩ := h
  have hl := v1.sub (mk_sub S ρ 5)
  have ei := hl.isO
  have es := la_size hl
  have hlen := hA.2.2.2.1.1
  rw [v3] at es
  have t1 := (x_there (S := S) (y := x1) (n := (zV A).length) (by omega) k1 k2).1 ok
  obtain ⟨i, i1, i2, rfl⟩ := okI_get ok
  have hi : ix (nq i) = i := nq_idx i2
  rw [hi]
  obtain ⟨a, hh, w1, w2, w3⟩ := v4 i _ (List.getElem?_eq_getElem i1)
  have eg := la_get (i := i) hl (by omega) (by omega)
  rw [w1] at eg
  have ec := ckO_ok (mk_e w2).2
  refine ⟨a, vd, cap, vv, ?_, w1, v2, hl⟩
  simp (disch := omega) only [f_X1_version, e3, ei, es, t1, eg, ec, pb1, pb2, nq_lit, nq_add, nq_mul, nq_lt, nq_le, nq_eq, nq_lt0, nq10, nq00, Nat.one_ne_zero, Nat.reduceEqDiff, Nat.not_lt_zero, zb1, zb0, eq_self, reduceIte, String.reduceEq, reduceCtorEq]
theorem q_keepDelta (x1 x2 x3 : Int32) (h : SRep S x out A) (hA : AOk A) (k1 : 9000 ≤ S.2.2.1) (k2 : 110000 ≤ S.2.2.2.1) : OQ S x out (o_keepDelta A x1 x2 x3) (f_X0_keepDelta (some x) x1 x2 x3 (some out) S) := by
  obtain ⟨ρ, e0, fa, sg, de, vl, st, pp, h⟩ := h
  have ho := h.o
  have hd : Dom S := h.2.2.2.2.1
  have hr0 : ∀ z, S.2.1 ≤ z → ρ z = 0 := h.2.2.2.2.2
  have hE : iE0 S.1 e0 := h.2.2.1.sub (mk_sub S ρ 0)
  have h00 : S.2.2.2.2.2 0 = e0 := h.2.2.2.1
  obtain ⟨t1, t2⟩ := x_strip (y := x1) h hA (by omega) (by omega)
  obtain ⟨u1, u2⟩ := x_version x2 h hA (by omega) (by omega)
  have hx := fun k (hk : k ≠ 0) => oq_x (out := out) (k := k) (h.xt (by omega) (by omega)) hk (xt_rm (by omega) (by omega)) (by omega) (by omega)
  obtain ⟨b1, b2⟩ := x_fit (S := S) (okI_r (x := x3) (n := 7) (by omega)) (by omega) (by omega)
  have n1 := x_can1 S
  have n0 := x_can0 (S := S) (by omega) (by omega)
  obtain ⟨e3, e4, e5⟩ := x_vsize h
  have hv20 := hA.2.2.2.1.1
  unfold o_keepDelta
  by_cases ok : okI x1 A.1.length
  · obtain ⟨a, b, e, hs, -⟩ := t1 ok
    have hs : iStr S.1 a b 120 (fl A (ix x1)) := hs
    by_cases ok2 : okI x2 (zV A).length
    · rw [if_pos ⟨ok, ok2⟩]
      obtain ⟨av, hh, y, vv, e', ha, hvv, hI, hy, hH, -⟩ := u1 ok2
      by_cases ok3 : okI x3 8 ∧ ¬ ix x3 = 0
      · rw [if_pos ok3]
        have ef := b1 ok3
        by_cases ok4 : (zV A).length < 20
        · rw [if_pos ok4]
          have ok4' : ¬ 20 ≤ (zV A).length := by omega
          obtain ⟨bl, l1, l2, rfl⟩ := okI_get ok3.1
          have i2 : ix (nq bl) = bl := nq_idx l2
          have n3 := ok3.2
          rw [i2] at n3 ⊢
          sorry
        · rw [if_neg ok4]
          have ok4' : 20 ≤ (zV A).length := by omega
          have E : f_X0_keepDelta (some x) x1 x2 x3 (some out) S = some (nq 3, xt S) := by
            simp (disch := omega) only [f_X0_keepDelta, f_X1_keepDelta, s_X1_keepDelta_40, ho, e, e', ef, e3, e4, e5, ok4', n0, pb1, pb2, nq_lit, nq_add, nq_mul, nq_lt, nq_le, nq_eq, nq_lt0, nq10, nq00, Nat.one_ne_zero, Nat.reduceEqDiff, Nat.not_lt_zero, zb1, zb0, eq_self, reduceIte, String.reduceEq, reduceCtorEq]
          rw [E]
          exact hx 3 (by decide)
      · rw [if_neg ok3]
        have ef := b2 ok3
        have E : f_X0_keepDelta (some x) x1 x2 x3 (some out) S = some (nq 2, xt S) := by
          simp (disch := omega) only [f_X0_keepDelta, f_X1_keepDelta, ho, e, e', ef, pb1, pb2, nq_lit, nq_add, nq_mul, nq_lt, nq_le, nq_eq, nq_lt0, nq10, nq00, Nat.one_ne_zero, Nat.reduceEqDiff, Nat.not_lt_zero, zb1, zb0, eq_self, reduceIte, String.reduceEq, reduceCtorEq]
        rw [E]
        exact hx 2 (by decide)
    · rw [if_neg (fun q => ok2 q.2)]
      have e' := u2 ok2
      have E : f_X0_keepDelta (some x) x1 x2 x3 (some out) S = some (nq 1, xt S) := by
        simp (disch := omega) only [f_X0_keepDelta, f_X1_keepDelta, ho, e, e', pb1, pb2, nq_lit, nq_add, nq_mul, nq_lt, nq_le, nq_eq, nq_lt0, nq10, nq00, Nat.one_ne_zero, Nat.reduceEqDiff, Nat.not_lt_zero, zb1, zb0, eq_self, reduceIte, String.reduceEq, reduceCtorEq]
      rw [E]
      exact hx 1 (by decide)
  · rw [if_neg (fun q => ok q.1)]
    have e := t2 ok
    have E : f_X0_keepDelta (some x) x1 x2 x3 (some out) S = some (nq 1, xt S) := by
      simp (disch := omega) only [f_X0_keepDelta, f_X1_keepDelta, ho, e, pb1, pb2, nq_lit, nq_add, nq_mul, nq_lt, nq_le, nq_eq, nq_lt0, nq10, nq00, Nat.one_ne_zero, Nat.reduceEqDiff, Nat.not_lt_zero, zb1, zb0, eq_self, reduceIte, String.reduceEq, reduceCtorEq]
    rw [E]
    exact hx 1 (by decide)
end KDel
