/-! PURE: keepDelta -/
set_option maxRecDepth 100000
section KDel
variable {S : St} {x out : Nat} {A : AA}
/-- the versions' list, as x_version finds it -/
theorem x_vlist {ρ : Nat → Nat} {e0 : Option Nat} {fa sg de vl st pp : Nat} (x1 : Int32) (h : SR S x out A ρ e0 fa sg de vl st pp) (hA : AOk A) (ok : okI x1 (zV A).length) (k1 : 1 ≤ S.2.2.1) (k2 : 6 ≤ S.2.2.2.1) : ∃ a vd cap vv, f_X1_version (some x) x1 S = some (.inr (some a), S) ∧ vv[ix x1]? = some a ∧ cap ≤ 28 ∧ iLst S.1 e0 vl vd vv cap := by
  have hx := h.ox
  have e3 : oA S (some x) 0 3 = some (some vl) := oA_ok (o := some vl) hx rfl
  obtain ⟨-, ⟨⟨vd, cap, vv, v1, v2, v3, v4⟩, h6, h7⟩, -⟩ := h
  have hl := v1.sub (mk_sub S ρ 5)
  have ei := hl.isO
  have es := la_size hl
  have hlen := hA.2.2.2.1.1
  rw [v3] at es
  have t1 := (x_there (S := S) (y := x1) (n := (zV A).length) (by omega) k1 k2).1 ok
  obtain ⟨i, i1, i2, rfl⟩ := okI_get ok
  have hi : ix (nq i) = i := nq_idx i2
  rw [hi]
  obtain ⟨a, hh, w1, w2, w3⟩ := v4 i _ (List.getElem?_eq_getElem i1)
  have eg := la_get (i := i) hl (by omega) (by omega)
  rw [w1] at eg
  have ec := ckO_ok (mk_e w2).2
  refine ⟨a, vd, cap, vv, ?_, w1, v2, hl⟩
  simp (disch := omega) only [f_X1_version, e3, ei, es, t1, eg, ec, pb1, pb2, nq_lit, nq_add, nq_mul, nq_lt, nq_le, nq_eq, nq_lt0, nq10, nq00, Nat.one_ne_zero, Nat.reduceEqDiff, Nat.not_lt_zero, zb1, zb0, eq_self, reduceIte, String.reduceEq, reduceCtorEq]
end KDel
