/-! PURE: the calls that read deltas -/
set_option maxRecDepth 100000
section ReadD
variable {S : St} {x out : Nat} {A : AA}
theorem ins_len_le (hA : AOk A) (p : Nat) : (ins A p).length ≤ 120 := by
  unfold ins
  split
  · rename_i D hD
    have := hA.2.2.1 p D hD
    have h2 := is_len fun i hi => (this.2.1 i hi).1
    have := this.1
    omega
  · exact Nat.zero_le _
theorem x_instructions {ρ : Nat → Nat} {e0 : Option Nat} {fa sg de vl st pp : Nat} (x1 : Int32) (h : SR S x out A ρ e0 fa sg de vl st pp) (k1 : 1 ≤ S.2.2.1) (k2 : 6 ≤ S.2.2.2.1) : (okI x1 4 → f_X1_instructions (some x) x1 S = some (.inr (nq (ins A (ix x1)).length), S)) ∧ (¬ okI x1 4 → f_X1_instructions (some x) x1 S = some (.inl ("java/lang/IndexOutOfBoundsException", S.2.1), xt S)) := by
  obtain ⟨t1, t2⟩ := x_there (S := S) (y := x1) (n := 4) (by omega) k1 k2
  constructor
  · intro ok
    have e := t1 ok
    obtain ⟨p, p1, p2, rfl⟩ := okI_get ok
    have hp : ix (nq p) = p := nq_idx p2
    rw [hp]
    obtain ⟨o, o1, o2, o3, o4⟩ := x_del h p1
    unfold ins
    cases hz : zD A p with
    | none =>
      have hn := o4 hz
      subst hn
      simp only [f_X1_instructions, s_X1_instructions_32, e, o1, o2, pb1, pb2, nq_lit, nq_add, nq_mul, nq_lt, nq_le, nq_eq, nq_lt0, nq10, nq00, Nat.one_ne_zero, Nat.reduceEqDiff, Nat.not_lt_zero, zb1, zb0, eq_self, reduceIte, String.reduceEq, reduceCtorEq]
      rfl
    | some s =>
      obtain ⟨a, rfl, l, d, cap, sp, ias, sf, z1, z2, z3, z4, -⟩ := o3 s hz
      have e5 : oA S (some a) 6 0 = some (some l) := oA_ok (o := some l) z1 rfl
      have e6 := z2.isO
      have e7 := la_size z2
      rw [z4] at e7
      simp only [f_X1_instructions, s_X1_instructions_32, e, o1, o2, e5, e6, e7, pb1, pb2, nq_lit, nq_add, nq_mul, nq_lt, nq_le, nq_eq, nq_lt0, nq10, nq00, Nat.one_ne_zero, Nat.reduceEqDiff, Nat.not_lt_zero, zb1, zb0, eq_self, reduceIte, String.reduceEq, reduceCtorEq]
  · intro ok
    have e := t2 ok
    simp only [f_X1_instructions, e, pb1, pb2, nq_lit, nq_add, nq_mul, nq_lt, nq_le, nq_eq, nq_lt0, nq10, nq00, Nat.one_ne_zero, Nat.reduceEqDiff, Nat.not_lt_zero, zb1, zb0, eq_self, reduceIte, String.reduceEq, reduceCtorEq]
theorem x_instruction {ρ : Nat → Nat} {e0 : Option Nat} {fa sg de vl st pp : Nat} (x1 x2 : Int32) (h : SR S x out A ρ e0 fa sg de vl st pp) (hA : AOk A) (k1 : 1 ≤ S.2.2.1) (k2 : 6 ≤ S.2.2.2.1) : (okI x1 4 ∧ okI x2 (ins A (ix x1)).length → ∃ q lb, f_X1_instruction (some x) x1 x2 S = some (.inr (some q), S) ∧ S.1 q = some (.inl (7, [.int (bq ((ins A (ix x1)).getD (ix x2) i0).1), .int (nq ((ins A (ix x1)).getD (ix x2) i0).2.1), .int (nq ((ins A (ix x1)).getD (ix x2) i0).2.2), .int lb]))) ∧ (¬ (okI x1 4 ∧ okI x2 (ins A (ix x1)).length) → f_X1_instruction (some x) x1 x2 S = some (.inl ("java/lang/IndexOutOfBoundsException", S.2.1), xt S)) := by
  have ho := h.o
  obtain ⟨t1, t2⟩ := x_instructions x1 h k1 k2
  have hl := ins_len_le hA (ix x1)
  obtain ⟨u1, u2⟩ := x_there (S := S) (y := x2) (n := (ins A (ix x1)).length) (by omega) k1 k2
  constructor
  · rintro ⟨ok, ok2⟩
    have e := t1 ok
    have e2 := u1 ok2
    obtain ⟨j, j1, j2, rfl⟩ := okI_get ok2
    obtain ⟨p, p1, p2, rfl⟩ := okI_get ok
    have hp : ix (nq p) = p := nq_idx p2
    have hj : ix (nq j) = j := nq_idx j2
    rw [hp] at e e2 j1
    rw [hp, hj]
    obtain ⟨o, o1, o2, o3, o4⟩ := x_del h p1
    cases hz : zD A p with
    | none =>
      unfold ins at j1
      rw [hz] at j1
      exact absurd j1 (Nat.not_lt_zero _)
    | some s =>
      obtain ⟨a, rfl, l, d, cap, sp, ias, sf, z1, z2, z3, z4, z5, -⟩ := o3 s hz
      have hi : ins A p = s.2.1 := by
        unfold ins
        rw [hz]
      rw [hi] at e e2 j1 ⊢
      obtain ⟨q, lb, y1, y2⟩ := z5 j j1
      have e5 : oA S (some a) 6 0 = some (some l) := oA_ok (o := some l) z1 rfl
      have e6 := z2.isO
      have e7 := la_get (i := j) z2 (by omega) (by omega)
      rw [y1] at e7
      have e8 := ckO_ok y2
      refine ⟨q, lb, ?_, y2⟩
      simp only [f_X1_instruction, ho, e, e2, o1, o2, e5, e6, e7, e8, pb1, pb2, nq_lit, nq_add, nq_mul, nq_lt, nq_le, nq_eq, nq_lt0, nq10, nq00, Nat.one_ne_zero, Nat.reduceEqDiff, Nat.not_lt_zero, zb1, zb0, eq_self, reduceIte, String.reduceEq, reduceCtorEq]
  · intro ok
    by_cases ok1 : okI x1 4
    · have e := t1 ok1
      have e2 := u2 (fun q => ok ⟨ok1, q⟩)
      simp only [f_X1_instruction, ho, e, e2, pb1, pb2, nq_lit, nq_add, nq_mul, nq_lt, nq_le, nq_eq, nq_lt0, nq10, nq00, Nat.one_ne_zero, Nat.reduceEqDiff, Nat.not_lt_zero, zb1, zb0, eq_self, reduceIte, String.reduceEq, reduceCtorEq]
    · have e := t2 ok1
      simp only [f_X1_instruction, ho, e, pb1, pb2, nq_lit, nq_add, nq_mul, nq_lt, nq_le, nq_eq, nq_lt0, nq10, nq00, Nat.one_ne_zero, Nat.reduceEqDiff, Nat.not_lt_zero, zb1, zb0, eq_self, reduceIte, String.reduceEq, reduceCtorEq]
theorem q_instructions (x1 : Int32) (h : SRep S x out A) (k1 : 9000 ≤ S.2.2.1) (k2 : 110000 ≤ S.2.2.2.1) : OQ S x out (o_instructions A x1) (f_X0_instructions (some x) x1 (some out) S) := by
  obtain ⟨ρ, e0, fa, sg, de, vl, st, pp, h⟩ := h
  have ho := h.o
  obtain ⟨t1, t2⟩ := x_instructions x1 h (by omega) (by omega)
  unfold o_instructions
  by_cases ok : okI x1 4
  · rw [if_pos ok]
    have e := t1 ok
    have E : f_X0_instructions (some x) x1 (some out) S = bd1 (jS S (some out) (nq 0) (nq (ins A (ix x1)).length).toInt64) fun S8 => some (nq 0, S8) := by
      simp only [f_X0_instructions, ho, e, pb1, pb2, nq_lit, nq_add, nq_mul, nq_lt, nq_le, nq_eq, nq_lt0, nq10, nq00, Nat.one_ne_zero, Nat.reduceEqDiff, Nat.not_lt_zero, zb1, zb0, eq_self, reduceIte, String.reduceEq, reduceCtorEq]
    rw [E]
    exact oq_v h rfl rfl (Rm.refl S) (by omega) (by omega)
  · rw [if_neg ok]
    have e := t2 ok
    have E : f_X0_instructions (some x) x1 (some out) S = some (nq 1, xt S) := by
      simp only [f_X0_instructions, ho, e, pb1, pb2, nq_lit, nq_add, nq_mul, nq_lt, nq_le, nq_eq, nq_lt0, nq10, nq00, Nat.one_ne_zero, Nat.reduceEqDiff, Nat.not_lt_zero, zb1, zb0, eq_self, reduceIte, String.reduceEq, reduceCtorEq]
    rw [E]
    exact oq_x (h.xt (by omega) (by omega)) (by decide) (xt_rm (by omega) (by omega)) (by omega) (by omega)

theorem q_startOf (x1 x2 : Int32) (h : SRep S x out A) (hA : AOk A) (k1 : 9000 ≤ S.2.2.1) (k2 : 110000 ≤ S.2.2.2.1) : OQ S x out (o_startOf A x1 x2) (f_X0_startOf (some x) x1 x2 (some out) S) := by
  obtain ⟨ρ, e0, fa, sg, de, vl, st, pp, h⟩ := h
  have ho := h.o
  obtain ⟨t1, t2⟩ := x_instruction x1 x2 h hA (by omega) (by omega)
  unfold o_startOf
  by_cases ok : okI x1 4 ∧ okI x2 (ins A (ix x1)).length
  · rw [if_pos ok]
    obtain ⟨q, lb, e, hq⟩ := t1 ok
    have e2 : oI S (some q) 7 1 = some (nq ((ins A (ix x1)).getD (ix x2) i0).2.1) := oI_ok hq rfl
    have E : f_X0_startOf (some x) x1 x2 (some out) S = bd1 (jS S (some out) (nq 0) (nq ((ins A (ix x1)).getD (ix x2) i0).2.1).toInt64) fun S8 => some (nq 0, S8) := by
      simp only [f_X0_startOf, f_X1_startOf, ho, e, e2, pb1, pb2, nq_lit, nq_add, nq_mul, nq_lt, nq_le, nq_eq, nq_lt0, nq10, nq00, Nat.one_ne_zero, Nat.reduceEqDiff, Nat.not_lt_zero, zb1, zb0, eq_self, reduceIte, String.reduceEq, reduceCtorEq]
    rw [E]
    exact oq_v h rfl rfl (Rm.refl S) (by omega) (by omega)
  · rw [if_neg ok]
    have e := t2 ok
    have E : f_X0_startOf (some x) x1 x2 (some out) S = some (nq 1, xt S) := by
      simp only [f_X0_startOf, f_X1_startOf, ho, e, pb1, pb2, nq_lit, nq_add, nq_mul, nq_lt, nq_le, nq_eq, nq_lt0, nq10, nq00, Nat.one_ne_zero, Nat.reduceEqDiff, Nat.not_lt_zero, zb1, zb0, eq_self, reduceIte, String.reduceEq, reduceCtorEq]
    rw [E]
    exact oq_x (h.xt (by omega) (by omega)) (by decide) (xt_rm (by omega) (by omega)) (by omega) (by omega)

theorem q_bytesOf (x1 x2 : Int32) (h : SRep S x out A) (hA : AOk A) (k1 : 9000 ≤ S.2.2.1) (k2 : 110000 ≤ S.2.2.2.1) : OQ S x out (o_bytesOf A x1 x2) (f_X0_bytesOf (some x) x1 x2 (some out) S) := by
  obtain ⟨ρ, e0, fa, sg, de, vl, st, pp, h⟩ := h
  have ho := h.o
  obtain ⟨t1, t2⟩ := x_instruction x1 x2 h hA (by omega) (by omega)
  unfold o_bytesOf
  by_cases ok : okI x1 4 ∧ okI x2 (ins A (ix x1)).length
  · rw [if_pos ok]
    obtain ⟨q, lb, e, hq⟩ := t1 ok
    have e2 : oI S (some q) 7 2 = some (nq ((ins A (ix x1)).getD (ix x2) i0).2.2) := oI_ok hq rfl
    have E : f_X0_bytesOf (some x) x1 x2 (some out) S = bd1 (jS S (some out) (nq 0) (nq ((ins A (ix x1)).getD (ix x2) i0).2.2).toInt64) fun S8 => some (nq 0, S8) := by
      simp only [f_X0_bytesOf, f_X1_bytesOf, ho, e, e2, pb1, pb2, nq_lit, nq_add, nq_mul, nq_lt, nq_le, nq_eq, nq_lt0, nq10, nq00, Nat.one_ne_zero, Nat.reduceEqDiff, Nat.not_lt_zero, zb1, zb0, eq_self, reduceIte, String.reduceEq, reduceCtorEq]
    rw [E]
    exact oq_v h rfl rfl (Rm.refl S) (by omega) (by omega)
  · rw [if_neg ok]
    have e := t2 ok
    have E : f_X0_bytesOf (some x) x1 x2 (some out) S = some (nq 1, xt S) := by
      simp only [f_X0_bytesOf, f_X1_bytesOf, ho, e, pb1, pb2, nq_lit, nq_add, nq_mul, nq_lt, nq_le, nq_eq, nq_lt0, nq10, nq00, Nat.one_ne_zero, Nat.reduceEqDiff, Nat.not_lt_zero, zb1, zb0, eq_self, reduceIte, String.reduceEq, reduceCtorEq]
    rw [E]
    exact oq_x (h.xt (by omega) (by omega)) (by decide) (xt_rm (by omega) (by omega)) (by omega) (by omega)

theorem q_isCopy (x1 x2 : Int32) (h : SRep S x out A) (hA : AOk A) (k1 : 9000 ≤ S.2.2.1) (k2 : 110000 ≤ S.2.2.2.1) : OQ S x out (o_isCopy A x1 x2) (f_X0_isCopy (some x) x1 x2 (some out) S) := by
  obtain ⟨ρ, e0, fa, sg, de, vl, st, pp, h⟩ := h
  have ho := h.o
  obtain ⟨t1, t2⟩ := x_instruction x1 x2 h hA (by omega) (by omega)
  unfold o_isCopy
  by_cases ok : okI x1 4 ∧ okI x2 (ins A (ix x1)).length
  · rw [if_pos ok]
    obtain ⟨q, lb, e, hq⟩ := t1 ok
    have e2 : oI S (some q) 7 0 = some (bq ((ins A (ix x1)).getD (ix x2) i0).1) := oI_ok hq rfl
    have ez := zb_bq ((ins A (ix x1)).getD (ix x2) i0).1
    generalize ((ins A (ix x1)).getD (ix x2) i0).1 = d at e2 ez ⊢
    cases d with
    | true =>
      rw [bq_t] at e2
      have E : f_X0_isCopy (some x) x1 x2 (some out) S = bd1 (jS S (some out) (nq 0) 1) fun S8 => some (nq 0, S8) := by
        simp (disch := omega) only [f_X0_isCopy, s_X0_isCopy_16, f_X1_isCopy, ho, e, e2, pb1, pb2, nq_lit, nq_add, nq_mul, nq_lt, nq_le, nq_eq, nq_lt0, nq10, nq00, Nat.one_ne_zero, Nat.reduceEqDiff, Nat.not_lt_zero, zb1, zb0, eq_self, reduceIte, String.reduceEq, reduceCtorEq]
      rw [E]
      exact oq_v h rfl rfl (Rm.refl S) (by omega) (by omega)
    | false =>
      rw [bq_f] at e2
      have E : f_X0_isCopy (some x) x1 x2 (some out) S = bd1 (jS S (some out) (nq 0) 0) fun S8 => some (nq 0, S8) := by
        simp (disch := omega) only [f_X0_isCopy, s_X0_isCopy_16, f_X1_isCopy, ho, e, e2, pb1, pb2, nq_lit, nq_add, nq_mul, nq_lt, nq_le, nq_eq, nq_lt0, nq10, nq00, Nat.one_ne_zero, Nat.reduceEqDiff, Nat.not_lt_zero, zb1, zb0, eq_self, reduceIte, String.reduceEq, reduceCtorEq]
      rw [E]
      exact oq_v h rfl rfl (Rm.refl S) (by omega) (by omega)
  · rw [if_neg ok]
    have e := t2 ok
    have E : f_X0_isCopy (some x) x1 x2 (some out) S = some (nq 1, xt S) := by
      simp only [f_X0_isCopy, f_X1_isCopy, ho, e, pb1, pb2, nq_lit, nq_add, nq_mul, nq_lt, nq_le, nq_eq, nq_lt0, nq10, nq00, Nat.one_ne_zero, Nat.reduceEqDiff, Nat.not_lt_zero, zb1, zb0, eq_self, reduceIte, String.reduceEq, reduceCtorEq]
    rw [E]
    exact oq_x (h.xt (by omega) (by omega)) (by decide) (xt_rm (by omega) (by omega)) (by omega) (by omega)

theorem q_cost (x1 : Int32) (h : SRep S x out A) (k1 : 9000 ≤ S.2.2.1) (k2 : 110000 ≤ S.2.2.2.1) : OQ S x out (o_cost A x1) (f_X0_cost (some x) x1 (some out) S) := by
  obtain ⟨ρ, e0, fa, sg, de, vl, st, pp, h⟩ := h
  have ho := h.o
  obtain ⟨t1, t2⟩ := x_there (S := S) (y := x1) (n := 4) (by omega) (by omega) (by omega)
  unfold o_cost
  by_cases ok : okI x1 4
  · rw [if_pos ok]
    have e := t1 ok
    obtain ⟨p, p1, p2, rfl⟩ := okI_get ok
    have hp : ix (nq p) = p := nq_idx p2
    rw [hp]
    obtain ⟨o, o1, o2, o3, o4⟩ := x_del h p1
    unfold ins
    cases hz : zD A p with
    | none =>
      have hn := o4 hz
      subst hn
      have E : f_X0_cost (some x) (nq p) (some out) S = bd1 (jS S (some out) (nq 0) (nq 0).toInt64) fun S8 => some (nq 0, S8) := by
        simp only [f_X0_cost, f_X1_cost, s_X1_cost_27, ho, e, o1, o2, pb1, pb2, nq_lit, nq_add, nq_mul, nq_lt, nq_le, nq_eq, nq_lt0, nq10, nq00, Nat.one_ne_zero, Nat.reduceEqDiff, Nat.not_lt_zero, zb1, zb0, eq_self, reduceIte, String.reduceEq, reduceCtorEq]
      rw [E]
      exact oq_v h rfl rfl (Rm.refl S) (by omega) (by omega)
    | some s =>
      obtain ⟨a, rfl, l, d, cap, sp, ias, sf, z1, -⟩ := o3 s hz
      have e5 : oI S (some a) 6 2 = some (nq (cst s.2.1)) := oI_ok z1 rfl
      have E : f_X0_cost (some x) (nq p) (some out) S = bd1 (jS S (some out) (nq 0) (nq (cst s.2.1)).toInt64) fun S8 => some (nq 0, S8) := by
        simp only [f_X0_cost, f_X1_cost, s_X1_cost_27, ho, e, o1, o2, e5, pb1, pb2, nq_lit, nq_add, nq_mul, nq_lt, nq_le, nq_eq, nq_lt0, nq10, nq00, Nat.one_ne_zero, Nat.reduceEqDiff, Nat.not_lt_zero, zb1, zb0, eq_self, reduceIte, String.reduceEq, reduceCtorEq]
      rw [E]
      exact oq_v h rfl rfl (Rm.refl S) (by omega) (by omega)
  · rw [if_neg ok]
    have e := t2 ok
    have E : f_X0_cost (some x) x1 (some out) S = some (nq 1, xt S) := by
      simp only [f_X0_cost, f_X1_cost, ho, e, pb1, pb2, nq_lit, nq_add, nq_mul, nq_lt, nq_le, nq_eq, nq_lt0, nq10, nq00, Nat.one_ne_zero, Nat.reduceEqDiff, Nat.not_lt_zero, zb1, zb0, eq_self, reduceIte, String.reduceEq, reduceCtorEq]
    rw [E]
    exact oq_x (h.xt (by omega) (by omega)) (by decide) (xt_rm (by omega) (by omega)) (by omega) (by omega)

theorem q_alarms (x1 : Int32) (h : SRep S x out A) (k1 : 9000 ≤ S.2.2.1) (k2 : 110000 ≤ S.2.2.2.1) : OQ S x out (o_alarms A x1) (f_X0_alarms (some x) x1 (some out) S) := by
  obtain ⟨ρ, e0, fa, sg, de, vl, st, pp, h⟩ := h
  have ho := h.o
  obtain ⟨t1, t2⟩ := x_there (S := S) (y := x1) (n := 4) (by omega) (by omega) (by omega)
  unfold o_alarms
  by_cases ok : okI x1 4
  · rw [if_pos ok]
    have e := t1 ok
    obtain ⟨p, p1, p2, rfl⟩ := okI_get ok
    have hp : ix (nq p) = p := nq_idx p2
    rw [hp]
    obtain ⟨o, o1, o2, o3, o4⟩ := x_del h p1
    unfold alm
    cases hz : zD A p with
    | none =>
      have hn := o4 hz
      subst hn
      have E : f_X0_alarms (some x) (nq p) (some out) S = bd1 (jS S (some out) (nq 0) (nq 0).toInt64) fun S8 => some (nq 0, S8) := by
        simp only [f_X0_alarms, f_X1_alarms, s_X1_alarms_27, ho, e, o1, o2, pb1, pb2, nq_lit, nq_add, nq_mul, nq_lt, nq_le, nq_eq, nq_lt0, nq10, nq00, Nat.one_ne_zero, Nat.reduceEqDiff, Nat.not_lt_zero, zb1, zb0, eq_self, reduceIte, String.reduceEq, reduceCtorEq]
      rw [E]
      exact oq_v h rfl rfl (Rm.refl S) (by omega) (by omega)
    | some s =>
      obtain ⟨a, rfl, l, d, cap, sp, ias, sf, z1, -⟩ := o3 s hz
      have e5 : oI S (some a) 6 1 = some (nq (s.1)) := oI_ok z1 rfl
      have E : f_X0_alarms (some x) (nq p) (some out) S = bd1 (jS S (some out) (nq 0) (nq (s.1)).toInt64) fun S8 => some (nq 0, S8) := by
        simp only [f_X0_alarms, f_X1_alarms, s_X1_alarms_27, ho, e, o1, o2, e5, pb1, pb2, nq_lit, nq_add, nq_mul, nq_lt, nq_le, nq_eq, nq_lt0, nq10, nq00, Nat.one_ne_zero, Nat.reduceEqDiff, Nat.not_lt_zero, zb1, zb0, eq_self, reduceIte, String.reduceEq, reduceCtorEq]
      rw [E]
      exact oq_v h rfl rfl (Rm.refl S) (by omega) (by omega)
  · rw [if_neg ok]
    have e := t2 ok
    have E : f_X0_alarms (some x) x1 (some out) S = some (nq 1, xt S) := by
      simp only [f_X0_alarms, f_X1_alarms, ho, e, pb1, pb2, nq_lit, nq_add, nq_mul, nq_lt, nq_le, nq_eq, nq_lt0, nq10, nq00, Nat.one_ne_zero, Nat.reduceEqDiff, Nat.not_lt_zero, zb1, zb0, eq_self, reduceIte, String.reduceEq, reduceCtorEq]
    rw [E]
    exact oq_x (h.xt (by omega) (by omega)) (by decide) (xt_rm (by omega) (by omega)) (by omega) (by omega)

end ReadD
