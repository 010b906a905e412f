/-! PURE: the calls that only read -/
set_option maxRecDepth 100000
theorem zb_bq (b : Bool) : zb (bq b) = some () := by cases b <;> decide
section Read
variable {S : St} {x out : Nat} {A : AA}
theorem q_length (x1 : Int32) (h : SRep S x out A) (hA : AOk A) (k1 : 9000 ≤ S.2.2.1) (k2 : 110000 ≤ S.2.2.2.1) : OQ S x out (o_length A x1) (f_X0_length (some x) x1 (some out) S) := by
  obtain ⟨ρ, e0, fa, sg, de, vl, st, pp, h⟩ := h
  have ho := h.o
  obtain ⟨t1, t2⟩ := x_strip (y := x1) h hA (by omega) (by omega)
  unfold o_length
  by_cases ok : okI x1 A.1.length
  · rw [if_pos ok]
    obtain ⟨a, b, e, hs, -⟩ := t1 ok
    have e1 : oI S (some a) 3 1 = some (nq (fl A (ix x1)).length) := oI_ok hs.1 rfl
    have E : f_X0_length (some x) x1 (some out) S = bd1 (jS S (some out) (nq 0) (nq (fl A (ix x1)).length).toInt64) fun S8 => some (nq 0, S8) := by
      simp only [f_X0_length, f_X1_length, ho, e, e1, pb1, pb2, nq_lit, nq_add, nq_mul, nq_lt, nq_le, nq_eq, nq_lt0, nq10, nq00, Nat.one_ne_zero, Nat.reduceEqDiff, Nat.not_lt_zero, zb1, zb0, eq_self, reduceIte, String.reduceEq, reduceCtorEq]
    rw [E]
    exact oq_v h rfl rfl (Rm.refl S) (by omega) (by omega)
  · rw [if_neg ok]
    have e := t2 ok
    have E : f_X0_length (some x) x1 (some out) S = some (nq 1, xt S) := by
      simp only [f_X0_length, f_X1_length, ho, e, pb1, pb2, nq_lit, nq_add, nq_mul, nq_lt, nq_le, nq_eq, nq_lt0, nq10, nq00, Nat.one_ne_zero, Nat.reduceEqDiff, Nat.not_lt_zero, zb1, zb0, eq_self, reduceIte, String.reduceEq, reduceCtorEq]
    rw [E]
    exact oq_x (h.xt (by omega) (by omega)) (by decide) (xt_rm (by omega) (by omega)) (by omega) (by omega)
theorem q_byteAt (x1 x2 : Int32) (h : SRep S x out A) (hA : AOk A) (k1 : 9000 ≤ S.2.2.1) (k2 : 110000 ≤ S.2.2.2.1) : OQ S x out (o_byteAt A x1 x2) (f_X0_byteAt (some x) x1 x2 (some out) S) := by
  obtain ⟨ρ, e0, fa, sg, de, vl, st, pp, h⟩ := h
  have ho := h.o
  obtain ⟨t1, t2⟩ := x_strip (y := x1) h hA (by omega) (by omega)
  have hx := oq_x (out := out) (k := 1) (h.xt (by omega) (by omega)) (by decide) (xt_rm (by omega) (by omega)) (by omega) (by omega)
  unfold o_byteAt
  by_cases ok : okI x1 A.1.length
  · obtain ⟨a, b, e, hs, -⟩ := t1 ok
    have hL := (fl_ok hA (ix x1)).1
    have e1 : oI S (some a) 3 1 = some (nq (fl A (ix x1)).length) := oI_ok hs.1 rfl
    obtain ⟨u1, u2⟩ := x_there (S := S) (y := x2) (n := (fl A (ix x1)).length) (by omega) (by omega) (by omega)
    by_cases ok2 : okI x2 (fl A (ix x1)).length
    · rw [if_pos ⟨ok, ok2⟩]
      have e2 := u1 ok2
      obtain ⟨j, j1, j2, rfl⟩ := okI_get ok2
      obtain ⟨s1, f, s2, s3, s4⟩ := hs
      have e3 : oA S (some a) 3 0 = some (some b) := oA_ok (o := some b) s1 rfl
      have e4 : iL S (some b) 0 (nq j) = some (nq (gd (fl A (ix x1)) j)) := by rw [iL_ok s2 (by omega) j2, s4 j j1]
      have hj : ix (nq j) = j := nq_idx j2
      rw [hj]
      have E : f_X0_byteAt (some x) x1 (nq j) (some out) S = bd1 (jS S (some out) (nq 0) (nq (gd (fl A (ix x1)) j)).toInt64) fun S8 => some (nq 0, S8) := by
        simp only [f_X0_byteAt, f_X1_byteAt, ho, e, e1, e2, e3, e4, pb1, pb2, nq_lit, nq_add, nq_mul, nq_lt, nq_le, nq_eq, nq_lt0, nq10, nq00, Nat.one_ne_zero, Nat.reduceEqDiff, Nat.not_lt_zero, zb1, zb0, eq_self, reduceIte, String.reduceEq, reduceCtorEq]
      rw [E]
      exact oq_v h rfl rfl (Rm.refl S) (by omega) (by omega)
    · rw [if_neg (fun q => ok2 q.2)]
      have e2 := u2 ok2
      have E : f_X0_byteAt (some x) x1 x2 (some out) S = some (nq 1, xt S) := by
        simp only [f_X0_byteAt, f_X1_byteAt, ho, e, e1, e2, pb1, pb2, nq_lit, nq_add, nq_mul, nq_lt, nq_le, nq_eq, nq_lt0, nq10, nq00, Nat.one_ne_zero, Nat.reduceEqDiff, Nat.not_lt_zero, zb1, zb0, eq_self, reduceIte, String.reduceEq, reduceCtorEq]
      rw [E]
      exact hx
  · rw [if_neg (fun q => ok q.1)]
    have e := t2 ok
    have E : f_X0_byteAt (some x) x1 x2 (some out) S = some (nq 1, xt S) := by
      simp only [f_X0_byteAt, f_X1_byteAt, ho, e, pb1, pb2, nq_lit, nq_add, nq_mul, nq_lt, nq_le, nq_eq, nq_lt0, nq10, nq00, Nat.one_ne_zero, Nat.reduceEqDiff, Nat.not_lt_zero, zb1, zb0, eq_self, reduceIte, String.reduceEq, reduceCtorEq]
    rw [E]
    exact hx
theorem q_same (x1 x2 : Int32) (h : SRep S x out A) (hA : AOk A) (k1 : 9000 ≤ S.2.2.1) (k2 : 110000 ≤ S.2.2.2.1) : OQ S x out (o_same A x1 x2) (f_X0_same (some x) x1 x2 (some out) S) := by
  obtain ⟨ρ, e0, fa, sg, de, vl, st, pp, h⟩ := h
  have ho := h.o
  obtain ⟨t1, t2⟩ := x_strip (y := x1) h hA (by omega) (by omega)
  obtain ⟨u1, u2⟩ := x_strip (y := x2) h hA (by omega) (by omega)
  have hx := oq_x (out := out) (k := 1) (h.xt (by omega) (by omega)) (by decide) (xt_rm (by omega) (by omega)) (by omega) (by omega)
  unfold o_same
  by_cases ok : okI x1 A.1.length
  · obtain ⟨a, b, e, hs, -⟩ := t1 ok
    by_cases ok2 : okI x2 A.1.length
    · rw [if_pos ⟨ok, ok2⟩]
      obtain ⟨a', b', e', hs', -⟩ := u1 ok2
      have e2 := t_same hs hs' (fl_ok hA _).2 (fl_ok hA _).2 (by omega) (by omega)
      have ei := isO_ok hs.1
      have ez := zb_bq (decide (fl A (ix x1) = fl A (ix x2)))
      generalize decide (fl A (ix x1) = fl A (ix x2)) = d at e2 ez ⊢
      cases d with
      | true =>
        rw [bq_t] at e2
        have E : f_X0_same (some x) x1 x2 (some out) S = bd1 (jS S (some out) (nq 0) 1) fun S8 => some (nq 0, S8) := by
          simp (disch := omega) only [f_X0_same, s_X0_same_16, f_X1_same, ho, e, e', ei, e2, pb1, pb2, nq_lit, nq_add, nq_mul, nq_lt, nq_le, nq_eq, nq_lt0, nq10, nq00, Nat.one_ne_zero, Nat.reduceEqDiff, Nat.not_lt_zero, zb1, zb0, eq_self, reduceIte, String.reduceEq, reduceCtorEq]
        rw [E]
        exact oq_v h rfl rfl (Rm.refl S) (by omega) (by omega)
      | false =>
        rw [bq_f] at e2
        have E : f_X0_same (some x) x1 x2 (some out) S = bd1 (jS S (some out) (nq 0) 0) fun S8 => some (nq 0, S8) := by
          simp (disch := omega) only [f_X0_same, s_X0_same_16, f_X1_same, ho, e, e', ei, e2, pb1, pb2, nq_lit, nq_add, nq_mul, nq_lt, nq_le, nq_eq, nq_lt0, nq10, nq00, Nat.one_ne_zero, Nat.reduceEqDiff, Nat.not_lt_zero, zb1, zb0, eq_self, reduceIte, String.reduceEq, reduceCtorEq]
        rw [E]
        exact oq_v h rfl rfl (Rm.refl S) (by omega) (by omega)
    · rw [if_neg (fun q => ok2 q.2)]
      have e' := u2 ok2
      have E : f_X0_same (some x) x1 x2 (some out) S = some (nq 1, xt S) := by
        simp only [f_X0_same, f_X1_same, ho, e, e', pb1, pb2, nq_lit, nq_add, nq_mul, nq_lt, nq_le, nq_eq, nq_lt0, nq10, nq00, Nat.one_ne_zero, Nat.reduceEqDiff, Nat.not_lt_zero, zb1, zb0, eq_self, reduceIte, String.reduceEq, reduceCtorEq]
      rw [E]
      exact hx
  · rw [if_neg (fun q => ok q.1)]
    have e := t2 ok
    have E : f_X0_same (some x) x1 x2 (some out) S = some (nq 1, xt S) := by
      simp only [f_X0_same, f_X1_same, ho, e, pb1, pb2, nq_lit, nq_add, nq_mul, nq_lt, nq_le, nq_eq, nq_lt0, nq10, nq00, Nat.one_ne_zero, Nat.reduceEqDiff, Nat.not_lt_zero, zb1, zb0, eq_self, reduceIte, String.reduceEq, reduceCtorEq]
    rw [E]
    exact hx
/-- RollSync.blocks -/
theorem x_blocks {ρ : Nat → Nat} {e0 : Option Nat} {fa sg de vl st pp : Nat} (x1 : Int32) (h : SR S x out A ρ e0 fa sg de vl st pp) (k1 : 1 ≤ S.2.2.1) (k2 : 6 ≤ S.2.2.2.1) : (okI x1 4 → f_X1_blocks (some x) x1 S = some (.inr (nq (nbl A (ix x1))), S)) ∧ (¬ okI x1 4 → f_X1_blocks (some x) x1 S = some (.inl ("java/lang/IndexOutOfBoundsException", S.2.1), xt S)) := by
  obtain ⟨t1, t2⟩ := x_there (S := S) (y := x1) (n := 4) (by omega) k1 k2
  constructor
  · intro ok
    have e := t1 ok
    obtain ⟨p, p1, p2, rfl⟩ := okI_get ok
    have hp : ix (nq p) = p := nq_idx p2
    rw [hp]
    obtain ⟨o, o1, o2, o3, o4⟩ := x_sig h p1
    unfold nbl
    cases hz : zS A p with
    | none =>
      have hn := o4 hz
      subst hn
      simp only [f_X1_blocks, s_X1_blocks_27, e, o1, o2, pb1, pb2, nq_lit, nq_add, nq_mul, nq_lt, nq_le, nq_eq, nq_lt0, nq10, nq00, Nat.one_ne_zero, Nat.reduceEqDiff, Nat.not_lt_zero, zb1, zb0, eq_self, reduceIte, String.reduceEq, reduceCtorEq]
    | some s =>
      obtain ⟨a, rfl, so, r1, r2, g, F1, F2, g1, -⟩ := o3 s hz
      have e5 : oI S (some a) 4 2 = some (nq (nb s.2.2.length s.1)) := oI_ok g1 rfl
      simp only [f_X1_blocks, s_X1_blocks_27, e, o1, o2, e5, pb1, pb2, nq_lit, nq_add, nq_mul, nq_lt, nq_le, nq_eq, nq_lt0, nq10, nq00, Nat.one_ne_zero, Nat.reduceEqDiff, Nat.not_lt_zero, zb1, zb0, eq_self, reduceIte, String.reduceEq, reduceCtorEq]
  · intro ok
    have e := t2 ok
    simp only [f_X1_blocks, e, pb1, pb2, nq_lit, nq_add, nq_mul, nq_lt, nq_le, nq_eq, nq_lt0, nq10, nq00, Nat.one_ne_zero, Nat.reduceEqDiff, Nat.not_lt_zero, zb1, zb0, eq_self, reduceIte, String.reduceEq, reduceCtorEq]
theorem q_blocks (x1 : Int32) (h : SRep S x out A) (k1 : 9000 ≤ S.2.2.1) (k2 : 110000 ≤ S.2.2.2.1) : OQ S x out (o_blocks A x1) (f_X0_blocks (some x) x1 (some out) S) := by
  obtain ⟨ρ, e0, fa, sg, de, vl, st, pp, h⟩ := h
  have ho := h.o
  obtain ⟨t1, t2⟩ := x_blocks x1 h (by omega) (by omega)
  unfold o_blocks
  by_cases ok : okI x1 4
  · rw [if_pos ok]
    have e := t1 ok
    have E : f_X0_blocks (some x) x1 (some out) S = bd1 (jS S (some out) (nq 0) (nq (nbl A (ix x1))).toInt64) fun S8 => some (nq 0, S8) := by
      simp only [f_X0_blocks, ho, e, pb1, pb2, nq_lit, nq_add, nq_mul, nq_lt, nq_le, nq_eq, nq_lt0, nq10, nq00, Nat.one_ne_zero, Nat.reduceEqDiff, Nat.not_lt_zero, zb1, zb0, eq_self, reduceIte, String.reduceEq, reduceCtorEq]
    rw [E]
    exact oq_v h rfl rfl (Rm.refl S) (by omega) (by omega)
  · rw [if_neg ok]
    have e := t2 ok
    have E : f_X0_blocks (some x) x1 (some out) S = some (nq 1, xt S) := by
      simp only [f_X0_blocks, ho, e, pb1, pb2, nq_lit, nq_add, nq_mul, nq_lt, nq_le, nq_eq, nq_lt0, nq10, nq00, Nat.one_ne_zero, Nat.reduceEqDiff, Nat.not_lt_zero, zb1, zb0, eq_self, reduceIte, String.reduceEq, reduceCtorEq]
    rw [E]
    exact oq_x (h.xt (by omega) (by omega)) (by decide) (xt_rm (by omega) (by omega)) (by omega) (by omega)
theorem nbl_lt {A : AA} (hA : AOk A) (p : Nat) : nbl A p ≤ 120 := by
  unfold nbl
  split
  · rename_i s hs
    have := hA.2.1 p s hs
    exact nb_le this.1.1 this.2.2.1
  · omega
theorem q_weak (x1 x2 : Int32) (h : SRep S x out A) (hA : AOk A) (k1 : 9000 ≤ S.2.2.1) (k2 : 110000 ≤ S.2.2.2.1) : OQ S x out (o_weak A x1 x2) (f_X0_weak (some x) x1 x2 (some out) S) := by
  obtain ⟨ρ, e0, fa, sg, de, vl, st, pp, h⟩ := h
  have ho := h.o
  obtain ⟨t1, t2⟩ := x_blocks x1 h (by omega) (by omega)
  have hx := oq_x (out := out) (k := 1) (h.xt (by omega) (by omega)) (by decide) (xt_rm (by omega) (by omega)) (by omega) (by omega)
  have hnb := nbl_lt hA (ix x1)
  obtain ⟨u1, u2⟩ := x_there (S := S) (y := x2) (n := nbl A (ix x1)) (by omega) (by omega) (by omega)
  unfold o_weak
  by_cases ok : okI x1 4
  · have e := t1 ok
    by_cases ok2 : okI x2 (nbl A (ix x1))
    · rw [if_pos ⟨ok, ok2⟩]
      have e2 := u1 ok2
      obtain ⟨j, j1, j2, rfl⟩ := okI_get ok2
      have hj : ix (nq j) = j := nq_idx j2
      rw [hj]
      obtain ⟨s, hz, hk⟩ := nbl_some j1
      have hs := hA.2.1 _ _ hz
      rw [hz]
      obtain ⟨p, p1, p2, rfl⟩ := okI_get ok
      have hp : ix (nq p) = p := nq_idx p2
      rw [hp] at hz e
      obtain ⟨o, o1, o2, o3, o4⟩ := x_sig h p1
      obtain ⟨a, rfl, hg⟩ := o3 s hz
      have e3 := sg_weak hg hs hk
      have e4 : isO S (some a) 4 = some () := by
        obtain ⟨so, r1, r2, g, F1, F2, g1, -⟩ := hg
        exact isO_ok g1
      rw [hp] at e2
      have E : f_X0_weak (some x) (nq p) (nq j) (some out) S = bd1 (jS S (some out) (nq 0) (nq (sWk s j)).toInt64) fun S8 => some (nq 0, S8) := by
        simp only [f_X0_weak, f_X1_weak, ho, e, e2, o1, o2, e3, e4, pb1, pb2, nq_lit, nq_add, nq_mul, nq_lt, nq_le, nq_eq, nq_lt0, nq10, nq00, Nat.one_ne_zero, Nat.reduceEqDiff, Nat.not_lt_zero, zb1, zb0, eq_self, reduceIte, String.reduceEq, reduceCtorEq]
      rw [E]
      exact oq_v h rfl rfl (Rm.refl S) (by omega) (by omega)
    · rw [if_neg (fun q => ok2 q.2)]
      have e2 := u2 ok2
      have E : f_X0_weak (some x) x1 x2 (some out) S = some (nq 1, xt S) := by
        simp only [f_X0_weak, f_X1_weak, ho, e, e2, pb1, pb2, nq_lit, nq_add, nq_mul, nq_lt, nq_le, nq_eq, nq_lt0, nq10, nq00, Nat.one_ne_zero, Nat.reduceEqDiff, Nat.not_lt_zero, zb1, zb0, eq_self, reduceIte, String.reduceEq, reduceCtorEq]
      rw [E]
      exact hx
  · rw [if_neg (fun q => ok q.1)]
    have e := t2 ok
    have E : f_X0_weak (some x) x1 x2 (some out) S = some (nq 1, xt S) := by
      simp only [f_X0_weak, f_X1_weak, ho, e, pb1, pb2, nq_lit, nq_add, nq_mul, nq_lt, nq_le, nq_eq, nq_lt0, nq10, nq00, Nat.one_ne_zero, Nat.reduceEqDiff, Nat.not_lt_zero, zb1, zb0, eq_self, reduceIte, String.reduceEq, reduceCtorEq]
    rw [E]
    exact hx
theorem q_strong (x1 x2 : Int32) (h : SRep S x out A) (hA : AOk A) (k1 : 9000 ≤ S.2.2.1) (k2 : 110000 ≤ S.2.2.2.1) : OQ S x out (o_strong A x1 x2) (f_X0_strong (some x) x1 x2 (some out) S) := by
  obtain ⟨ρ, e0, fa, sg, de, vl, st, pp, h⟩ := h
  have ho := h.o
  obtain ⟨t1, t2⟩ := x_blocks x1 h (by omega) (by omega)
  have hx := oq_x (out := out) (k := 1) (h.xt (by omega) (by omega)) (by decide) (xt_rm (by omega) (by omega)) (by omega) (by omega)
  have hnb := nbl_lt hA (ix x1)
  obtain ⟨u1, u2⟩ := x_there (S := S) (y := x2) (n := nbl A (ix x1)) (by omega) (by omega) (by omega)
  unfold o_strong
  by_cases ok : okI x1 4
  · have e := t1 ok
    by_cases ok2 : okI x2 (nbl A (ix x1))
    · rw [if_pos ⟨ok, ok2⟩]
      have e2 := u1 ok2
      obtain ⟨j, j1, j2, rfl⟩ := okI_get ok2
      have hj : ix (nq j) = j := nq_idx j2
      rw [hj]
      obtain ⟨s, hz, hk⟩ := nbl_some j1
      have hs := hA.2.1 _ _ hz
      rw [hz]
      obtain ⟨p, p1, p2, rfl⟩ := okI_get ok
      have hp : ix (nq p) = p := nq_idx p2
      rw [hp] at hz e
      obtain ⟨o, o1, o2, o3, o4⟩ := x_sig h p1
      obtain ⟨a, rfl, hg⟩ := o3 s hz
      have e3 := sg_strong hg hs hk
      have e4 : isO S (some a) 4 = some () := by
        obtain ⟨so, r1, r2, g, F1, F2, g1, -⟩ := hg
        exact isO_ok g1
      rw [hp] at e2
      have E : f_X0_strong (some x) (nq p) (nq j) (some out) S = bd1 (jS S (some out) (nq 0) (sSt s j)) fun S8 => some (nq 0, S8) := by
        simp only [f_X0_strong, f_X1_strong, ho, e, e2, o1, o2, e3, e4, pb1, pb2, nq_lit, nq_add, nq_mul, nq_lt, nq_le, nq_eq, nq_lt0, nq10, nq00, Nat.one_ne_zero, Nat.reduceEqDiff, Nat.not_lt_zero, zb1, zb0, eq_self, reduceIte, String.reduceEq, reduceCtorEq]
      rw [E]
      exact oq_v h rfl rfl (Rm.refl S) (by omega) (by omega)
    · rw [if_neg (fun q => ok2 q.2)]
      have e2 := u2 ok2
      have E : f_X0_strong (some x) x1 x2 (some out) S = some (nq 1, xt S) := by
        simp only [f_X0_strong, f_X1_strong, ho, e, e2, pb1, pb2, nq_lit, nq_add, nq_mul, nq_lt, nq_le, nq_eq, nq_lt0, nq10, nq00, Nat.one_ne_zero, Nat.reduceEqDiff, Nat.not_lt_zero, zb1, zb0, eq_self, reduceIte, String.reduceEq, reduceCtorEq]
      rw [E]
      exact hx
  · rw [if_neg (fun q => ok q.1)]
    have e := t2 ok
    have E : f_X0_strong (some x) x1 x2 (some out) S = some (nq 1, xt S) := by
      simp only [f_X0_strong, f_X1_strong, ho, e, pb1, pb2, nq_lit, nq_add, nq_mul, nq_lt, nq_le, nq_eq, nq_lt0, nq10, nq00, Nat.one_ne_zero, Nat.reduceEqDiff, Nat.not_lt_zero, zb1, zb0, eq_self, reduceIte, String.reduceEq, reduceCtorEq]
    rw [E]
    exact hx
end Read
