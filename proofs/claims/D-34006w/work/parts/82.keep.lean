/-! PURE: keep -/
set_option maxRecDepth 100000
section Keep2
variable {S : St} {x out : Nat} {A : AA}
theorem x_vsize {ρ : Nat → Nat} {e0 : Option Nat} {fa sg de vl st pp : Nat} (h : SR S x out A ρ e0 fa sg de vl st pp) : oA S (some x) 0 3 = some (some vl) ∧ isO S (some vl) 16 = some () ∧ f_J2_size (some vl) S = some (nq (zV A).length, S) := by
  have e3 : oA S (some x) 0 3 = some (some vl) := oA_ok (o := some vl) h.ox rfl
  obtain ⟨-, ⟨⟨vd, cap, vv, v1, v2, v3, v4⟩, h6, h7⟩, -⟩ := h
  have hl := v1.sub (mk_sub S ρ 5)
  have es := la_size hl
  rw [v3] at es
  exact ⟨e3, hl.isO, es⟩
theorem q_keep (x1 : Int32) (h : SRep S x out A) (hA : AOk A) (k1 : 9000 ≤ S.2.2.1) (k2 : 110000 ≤ S.2.2.2.1) : OQ S x out (o_keep A x1) (f_X0_keep (some x) x1 (some out) S) := by
  obtain ⟨ρ, e0, fa, sg, de, vl, st, pp, h⟩ := h
  have ho := h.o
  have hd : Dom S := h.2.2.2.2.1
  have hr0 : ∀ z, S.2.1 ≤ z → ρ z = 0 := h.2.2.2.2.2
  obtain ⟨t1, t2⟩ := x_strip (y := x1) h hA (by omega) (by omega)
  have hx := fun k (hk : k ≠ 0) => oq_x (out := out) (k := k) (h.xt (by omega) (by omega)) hk (xt_rm (by omega) (by omega)) (by omega) (by omega)
  have n1 := x_can1 S
  have n0 := x_can0 (S := S) (by omega) (by omega)
  obtain ⟨e3, e4, e5⟩ := x_vsize h
  have hv20 := hA.2.2.2.1.1
  unfold o_keep
  by_cases ok : okI x1 A.1.length
  · rw [if_pos ok]
    obtain ⟨a, b, e, hs, -⟩ := t1 ok
    by_cases ok2 : (zV A).length < 20
    · rw [if_pos ok2]
      have ok2' : ¬ 20 ≤ (zV A).length := by omega
      obtain ⟨S1, d1⟩ : ∃ S1, x_new S 1 (.inl (9, [.null])) = S1 := ⟨_, rfl⟩
      have q1 : nO S 9 1 [.null] = some (some S.2.1, S1) := (nO_ok (by omega) (by omega)).trans (by rw [d1])
      have c1 : Ch (fun _ => False) 1 1 S S1 := by rw [← d1]; exact Ch.new _ S _ (by omega) (by omega)
      have w1 : S1.1 S.2.1 = some (.inl (9, [.null])) := by rw [← d1]; exact xn_i _ _ _
      have nx1 : S1.2.1 = S.2.1 + 1 := by rw [← d1]; rfl
      have hd1 := c1.2.2.2.2.2 hd
      have m1 := c1.2.2.1
      have m2 := c1.2.2.2.1
      obtain ⟨S2, r, rb, f2, w2, i2, y1, y2, c2⟩ := wh_init w1 (hs.sub (c1.sub hd (Sub.refl _) fun _ q => q.elim)) (fl_ok hA _).1 (by omega) hd1 (by omega) (by omega)
      have C : Ch (fun _ => False) 3 123 S S2 := (c1.trans c2 fun z hz q => absurd q (Nat.ne_of_lt hz)).mono (fun _ _ q => q) (by omega) (by omega)
      have h2 := h.ch0 C
      have m3 := C.2.2.1
      have m4 := C.2.2.2.1
      have hfl := (fl_ok hA (ix x1)).1
      obtain ⟨S', ρ', g1, g2, g3⟩ := x_kept (hh := S.2.1) (y := .inr (.inl (fl A (ix x1)))) h2 ok2 (fun vd cap vv _ _ => by
        obtain ⟨q1, f, q2, q3⟩ := i2
        exact ⟨r, rb, _, mk_i (hr0 _ (Nat.le_refl _)) w2, ⟨mk_i (hr0 _ (by omega)) q1, f, mk_i (hr0 _ (by omega)) q2, q3⟩, by show (fl A (ix x1)).length ≤ 1000; omega⟩) (by omega) (by omega)
      have ho2 := h2.o
      have E : f_X0_keep (some x) x1 (some out) S = bd1 (jS S' (some out) (nq 0) (nq (zV A).length).toInt64) fun S8 => some (nq 0, S8) := by
        simp (disch := omega) only [f_X0_keep, f_X1_keep, s_X1_keep_25, ho, e, e3, e4, e5, ok2', n1, q1, f2, ho2, g1, pb1, pb2, nq_lit, nq_add, nq_mul, nq_lt, nq_le, nq_eq, nq_lt0, nq10, nq00, Nat.one_ne_zero, Nat.reduceEqDiff, Nat.not_lt_zero, zb1, zb0, eq_self, reduceIte, String.reduceEq, reduceCtorEq]
      rw [E]
      exact oq_v (an := yn _ (uV A (zV A ++ [.inr (.inl (fl A (ix x1)))]))) g2 rfl rfl (C.rm.trans g3) (by omega) (by omega)
    · rw [if_neg ok2]
      have ok2' : 20 ≤ (zV A).length := by omega
      have E : f_X0_keep (some x) x1 (some out) S = some (nq 2, xt S) := by
        simp (disch := omega) only [f_X0_keep, f_X1_keep, s_X1_keep_25, ho, e, e3, e4, e5, ok2', n0, pb1, pb2, nq_lit, nq_add, nq_mul, nq_lt, nq_le, nq_eq, nq_lt0, nq10, nq00, Nat.one_ne_zero, Nat.reduceEqDiff, Nat.not_lt_zero, zb1, zb0, eq_self, reduceIte, String.reduceEq, reduceCtorEq]
      rw [E]
      exact hx 2 (by decide)
  · rw [if_neg ok]
    have e := t2 ok
    have E : f_X0_keep (some x) x1 (some out) S = some (nq 1, xt S) := by
      simp (disch := omega) only [f_X0_keep, f_X1_keep, ho, e, pb1, pb2, nq_lit, nq_add, nq_mul, nq_lt, nq_le, nq_eq, nq_lt0, nq10, nq00, Nat.one_ne_zero, Nat.reduceEqDiff, Nat.not_lt_zero, zb1, zb0, eq_self, reduceIte, String.reduceEq, reduceCtorEq]
    rw [E]
    exact hx 1 (by decide)
end Keep2
