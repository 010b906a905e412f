/-! PURE: the calls over papers that do not change the store -/
set_option maxRecDepth 100000
section Pap
variable {S : St} {x out : Nat} {A : AA}
theorem x_paper {ρ : Nat → Nat} {e0 : Option Nat} {fa sg de vl st pp : Nat} (x1 : Int32) (h : SR S x out A ρ e0 fa sg de vl st pp) (k1 : 1 ≤ S.2.2.1) (k2 : 6 ≤ S.2.2.2.1) :
    (okI x1 12 ∧ (zP A (ix x1)).isSome = true → ∃ arr g cl cd cap cs K, f_X1_paper (some x) x1 S = some (.inr (some arr), S) ∧ mk S ρ 0 arr = some (.inr (9, (prt (zP A) (ix x1)).length, .inr (.inr (.inr (.inr g))))) ∧ iSto (mk S ρ 6) e0 st cl cd cap cs K ∧ KOk K (fun v => (allP (zP A) 12).count v) ∧ ∀ i, i < (prt (zP A) (ix x1)).length → pAt cs K (g i) ((prt (zP A) (ix x1)).getD i [])) ∧
    (¬ (okI x1 12 ∧ (zP A (ix x1)).isSome = true) → f_X1_paper (some x) x1 S = some (.inl ("java/lang/IndexOutOfBoundsException", S.2.1), xt S)) := by
  have e5 : oA S (some x) 0 5 = some (some pp) := oA_ok (o := some pp) h.ox rfl
  obtain ⟨t1, t2⟩ := x_there (S := S) (y := x1) (n := 12) (by omega) k1 k2
  obtain ⟨⟨h1, h2, h3, h4⟩, ⟨h5, ⟨cl, cd, cap, cs, K, f, i1, i2, i3, i4, i5⟩, h7⟩, h8, h9, h10, h11⟩ := h
  have et := thr_ok (S := S) (E := "java/lang/IndexOutOfBoundsException") k1 k2
  constructor
  · rintro ⟨ok, hsome⟩
    have e := t1 ok
    obtain ⟨p, p1, p2, rfl⟩ := okI_get ok
    have hp : ix (nq p) = p := nq_idx p2
    rw [hp] at hsome ⊢
    cases hz : zP A p with
    | none =>
      rw [hz] at hsome
      cases hsome
    | some l =>
      obtain ⟨a, arr, g, u1, u2, u3, u4⟩ := (i5 p p1).1 l hz
      have hl : prt (zP A) p = l := by
        unfold prt
        rw [hz]
        rfl
      rw [hl]
      have e6 : aL S (some pp) 7 (nq p) = some (some a) := by rw [aL_ok (mk_e i4).2 p1 (by omega), u1]
      have e7 : oA S (some a) 15 0 = some (some arr) := oA_ok (o := some arr) (mk_e u2).2 rfl
      refine ⟨arr, g, cl, cd, cap, cs, K, ?_, u3, i1, i3, u4⟩
      simp only [f_X1_paper, e, e5, e6, e7, pb1, pb2, nq_lit, nq_add, nq_mul, nq_lt, nq_le, nq_eq, nq_lt0, nq10, nq00, Nat.one_ne_zero, Nat.reduceEqDiff, Nat.not_lt_zero, zb1, zb0, eq_self, reduceIte, String.reduceEq, reduceCtorEq]
  · intro hn
    by_cases ok : okI x1 12
    · have e := t1 ok
      obtain ⟨p, p1, p2, rfl⟩ := okI_get ok
      have hp : ix (nq p) = p := nq_idx p2
      rw [hp] at hn
      cases hz : zP A p with
      | some l =>
        rw [hz] at hn
        exact absurd ⟨ok, rfl⟩ hn
      | none =>
        have e6 : aL S (some pp) 7 (nq p) = some none := by rw [aL_ok (mk_e i4).2 p1 (by omega), (i5 p p1).2 hz]
        simp only [f_X1_paper, e, e5, e6, et, pb1, pb2, nq_lit, nq_add, nq_mul, nq_lt, nq_le, nq_eq, nq_lt0, nq10, nq00, Nat.one_ne_zero, Nat.reduceEqDiff, Nat.not_lt_zero, zb1, zb0, eq_self, reduceIte, String.reduceEq, reduceCtorEq]
    · have e := t2 ok
      simp only [f_X1_paper, e, pb1, pb2, nq_lit, nq_add, nq_mul, nq_lt, nq_le, nq_eq, nq_lt0, nq10, nq00, Nat.one_ne_zero, Nat.reduceEqDiff, Nat.not_lt_zero, zb1, zb0, eq_self, reduceIte, String.reduceEq, reduceCtorEq]
theorem prt_len (hA : AOk A) (p : Nat) : (prt (zP A) p).length ≤ 120 := POk_len (zP_ok hA p)
theorem x_part {ρ : Nat → Nat} {e0 : Option Nat} {fa sg de vl st pp : Nat} (x1 x2 : Int32) (h : SR S x out A ρ e0 fa sg de vl st pp) (hA : AOk A) (k1 : 1 ≤ S.2.2.1) (k2 : 6 ≤ S.2.2.2.1) :
    ((okI x1 12 ∧ (zP A (ix x1)).isSome = true) ∧ okI x2 (prt (zP A) (ix x1)).length → ∃ c n, f_X1_part (some x) x1 x2 S = some (.inr (some c), S) ∧ iChk S.1 c ((prt (zP A) (ix x1)).getD (ix x2) []) n ∧ n = (allP (zP A) 12).count ((prt (zP A) (ix x1)).getD (ix x2) [])) ∧
    (¬ ((okI x1 12 ∧ (zP A (ix x1)).isSome = true) ∧ okI x2 (prt (zP A) (ix x1)).length) → f_X1_part (some x) x1 x2 S = some (.inl ("java/lang/IndexOutOfBoundsException", S.2.1), xt S)) := by
  have ho := h.o
  obtain ⟨t1, t2⟩ := x_paper x1 h k1 k2
  have hl := prt_len hA (ix x1)
  obtain ⟨u1, u2⟩ := x_there (S := S) (y := x2) (n := (prt (zP A) (ix x1)).length) (by omega) k1 k2
  constructor
  · rintro ⟨ok, ok2⟩
    obtain ⟨arr, g, cl, cd, cap, cs, K, e, ha, hI, hK, hp⟩ := t1 ok
    have e2 : lenA S (some arr) 9 = some (nq (prt (zP A) (ix x1)).length) := lenA_ok (mk_e ha).2
    have e3 := u1 ok2
    obtain ⟨i, j1, j2, rfl⟩ := okI_get ok2
    have hi : ix (nq i) = i := nq_idx j2
    rw [hi]
    obtain ⟨k, c, g1, g2, g3, g4⟩ := hp i j1
    have e4 : aL S (some arr) 9 (nq i) = some (some c) := by rw [aL_ok (mk_e ha).2 j1 (by omega), g1]
    obtain ⟨c', y1, y2⟩ := (hI.sub (mk_sub S ρ 6)).2.2.2.2 k g3
    have hcc : c' = c := Option.some.inj (y1.symm.trans g2)
    subst hcc
    rw [g4] at y2
    refine ⟨c', _, ?_, y2, ?_⟩
    · simp only [f_X1_part, ho, e, e2, e3, e4, pb1, pb2, nq_lit, nq_add, nq_mul, nq_lt, nq_le, nq_eq, nq_lt0, nq10, nq00, Nat.one_ne_zero, Nat.reduceEqDiff, Nat.not_lt_zero, zb1, zb0, eq_self, reduceIte, String.reduceEq, reduceCtorEq]
    · have := (hK.cnt g3).1
      rw [g4] at this
      exact this
  · intro hn
    by_cases ok : okI x1 12 ∧ (zP A (ix x1)).isSome = true
    · obtain ⟨arr, g, cl, cd, cap, cs, K, e, ha, hI, hK, hp⟩ := t1 ok
      have e2 : lenA S (some arr) 9 = some (nq (prt (zP A) (ix x1)).length) := lenA_ok (mk_e ha).2
      have e3 := u2 (fun q => hn ⟨ok, q⟩)
      simp only [f_X1_part, ho, e, e2, e3, pb1, pb2, nq_lit, nq_add, nq_mul, nq_lt, nq_le, nq_eq, nq_lt0, nq10, nq00, Nat.one_ne_zero, Nat.reduceEqDiff, Nat.not_lt_zero, zb1, zb0, eq_self, reduceIte, String.reduceEq, reduceCtorEq]
    · have e := t2 ok
      simp only [f_X1_part, ho, e, pb1, pb2, nq_lit, nq_add, nq_mul, nq_lt, nq_le, nq_eq, nq_lt0, nq10, nq00, Nat.one_ne_zero, Nat.reduceEqDiff, Nat.not_lt_zero, zb1, zb0, eq_self, reduceIte, String.reduceEq, reduceCtorEq]
theorem q_parts (x1 : Int32) (h : SRep S x out A) (k1 : 9000 ≤ S.2.2.1) (k2 : 110000 ≤ S.2.2.2.1) : OQ S x out (o_parts A x1) (f_X0_parts (some x) x1 (some out) S) := by
  obtain ⟨ρ, e0, fa, sg, de, vl, st, pp, h⟩ := h
  have ho := h.o
  obtain ⟨t1, t2⟩ := x_paper x1 h (by omega) (by omega)
  unfold o_parts
  by_cases ok : okI x1 12 ∧ (zP A (ix x1)).isSome = true
  · rw [if_pos ok]
    obtain ⟨arr, g, cl, cd, cap, cs, K, e, ha, hI, hK, hp⟩ := t1 ok
    have e2 : lenA S (some arr) 9 = some (nq (prt (zP A) (ix x1)).length) := lenA_ok (mk_e ha).2
    have E : f_X0_parts (some x) x1 (some out) S = bd1 (jS S (some out) (nq 0) (nq (prt (zP A) (ix x1)).length).toInt64) fun S8 => some (nq 0, S8) := by
      simp only [f_X0_parts, f_X1_parts, ho, e, e2, pb1, pb2, nq_lit, nq_add, nq_mul, nq_lt, nq_le, nq_eq, nq_lt0, nq10, nq00, Nat.one_ne_zero, Nat.reduceEqDiff, Nat.not_lt_zero, zb1, zb0, eq_self, reduceIte, String.reduceEq, reduceCtorEq]
    rw [E]
    exact oq_v h rfl rfl (Rm.refl S) (by omega) (by omega)
  · rw [if_neg ok]
    have e := t2 ok
    have E : f_X0_parts (some x) x1 (some out) S = some (nq 1, xt S) := by
      simp only [f_X0_parts, f_X1_parts, ho, e, pb1, pb2, nq_lit, nq_add, nq_mul, nq_lt, nq_le, nq_eq, nq_lt0, nq10, nq00, Nat.one_ne_zero, Nat.reduceEqDiff, Nat.not_lt_zero, zb1, zb0, eq_self, reduceIte, String.reduceEq, reduceCtorEq]
    rw [E]
    exact oq_x (h.xt (by omega) (by omega)) (by decide) (xt_rm (by omega) (by omega)) (by omega) (by omega)

theorem q_partLength (x1 x2 : Int32) (h : SRep S x out A) (hA : AOk A) (k1 : 9000 ≤ S.2.2.1) (k2 : 110000 ≤ S.2.2.2.1) : OQ S x out (o_partLength A x1 x2) (f_X0_partLength (some x) x1 x2 (some out) S) := by
  obtain ⟨ρ, e0, fa, sg, de, vl, st, pp, h⟩ := h
  have ho := h.o
  obtain ⟨t1, t2⟩ := x_part x1 x2 h hA (by omega) (by omega)
  unfold o_partLength
  by_cases ok : (okI x1 12 ∧ (zP A (ix x1)).isSome = true) ∧ okI x2 (prt (zP A) (ix x1)).length
  · rw [if_pos ok]
    obtain ⟨c, n, e, hc, hn⟩ := t1 ok
    obtain ⟨ba, f, y1, y2, -⟩ := hc
    have e2 : oA S (some c) 14 0 = some (some ba) := oA_ok (o := some ba) y1 rfl
    have e3 : lenA S (some ba) 0 = some (nq ((prt (zP A) (ix x1)).getD (ix x2) []).length) := lenA_ok y2
    have E : f_X0_partLength (some x) x1 x2 (some out) S = bd1 (jS S (some out) (nq 0) (nq ((prt (zP A) (ix x1)).getD (ix x2) []).length).toInt64) fun S8 => some (nq 0, S8) := by
      simp only [f_X0_partLength, f_X1_partLength, ho, e, e2, e3, pb1, pb2, nq_lit, nq_add, nq_mul, nq_lt, nq_le, nq_eq, nq_lt0, nq10, nq00, Nat.one_ne_zero, Nat.reduceEqDiff, Nat.not_lt_zero, zb1, zb0, eq_self, reduceIte, String.reduceEq, reduceCtorEq]
    rw [E]
    exact oq_v h rfl rfl (Rm.refl S) (by omega) (by omega)
  · rw [if_neg ok]
    have e := t2 ok
    have E : f_X0_partLength (some x) x1 x2 (some out) S = some (nq 1, xt S) := by
      simp only [f_X0_partLength, f_X1_partLength, ho, e, pb1, pb2, nq_lit, nq_add, nq_mul, nq_lt, nq_le, nq_eq, nq_lt0, nq10, nq00, Nat.one_ne_zero, Nat.reduceEqDiff, Nat.not_lt_zero, zb1, zb0, eq_self, reduceIte, String.reduceEq, reduceCtorEq]
    rw [E]
    exact oq_x (h.xt (by omega) (by omega)) (by decide) (xt_rm (by omega) (by omega)) (by omega) (by omega)

theorem q_shared (x1 x2 : Int32) (h : SRep S x out A) (hA : AOk A) (k1 : 9000 ≤ S.2.2.1) (k2 : 110000 ≤ S.2.2.2.1) : OQ S x out (o_shared A x1 x2) (f_X0_shared (some x) x1 x2 (some out) S) := by
  obtain ⟨ρ, e0, fa, sg, de, vl, st, pp, h⟩ := h
  have ho := h.o
  obtain ⟨t1, t2⟩ := x_part x1 x2 h hA (by omega) (by omega)
  unfold o_shared
  by_cases ok : (okI x1 12 ∧ (zP A (ix x1)).isSome = true) ∧ okI x2 (prt (zP A) (ix x1)).length
  · rw [if_pos ok]
    obtain ⟨c, n, e, hc, hn⟩ := t1 ok
    obtain ⟨ba, f, y1, y2, -⟩ := hc
    have e2 : oI S (some c) 14 1 = some (nq n) := oI_ok y1 rfl
    rw [hn] at e2
    have e3 := e2
    have E : f_X0_shared (some x) x1 x2 (some out) S = bd1 (jS S (some out) (nq 0) (nq ((allP (zP A) 12).count ((prt (zP A) (ix x1)).getD (ix x2) []))).toInt64) fun S8 => some (nq 0, S8) := by
      simp only [f_X0_shared, f_X1_shared, ho, e, e2, e3, pb1, pb2, nq_lit, nq_add, nq_mul, nq_lt, nq_le, nq_eq, nq_lt0, nq10, nq00, Nat.one_ne_zero, Nat.reduceEqDiff, Nat.not_lt_zero, zb1, zb0, eq_self, reduceIte, String.reduceEq, reduceCtorEq]
    rw [E]
    exact oq_v h rfl rfl (Rm.refl S) (by omega) (by omega)
  · rw [if_neg ok]
    have e := t2 ok
    have E : f_X0_shared (some x) x1 x2 (some out) S = some (nq 1, xt S) := by
      simp only [f_X0_shared, f_X1_shared, ho, e, pb1, pb2, nq_lit, nq_add, nq_mul, nq_lt, nq_le, nq_eq, nq_lt0, nq10, nq00, Nat.one_ne_zero, Nat.reduceEqDiff, Nat.not_lt_zero, zb1, zb0, eq_self, reduceIte, String.reduceEq, reduceCtorEq]
    rw [E]
    exact oq_x (h.xt (by omega) (by omega)) (by decide) (xt_rm (by omega) (by omega)) (by omega) (by omega)

theorem x_versions {ρ : Nat → Nat} {e0 : Option Nat} {fa sg de vl st pp : Nat} (h : SR S x out A ρ e0 fa sg de vl st pp) : f_X1_versions (some x) S = some (nq (zV A).length, S) := by
  have e3 : oA S (some x) 0 3 = some (some vl) := oA_ok (o := some vl) h.ox rfl
  obtain ⟨-, ⟨⟨vd, cap, vv, v1, v2, v3, v4⟩, h6, h7⟩, -⟩ := h
  have hl := v1.sub (mk_sub S ρ 5)
  have ei := hl.isO
  have es := la_size hl
  rw [v3] at es
  simp only [f_X1_versions, e3, ei, es, pb1, pb2, nq_lit, nq_add, nq_mul, nq_lt, nq_le, nq_eq, nq_lt0, nq10, nq00, Nat.one_ne_zero, Nat.reduceEqDiff, Nat.not_lt_zero, zb1, zb0, eq_self, reduceIte, String.reduceEq, reduceCtorEq]
theorem x_chunks {ρ : Nat → Nat} {e0 : Option Nat} {fa sg de vl st pp : Nat} (h : SR S x out A ρ e0 fa sg de vl st pp) : f_X1_chunks (some x) S = some (nq (frs [] (allP (zP A) 12)).length, S) ∧ f_X1_heldBytes (some x) S = some (nq ((frs [] (allP (zP A) 12)).map List.length).sum, S) := by
  have e4 : oA S (some x) 0 4 = some (some st) := oA_ok (o := some st) h.ox rfl
  obtain ⟨-, ⟨-, ⟨cl, cd, cap, cs, K, f, i1, i2, i3, -⟩, -⟩, -⟩ := h
  have hu := i1.sub (mk_sub S ρ 6)
  have e5 : oA S (some st) 1 0 = some (some cl) := oA_ok (o := some cl) hu.1 rfl
  have e6 : oI S (some st) 1 1 = some (nq (K.map fun x => x.1.length).sum) := oI_ok hu.1 rfl
  have ei := hu.2.1.isO
  have es := la_size hu.2.1
  rw [hu.2.2.1, KOk_len i3 (fun _ => rfl)] at es
  rw [KOk_sum i3 (fun _ => rfl)] at e6
  constructor
  · simp only [f_X1_chunks, e4, e5, ei, es, pb1, pb2, nq_lit, nq_add, nq_mul, nq_lt, nq_le, nq_eq, nq_lt0, nq10, nq00, Nat.one_ne_zero, Nat.reduceEqDiff, Nat.not_lt_zero, zb1, zb0, eq_self, reduceIte, String.reduceEq, reduceCtorEq]
  · simp only [f_X1_heldBytes, e4, e6, pb1, pb2, nq_lit, nq_add, nq_mul, nq_lt, nq_le, nq_eq, nq_lt0, nq10, nq00, Nat.one_ne_zero, Nat.reduceEqDiff, Nat.not_lt_zero, zb1, zb0, eq_self, reduceIte, String.reduceEq, reduceCtorEq]
theorem x_papers_l {f : Nat → Option Nat} {pp : Nat} {ps : Nat → Option (List (List Nat))} (hp : S.1 pp = some (.inr (7, 12, .inr (.inr (.inr (.inr f)))))) (h : ∀ p, p < 12 → ((ps p).isSome = true ↔ f p ≠ none)) : ∀ (N k n : Nat), N < n → k + N = 12 → l_X1_papers_13 n (nq (cntP ps k), some pp, nq 12, nq k) S = some (nq (cntP ps 12), S) := by
  intro N
  induction N with
  | zero =>
    intro k n hn hk
    obtain ⟨n, rfl⟩ := pre_n hn
    have hk12 : k = 12 := by omega
    subst hk12
    rw [l_X1_papers_13_s]
    simp (disch := omega) only [s_X1_papers_13, Nat.le_refl, pb1, pb2, nq_lit, nq_add, nq_mul, nq_lt, nq_le, nq_eq, nq_lt0, nq10, nq00, Nat.one_ne_zero, Nat.reduceEqDiff, Nat.not_lt_zero, zb1, zb0, eq_self, reduceIte, String.reduceEq, reduceCtorEq]
  | succ N ih =>
    intro k n hn hk
    obtain ⟨n, rfl⟩ := pre_n hn
    have hk' : ¬ 12 ≤ k := by omega
    have e1 : aL S (some pp) 7 (nq k) = some (f k) := aL_ok hp (by omega) (by omega)
    have ih' := ih (k + 1) n (by omega) (by omega)
    have hck : cntP ps (k + 1) = cntP ps k + (if (ps k).isSome = true then 1 else 0) := rfl
    have hh := h k (by omega)
    rw [hck] at ih'
    rw [l_X1_papers_13_s]
    cases hf : f k with
    | none =>
      have hs : ¬ (ps k).isSome = true := fun q => hh.mp q hf
      rw [if_neg hs] at ih'
      rw [hf] at e1
      simp (disch := omega) only [s_X1_papers_13, s_X1_papers_36, hk', e1, pb1, pb2, nq_lit, nq_add, nq_mul, nq_lt, nq_le, nq_eq, nq_lt0, nq10, nq00, Nat.one_ne_zero, Nat.reduceEqDiff, Nat.not_lt_zero, zb1, zb0, eq_self, reduceIte, String.reduceEq, reduceCtorEq]
      exact ih'
    | some a =>
      have hs : (ps k).isSome = true := hh.mpr (by rw [hf]; exact fun q => nomatch q)
      rw [if_pos hs] at ih'
      rw [hf] at e1
      simp (disch := omega) only [s_X1_papers_13, s_X1_papers_36, hk', e1, pb1, pb2, nq_lit, nq_add, nq_mul, nq_lt, nq_le, nq_eq, nq_lt0, nq10, nq00, Nat.one_ne_zero, Nat.reduceEqDiff, Nat.not_lt_zero, zb1, zb0, eq_self, reduceIte, String.reduceEq, reduceCtorEq]
      exact ih'
theorem x_papers {ρ : Nat → Nat} {e0 : Option Nat} {fa sg de vl st pp : Nat} (h : SR S x out A ρ e0 fa sg de vl st pp) : f_X1_papers (some x) S = some (nq (cntP (zP A) 12), S) := by
  have e5 : oA S (some x) 0 5 = some (some pp) := oA_ok (o := some pp) h.ox rfl
  obtain ⟨-, ⟨-, ⟨cl, cd, cap, cs, K, f, i1, i2, i3, i4, i5⟩, -⟩, -⟩ := h
  have e6 : lenA S (some pp) 7 = some (nq 12) := lenA_ok (mk_e i4).2
  have := x_papers_l (ps := zP A) (mk_e i4).2 (fun p hp => by
    obtain ⟨t1, t2⟩ := i5 p hp
    cases hz : zP A p with
    | none => exact ⟨fun q => (nomatch q), fun q => absurd (t2 hz) q⟩
    | some l =>
      obtain ⟨a, arr, g, u1, -⟩ := t1 l hz
      rw [u1]
      exact ⟨fun _ q => (nomatch q), fun _ => rfl⟩) 12 0 FU (by unfold FU; omega) rfl
  have this : l_X1_papers_13 FU (nq 0, some pp, nq 12, nq 0) S = some (nq (cntP (zP A) 12), S) := this
  simp only [f_X1_papers, e5, e6, this, pb1, pb2, nq_lit, nq_add, nq_mul, nq_lt, nq_le, nq_eq, nq_lt0, nq10, nq00, Nat.one_ne_zero, Nat.reduceEqDiff, Nat.not_lt_zero, zb1, zb0, eq_self, reduceIte, String.reduceEq, reduceCtorEq]
end Pap

