/-! PURE: fetch -/
set_option maxRecDepth 100000
section Fetc
variable {S : St} {x out : Nat} {A : AA}
theorem x_fetch_l {F : Nat → Option Ob} {a b arr : Nat} {g : Nat → Option Nat} {l : List (List Nat)} (ha : F arr = some (.inr (9, l.length, .inr (.inr (.inr (.inr g)))))) (hg : ∀ i, i < l.length → ∃ c n, g i = some c ∧ iChk F c (l.getD i []) n) (hFa : F a = none) (hFb : F b = none) (hl : l.flatten.length ≤ 120) (hll : l.length ≤ 1000) : ∀ (N k n : Nat) (S : St), N < n → k + N = l.length → Sub F S.1 → Dom S → iStr S.1 a b 120 (l.take k).flatten →
    ∃ S', l_X1_fetch_30 n (some a, some arr, nq l.length, nq k) S = some (.inr (nq l.flatten.length), S') ∧ iStr S'.1 a b 120 l.flatten ∧ Ch (fun z => z = a ∨ z = b) 0 0 S S' := by
  intro N
  induction N with
  | zero =>
    intro k n S hn hk hsub hd hs
    obtain ⟨n, rfl⟩ := pre_n hn
    have hk' : l.length ≤ k := by omega
    rw [List.take_of_length_le hk'] at hs
    have e1 : oI S (some a) 3 1 = some (nq l.flatten.length) := oI_ok hs.1 rfl
    refine ⟨S, ?_, hs, Ch.refl _ S⟩
    rw [l_X1_fetch_30_s]
    simp (disch := omega) only [s_X1_fetch_30, hk', e1, pb1, pb2, nq_lit, nq_add, nq_mul, nq_lt, nq_le, nq_eq, nq_lt0, nq10, nq00, Nat.one_ne_zero, Nat.reduceEqDiff, Nat.not_lt_zero, zb1, zb0, eq_self, reduceIte, String.reduceEq, reduceCtorEq]
  | succ N ih =>
    intro k n S hn hk hsub hd hs
    obtain ⟨n, rfl⟩ := pre_n hn
    have hk' : ¬ l.length ≤ k := by omega
    obtain ⟨c, m, g1, ba, f, g2, g3, g4⟩ := hg k (by omega)
    have e1 : aL S (some arr) 9 (nq k) = some (some c) := by rw [aL_ok (hsub _ _ ha) (by omega) (by omega), g1]
    have e2 : oA S (some c) 14 0 = some (some ba) := oA_ok (o := some ba) (hsub _ _ g2) rfl
    have e3 := hs.isobj
    have n1 : ba ≠ a := fun q => by rw [q, hFa] at g3; cases g3
    have n2 : ba ≠ b := fun q => by rw [q, hFb] at g3; cases g3
    have htk : l.take (k + 1) = l.take k ++ [l.getD k []] := by
      rw [List.take_succ, List.getD_eq_getElem?_getD, List.getElem?_eq_getElem (by omega : k < l.length)]
      rfl
    have hlen : ((l.take k).flatten ++ l.getD k []).length ≤ 120 := by
      have e : l.flatten = (l.take (k + 1)).flatten ++ (l.drop (k + 1)).flatten := by rw [← List.flatten_append, List.take_append_drop]
      rw [htk, List.flatten_append] at e
      have e4 : [l.getD k []].flatten = l.getD k [] := by rw [List.flatten_cons, List.flatten_nil, List.append_nil]
      rw [e4] at e
      rw [e, List.length_append] at hl
      omega
    rw [List.length_append] at hlen
    obtain ⟨S1, t1, t2, t3⟩ := t_add2 (t := ba) (f := f) (cs := l.getD k []) (by omega) n1 n2 (hsub _ _ g3) g4 hs hlen hd
    have hfl : (l.take k).flatten ++ l.getD k [] = (l.take (k + 1)).flatten := by
      rw [htk, List.flatten_append, List.flatten_cons, List.flatten_nil, List.append_nil]
    rw [hfl] at t2
    obtain ⟨S', u1, u2, u3⟩ := ih (k + 1) n S1 (by omega) (by omega) (hsub.ch t3 hd fun z q => q.elim (fun q => by rw [q]; exact hFa) fun q => by rw [q]; exact hFb) (t3.2.2.2.2.2 hd) t2
    refine ⟨S', ?_, u2, t3.trans u3 fun _ _ q => q⟩
    rw [l_X1_fetch_30_s]
    simp (disch := omega) only [s_X1_fetch_30, hk', e1, e2, e3, t1, pb1, pb2, nq_lit, nq_add, nq_mul, nq_lt, nq_le, nq_eq, nq_lt0, nq10, nq00, Nat.one_ne_zero, Nat.reduceEqDiff, Nat.not_lt_zero, zb1, zb0, eq_self, reduceIte, String.reduceEq, reduceCtorEq]
    exact u1
theorem q_fetch (x1 x2 : Int32) (h : SRep S x out A) (hA : AOk A) (k1 : 9000 ≤ S.2.2.1) (k2 : 110000 ≤ S.2.2.2.1) : OQ S x out (o_fetch A x1 x2) (f_X0_fetch (some x) x1 x2 (some out) S) := by
  obtain ⟨ρ, e0, fa, sg, de, vl, st, pp, h⟩ := h
  have ho := h.o
  have hd : Dom S := h.2.2.2.2.1
  obtain ⟨t1, t2⟩ := x_paper x1 h (by omega) (by omega)
  obtain ⟨u1, u2⟩ := x_strip (y := x2) h hA (by omega) (by omega)
  have hx := oq_x (out := out) (k := 1) (h.xt (by omega) (by omega)) (by decide) (xt_rm (by omega) (by omega)) (by omega) (by omega)
  have hP := zP_ok hA (ix x1)
  unfold o_fetch
  by_cases ok : okI x1 12 ∧ (zP A (ix x1)).isSome = true
  · have e := (t1 ok)
    obtain ⟨arr, g, -, -, -, -, -, e, ha, -⟩ := t1 ok
    by_cases ok2 : okI x2 A.1.length
    · rw [if_pos ⟨ok, ok2⟩]
      obtain ⟨a, b, e', hs, r1, r2, hset⟩ := u1 ok2
      obtain ⟨arr, g, cl, cd, cap, cs, K, e, ha, hI, hK, hp⟩ := t1 ok
      obtain ⟨F, hF⟩ : ∃ F : Nat → Option Ob, F = rs (fun y => !decide (ρ y = 2)) S.1 := ⟨_, rfl⟩
      have hFs : Sub F S.1 := by rw [hF]; exact rs_sub _ _
      have hFm : ∀ j, j ≠ 2 → Sub (mk S ρ j) F := fun j hj y e' q => by
        obtain ⟨q1, q2⟩ := mk_e q
        rw [hF]
        refine rs_i ?_ q2
        show (!decide (ρ y = 2)) = true
        rw [decide_eq_false (by rw [q1]; exact hj)]
        rfl
      have hFn : ∀ y, ρ y = 2 → F y = none := fun y hy => by
        rw [hF]
        unfold rs
        rw [if_neg]
        show ¬ (!decide (ρ y = 2)) = true
        rw [decide_eq_true hy]
        decide
      obtain ⟨s1, f0, s2, s3, s4⟩ := hs
      obtain ⟨S1, d1⟩ : ∃ S1, x_set S a (.inl (3, [.ref b, .int (nq 0)])) = S1 := ⟨_, rfl⟩
      have p1 : pV S (some a) 3 1 (.int (nq 0)) = some S1 := (pV_ok s1 (by simp)).trans (congrArg some d1)
      have c1 : Ch (fun z => z = a ∨ z = b) 0 0 S S1 := by rw [← d1]; exact (Ch.set S _ s1).mono (fun _ _ q => Or.inl q) (Nat.le_refl _) (Nat.le_refl _)
      have c1' : Ch (fun z => z = a) 0 0 S S1 := by rw [← d1]; exact Ch.set S _ s1
      have w1 : S1.1 a = some (.inl (3, [.ref b, .int (nq 0)])) := by rw [← d1]; exact xs_i _ _ _
      have hs1 : iStr S1.1 a b 120 ((prt (zP A) (ix x1)).take 0).flatten := ⟨w1, f0, c1'.at hd s2 (obne s2 s1 (by simp)), Nat.zero_le _, fun j hj => absurd hj (Nat.not_lt_zero j)⟩
      have hd1 := c1.2.2.2.2.2 hd
      have hlp := prt_len hA (ix x1)
      obtain ⟨S', v1, v2, v3⟩ := x_fetch_l (F := F) (a := a) (b := b) (hFm 0 (by decide) _ _ ha) (fun i hi => by
        obtain ⟨k, c, g1, g2, g3, g4⟩ := hp i hi
        obtain ⟨c', y1, y2⟩ := hI.2.2.2.2 k g3
        have hcc : c' = c := Option.some.inj (y1.symm.trans g2)
        subst hcc
        rw [g4] at y2
        exact ⟨c', _, g1, y2.sub (hFm 6 (by decide))⟩) (hFn _ r1) (hFn _ r2) hP.2.1 (by omega) (prt (zP A) (ix x1)).length 0 FU S1 (by unfold FU; omega) (by omega) (hFs.ch c1 hd fun z q => q.elim (fun q => by rw [q]; exact hFn _ r1) fun q => by rw [q]; exact hFn _ r2) hd1 hs1
      have C : Ch (fun z => z = a ∨ z = b) 0 0 S S' := c1.trans v3 fun _ _ q => q
      have e2 : lenA S1 (some arr) 9 = some (nq (prt (zP A) (ix x1)).length) := lenA_ok (c1'.at hd (mk_e ha).2 (obne (mk_e ha).2 s1 (by simp)))
      have E : f_X0_fetch (some x) x1 x2 (some out) S = bd1 (jS S' (some out) (nq 0) (nq (prt (zP A) (ix x1)).flatten.length).toInt64) fun S8 => some (nq 0, S8) := by
        simp only [f_X0_fetch, f_X1_fetch, ho, e, e', p1, e2, v1, pb1, pb2, nq_lit, nq_add, nq_mul, nq_lt, nq_le, nq_eq, nq_lt0, nq10, nq00, Nat.one_ne_zero, Nat.reduceEqDiff, Nat.not_lt_zero, zb1, zb0, eq_self, reduceIte, String.reduceEq, reduceCtorEq]
      rw [E]
      exact oq_v (hset S' _ _ _ C v2) rfl rfl C.rm (by omega) (by omega)
    · rw [if_neg (fun q => ok2 q.2)]
      have e' := u2 ok2
      have E : f_X0_fetch (some x) x1 x2 (some out) S = some (nq 1, xt S) := by
        simp only [f_X0_fetch, f_X1_fetch, ho, e, e', pb1, pb2, nq_lit, nq_add, nq_mul, nq_lt, nq_le, nq_eq, nq_lt0, nq10, nq00, Nat.one_ne_zero, Nat.reduceEqDiff, Nat.not_lt_zero, zb1, zb0, eq_self, reduceIte, String.reduceEq, reduceCtorEq]
      rw [E]
      exact hx
  · rw [if_neg (fun q => ok q.1)]
    have e := t2 ok
    have E : f_X0_fetch (some x) x1 x2 (some out) S = some (nq 1, xt S) := by
      simp only [f_X0_fetch, f_X1_fetch, ho, e, pb1, pb2, nq_lit, nq_add, nq_mul, nq_lt, nq_le, nq_eq, nq_lt0, nq10, nq00, Nat.one_ne_zero, Nat.reduceEqDiff, Nat.not_lt_zero, zb1, zb0, eq_self, reduceIte, String.reduceEq, reduceCtorEq]
    rw [E]
    exact hx
end Fetc
