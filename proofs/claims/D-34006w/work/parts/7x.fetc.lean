/-! PURE: fetch -/
set_option maxRecDepth 100000
section Fetc
variable {S : St} {x out : Nat} {A : AA}
theorem x_fetch_l {F : Nat → Option Ob} {a b arr : Nat} {g : Nat → Option Nat} {l : List (List Nat)} (ha : F arr = some (.inr (9, l.length, .inr (.inr (.inr (.inr g)))))) (hg : ∀ i, i < l.length → ∃ c n, g i = some c ∧ iChk F c (l.getD i []) n) (hFa : F a = none) (hFb : F b = none) (hl : l.flatten.length ≤ 120) (hll : l.length ≤ 1000) : ∀ (N k n : Nat) (S : St), N < n → k + N = l.length → Sub F S.1 → Dom S → iStr S.1 a b 120 (l.take k).flatten →
    ∃ S', l_X1_fetch_30 n (some a, some arr, nq l.length, nq k) S = some (.inr (nq l.flatten.length), S') ∧ iStr S'.1 a b 120 l.flatten ∧ Ch (fun z => z = a ∨ z = b) 0 0 S S' := by
  intro N
  induction N with
  | zero =>
    intro k n S hn hk hsub hd hs
    obtain ⟨n, rfl⟩ := pre_n hn
    have hk' : l.length ≤ k := by omega
    rw [List.take_of_length_le hk'] at hs
    have e1 : oI S (some a) 3 1 = some (nq l.flatten.length) := oI_ok hs.1 rfl
    refine ⟨S, ?_, hs, Ch.refl _ S⟩
    rw [l_X1_fetch_30_s]
    simp (disch := omega) only [s_X1_fetch_30, hk', e1, pb1, pb2, nq_lit, nq_add, nq_mul, nq_lt, nq_le, nq_eq, nq_lt0, nq10, nq00, Nat.one_ne_zero, Nat.reduceEqDiff, Nat.not_lt_zero, zb1, zb0, eq_self, reduceIte, String.reduceEq, reduceCtorEq]
  | succ N ih =>
    intro k n S hn hk hsub hd hs
    obtain ⟨n, rfl⟩ := pre_n hn
    have hk' : ¬ l.length ≤ k := by omega
    obtain ⟨c, m, g1, ba, f, g2, g3, g4⟩ := hg k (by omega)
    have e1 : aL S (some arr) 9 (nq k) = some (some c) := by rw [aL_ok (hsub _ _ ha) (by omega) (by omega), g1]
    have e2 : oA S (some c) 14 0 = some (some ba) := oA_ok (o := some ba) (hsub _ _ g2) rfl
    have e3 := hs.isobj
    have n1 : ba ≠ a := fun q => by rw [q, hFa] at g3; cases g3
    have n2 : ba ≠ b := fun q => by rw [q, hFb] at g3; cases g3
    have htk : l.take (k + 1) = l.take k ++ [l.getD k []] := by
      rw [List.take_succ, List.getD_eq_getElem?_getD, List.getElem?_eq_getElem (by omega : k < l.length)]
      rfl
    have hlen : ((l.take k).flatten ++ l.getD k []).length ≤ 120 := by
      have e : l.flatten = (l.take (k + 1)).flatten ++ (l.drop (k + 1)).flatten := by rw [← List.flatten_append, List.take_append_drop]
      rw [htk, List.flatten_append] at e
      have e4 : [l.getD k []].flatten = l.getD k [] := by rw [List.flatten_cons, List.flatten_nil, List.append_nil]
      rw [e4] at e
      rw [e, List.length_append] at hl
      omega
    rw [List.length_append] at hlen
    obtain ⟨S1, t1, t2, t3⟩ := t_add2 (t := ba) (f := f) (cs := l.getD k []) (by omega) n1 n2 (hsub _ _ g3) g4 hs hlen hd
    have hfl : (l.take k).flatten ++ l.getD k [] = (l.take (k + 1)).flatten := by
      rw [htk, List.flatten_append, List.flatten_cons, List.flatten_nil, List.append_nil]
    rw [hfl] at t2
    obtain ⟨S', u1, u2, u3⟩ := ih (k + 1) n S1 (by omega) (by omega) (hsub.ch t3 hd fun z q => q.elim (fun q => by rw [q]; exact hFa) fun q => by rw [q]; exact hFb) (t3.2.2.2.2.2 hd) t2
    refine ⟨S', ?_, u2, t3.trans u3 fun _ _ q => q⟩
    rw [l_X1_fetch_30_s]
    simp (disch := omega) only [s_X1_fetch_30, hk', e1, e2, e3, t1, pb1, pb2, nq_lit, nq_add, nq_mul, nq_lt, nq_le, nq_eq, nq_lt0, nq10, nq00, Nat.one_ne_zero, Nat.reduceEqDiff, Nat.not_lt_zero, zb1, zb0, eq_self, reduceIte, String.reduceEq, reduceCtorEq]
    exact u1
theorem q_fetch (x1 x2 : Int32) (h : SRep S x out A) (hA : AOk A) (k1 : 9000 ≤ S.2.2.1) (k2 : 110000 ≤ S.2.2.2.1) : OQ S x out (o_fetch A x1 x2) (f_X0_fetch (some x) x1 x2 (some out) S) := by
  obtain ⟨ρ, e0, fa, sg, de, vl, st, pp, h⟩ := h
  have ho := h.o
  have hd : Dom S := h.2.2.2.2.1
  obtain ⟨t1, t2⟩ := x_paper x1 h (by omega) (by omega)
  obtain ⟨u1, u2⟩ := x_strip (y := x2) h hA (by omega) (by omega)
  have hx := oq_x (out := out) (k := 1) (h.xt (by omega) (by omega)) (by decide) (xt_rm (by omega) (by omega)) (by omega) (by omega)
  have hP := zP_ok hA (ix x1)
  unfold o_fetch
  by_cases ok : okI x1 12 ∧ (zP A (ix x1)).isSome = true
  · have e := (t1 ok)
    obtain ⟨arr, g, -, -, -, -, -, e, ha, -⟩ := t1 ok
    by_cases ok2 : okI x2 A.1.length
    · rw [if_pos ⟨ok, ok2⟩]
      obtain ⟨a, b, e', hs, r1, r2, hset⟩ := u1 ok2
      -- the chunks
      obtain ⟨-, ⟨-, ⟨cl, cd, cap, cs, K, f, i1, i2, i3, i4, i5⟩, -⟩, -⟩ := id h
      obtain ⟨arr2, g2, cl2, cd2, cap2, cs2, K2, e2', ha2, hI2, hK2, hp2⟩ := t1 ok
      sorry
    · rw [if_neg (fun q => ok2 q.2)]
      have e' := u2 ok2
      have E : f_X0_fetch (some x) x1 x2 (some out) S = some (nq 1, xt S) := by
        simp only [f_X0_fetch, f_X1_fetch, ho, e, e', pb1, pb2, nq_lit, nq_add, nq_mul, nq_lt, nq_le, nq_eq, nq_lt0, nq10, nq00, Nat.one_ne_zero, Nat.reduceEqDiff, Nat.not_lt_zero, zb1, zb0, eq_self, reduceIte, String.reduceEq, reduceCtorEq]
      rw [E]
      exact hx
  · rw [if_neg (fun q => ok q.1)]
    have e := t2 ok
    have E : f_X0_fetch (some x) x1 x2 (some out) S = some (nq 1, xt S) := by
      simp only [f_X0_fetch, f_X1_fetch, ho, e, pb1, pb2, nq_lit, nq_add, nq_mul, nq_lt, nq_le, nq_eq, nq_lt0, nq10, nq00, Nat.one_ne_zero, Nat.reduceEqDiff, Nat.not_lt_zero, zb1, zb0, eq_self, reduceIte, String.reduceEq, reduceCtorEq]
    rw [E]
    exact hx
end Fetc
