/-! PURE: the calls that change files -/
set_option maxRecDepth 100000
theorem addB_s (a s k : Nat) : addB a s (k + 1) = addB a s k ++ [(a + k * s) % 256] := by
  unfold addB
  rw [List.range_succ, List.map_append]
  rfl
theorem x_add_l {a b f0 s0 m : Nat} {bs : List Nat} (hf : f0 < 256) (hs0 : s0 < 256) (hm : bs.length + m ≤ 120) : ∀ (N k n : Nat) (S : St), N < n → k + N = m → iStr S.1 a b 120 (bs ++ addB f0 s0 k) → Dom S →
    ∃ S', l_X1_add_55 n (nq f0, nq s0, nq m, some a, nq k) S = some (.inr (nq (bs.length + m)), S') ∧ iStr S'.1 a b 120 (bs ++ addB f0 s0 m) ∧ Ch (fun x => x = a ∨ x = b) 0 0 S S' := by
  have hal : ∀ k, (addB f0 s0 k).length = k := fun k => by unfold addB; rw [List.length_map, List.length_range]
  intro N
  induction N with
  | zero =>
    intro k n S hn hk hs hd
    obtain ⟨n, rfl⟩ := pre_n hn
    have hk' : m ≤ k := by omega
    have hkm : k = m := by omega
    subst hkm
    have e1 : oI S (some a) 3 1 = some (nq (bs.length + k)) := by
      have := oI_ok (k := 1) hs.1 rfl
      rw [List.length_append, hal] at this
      exact this
    refine ⟨S, ?_, hs, Ch.refl _ S⟩
    rw [l_X1_add_55_s]
    simp (disch := omega) only [s_X1_add_55, e1, hk', pb1, pb2, nq_lit, nq_add, nq_mul, nq_lt, nq_le, nq_eq, nq_lt0, nq10, nq00, Nat.one_ne_zero, Nat.reduceEqDiff, Nat.not_lt_zero, zb1, zb0, eq_self, reduceIte, String.reduceEq, reduceCtorEq]
  | succ N ih =>
    intro k n S hn hk hs hd
    obtain ⟨n, rfl⟩ := pre_n hn
    have hk' : ¬ m ≤ k := by omega
    have ei := hs.isobj
    have hks : k * s0 ≤ 120 * 255 := Nat.mul_le_mul (by omega) (by omega)
    obtain ⟨S1, t1, t2, t3⟩ := t_add hs (by rw [List.length_append, hal]; omega) (by omega) ((f0 + k * s0) % 256)
    rw [List.append_assoc, ← addB_s] at t2
    obtain ⟨S', u1, u2, u3⟩ := ih (k + 1) n S1 (by omega) (by omega) t2 (t3.2.2.2.2.2 hd)
    refine ⟨S', ?_, u2, t3.trans u3 fun _ _ q => q⟩
    have hz : nz (nq 256) = some () := nz_ok (by omega) (by omega)
    rw [l_X1_add_55_s]
    simp (disch := omega) only [s_X1_add_55, hk', hz, ei, nq_mod, t1, pb1, pb2, nq_lit, nq_add, nq_mul, nq_lt, nq_le, nq_eq, nq_lt0, nq10, nq00, Nat.one_ne_zero, Nat.reduceEqDiff, Nat.not_lt_zero, zb1, zb0, eq_self, reduceIte, String.reduceEq, reduceCtorEq]
    exact u1
section Fils
variable {S : St} {x out : Nat} {A : AA}
theorem okI_256 {y : Int32} : okI y 256 ↔ ¬ y < nq 0 ∧ ¬ nq 255 < y := okI_s (by omega)
theorem q_add (x1 x2 x3 x4 : Int32) (h : SRep S x out A) (hA : AOk A) (k1 : 9000 ≤ S.2.2.1) (k2 : 110000 ≤ S.2.2.2.1) : OQ S x out (o_add A x1 x2 x3 x4) (f_X0_add (some x) x1 x2 x3 x4 (some out) S) := by
  obtain ⟨ρ, e0, fa, sg, de, vl, st, pp, h⟩ := h
  have ho := h.o
  have hd : Dom S := h.2.2.2.2.1
  obtain ⟨t1, t2⟩ := x_strip (y := x1) h hA (by omega) (by omega)
  have hx := fun k (hk : k ≠ 0) => oq_x (out := out) (k := k) (h.xt (by omega) (by omega)) hk (xt_rm (by omega) (by omega)) (by omega) (by omega)
  obtain ⟨a1, a2⟩ := x_fit (S := S) (okI_256 (y := x2)) (by omega) (by omega)
  obtain ⟨b1, b2⟩ := x_fit (S := S) (okI_256 (y := x3)) (by omega) (by omega)
  obtain ⟨c1, c2⟩ := x_fit (S := S) (okI_r (x := x4) (n := 120) (by omega)) (by omega) (by omega)
  have n1 := x_can1 S
  have n0 := x_can0 (S := S) (by omega) (by omega)
  unfold o_add
  by_cases ok : okI x1 A.1.length
  · rw [if_pos ok]
    obtain ⟨a, b, e, hs, r1, r2, hset⟩ := t1 ok
    have hL := (fl_ok hA (ix x1)).1
    have e1 : oI S (some a) 3 1 = some (nq (fl A (ix x1)).length) := oI_ok hs.1 rfl
    by_cases o2 : okI x2 256
    · have e2 := a1 o2
      by_cases o3 : okI x3 256
      · have e3 := b1 o3
        by_cases o4 : okI x4 121 ∧ ¬ ix x4 = 0
        · have e4 := c1 o4
          rw [if_pos ⟨o2, o3, o4⟩]
          obtain ⟨f0, f1, f2, rfl⟩ := okI_get o2
          obtain ⟨s0, s1, s2, rfl⟩ := okI_get o3
          obtain ⟨m, m1, m2, rfl⟩ := okI_get o4.1
          have i1 : ix (nq f0) = f0 := nq_idx f2
          have i2 : ix (nq s0) = s0 := nq_idx s2
          have i3 : ix (nq m) = m := nq_idx m2
          rw [i1, i2, i3]
          by_cases o5 : (fl A (ix x1)).length + m ≤ 120
          · rw [if_pos o5]
            have o5' : ¬ 120 < (fl A (ix x1)).length + m := by omega
            obtain ⟨S', u1, u2, u3⟩ := x_add_l f1 s1 o5 m 0 FU S (by unfold FU; omega) (by omega) (by
              have : addB f0 s0 0 = [] := rfl
              rw [this, List.append_nil]
              exact hs) hd
            have E : f_X0_add (some x) x1 (nq f0) (nq s0) (nq m) (some out) S = bd1 (jS S' (some out) (nq 0) (nq ((fl A (ix x1)).length + m)).toInt64) fun S8 => some (nq 0, S8) := by
              simp (disch := omega) only [f_X0_add, f_X1_add, s_X1_add_49, ho, e, e1, e2, e3, e4, o5', n1, u1, pb1, pb2, nq_lit, nq_add, nq_mul, nq_lt, nq_le, nq_eq, nq_lt0, nq10, nq00, Nat.one_ne_zero, Nat.reduceEqDiff, Nat.not_lt_zero, zb1, zb0, eq_self, reduceIte, String.reduceEq, reduceCtorEq]
            rw [E]
            exact oq_v (hset S' _ _ _ u3 u2) rfl rfl u3.rm (by omega) (by omega)
          · rw [if_neg o5]
            have o5' : 120 < (fl A (ix x1)).length + m := by omega
            have E : f_X0_add (some x) x1 (nq f0) (nq s0) (nq m) (some out) S = some (nq 3, xt S) := by
              simp (disch := omega) only [f_X0_add, f_X1_add, s_X1_add_49, ho, e, e1, e2, e3, e4, o5', n0, pb1, pb2, nq_lit, nq_add, nq_mul, nq_lt, nq_le, nq_eq, nq_lt0, nq10, nq00, Nat.one_ne_zero, Nat.reduceEqDiff, Nat.not_lt_zero, zb1, zb0, eq_self, reduceIte, String.reduceEq, reduceCtorEq]
            rw [E]
            exact hx 3 (by decide)
        · rw [if_neg (fun q => o4 q.2.2)]
          have e4 := c2 o4
          have E : f_X0_add (some x) x1 x2 x3 x4 (some out) S = some (nq 2, xt S) := by
            simp (disch := omega) only [f_X0_add, f_X1_add, ho, e, e1, e2, e3, e4, pb1, pb2, nq_lit, nq_add, nq_mul, nq_lt, nq_le, nq_eq, nq_lt0, nq10, nq00, Nat.one_ne_zero, Nat.reduceEqDiff, Nat.not_lt_zero, zb1, zb0, eq_self, reduceIte, String.reduceEq, reduceCtorEq]
          rw [E]
          exact hx 2 (by decide)
      · rw [if_neg (fun q => o3 q.2.1)]
        have e3 := b2 o3
        have E : f_X0_add (some x) x1 x2 x3 x4 (some out) S = some (nq 2, xt S) := by
          simp (disch := omega) only [f_X0_add, f_X1_add, ho, e, e1, e2, e3, pb1, pb2, nq_lit, nq_add, nq_mul, nq_lt, nq_le, nq_eq, nq_lt0, nq10, nq00, Nat.one_ne_zero, Nat.reduceEqDiff, Nat.not_lt_zero, zb1, zb0, eq_self, reduceIte, String.reduceEq, reduceCtorEq]
        rw [E]
        exact hx 2 (by decide)
    · rw [if_neg (fun q => o2 q.1)]
      have e2 := a2 o2
      have E : f_X0_add (some x) x1 x2 x3 x4 (some out) S = some (nq 2, xt S) := by
        simp (disch := omega) only [f_X0_add, f_X1_add, ho, e, e1, e2, pb1, pb2, nq_lit, nq_add, nq_mul, nq_lt, nq_le, nq_eq, nq_lt0, nq10, nq00, Nat.one_ne_zero, Nat.reduceEqDiff, Nat.not_lt_zero, zb1, zb0, eq_self, reduceIte, String.reduceEq, reduceCtorEq]
      rw [E]
      exact hx 2 (by decide)
  · rw [if_neg ok]
    have e := t2 ok
    have E : f_X0_add (some x) x1 x2 x3 x4 (some out) S = some (nq 1, xt S) := by
      simp (disch := omega) only [f_X0_add, f_X1_add, ho, e, pb1, pb2, nq_lit, nq_add, nq_mul, nq_lt, nq_le, nq_eq, nq_lt0, nq10, nq00, Nat.one_ne_zero, Nat.reduceEqDiff, Nat.not_lt_zero, zb1, zb0, eq_self, reduceIte, String.reduceEq, reduceCtorEq]
    rw [E]
    exact hx 1 (by decide)
theorem q_copy (x1 x2 : Int32) (h : SRep S x out A) (hA : AOk A) (k1 : 9000 ≤ S.2.2.1) (k2 : 110000 ≤ S.2.2.2.1) : OV S x out (o_copy A x1 x2) (f_X0_copy (some x) x1 x2 S) := by
  obtain ⟨ρ, e0, fa, sg, de, vl, st, pp, h⟩ := h
  have ho := h.o
  obtain ⟨t1, t2⟩ := x_strip (y := x1) h hA (by omega) (by omega)
  obtain ⟨u1, u2⟩ := x_strip (y := x2) h hA (by omega) (by omega)
  unfold o_copy
  by_cases ok : okI x1 A.1.length
  · obtain ⟨a, b, e, hs, -⟩ := t1 ok
    by_cases ok2 : okI x2 A.1.length
    · rw [if_pos ⟨ok, ok2⟩]
      obtain ⟨a', b', e', hs', r1, r2, hset⟩ := u1 ok2
      obtain ⟨S', v1, v2, v3⟩ := t_become hs' hs (fl_ok hA (ix x1)).1 (by omega) (by omega)
      have ei := isO_ok hs'.1
      have E : f_X0_copy (some x) x1 x2 S = some (nq 0, S') := by
        simp (disch := omega) only [f_X0_copy, f_X1_copy, ho, e, e', ei, v1, pb1, pb2, nq_lit, nq_add, nq_mul, nq_lt, nq_le, nq_eq, nq_lt0, nq10, nq00, Nat.one_ne_zero, Nat.reduceEqDiff, Nat.not_lt_zero, zb1, zb0, eq_self, reduceIte, String.reduceEq, reduceCtorEq]
      rw [E]
      exact ov_v (an := yn 0 _) (hset S' _ _ _ v3 v2) v3.rm (by omega) (by omega)
    · rw [if_neg (fun q => ok2 q.2)]
      have e' := u2 ok2
      have E : f_X0_copy (some x) x1 x2 S = some (nq 1, xt S) := by
        simp (disch := omega) only [f_X0_copy, f_X1_copy, ho, e, e', pb1, pb2, nq_lit, nq_add, nq_mul, nq_lt, nq_le, nq_eq, nq_lt0, nq10, nq00, Nat.one_ne_zero, Nat.reduceEqDiff, Nat.not_lt_zero, zb1, zb0, eq_self, reduceIte, String.reduceEq, reduceCtorEq]
      rw [E]
      exact ov_v (an := no 1 A) (h.xt (by omega) (by omega)) (xt_rm (by omega) (by omega)) (by omega) (by omega)
  · rw [if_neg (fun q => ok q.1)]
    have e := t2 ok
    have E : f_X0_copy (some x) x1 x2 S = some (nq 1, xt S) := by
      simp (disch := omega) only [f_X0_copy, f_X1_copy, ho, e, pb1, pb2, nq_lit, nq_add, nq_mul, nq_lt, nq_le, nq_eq, nq_lt0, nq10, nq00, Nat.one_ne_zero, Nat.reduceEqDiff, Nat.not_lt_zero, zb1, zb0, eq_self, reduceIte, String.reduceEq, reduceCtorEq]
    rw [E]
    exact ov_v (an := no 1 A) (h.xt (by omega) (by omega)) (xt_rm (by omega) (by omega)) (by omega) (by omega)
theorem q_insert (x1 x2 x3 : Int32) (h : SRep S x out A) (hA : AOk A) (k1 : 9000 ≤ S.2.2.1) (k2 : 110000 ≤ S.2.2.2.1) : OQ S x out (o_insert A x1 x2 x3) (f_X0_insert (some x) x1 x2 x3 (some out) S) := by
  obtain ⟨ρ, e0, fa, sg, de, vl, st, pp, h⟩ := h
  have ho := h.o
  have hd : Dom S := h.2.2.2.2.1
  obtain ⟨t1, t2⟩ := x_strip (y := x1) h hA (by omega) (by omega)
  have hx := fun k (hk : k ≠ 0) => oq_x (out := out) (k := k) (h.xt (by omega) (by omega)) hk (xt_rm (by omega) (by omega)) (by omega) (by omega)
  obtain ⟨b1, b2⟩ := x_fit (S := S) (okI_256 (y := x3)) (by omega) (by omega)
  have n1 := x_can1 S
  have n0 := x_can0 (S := S) (by omega) (by omega)
  unfold o_insert
  by_cases ok : okI x1 A.1.length
  · obtain ⟨a, b, e, hs, r1, r2, hset⟩ := t1 ok
    have hL := (fl_ok hA (ix x1)).1
    have e1 : oI S (some a) 3 1 = some (nq (fl A (ix x1)).length) := oI_ok hs.1 rfl
    obtain ⟨a1, a2⟩ := x_there (S := S) (y := x2) (n := (fl A (ix x1)).length + 1) (by omega) (by omega) (by omega)
    by_cases o2 : okI x2 ((fl A (ix x1)).length + 1)
    · rw [if_pos ⟨ok, o2⟩]
      have e2 := a1 o2
      by_cases o3 : okI x3 256
      · rw [if_pos o3]
        have e3 := b1 o3
        by_cases o5 : (fl A (ix x1)).length < 120
        · rw [if_pos o5]
          have o5' : ¬ 120 ≤ (fl A (ix x1)).length := by omega
          obtain ⟨j, j1, j2, rfl⟩ := okI_get o2
          obtain ⟨w, w1, w2, rfl⟩ := okI_get o3
          have i1 : ix (nq j) = j := nq_idx j2
          have i2 : ix (nq w) = w := nq_idx w2
          rw [i1, i2]
          have hs : iStr S.1 a b 120 (fl A (ix x1)) := hs
          obtain ⟨s1, f, s2, s3, s4⟩ := hs
          have s1 : S.1 a = some (.inl (3, [.ref b, .int (nq (fl A (ix x1)).length)])) := s1
          generalize fl A (ix x1) = bs at *
          have e4 : oA S (some a) 3 0 = some (some b) := oA_ok (o := some b) s1 rfl
          obtain ⟨S1, d1⟩ : ∃ S1, x_set S b (.inr (0, 120, .inl (va_cpy f f j (j + 1) (bs.length - j)))) = S1 := ⟨_, rfl⟩
          have q1 : cpI S (some b) (nq j) (some b) (nq (j + 1)) (nq (bs.length - j)) = some S1 := (cpI_ok s2 s2 (by omega) (by omega) (by omega) (by omega)).trans (by rw [d1])
          have c1 : Ch (fun z => z = b) 0 0 S S1 := by rw [← d1]; exact Ch.set S _ s2
          have v1 : S1.1 b = some (.inr (0, 120, .inl (va_cpy f f j (j + 1) (bs.length - j)))) := by rw [← d1]; exact xs_i _ _ _
          have hd1 := c1.2.2.2.2.2 hd
          have a1' := c1.at hd s1 (obne s1 s2 (by simp))
          have e5 : oA S1 (some a) 3 0 = some (some b) := oA_ok (o := some b) a1' rfl
          obtain ⟨S2, d2⟩ : ∃ S2, x_set S1 b (.inr (0, 120, .inl (va_up (va_cpy f f j (j + 1) (bs.length - j)) j (nq w)))) = S2 := ⟨_, rfl⟩
          have q2 : iS S1 (some b) 0 (nq j) (nq w) = some S2 := (iS_ok v1 (by omega) (by omega)).trans (by rw [d2])
          have c2 : Ch (fun z => z = b) 0 0 S1 S2 := by rw [← d2]; exact Ch.set S1 _ v1
          have v2 : S2.1 b = some (.inr (0, 120, .inl (va_up (va_cpy f f j (j + 1) (bs.length - j)) j (nq w)))) := by rw [← d2]; exact xs_i _ _ _
          have hd2 := c2.2.2.2.2.2 hd1
          have a2' := c2.at hd1 a1' (obne s1 s2 (by simp))
          have e6 : oI S2 (some a) 3 1 = some (nq bs.length) := oI_ok a2' rfl
          obtain ⟨S3, d3⟩ : ∃ S3, x_set S2 a (.inl (3, [.ref b, .int (nq (bs.length + 1))])) = S3 := ⟨_, rfl⟩
          have p3 : pV S2 (some a) 3 1 (.int (nq (bs.length + 1))) = some S3 := (pV_ok a2' (by simp)).trans (congrArg some d3)
          have c3 : Ch (fun z => z = a) 0 0 S2 S3 := by rw [← d3]; exact Ch.set S2 _ a2'
          have v3 : S3.1 a = some (.inl (3, [.ref b, .int (nq (bs.length + 1))])) := by rw [← d3]; exact xs_i _ _ _
          have e7 : oI S3 (some a) 3 1 = some (nq (bs.length + 1)) := oI_ok v3 rfl
          have hlen : (bs.take j ++ w :: bs.drop j).length = bs.length + 1 := by
            rw [List.length_append, List.length_cons, List.length_take, List.length_drop]
            omega
          have C : Ch (fun z => z = a ∨ z = b) 0 0 S S3 := ((c1.or c2).or c3).mono (fun z _ q => by
            rcases q with (q | q) | q
            · exact Or.inr q
            · exact Or.inr q
            · exact Or.inl q) (Nat.le_refl _) (Nat.le_refl _)
          have hs' : iStr S3.1 a b 120 (bs.take j ++ w :: bs.drop j) := by
            refine ⟨?_, _, c3.at hd2 v2 (obne v2 a2' (by simp)), by omega, fun i hi => ?_⟩
            · rw [hlen]
              exact v3
            · rw [hlen] at hi
              have hg : gd (bs.take j ++ w :: bs.drop j) i = if i < j then gd bs i else if i = j then w else gd bs (i - 1) := by
                unfold gd
                rw [List.getD_eq_getElem?_getD, ins_get w (by omega), List.getD_eq_getElem?_getD, List.getD_eq_getElem?_getD]
                split
                · rfl
                · split <;> rfl
              rw [hg]
              unfold va_up va_cpy
              by_cases z1 : i = j
              · rw [if_pos z1, if_neg (by omega), if_pos z1]
              · rw [if_neg z1]
                by_cases z2 : i < j
                · rw [if_pos z2, if_neg (by omega)]
                  exact s4 i (by omega)
                · rw [if_neg z2, if_neg z1, if_pos ⟨by omega, by omega⟩, show j + (i - (j + 1)) = i - 1 by omega]
                  exact s4 _ (by omega)
          have E : f_X0_insert (some x) x1 (nq j) (nq w) (some out) S = bd1 (jS S3 (some out) (nq 0) (nq (bs.length + 1)).toInt64) fun S8 => some (nq 0, S8) := by
            simp (disch := omega) only [f_X0_insert, f_X1_insert, s_X1_insert_41, ho, e, e1, e2, e3, o5', n1, e4, nq_sub, q1, e5, q2, e6, p3, e7, pb1, pb2, nq_lit, nq_add, nq_mul, nq_lt, nq_le, nq_eq, nq_lt0, nq10, nq00, Nat.one_ne_zero, Nat.reduceEqDiff, Nat.not_lt_zero, zb1, zb0, eq_self, reduceIte, String.reduceEq, reduceCtorEq]
          rw [E]
          exact oq_v (hset S3 _ _ _ C hs') rfl rfl C.rm (by omega) (by omega)
        · rw [if_neg o5]
          have o5' : 120 ≤ (fl A (ix x1)).length := by omega
          have E : f_X0_insert (some x) x1 x2 x3 (some out) S = some (nq 3, xt S) := by
            simp (disch := omega) only [f_X0_insert, f_X1_insert, s_X1_insert_41, ho, e, e1, e2, e3, o5', n0, pb1, pb2, nq_lit, nq_add, nq_mul, nq_lt, nq_le, nq_eq, nq_lt0, nq10, nq00, Nat.one_ne_zero, Nat.reduceEqDiff, Nat.not_lt_zero, zb1, zb0, eq_self, reduceIte, String.reduceEq, reduceCtorEq]
          rw [E]
          exact hx 3 (by decide)
      · rw [if_neg o3]
        have e3 := b2 o3
        have E : f_X0_insert (some x) x1 x2 x3 (some out) S = some (nq 2, xt S) := by
          simp (disch := omega) only [f_X0_insert, f_X1_insert, ho, e, e1, e2, e3, pb1, pb2, nq_lit, nq_add, nq_mul, nq_lt, nq_le, nq_eq, nq_lt0, nq10, nq00, Nat.one_ne_zero, Nat.reduceEqDiff, Nat.not_lt_zero, zb1, zb0, eq_self, reduceIte, String.reduceEq, reduceCtorEq]
        rw [E]
        exact hx 2 (by decide)
    · rw [if_neg (fun q => o2 q.2)]
      have e2 := a2 o2
      have E : f_X0_insert (some x) x1 x2 x3 (some out) S = some (nq 1, xt S) := by
        simp (disch := omega) only [f_X0_insert, f_X1_insert, ho, e, e1, e2, pb1, pb2, nq_lit, nq_add, nq_mul, nq_lt, nq_le, nq_eq, nq_lt0, nq10, nq00, Nat.one_ne_zero, Nat.reduceEqDiff, Nat.not_lt_zero, zb1, zb0, eq_self, reduceIte, String.reduceEq, reduceCtorEq]
      rw [E]
      exact hx 1 (by decide)
  · rw [if_neg (fun q => ok q.1)]
    have e := t2 ok
    have E : f_X0_insert (some x) x1 x2 x3 (some out) S = some (nq 1, xt S) := by
      simp (disch := omega) only [f_X0_insert, f_X1_insert, ho, e, pb1, pb2, nq_lit, nq_add, nq_mul, nq_lt, nq_le, nq_eq, nq_lt0, nq10, nq00, Nat.one_ne_zero, Nat.reduceEqDiff, Nat.not_lt_zero, zb1, zb0, eq_self, reduceIte, String.reduceEq, reduceCtorEq]
    rw [E]
    exact hx 1 (by decide)
theorem q_remove (x1 x2 x3 : Int32) (h : SRep S x out A) (hA : AOk A) (k1 : 9000 ≤ S.2.2.1) (k2 : 110000 ≤ S.2.2.2.1) : OQ S x out (o_remove A x1 x2 x3) (f_X0_remove (some x) x1 x2 x3 (some out) S) := by
  obtain ⟨ρ, e0, fa, sg, de, vl, st, pp, h⟩ := h
  have ho := h.o
  have hd : Dom S := h.2.2.2.2.1
  obtain ⟨t1, t2⟩ := x_strip (y := x1) h hA (by omega) (by omega)
  have hx := fun k (hk : k ≠ 0) => oq_x (out := out) (k := k) (h.xt (by omega) (by omega)) hk (xt_rm (by omega) (by omega)) (by omega) (by omega)
  unfold o_remove
  by_cases ok : okI x1 A.1.length
  · obtain ⟨a, b, e, hs, r1, r2, hset⟩ := t1 ok
    have hL := (fl_ok hA (ix x1)).1
    have e1 : oI S (some a) 3 1 = some (nq (fl A (ix x1)).length) := oI_ok hs.1 rfl
    obtain ⟨a1, a2⟩ := x_there (S := S) (y := x2) (n := (fl A (ix x1)).length + 1) (by omega) (by omega) (by omega)
    by_cases o2 : okI x2 ((fl A (ix x1)).length + 1)
    · rw [if_pos ⟨ok, o2⟩]
      have e2 := a1 o2
      obtain ⟨j, j1, j2, rfl⟩ := okI_get o2
      have i1 : ix (nq j) = j := nq_idx j2
      rw [i1]
      obtain ⟨b1, b2⟩ := x_fit (S := S) (okI_s (x := x3) (n := (fl A (ix x1)).length - j) (by omega)) (by omega) (by omega)
      by_cases o3 : okI x3 ((fl A (ix x1)).length - j + 1)
      · rw [if_pos o3]
        have e3 := b1 o3
        obtain ⟨w, w1, w2, rfl⟩ := okI_get o3
        have i2 : ix (nq w) = w := nq_idx w2
        rw [i2]
        have hs : iStr S.1 a b 120 (fl A (ix x1)) := hs
        obtain ⟨s1, f, s2, s3, s4⟩ := hs
        have s1 : S.1 a = some (.inl (3, [.ref b, .int (nq (fl A (ix x1)).length)])) := s1
        generalize fl A (ix x1) = bs at *
        have e4 : oA S (some a) 3 0 = some (some b) := oA_ok (o := some b) s1 rfl
        obtain ⟨S1, d1⟩ : ∃ S1, x_set S b (.inr (0, 120, .inl (va_cpy f f (j + w) j (bs.length - j - w)))) = S1 := ⟨_, rfl⟩
        have q1 : cpI S (some b) (nq (j + w)) (some b) (nq j) (nq (bs.length - j - w)) = some S1 := (cpI_ok s2 s2 (by omega) (by omega) (by omega) (by omega)).trans (by rw [d1])
        have c1 : Ch (fun z => z = b) 0 0 S S1 := by rw [← d1]; exact Ch.set S _ s2
        have v1 : S1.1 b = some (.inr (0, 120, .inl (va_cpy f f (j + w) j (bs.length - j - w)))) := by rw [← d1]; exact xs_i _ _ _
        have hd1 := c1.2.2.2.2.2 hd
        have a1' := c1.at hd s1 (obne s1 s2 (by simp))
        have e6 : oI S1 (some a) 3 1 = some (nq bs.length) := oI_ok a1' rfl
        obtain ⟨S3, d3⟩ : ∃ S3, x_set S1 a (.inl (3, [.ref b, .int (nq (bs.length - w))])) = S3 := ⟨_, rfl⟩
        have p3 : pV S1 (some a) 3 1 (.int (nq (bs.length - w))) = some S3 := (pV_ok a1' (by simp)).trans (congrArg some d3)
        have c3 : Ch (fun z => z = a) 0 0 S1 S3 := by rw [← d3]; exact Ch.set S1 _ a1'
        have v3 : S3.1 a = some (.inl (3, [.ref b, .int (nq (bs.length - w))])) := by rw [← d3]; exact xs_i _ _ _
        have e7 : oI S3 (some a) 3 1 = some (nq (bs.length - w)) := oI_ok v3 rfl
        have hlen : (bs.take j ++ bs.drop (j + w)).length = bs.length - w := by
          rw [List.length_append, List.length_take, List.length_drop]
          omega
        have C : Ch (fun z => z = a ∨ z = b) 0 0 S S3 := (c1.or c3).mono (fun z _ q => q.symm) (Nat.le_refl _) (Nat.le_refl _)
        have hs' : iStr S3.1 a b 120 (bs.take j ++ bs.drop (j + w)) := by
          refine ⟨?_, _, c3.at hd1 v1 (obne v1 a1' (by simp)), by omega, fun i hi => ?_⟩
          · rw [hlen]
            exact v3
          · rw [hlen] at hi
            have hg : gd (bs.take j ++ bs.drop (j + w)) i = if i < j then gd bs i else gd bs (i + w) := by
              unfold gd
              rw [List.getD_eq_getElem?_getD]
              by_cases z : i < j
              · rw [if_pos z, List.getElem?_append_left (by rw [List.length_take]; omega), List.getElem?_take_of_lt z, List.getD_eq_getElem?_getD]
              · rw [if_neg z, List.getElem?_append_right (by rw [List.length_take]; omega), List.length_take, Nat.min_eq_left (by omega), List.getElem?_drop, List.getD_eq_getElem?_getD, show j + w + (i - j) = i + w by omega]
            rw [hg]
            unfold va_cpy
            by_cases z2 : i < j
            · rw [if_pos z2, if_neg (by omega)]
              exact s4 i (by omega)
            · rw [if_neg z2, if_pos ⟨by omega, by omega⟩, show j + w + (i - j) = i + w by omega]
              exact s4 _ (by omega)
        have E : f_X0_remove (some x) x1 (nq j) (nq w) (some out) S = bd1 (jS S3 (some out) (nq 0) (nq (bs.length - w)).toInt64) fun S8 => some (nq 0, S8) := by
          simp (disch := omega) only [f_X0_remove, f_X1_remove, ho, e, e1, e2, nq_sub, e3, e4, q1, e6, p3, e7, pb1, pb2, nq_lit, nq_add, nq_mul, nq_lt, nq_le, nq_eq, nq_lt0, nq10, nq00, Nat.one_ne_zero, Nat.reduceEqDiff, Nat.not_lt_zero, zb1, zb0, eq_self, reduceIte, String.reduceEq, reduceCtorEq]
        rw [E]
        exact oq_v (hset S3 _ _ _ C hs') rfl rfl C.rm (by omega) (by omega)
      · rw [if_neg o3]
        have e3 := b2 o3
        have E : f_X0_remove (some x) x1 (nq j) x3 (some out) S = some (nq 2, xt S) := by
          simp (disch := omega) only [f_X0_remove, f_X1_remove, ho, e, e1, e2, nq_sub, e3, pb1, pb2, nq_lit, nq_add, nq_mul, nq_lt, nq_le, nq_eq, nq_lt0, nq10, nq00, Nat.one_ne_zero, Nat.reduceEqDiff, Nat.not_lt_zero, zb1, zb0, eq_self, reduceIte, String.reduceEq, reduceCtorEq]
        rw [E]
        exact hx 2 (by decide)
    · rw [if_neg (fun q => o2 q.2)]
      have e2 := a2 o2
      have E : f_X0_remove (some x) x1 x2 x3 (some out) S = some (nq 1, xt S) := by
        simp (disch := omega) only [f_X0_remove, f_X1_remove, ho, e, e1, e2, pb1, pb2, nq_lit, nq_add, nq_mul, nq_lt, nq_le, nq_eq, nq_lt0, nq10, nq00, Nat.one_ne_zero, Nat.reduceEqDiff, Nat.not_lt_zero, zb1, zb0, eq_self, reduceIte, String.reduceEq, reduceCtorEq]
      rw [E]
      exact hx 1 (by decide)
  · rw [if_neg (fun q => ok q.1)]
    have e := t2 ok
    have E : f_X0_remove (some x) x1 x2 x3 (some out) S = some (nq 1, xt S) := by
      simp (disch := omega) only [f_X0_remove, f_X1_remove, ho, e, pb1, pb2, nq_lit, nq_add, nq_mul, nq_lt, nq_le, nq_eq, nq_lt0, nq10, nq00, Nat.one_ne_zero, Nat.reduceEqDiff, Nat.not_lt_zero, zb1, zb0, eq_self, reduceIte, String.reduceEq, reduceCtorEq]
    rw [E]
    exact hx 1 (by decide)
end Fils
