/-! PURE: file, keep, keepDelta -/
set_option maxRecDepth 100000
/-- new cells take a kind -/
def rn (ρ : Nat → Nat) (n0 n1 k : Nat) : Nat → Nat := fun y => if n0 ≤ y ∧ y < n1 then k else ρ y
theorem rn_o {ρ : Nat → Nat} {n0 n1 k y : Nat} (h : y < n0) : rn ρ n0 n1 k y = ρ y := if_neg (fun q => by omega)
theorem rn_n {ρ : Nat → Nat} {n0 n1 k y : Nat} (h : n0 ≤ y) (h2 : y < n1) : rn ρ n0 n1 k y = k := if_pos ⟨h, h2⟩
theorem rn_h {ρ : Nat → Nat} {n0 n1 k y : Nat} (h : n1 ≤ y) : rn ρ n0 n1 k y = ρ y := if_neg (fun q => by omega)
theorem iLst_uniq {M : Nat → Option Ob} {e0 : Option Nat} {l d d' cap cap' : Nat} {as as' : List Nat} (h : iLst M e0 l d as cap) (k : iLst M e0 l d' as' cap') (hc : cap < 2147483648) (hc' : cap' < 2147483648) : as = as' := by
  have b1 := h.le
  have b2 := k.le
  obtain ⟨⟨mc, h1⟩, h2, h3⟩ := h
  obtain ⟨⟨mc', k1⟩, k2, k3⟩ := k
  rw [h1] at k1
  have t1 := (Prod.mk.inj (Sum.inl.inj (Option.some.inj k1))).2
  have t2 := (List.cons.inj t1).2
  have hd : d = d' := Value.ref.inj (List.cons.inj t2).1
  have hl : as.length = as'.length := (nq_eq (by omega) (by omega)).mp (Value.int.inj (List.cons.inj (List.cons.inj t2).2).1)
  by_cases c : cap = 0
  · rw [(h2 c).1] at hl ⊢
    exact (List.length_eq_zero_iff.mp hl.symm).symm
  · by_cases c' : cap' = 0
    · rw [(k2 c').1] at hl ⊢
      exact List.length_eq_zero_iff.mp hl
    · have u1 := (h3 (by omega)).1
      have u2 := (k3 (by omega)).1
      rw [← hd, u1] at u2
      have t3 := Sum.inr.inj (Option.some.inj u2)
      have t4 := (Prod.mk.inj (Prod.mk.inj t3).2).2
      have t5 := Sum.inr.inj (Sum.inr.inj (Sum.inr.inj (Sum.inr.inj t4)))
      exact List.ext_getElem? fun i => congrFun t5 i
theorem iHeld.app {F : Nat → Option Ob} {e0 : Option Nat} {vv : List Nat} {h a : Nat} {y : Vr} (q : iHeld F e0 vv h y) : iHeld F e0 (vv ++ [a]) h y := by
  rcases y with u | bs | ⟨j, D⟩
  · exact q
  · exact q
  · obtain ⟨bv, da, h1, h2, h3⟩ := q
    exact ⟨bv, da, h1, by rw [List.getElem?_append_left (List.getElem?_eq_some_iff.mp h2).1]; exact h2, h3⟩
section Keep
variable {S : St} {x out : Nat} {A : AA}
theorem q_file (h : SRep S x out A) (hA : AOk A) (k1 : 9000 ≤ S.2.2.1) (k2 : 110000 ≤ S.2.2.2.1) : OQ S x out (o_file A) (f_X0_file (some x) (some out) S) := by
  obtain ⟨ρ, e0, fa, sg, de, vl, st, pp, h⟩ := h
  have ho := h.o
  have hox := h.ox
  have hx := oq_x (out := out) (k := 1) (h.xt (by omega) (by omega)) (by decide) (xt_rm (by omega) (by omega)) (by omega) (by omega)
  have n1 := x_can1 S
  have n0 := x_can0 (S := S) (by omega) (by omega)
  have e0x : oA S (some x) 0 0 = some (some fa) := oA_ok (o := some fa) hox rfl
  obtain ⟨⟨h1, ⟨fd, sl, sb, l1, l2, l3, l4, l5, l6⟩, h3, h4⟩, ⟨h5, h6, h7⟩, h8, h9, h10, h11⟩ := id h
  have l2 : sl.length = A.1.length := l2
  have l3 : sb.length = A.1.length := l3
  have hl := l1.sub (mk_sub S ρ 2)
  have ei := hl.isO
  have es := la_size hl
  rw [l2] at es
  have hlen := hA.1.1
  unfold o_file
  by_cases ok : A.1.length < 6
  · rw [if_pos ok]
    have ok' : ¬ 6 ≤ A.1.length := by omega
    obtain ⟨S1, d1⟩ : ∃ S1, x_new S 2 (.inl (3, [.null, .int (nq 0)])) = S1 := ⟨_, rfl⟩
    have g1 : nO S 3 2 [.null, .int (nq 0)] = some (some S.2.1, S1) := (nO_ok (by omega) (by omega)).trans (by rw [d1])
    have c1 : Ch (fun _ => False) 1 2 S S1 := by rw [← d1]; exact Ch.new _ S _ (by omega) (by omega)
    have w1 : S1.1 S.2.1 = some (.inl (3, [.null, .int (nq 0)])) := by rw [← d1]; exact xn_i _ _ _
    have hd1 := c1.2.2.2.2.2 h10
    have nx1 : S1.2.1 = S.2.1 + 1 := by rw [← d1]; rfl
    have m1 := c1.2.2.1
    have m2 := c1.2.2.2.1
    obtain ⟨S2, f2, i2, c2⟩ := t_init2 (n := 120) w1 hd1 (by omega) (by omega) (by omega)
    have hd2 := c2.2.2.2.2.2 hd1
    have C2 : Ch (fun _ => False) 2 122 S S2 := (c1.trans c2 fun z hz q => absurd q (Nat.ne_of_lt hz)).mono (fun _ _ q => q) (by omega) (by omega)
    have sub2 : Sub S.1 S2.1 := C2.sub h10 (Sub.refl _) fun _ q => q.elim
    have hE2 : iE0 S2.1 e0 := (h8.sub (mk_sub S ρ 0)).sub sub2
    have m3 := C2.2.2.1
    have m4 := C2.2.2.2.1
    have heo : ∀ z ∈ sl, eOk S2.1 z := fun z hz => by
      obtain ⟨i, hi1, hi2⟩ := List.getElem_of_mem hz
      obtain ⟨a, b, t1, t2, t3, -⟩ := l6 i (A.1[i]'(by omega)) (List.getElem?_eq_getElem (by omega))
      rw [List.getElem?_eq_getElem hi1, hi2] at t1
      cases t1
      exact ⟨3, _, sub2 _ _ (mk_e t3).2, by decide⟩
    have hdn : 0 < 6 → e0 ≠ some fd := fun _ q => by
      obtain ⟨dd, ff, t1, t2⟩ := h8
      have : dd = fd := Option.some.inj (t1.symm.trans q)
      rw [this] at t2
      have r1 := (mk_e t2).1
      have r2 := (mk_e (l1.2.2 (by omega)).1).1
      omega
    have hgk : gkc sl.length 6 = 0 := if_pos (by omega)
    have hgs : gks sl.length 6 = 0 := if_pos (by omega)
    have hgc : gca sl.length 6 = 6 := if_pos (by omega)
    obtain ⟨S3, f3, l7, c3⟩ := la_add (v := S.2.1) (hl.sub sub2) hE2 (by rw [C2.2.2.2.2.1]; exact h9) hdn heo ⟨3, _, i2.1, by decide⟩ (by omega) hd2 (by omega) (by omega)
    rw [if_pos (by omega), hgc] at l7
    rw [hgk, hgs] at c3
    have hd3 := c3.2.2.2.2.2 hd2
    have rfa : ρ fa = 2 := by obtain ⟨mc, t⟩ := l1.1; exact (mk_e t).1
    have rfd : ρ fd = 2 := (mk_e (l1.2.2 (by omega)).1).1
    have C : Ch (fun z => z = fa ∨ (0 < 6 ∧ z = fd)) 2 122 S S3 := (C2.mono (B := fun z => z = fa ∨ (0 < 6 ∧ z = fd)) (fun _ _ q => q.elim) (Nat.le_refl _) (Nat.le_refl _)).trans c3 fun _ _ q => q
    have hnx : S.2.1 + 2 ≤ S3.2.1 := by
      have t1 := c3.2.1
      have t2 := hd2 _ _ i2.2.choose_spec.1
      omega
    have hkin : ∀ z, (z = fa ∨ (0 < 6 ∧ z = fd)) → ρ z = 2 := fun z q => by
      rcases q with q | q
      · rw [q]
        exact rfa
      · rw [q.2]
        exact rfd
    have m : ∀ j, j ≠ 2 → Sub (mk S ρ j) (mk S3 (rn ρ S.2.1 S3.2.1 2) j) := fun j hj => mk_ch C h10 (fun z hz q => by rw [rn_o hz]; exact q) (fun z q w => hj (by rw [← w, hkin z q]))
    have new : ∀ z e, S3.1 z = some e → S.2.1 ≤ z → mk S3 (rn ρ S.2.1 S3.2.1 2) 2 z = some e := fun z e hz hl => mk_i (rn_n hl (hd3 z e hz)) hz
    have flt : fa < S.2.1 := by obtain ⟨mc, t⟩ := hl.1; exact h10 _ _ t
    have fdt : fd < S.2.1 := h10 _ _ (hl.2.2 (by omega)).1
    have hstr : iStr (mk S3 (rn ρ S.2.1 S3.2.1 2) 2) S.2.1 S1.2.1 120 [] := by
      obtain ⟨q1, f, q2, q3⟩ := i2
      exact ⟨new _ _ (c3.at hd2 q1 (fun q => by rcases q with q | q <;> omega)) (Nat.le_refl _), f, new _ _ (c3.at hd2 q2 (fun q => by rcases q with q | q <;> omega)) (by omega), q3⟩
    have old : ∀ a b bs, iStr (mk S ρ 2) a b 120 bs → iStr (mk S3 (rn ρ S.2.1 S3.2.1 2) 2) a b 120 bs := fun a b bs q => by
      obtain ⟨q1, f, q2, q3⟩ := q
      have t1 := (hl.sub sub2).1
      obtain ⟨mc, t1⟩ := hl.1
      have t2 := (hl.2.2 (by omega)).1
      have a1 := (mk_e q1).2
      have a2 := (mk_e q2).2
      exact ⟨mk_i (by rw [rn_o (h10 _ _ a1)]; exact (mk_e q1).1) (C.at h10 a1 (fun q => by
        rcases q with q | q
        · exact obne a1 t1 (by simp) q
        · exact obne a1 t2 (by simp) q.2)), f, mk_i (by rw [rn_o (h10 _ _ a2)]; exact (mk_e q2).1) (C.at h10 a2 (fun q => by
        rcases q with q | q
        · exact obne a2 t1 (by simp) q
        · exact obne a2 t2 (by simp) q.2)), q3⟩
    have slt : ∀ z ∈ sl, z < S.2.1 := fun z hz => by
      obtain ⟨i, hi1, hi2⟩ := List.getElem_of_mem hz
      obtain ⟨a, b, t1, t2, t3, -⟩ := l6 i (A.1[i]'(by omega)) (List.getElem?_eq_getElem (by omega))
      rw [List.getElem?_eq_getElem hi1, hi2] at t1
      cases t1
      exact h10 _ _ (mk_e t3).2
    have sbt : ∀ z ∈ sb, z < S.2.1 := fun z hz => by
      obtain ⟨i, hi1, hi2⟩ := List.getElem_of_mem hz
      obtain ⟨a, b, t1, t2, t3, f, t4, -⟩ := l6 i (A.1[i]'(by omega)) (List.getElem?_eq_getElem (by omega))
      rw [List.getElem?_eq_getElem hi1, hi2] at t2
      cases t2
      exact h10 _ _ (mk_e t4).2
    have nd : ∀ (l : List Nat) (a : Nat), l.Nodup → (∀ z ∈ l, z < S.2.1) → S.2.1 ≤ a → (l ++ [a]).Nodup := fun l a q1 q2 q3 => by
      rw [List.nodup_append]
      refine ⟨q1, by simp, fun z hz y hy => ?_⟩
      rw [List.mem_singleton] at hy
      have := q2 z hz
      omega
    have h' : SR S3 x out (A.1 ++ [[]], A.2) (rn ρ S.2.1 S3.2.1 2) e0 fa sg de vl st pp := by
      refine ⟨⟨h1.sub (m 1 (by decide)), ⟨fd, sl ++ [S.2.1], sb ++ [S1.2.1], ?_, ?_, ?_, nd _ _ l4 slt (Nat.le_refl _), nd _ _ l5 sbt (by omega), fun i bs hi => ?_⟩, h3.sub (m 3 (by decide)) (m 0 (by decide)), h4.sub (m 4 (by decide)) (m 0 (by decide))⟩, ⟨h5.sub (m 5 (by decide)) (m 0 (by decide)), h6.sub (m 6 (by decide)) (m 7 (by decide)) (m 0 (by decide)), h7.sub (m 8 (by decide))⟩, h8.sub (m 0 (by decide)), C.2.2.2.2.1 ▸ h9, hd3, fun z hz => by rw [rn_h hz]; exact h11 z (Nat.le_trans C.2.1 hz)⟩
      · obtain ⟨⟨mc, t1⟩, t2, t3⟩ := l7
        exact ⟨⟨mc, mk_i (by rw [rn_o flt]; exact rfa) t1⟩, t2, fun q => ⟨mk_i (by rw [rn_o fdt]; exact rfd) (t3 q).1, (t3 q).2⟩⟩
      · show (sl ++ [S.2.1]).length = (A.1 ++ [[]]).length
        rw [List.length_append, List.length_append, l2]
        rfl
      · show (sb ++ [S1.2.1]).length = (A.1 ++ [[]]).length
        rw [List.length_append, List.length_append, l3]
        rfl
      · have hi : (A.1 ++ [[]])[i]? = some bs := hi
        by_cases z : i < A.1.length
        · rw [List.getElem?_append_left z] at hi
          obtain ⟨a, b, t1, t2, t3⟩ := l6 i bs hi
          exact ⟨a, b, by rw [List.getElem?_append_left (by omega)]; exact t1, by rw [List.getElem?_append_left (by omega)]; exact t2, old a b bs t3⟩
        · have hil := (List.getElem?_eq_some_iff.mp hi).1
          rw [List.length_append, List.length_singleton] at hil
          have hie : i = A.1.length := by omega
          subst hie
          rw [List.getElem?_append_right (Nat.le_refl _), Nat.sub_self] at hi
          cases hi
          exact ⟨S.2.1, S1.2.1, by rw [← l2, List.getElem?_append_right (Nat.le_refl _), Nat.sub_self]; rfl, by rw [← l3, List.getElem?_append_right (Nat.le_refl _), Nat.sub_self]; rfl, hstr⟩
    have e4 : oA S3 (some x) 0 0 = some (some fa) := oA_ok (o := some fa) h'.ox rfl
    have e5 := l7.isO
    have e6 := la_size l7
    have hsl : (sl ++ [S.2.1]).length = A.1.length + 1 := by rw [List.length_append, l2]; rfl
    rw [hsl] at e6
    have e7 : nq (A.1.length + 1) - nq 1 = nq A.1.length := nq_sub (by omega)
    have ei2 := (hl.sub sub2).isO
    have E : f_X0_file (some x) (some out) S = bd1 (jS S3 (some out) (nq 0) (nq A.1.length).toInt64) fun S8 => some (nq 0, S8) := by
      simp (disch := omega) only [f_X0_file, f_X1_file, s_X1_file_19, f_X4_init, ho, e0x, ei, es, ok', n1, g1, f2, ei2, f3, e4, e5, e6, e7, pb1, pb2, nq_lit, nq_add, nq_mul, nq_lt, nq_le, nq_eq, nq_lt0, nq10, nq00, Nat.one_ne_zero, Nat.reduceEqDiff, Nat.not_lt_zero, zb1, zb0, eq_self, reduceIte, String.reduceEq, reduceCtorEq]
    rw [E]
    exact oq_v (an := yn A.1.length (A.1 ++ [[]], A.2)) h' rfl rfl C.rm (by omega) (by omega)
  · rw [if_neg ok]
    have ok' : 6 ≤ A.1.length := by omega
    have E : f_X0_file (some x) (some out) S = some (nq 1, xt S) := by
      simp (disch := omega) only [f_X0_file, f_X1_file, s_X1_file_19, ho, e0x, ei, es, ok', n0, pb1, pb2, nq_lit, nq_add, nq_mul, nq_lt, nq_le, nq_eq, nq_lt0, nq10, nq00, Nat.one_ne_zero, Nat.reduceEqDiff, Nat.not_lt_zero, zb1, zb0, eq_self, reduceIte, String.reduceEq, reduceCtorEq]
    rw [E]
    exact hx
end Keep
