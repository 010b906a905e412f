/-! PURE: what the calls find in the heap -/
set_option maxRecDepth 100000
theorem SR.xt {S : St} {x out : Nat} {A : AA} {ρ : Nat → Nat} {e0 : Option Nat} {fl sg de vl st pp : Nat} (h : SR S x out A ρ e0 fl sg de vl st pp) (k1 : 1 ≤ S.2.2.1) (k2 : 6 ≤ S.2.2.2.1) : SR (xt S) x out A ρ e0 fl sg de vl st pp := h.ch0 (thr_ch k1 k2)
theorem oq_v {S S1 : St} {x out : Nat} {an : An} {ρ : Nat → Nat} {e0 : Option Nat} {fl sg de vl st pp c s : Nat} (h : SR S1 x out an.2.2 ρ e0 fl sg de vl st pp) {v : Int64} (hv : v = an.2.1) (h0 : an.1 = 0) (rm : Rm c s S S1) (hc : c ≤ 9000) (hs : s ≤ 110000) : OQ S x out an (bd1 (jS S1 (some out) (nq 0) v) fun S8 => some (nq 0, S8)) := by
  obtain ⟨S', e, h', hj, rm'⟩ := h.put v
  refine ⟨S', ?_, ⟨_, _, _, _, _, _, _, _, h'⟩, fun _ => by rw [hj, hv], (rm.trans rm').mono (by omega) (by omega)⟩
  rw [e, pb1, h0]
theorem oq_x {S S1 : St} {x out : Nat} {A : AA} {ρ : Nat → Nat} {e0 : Option Nat} {fl sg de vl st pp c s k : Nat} (h : SR S1 x out A ρ e0 fl sg de vl st pp) (hk : k ≠ 0) (rm : Rm c s S S1) (hc : c ≤ 9000) (hs : s ≤ 110000) : OQ S x out (no k A) (some (nq k, S1)) := ⟨S1, rfl, ⟨_, _, _, _, _, _, _, _, h⟩, fun q => absurd q hk, rm.mono hc hs⟩
theorem ov_v {S S1 : St} {x out : Nat} {an : An} {ρ : Nat → Nat} {e0 : Option Nat} {fl sg de vl st pp c s : Nat} (h : SR S1 x out an.2.2 ρ e0 fl sg de vl st pp) (rm : Rm c s S S1) (hc : c ≤ 9000) (hs : s ≤ 110000) : OV S x out an (some (nq an.1, S1)) := ⟨S1, rfl, ⟨_, _, _, _, _, _, _, _, h⟩, rm.mono hc hs⟩
theorem xt_rm {S : St} (k1 : 1 ≤ S.2.2.1) (k2 : 6 ≤ S.2.2.2.1) : Rm 1 6 S (xt S) := (thr_ch k1 k2).rm
theorem x_there {S : St} {y : Int32} {n : Nat} (hn : n < 2147483648) (k1 : 1 ≤ S.2.2.1) (k2 : 6 ≤ S.2.2.2.1) : (okI y n → f_X1_there y (nq n) S = some (.inr (), S)) ∧ (¬ okI y n → f_X1_there y (nq n) S = some (.inl ("java/lang/IndexOutOfBoundsException", S.2.1), xt S)) := by
  have et := thr_ok (E := "java/lang/IndexOutOfBoundsException") k1 k2
  constructor
  · intro h
    obtain ⟨a, h1, h2, rfl⟩ := okI_get h
    have hlt : nq a < nq n := (nq_lt h2 hn).mpr h1
    have h0 : ¬ nq a < 0 := h.1
    unfold f_X1_there
    rw [if_neg h0, if_pos hlt]
  · intro h
    unfold f_X1_there s_X1_there_9
    rw [et]
    by_cases h0 : y < 0
    · rw [if_pos h0, pb2]
    · rw [if_neg h0]
      have : ¬ y < nq n := fun q => h ((okI_iff hn).mpr ⟨h0, fun z => by
        rw [Int32.lt_iff_toInt_lt] at q
        rw [Int32.le_iff_toInt_le] at z
        omega⟩)
      rw [if_neg this, pb2]
theorem x_fit {S : St} {y : Int32} {lo hi : Nat} {C : Prop} (hC : C ↔ ¬ y < nq lo ∧ ¬ nq hi < y) (k1 : 1 ≤ S.2.2.1) (k2 : 6 ≤ S.2.2.2.1) : (C → f_X1_fit y (nq lo) (nq hi) S = some (.inr (), S)) ∧ (¬ C → f_X1_fit y (nq lo) (nq hi) S = some (.inl ("java/lang/IllegalArgumentException", S.2.1), xt S)) := by
  have et := thr_ok (E := "java/lang/IllegalArgumentException") k1 k2
  have hle : y ≤ nq hi ↔ ¬ nq hi < y := by
    rw [Int32.le_iff_toInt_le, Int32.lt_iff_toInt_lt]
    omega
  unfold f_X1_fit s_X1_fit_10
  rw [et]
  constructor
  · intro h
    obtain ⟨h1, h2⟩ := hC.mp h
    rw [if_neg h1, if_pos (hle.mpr h2)]
  · intro h
    by_cases h1 : y < nq lo
    · rw [if_pos h1, pb2]
    · rw [if_neg h1, if_neg (fun q => h (hC.mpr ⟨h1, hle.mp q⟩)), pb2]
theorem x_can1 (S : St) : f_X1_can (nq 1) S = some (.inr (), S) := by
  unfold f_X1_can
  rw [if_neg (by decide)]
theorem x_can0 {S : St} (k1 : 1 ≤ S.2.2.1) (k2 : 6 ≤ S.2.2.2.1) : f_X1_can (nq 0) S = some (.inl ("java/lang/IllegalStateException", S.2.1), xt S) := by
  unfold f_X1_can
  rw [if_pos (by decide), thr_ok k1 k2, pb2]
/-- a file's bytes (`fl` is taken by an address below) -/
theorem fl_get {A : AA} {i : Nat} (h : i < A.1.length) : fl A i = A.1[i] := by
  unfold fl
  rw [List.getD_eq_getElem?_getD, List.getElem?_eq_getElem h]
  rfl
abbrev Fl (A : AA) (i : Nat) : List Nat := fl A i
section Acc
variable {S : St} {x out : Nat} {A : AA} {ρ : Nat → Nat} {e0 : Option Nat} {fl sg de vl st pp : Nat}
theorem SR.ox (h : SR S x out A ρ e0 fl sg de vl st pp) : S.1 x = some (.inl (0, [.ref fl, .ref sg, .ref de, .ref vl, .ref st, .ref pp, .int (nq (zC A).1), .int (nq (zC A).2.1), .int (nq (zC A).2.2)])) := (mk_e h.1.1).2
theorem SR.o (h : SR S x out A ρ e0 fl sg de vl st pp) : isO S (some x) 0 = some () := isO_ok h.ox
theorem x_strip {y : Int32} (h : SR S x out A ρ e0 fl sg de vl st pp) (hA : AOk A) (k1 : 1 ≤ S.2.2.1) (k2 : 6 ≤ S.2.2.2.1) :
    (okI y A.1.length → ∃ a b, f_X1_strip (some x) y S = some (.inr (some a), S) ∧ iStr S.1 a b 120 (Fl A (ix y)) ∧ ρ a = 2 ∧ ρ b = 2 ∧ ∀ S' c s bs', Ch (fun z => z = a ∨ z = b) c s S S' → iStr S'.1 a b 120 bs' → SR S' x out (uF A (ix y) bs') ρ e0 fl sg de vl st pp) ∧
    (¬ okI y A.1.length → f_X1_strip (some x) y S = some (.inl ("java/lang/IndexOutOfBoundsException", S.2.1), xt S)) := by
  have hx := h.ox
  have e0x : oA S (some x) 0 0 = some (some fl) := oA_ok (o := some fl) hx rfl
  obtain ⟨⟨h1, ⟨fd, sl, sb, l1, l2, l3, l4, l5, l6⟩, h3, h4⟩, ⟨h5, h6, h7⟩, h8, h9, h10, h11⟩ := h
  have hl := l1.sub (mk_sub S ρ 2)
  have ei := hl.isO
  have es := la_size hl
  have hlen := hA.1.1
  have l2 : sl.length = A.1.length := l2
  rw [l2] at es
  obtain ⟨t1, t2⟩ := x_there (S := S) (y := y) (n := A.1.length) (by omega) k1 k2
  constructor
  · intro ok
    have t1 := t1 ok
    obtain ⟨i, i1, i2, rfl⟩ := okI_get ok
    have hi : ix (nq i) = i := nq_idx i2
    rw [hi]
    obtain ⟨a, b, s1, s2, s3⟩ := l6 i A.1[i] (List.getElem?_eq_getElem i1)
    have hfl : Fl A i = A.1[i] := fl_get i1
    have eg := la_get (i := i) hl (by omega) (by omega)
    rw [s1] at eg
    have s3u := s3.sub (mk_sub S ρ 2)
    have r1 := (mk_e s3.1).1
    have r2 : ρ b = 2 := by
      obtain ⟨-, f, q, -⟩ := s3
      exact (mk_e q).1
    have ec := ckO_ok s3u.1
    refine ⟨a, b, ?_, by rw [hfl]; exact s3u, r1, r2, fun S' c s bs' hc hs' => ?_⟩
    · simp (disch := omega) only [f_X1_strip, e0x, ei, es, t1, eg, ec, pb1, pb2, nq_lit, nq_add, nq_mul, nq_lt, nq_le, nq_eq, nq_lt0, nq10, nq00, Nat.one_ne_zero, Nat.reduceEqDiff, Nat.not_lt_zero, zb1, zb0, eq_self, reduceIte]
    · have m : ∀ j, j ≠ 2 → Sub (mk S ρ j) (mk S' ρ j) := fun j hj => mk_ch hc h10 (fun _ _ q => q) (fun z q w => hj (by
        rcases q with q | q
        · rw [← w, q, r1]
        · rw [← w, q, r2]))
      have tr : ∀ z e, mk S ρ 2 z = some e → z ≠ a → z ≠ b → mk S' ρ 2 z = some e := fun z e hz n1 n2 => mk_i (mk_e hz).1 (hc.at h10 (mk_e hz).2 (fun q => q.elim n1 n2))
      refine ⟨⟨h1.sub (m 1 (by decide)), ⟨fd, sl, sb, ?_, ?_, ?_, l4, l5, fun j bs hj => ?_⟩, h3.sub (m 3 (by decide)) (m 0 (by decide)), h4.sub (m 4 (by decide)) (m 0 (by decide))⟩, ⟨h5.sub (m 5 (by decide)) (m 0 (by decide)), h6.sub (m 6 (by decide)) (m 7 (by decide)) (m 0 (by decide)), h7.sub (m 8 (by decide))⟩, h8.sub (m 0 (by decide)), hc.2.2.2.2.1 ▸ h9, hc.2.2.2.2.2 h10, fun z hz => h11 z (Nat.le_trans hc.2.1 hz)⟩
      · obtain ⟨q1, f, q2, -⟩ := s3
        obtain ⟨⟨mc, w1⟩, w2, w3⟩ := l1
        exact ⟨⟨mc, tr _ _ w1 (obne w1 q1 (by simp)) (obne w1 q2 (by simp))⟩, w2, fun q => ⟨tr _ _ (w3 q).1 (obne (w3 q).1 q1 (by simp)) (obne (w3 q).1 q2 (by simp)), (w3 q).2⟩⟩
      · show sl.length = (A.1.set i bs').length
        rw [List.length_set, l2]
      · show sb.length = (A.1.set i bs').length
        rw [List.length_set]
        exact l3
      · have hj : (A.1.set i bs')[j]? = some bs := hj
        by_cases q : j = i
        · subst q
          rw [List.getElem?_set_self i1] at hj
          cases hj
          obtain ⟨v1, f, v2, v3⟩ := hs'
          exact ⟨a, b, s1, s2, mk_i r1 v1, f, mk_i r2 v2, v3⟩
        · rw [List.getElem?_set_ne (fun z => q z.symm)] at hj
          obtain ⟨a', b', v1, v2, v3, f, v4, v5⟩ := l6 j bs hj
          have na : a' ≠ a := nd_ne l4 v1 s1 q
          have nb : b' ≠ b := nd_ne l5 v2 s2 q
          obtain ⟨q1, g, q2, -⟩ := s3
          exact ⟨a', b', v1, v2, tr _ _ v3 na (obne v3 q2 (by simp)), f, tr _ _ v4 (obne v4 q1 (by simp)) nb, v5⟩
  · intro ok
    have t2 := t2 ok
    simp (disch := omega) only [f_X1_strip, e0x, ei, es, t2, pb1, pb2, nq_lit, nq_add, nq_mul, nq_lt, nq_le, nq_eq, nq_lt0, nq10, nq00, Nat.one_ne_zero, Nat.reduceEqDiff, Nat.not_lt_zero, zb1, zb0, eq_self, reduceIte]
theorem x_sig {p : Nat} (h : SR S x out A ρ e0 fl sg de vl st pp) (hp : p < 4) : ∃ o, oA S (some x) 0 1 = some (some sg) ∧ aL S (some sg) 5 (nq p) = some o ∧ (∀ s, zS A p = some s → ∃ a, o = some a ∧ iSig S.1 a s) ∧ (zS A p = none → o = none) := by
  have e1 : oA S (some x) 0 1 = some (some sg) := oA_ok (o := some sg) h.ox rfl
  obtain ⟨⟨h1, h2, ⟨f, g1, g2⟩, h4⟩, h5⟩ := h
  refine ⟨f p, e1, aL_ok (mk_e g1).2 hp (by omega), fun s hs => ?_, (g2 p hp).2⟩
  obtain ⟨a, t1, t2⟩ := (g2 p hp).1 s hs
  exact ⟨a, t1, t2.sub (mk_sub S ρ 0)⟩
theorem x_del {p : Nat} (h : SR S x out A ρ e0 fl sg de vl st pp) (hp : p < 4) : ∃ o, oA S (some x) 0 2 = some (some de) ∧ aL S (some de) 6 (nq p) = some o ∧ (∀ s, zD A p = some s → ∃ a, o = some a ∧ iDel S.1 e0 a s) ∧ (zD A p = none → o = none) := by
  have e1 : oA S (some x) 0 2 = some (some de) := oA_ok (o := some de) h.ox rfl
  obtain ⟨⟨h1, h2, h3, ⟨f, g1, g2⟩⟩, h5⟩ := h
  refine ⟨f p, e1, aL_ok (mk_e g1).2 hp (by omega), fun s hs => ?_, (g2 p hp).2⟩
  obtain ⟨a, t1, t2⟩ := (g2 p hp).1 s hs
  exact ⟨a, t1, t2.sub (mk_sub S ρ 0)⟩
end Acc
