/-! PURE: kept -/
set_option maxRecDepth 100000
theorem gc_28 (n cap : Nat) (h : n ≤ cap) (h1 : n ≤ 19) (h2 : cap ≤ 28) : gca n cap ≤ 28 ∧ gkc n cap ≤ 1 ∧ gks n cap ≤ 28 := by
  unfold gca gkc gks
  by_cases c : n < cap
  · rw [if_pos c, if_pos c, if_pos c]
    omega
  · rw [if_neg c, if_neg c, if_neg c]
    unfold gcap
    by_cases c0 : cap = 0
    · rw [if_pos c0]
      omega
    · rw [if_neg c0]
      split <;> omega
section Kept
variable {S : St} {x out : Nat} {A : AA}
theorem x_kept {ρ : Nat → Nat} {e0 : Option Nat} {fa sg de vl st pp hh : Nat} {y : Vr} (h : SR S x out A ρ e0 fa sg de vl st pp) (hl : (zV A).length < 20) (hH : ∀ vd cap vv, cap ≤ 28 → iLst S.1 e0 vl vd vv cap → iHeld (mk S ρ 0) e0 vv hh y) (k1 : 10 ≤ S.2.2.1) (k2 : 100 ≤ S.2.2.2.1) :
    ∃ S' ρ', f_X1_kept (some x) (some hh) S = some (nq (zV A).length, S') ∧ SR S' x out (uV A (zV A ++ [y])) ρ' e0 fa sg de vl st pp ∧ Rm 10 100 S S' := by
  have hox := h.ox
  have e3 : oA S (some x) 0 3 = some (some vl) := oA_ok (o := some vl) hox rfl
  obtain ⟨⟨h1, h2, h3, h4⟩, ⟨⟨vd, cap, vv, v1, v2, v3, v4⟩, h6, h7⟩, h8, h9, h10, h11⟩ := id h
  have hlu := v1.sub (mk_sub S ρ 5)
  have hle := hlu.le
  have hHv := hH vd cap vv v2 hlu
  have hg := gc_28 vv.length cap hle (by omega) v2
  obtain ⟨S1, d1⟩ : ∃ S1, x_new S 2 (.inl (10, [.int (nq 0), .null])) = S1 := ⟨_, rfl⟩
  have g1 : nO S 10 2 [.int (nq 0), .null] = some (some S.2.1, S1) := (nO_ok (by omega) (by omega)).trans (by rw [d1])
  have c1 : Ch (fun _ => False) 1 2 S S1 := by rw [← d1]; exact Ch.new _ S _ (by omega) (by omega)
  have w1 : S1.1 S.2.1 = some (.inl (10, [.int (nq 0), .null])) := by rw [← d1]; exact xn_i _ _ _
  have hd1 := c1.2.2.2.2.2 h10
  obtain ⟨S2, d2⟩ : ∃ S2, x_set S1 S.2.1 (.inl (10, [.int (nq (zV A).length), .null])) = S2 := ⟨_, rfl⟩
  have p2 : pV S1 (some S.2.1) 10 0 (.int (nq (zV A).length)) = some S2 := (pV_ok w1 (by simp)).trans (congrArg some d2)
  have c2 : Ch (fun z => z = S.2.1) 0 0 S1 S2 := by rw [← d2]; exact Ch.set S1 _ w1
  have w2 : S2.1 S.2.1 = some (.inl (10, [.int (nq (zV A).length), .null])) := by rw [← d2]; exact xs_i _ _ _
  have hd2 := c2.2.2.2.2.2 hd1
  obtain ⟨S3, d3⟩ : ∃ S3, x_set S2 S.2.1 (.inl (10, [.int (nq (zV A).length), va_rf (some hh)])) = S3 := ⟨_, rfl⟩
  have p3 : pV S2 (some S.2.1) 10 1 (va_rf (some hh)) = some S3 := (pV_ok w2 (by simp)).trans (congrArg some d3)
  have c3 : Ch (fun z => z = S.2.1) 0 0 S2 S3 := by rw [← d3]; exact Ch.set S2 _ w2
  have w3 : S3.1 S.2.1 = some (.inl (10, [.int (nq (zV A).length), .ref hh])) := by rw [← d3]; exact xs_i _ _ _
  have hd3 := c3.2.2.2.2.2 hd2
  have C3 : Ch (fun _ => False) 1 2 S S3 := ((c1.trans c2 fun z hz q => absurd q (Nat.ne_of_lt hz)).trans c3 fun z hz q => absurd q (Nat.ne_of_lt hz)).mono (fun _ _ q => q) (by omega) (by omega)
  have sub3 : Sub S.1 S3.1 := C3.sub h10 (Sub.refl _) fun _ q => q.elim
  have m1 := C3.2.2.1
  have m2 := C3.2.2.2.1
  have hdn : 0 < cap → e0 ≠ some vd := fun q z => by
    obtain ⟨dd, ff, t1, t2⟩ := h8
    have : dd = vd := Option.some.inj (t1.symm.trans z)
    rw [this] at t2
    have r1 := (mk_e t2).1
    have r2 := (mk_e (v1.2.2 q).1).1
    omega
  have heo : ∀ z ∈ vv, eOk S3.1 z := fun z hz => by
    obtain ⟨i, hi1, hi2⟩ := List.getElem_of_mem hz
    obtain ⟨a, b, t1, t2, -⟩ := v4 i _ (List.getElem?_eq_getElem (by omega))
    rw [List.getElem?_eq_getElem hi1, hi2] at t1
    cases t1
    exact ⟨10, _, sub3 _ _ (mk_e t2).2, by decide⟩
  obtain ⟨S4, f4, l4, c4⟩ := la_add (v := S.2.1) (hlu.sub sub3) ((h8.sub (mk_sub S ρ 0)).sub sub3) (by rw [C3.2.2.2.2.1]; exact h9) hdn heo ⟨10, _, w3, by decide⟩ (by omega) hd3 (by omega) (by omega)
  have hd4 := c4.2.2.2.2.2 hd3
  have rvl : ρ vl = 5 := by obtain ⟨mc, t⟩ := v1.1; exact (mk_e t).1
  have rvd : 0 < cap → ρ vd = 5 := fun q => (mk_e (v1.2.2 q).1).1
  have C : Ch (fun z => z = vl ∨ (0 < cap ∧ z = vd)) 2 30 S S4 := ((C3.mono (B := fun z => z = vl ∨ (0 < cap ∧ z = vd)) (fun _ _ q => q.elim) (Nat.le_refl _) (Nat.le_refl _)).trans c4 fun _ _ q => q).mono (fun _ _ q => q) (by omega) (by omega)
  have hkin : ∀ z, (z = vl ∨ (0 < cap ∧ z = vd)) → ρ z = 5 := fun z q => by
    rcases q with q | q
    · rw [q]
      exact rvl
    · rw [q.2]
      exact rvd q.1
  have m : ∀ j, j ≠ 5 → Sub (mk S ρ j) (mk S4 (rn ρ S.2.1 S4.2.1 5) j) := fun j hj => mk_ch C h10 (fun z hz q => by rw [rn_o hz]; exact q) (fun z q w => hj (by rw [← w, hkin z q]))
  have vlt : vl < S.2.1 := by obtain ⟨mc, t⟩ := hlu.1; exact h10 _ _ t
  have vdt : 0 < cap → vd < S.2.1 := fun q => h10 _ _ (hlu.2.2 q).1
  have n3 := C3.2.1
  have w4 : S4.1 S.2.1 = some (.inl (10, [.int (nq (zV A).length), .ref hh])) := c4.at hd3 w3 (fun q => by
    rcases q with q | q
    · omega
    · have := vdt q.1
      omega)
  have h' : SR S4 x out (uV A (zV A ++ [y])) (rn ρ S.2.1 S4.2.1 5) e0 fa sg de vl st pp := by
    refine ⟨⟨h1.sub (m 1 (by decide)), h2.sub (m 2 (by decide)), h3.sub (m 3 (by decide)) (m 0 (by decide)), h4.sub (m 4 (by decide)) (m 0 (by decide))⟩, ⟨⟨if vv.length < cap then vd else S3.2.1, gca vv.length cap, vv ++ [S.2.1], ?_, hg.1, ?_, fun v z hv => ?_⟩, h6.sub (m 6 (by decide)) (m 7 (by decide)) (m 0 (by decide)), h7.sub (m 8 (by decide))⟩, h8.sub (m 0 (by decide)), C.2.2.2.2.1 ▸ h9, hd4, fun z hz => by rw [rn_h hz]; exact h11 z (Nat.le_trans C.2.1 hz)⟩
    · obtain ⟨⟨mc, t1⟩, t2, t3⟩ := l4
      refine ⟨⟨mc, mk_i (by rw [rn_o vlt]; exact rvl) t1⟩, t2, fun q => ⟨mk_i ?_ (t3 q).1, (t3 q).2⟩⟩
      by_cases z : vv.length < cap
      · rw [if_pos z, rn_o (vdt (by omega))]
        exact rvd (by omega)
      · have hlt := hd4 _ _ (t3 q).1
        rw [if_neg z] at hlt ⊢
        exact rn_n n3 hlt
    · show (vv ++ [S.2.1]).length = (zV A ++ [y]).length
      rw [List.length_append, List.length_append, v3]
      rfl
    · have hv : (zV A ++ [y])[v]? = some z := hv
      by_cases q : v < (zV A).length
      · rw [List.getElem?_append_left q] at hv
        obtain ⟨a, b, t1, t2, t3⟩ := v4 v z hv
        refine ⟨a, b, by rw [List.getElem?_append_left (by omega)]; exact t1, mk_i (by rw [rn_o (h10 _ _ (mk_e t2).2)]; exact (mk_e t2).1) (C.at h10 (mk_e t2).2 (fun q => ?_)), (t3.sub (m 0 (by decide))).app⟩
        rcases q with q | q
        · obtain ⟨mc, t⟩ := hlu.1
          exact obne (mk_e t2).2 t (by simp) q
        · exact obne (mk_e t2).2 (hlu.2.2 q.1).1 (by simp) q.2
      · have hil := (List.getElem?_eq_some_iff.mp hv).1
        rw [List.length_append, List.length_singleton] at hil
        have hie : v = (zV A).length := by omega
        subst hie
        rw [List.getElem?_append_right (Nat.le_refl _), Nat.sub_self] at hv
        cases hv
        exact ⟨S.2.1, hh, by rw [← v3, List.getElem?_append_right (Nat.le_refl _), Nat.sub_self]; rfl, mk_i (rn_n (Nat.le_refl _) (hd4 _ _ w4)) w4, (hHv.sub (m 0 (by decide))).app⟩
  refine ⟨S4, _, ?_, h', C.rm.mono (by omega) (by omega)⟩
  have e4 : oA S1 (some x) 0 3 = some (some vl) := oA_ok (o := some vl) (c1.at h10 hox (fun q => q)) rfl
  have hl1 := hlu.sub (c1.sub h10 (Sub.refl _) fun _ q => q.elim)
  have e5 := hl1.isO
  have e6 := la_size hl1
  rw [v3] at e6
  have e7 := (hlu.sub sub3).isO
  have e8 : oA S4 (some x) 0 3 = some (some vl) := oA_ok (o := some vl) h'.ox rfl
  have e9 := l4.isO
  have e10 := la_size l4
  have hvl : (vv ++ [S.2.1]).length = (zV A).length + 1 := by rw [List.length_append, v3]; rfl
  rw [hvl] at e10
  have e11 : nq ((zV A).length + 1) - nq 1 = nq (zV A).length := nq_sub (by omega)
  simp (disch := omega) only [f_X1_kept, f_X11_init, e3, g1, e4, e5, e6, p2, p3, e7, f4, e8, e9, e10, e11, pb1, pb2, nq_lit, nq_add, nq_mul, nq_lt, nq_le, nq_eq, nq_lt0, nq10, nq00, Nat.one_ne_zero, Nat.reduceEqDiff, Nat.not_lt_zero, zb1, zb0, eq_self, reduceIte, String.reduceEq, reduceCtorEq]
end Kept
