/-! PURE: a delta is applied -/
set_option maxRecDepth 100000
theorem f_run_c {S : St} {q : Nat} {x z : Int32} {a1 a2 : Option Nat} (h : S.1 q = some (.inl (100, [.int x, .int z]))) : f_run (some q) a1 a2 S = f_X7_lambda_step_0 x z a1 a2 S := by
  simp only [f_run, Option.bind_some, h]
theorem f_run_l {S : St} {q t : Nat} {a1 a2 : Option Nat} (h : S.1 q = some (.inl (101, [.ref t]))) : f_run (some q) a1 a2 S = (f_X7_lambda_step_1 (some t) a1 a2 S).bind fun p => some (.inr p.1, p.2) := by
  simp only [f_run, Option.bind_some, h]
theorem d_app_l {F : Nat → Option Ob} {a r rb sa sbb cp sp : Nat} {sf : Nat → Option Nat} {is : List In} {fb fr : List Nat} {fs : List Value} (hc : cp ≤ 100000) (ha : F a = some (.inl (6, fs))) (hf3 : fs[3]? = some (.ref sp)) (hsp : F sp = some (.inr (8, is.length, .inr (.inr (.inr (.inr sf)))))) (hn : is.length ≤ 1000) (hsf : ∀ k, k < is.length → ∃ q, sf k = some q ∧ stOk F q (is.getD k i0) fb) (hst : iStr F sa sbb cp fr) (hin : ∀ i ∈ is, (i.1 = false → i.2.1 + i.2.2 ≤ fb.length) ∧ i.2.1 ≤ 120 ∧ i.2.2 ≤ 120) (hr : F r = none) (hrb : F rb = none) :
    ∀ (N k f : Nat) (S : St) (bs : List Nat), N < f → k + N = is.length → iStr S.1 r rb 120 bs → Sub F S.1 → Dom S → bs.length + ((is.drop k).map fun i => i.2.2).sum ≤ 120 → 1 ≤ S.2.2.1 → 6 ≤ S.2.2.2.1 →
      (byd (is.drop k) fr.length = false → ∃ S', l_X7_applied_10 f (some a, some sa, some r, nq k) S = some (.inr (some r), S') ∧ iStr S'.1 r rb 120 (bs ++ app (is.drop k) fb fr) ∧ Ch (fun x => x = r ∨ x = rb) 0 0 S S') ∧
      (byd (is.drop k) fr.length = true → ∃ q S', l_X7_applied_10 f (some a, some sa, some r, nq k) S = some (.inl ("RollSync$Beyond", q), S') ∧ Ch (fun x => x = r ∨ x = rb) 1 6 S S') := by
  intro N
  induction N with
  | zero =>
    intro k f S bs hf hk hs hsub hd hl k1 k2
    obtain ⟨f, rfl⟩ := pre_n hf
    have e1 : oA S (some a) 6 3 = some (some sp) := oA_ok (o := some sp) (hsub _ _ ha) hf3
    have e2 : lenA S (some sp) 8 = some (nq is.length) := lenA_ok (hsub _ _ hsp)
    have hkk : k = is.length := by omega
    rw [hkk, List.drop_length]
    refine ⟨fun _ => ⟨S, ?_, ?_, Ch.refl _ S⟩, fun q => (nomatch q)⟩
    · rw [l_X7_applied_10_s]
      simp (disch := omega) only [s_X7_applied_10, e1, e2, Nat.le_refl, pb1, pb2, nq_lit, nq_add, nq_mul, nq_lt, nq_le, nq_eq, nq_lt0, nq10, nq00, Nat.one_ne_zero, Nat.reduceEqDiff, Nat.not_lt_zero, zb1, zb0, eq_self, reduceIte]
    · show iStr S.1 r rb 120 (bs ++ [])
      rw [List.append_nil]
      exact hs
  | succ N ih =>
    intro k f S bs hf hk hs hsub hd hl k1 k2
    obtain ⟨f, rfl⟩ := pre_n hf
    have e1 : oA S (some a) 6 3 = some (some sp) := oA_ok (o := some sp) (hsub _ _ ha) hf3
    have e2 : lenA S (some sp) 8 = some (nq is.length) := lenA_ok (hsub _ _ hsp)
    have hkl : k < is.length := by omega
    have hkn : ¬ is.length ≤ k := by omega
    obtain ⟨q, hq, hso⟩ := hsf k hkl
    have e3 : aL S (some sp) 8 (nq k) = some (some q) := by
      rw [aL_ok (hsub _ _ hsp) hkl (by omega), hq]
    have hdr : is.drop k = is.getD k i0 :: is.drop (k + 1) := by
      rw [List.drop_eq_getElem_cons hkl]
      congr 1
      rw [List.getD_eq_getElem?_getD, List.getElem?_eq_getElem hkl]
      rfl
    have him : is.getD k i0 ∈ is := by
      rw [List.getD_eq_getElem?_getD, List.getElem?_eq_getElem hkl]
      exact List.getElem_mem hkl
    have hin0 := hin _ him
    rw [hdr] at hl ⊢
    rw [List.map_cons, List.sum_cons] at hl
    have hst' := hst.sub hsub
    generalize is.getD k i0 = i at hso hin0 hl ⊢
    obtain ⟨c, st, mn⟩ := i
    dsimp only at hl hin0
    have n1 : sa ≠ r := fun z => by have := hst.1; rw [z, hr] at this; cases this
    have n2 : sbb ≠ rb := fun z => by obtain ⟨-, g, g2, -⟩ := hst; rw [z, hrb] at g2; cases g2
    have hA : ∀ x, x = r ∨ x = rb → F x = none := fun x hx => hx.elim (fun z => by rw [z]; exact hr) fun z => by rw [z]; exact hrb
    have go : ∀ (S1 : St) (cs : List Nat), f_run (some q) (some sa) (some r) S = some (.inr (), S1) → iStr S1.1 r rb 120 (bs ++ cs) → cs.length = mn → Ch (fun x => x = r ∨ x = rb) 0 0 S S1 → pce fb fr (c, st, mn) = cs → (c && decide (fr.length < st + mn)) = false →
        (byd ((c, st, mn) :: is.drop (k + 1)) fr.length = false → ∃ S', l_X7_applied_10 (f + 1) (some a, some sa, some r, nq k) S = some (.inr (some r), S') ∧ iStr S'.1 r rb 120 (bs ++ app ((c, st, mn) :: is.drop (k + 1)) fb fr) ∧ Ch (fun x => x = r ∨ x = rb) 0 0 S S') ∧
        (byd ((c, st, mn) :: is.drop (k + 1)) fr.length = true → ∃ q S', l_X7_applied_10 (f + 1) (some a, some sa, some r, nq k) S = some (.inl ("RollSync$Beyond", q), S') ∧ Ch (fun x => x = r ∨ x = rb) 1 6 S S') := fun S1 cs r1 r2 r3 r4 r5 r6 => by
      have m1 := r4.2.2.1
      have m2 := r4.2.2.2.1
      obtain ⟨t1, t2⟩ := ih (k + 1) f S1 (bs ++ cs) (by omega) (by omega) r2 (hsub.ch r4 hd hA) (r4.2.2.2.2.2 hd) (by rw [List.length_append]; omega) (by omega) (by omega)
      have eb : byd ((c, st, mn) :: is.drop (k + 1)) fr.length = byd (is.drop (k + 1)) fr.length := by
        show ((c && decide (fr.length < st + mn)) || byd (is.drop (k + 1)) fr.length) = _
        rw [r6, Bool.false_or]
      have ea : app ((c, st, mn) :: is.drop (k + 1)) fb fr = cs ++ app (is.drop (k + 1)) fb fr := by
        show (pce fb fr (c, st, mn)) ++ app (is.drop (k + 1)) fb fr = _
        rw [r5]
      have eg : l_X7_applied_10 (f + 1) (some a, some sa, some r, nq k) S = l_X7_applied_10 f (some a, some sa, some r, nq (k + 1)) S1 := by
        rw [l_X7_applied_10_s]
        simp (disch := omega) only [s_X7_applied_10, e1, e2, e3, hkn, r1, pb1, pb2, nq_lit, nq_add, nq_mul, nq_lt, nq_le, nq_eq, nq_lt0, nq10, nq00, Nat.one_ne_zero, Nat.reduceEqDiff, Nat.not_lt_zero, zb1, zb0, eq_self, reduceIte]
      rw [eb, ea, eg]
      refine ⟨fun hb => ?_, fun hb => ?_⟩
      · obtain ⟨S', u1, u2, u3⟩ := t1 hb
        exact ⟨S', u1, by rw [← List.append_assoc]; exact u2, r4.trans u3 fun _ _ z => z⟩
      · obtain ⟨q', S', u1, u2⟩ := t2 hb
        exact ⟨q', S', u1, (r4.trans u2 fun _ _ z => z).mono (fun _ _ z => z) (by omega) (by omega)⟩
    have ei := hs.isobj
    cases c with
    | true =>
      have hq1 := hsub _ _ (hso.1 rfl)
      dsimp only at hq1
      by_cases hb : fr.length < st + mn
      · refine ⟨fun z => ?_, fun _ => ?_⟩
        · exfalso
          have : ((true && decide (fr.length < st + mn)) || byd (is.drop (k + 1)) fr.length) = false := z
          rw [decide_eq_true hb] at this
          cases this
        · obtain ⟨q', S', u1, u2⟩ := t_from_x (a := 0) hc hst' hb (by omega) k1 k2 (some r)
          refine ⟨q', S', ?_, u2.mono (fun _ _ z => z.elim) (Nat.le_refl _) (Nat.le_refl _)⟩
          rw [l_X7_applied_10_s]
          have er : f_run (some q) (some sa) (some r) S = some (.inl ("RollSync$Beyond", q'), S') := by
            rw [f_run_c hq1]
            simp only [f_X7_lambda_step_0, ei, u1, pb1, pb2]
          simp (disch := omega) only [s_X7_applied_10, e1, e2, e3, hkn, er, pb1, pb2, nq_lit, nq_add, nq_mul, nq_lt, nq_le, nq_eq, nq_lt0, nq10, nq00, Nat.one_ne_zero, Nat.reduceEqDiff, Nat.not_lt_zero, zb1, zb0, eq_self, reduceIte]
      · obtain ⟨S1, u1, u2, u3⟩ := t_from (p := st) (m := mn) (by omega) hc n1 n2 hst' hs (by omega) (by omega) hd
        refine go S1 _ ?_ u2 (slc_len (by omega)) u3 rfl (by rw [decide_eq_false hb]; rfl)
        rw [f_run_c hq1]
        simp only [f_X7_lambda_step_0, ei, u1, pb1, pb2]
    | false =>
      obtain ⟨t, g, hq1, hq2, hq3⟩ := hso.2 rfl
      dsimp only at hq1 hq2 hq3
      have n3 : t ≠ r := fun z => by rw [z, hr] at hq2; cases hq2
      have n4 : t ≠ rb := fun z => by rw [z, hrb] at hq2; cases hq2
      have hq1 := hsub _ _ hq1
      have hq2 := hsub _ _ hq2
      have hsl := slc_len (bs := fb) (p := st) (n := mn) (hin0.1 rfl)
      obtain ⟨S1, u1, u2, u3⟩ := t_add2 (t := t) (f := g) (cs := slc fb st mn) (cap := 120) (by omega) n3 n4 (by rw [hsl]; exact hq2) (fun j hj => by rw [hsl] at hj; rw [hq3 j hj, slc_gd hj]) hs (by rw [hsl]; omega) hd
      refine go S1 _ ?_ u2 hsl u3 rfl rfl
      rw [f_run_l hq1]
      simp only [f_X7_lambda_step_1, ei, u1, pb1, pb2]
      rfl
theorem d_applied {S : St} {a sa sbb cp : Nat} {e0 : Option Nat} {D : Dl} {fr : List Nat} (hc : cp ≤ 100000) (hD : DOk D) (hI : iDel S.1 e0 a D) (hst : iStr S.1 sa sbb cp fr) (hd : Dom S) (k1 : 3 ≤ S.2.2.1) (k2 : 128 ≤ S.2.2.2.1) :
    (byd D.2.1 fr.length = false → ∃ r rb S', f_X7_applied (some a) (some sa) S = some (.inr (some r), S') ∧ iStr S'.1 r rb 120 (app D.2.1 D.2.2 fr) ∧ S.2.1 ≤ r ∧ S.2.1 ≤ rb ∧ Ch (fun _ => False) 2 122 S S') ∧
    (byd D.2.1 fr.length = true → ∃ q S', f_X7_applied (some a) (some sa) S = some (.inl ("RollSync$Beyond", q), S') ∧ Ch (fun _ => False) 3 128 S S') := by
  obtain ⟨l, d, cap, sp, ias, sf, h1, h2, h3, h4, h5, h6, h7⟩ := hI
  obtain ⟨S1, d1⟩ : ∃ S1, x_new S 2 (.inl (3, [.null, .int (nq 0)])) = S1 := ⟨_, rfl⟩
  have q1 : nO S 3 2 [.null, .int (nq 0)] = some (some S.2.1, S1) := (nO_ok (by omega) (by omega)).trans (by rw [d1])
  have c1 : Ch (fun _ => False) 1 2 S S1 := by rw [← d1]; exact Ch.new _ S _ (by omega) (by omega)
  have r1 : S1.1 S.2.1 = some (.inl (3, [.null, .int (nq 0)])) := by rw [← d1]; exact xn_i _ _ _
  have hd1 := c1.2.2.2.2.2 hd
  have nx1 : S1.2.1 = S.2.1 + 1 := by rw [← d1]; rfl
  have m1 := c1.2.2.1
  have m2 := c1.2.2.2.1
  obtain ⟨S2, f2, i2, c2⟩ := t_init2 (n := 120) r1 hd1 (by omega) (by omega) (by omega)
  have hd2 := c2.2.2.2.2.2 hd1
  have C2 : Ch (fun _ => False) 2 122 S S2 := (c1.trans (c2.mono (B := fun x => x = S.2.1) (fun _ _ z => z) (Nat.le_refl _) (Nat.le_refl _)) fun x hx z => absurd z (Nat.ne_of_lt hx)).mono (fun _ _ z => z) (by omega) (by omega)
  have sub2 : Sub S.1 S2.1 := C2.sub hd (Sub.refl _) fun _ z => z.elim
  have dn : ∀ x, S.2.1 ≤ x → S.1 x = none := fun x hx => by
    cases hz : S.1 x with
    | none => rfl
    | some e => have := hd x e hz; omega
  have m3 := C2.2.2.1
  have m4 := C2.2.2.2.1
  have hlen := is_len fun i hi => (hD.2.1 i hi).1
  have hsum := hD.1
  obtain ⟨t1, t2⟩ := d_app_l (F := S.1) (a := a) (r := S.2.1) (rb := S1.2.1) (sf := sf) (is := D.2.1) (fb := D.2.2) (fr := fr) hc h1 rfl h6 (by omega) h7 hst (fun i hi => ⟨(hD.2.1 i hi).2.2, (hD.2.1 i hi).2.1, by have := many_le hi; omega⟩) (dn _ (Nat.le_refl _)) (dn _ (by omega)) D.2.1.length 0 FU S2 [] (by unfold FU; omega) (by omega) i2 sub2 hd2 (by rw [List.drop_zero]; show 0 + _ ≤ 120; omega) (by omega) (by omega)
  rw [List.drop_zero] at t1 t2
  have eg : f_X7_applied (some a) (some sa) S = l_X7_applied_10 FU (some a, some sa, some S.2.1, nq 0) S2 := by
    simp (disch := omega) only [f_X7_applied, q1, f_X4_init, f2, pb1, pb2, nq_lit, nq_add, nq_mul, nq_lt, nq_le, nq_eq, nq_lt0, nq10, nq00, Nat.one_ne_zero, Nat.reduceEqDiff, Nat.not_lt_zero, zb1, zb0, eq_self, reduceIte]
  rw [eg]
  have hlim : ∀ x, x < S.2.1 → (x = S.2.1 ∨ x = S1.2.1) → False := fun x hx z => by
    rcases z with z | z <;> omega
  refine ⟨fun hb => ?_, fun hb => ?_⟩
  · obtain ⟨S', u1, u2, u3⟩ := t1 hb
    exact ⟨S.2.1, S1.2.1, S', u1, u2, Nat.le_refl _, by omega, C2.trans u3 hlim⟩
  · obtain ⟨q', S', u1, u2⟩ := t2 hb
    exact ⟨q', S', u1, C2.trans u2 hlim⟩
