/-! PURE: versions -/
set_option maxRecDepth 100000
/-- what a version holds -/
def iHeld (M : Nat → Option Ob) (e0 : Option Nat) (vv : List Nat) (h : Nat) : Vr → Prop
  | .inl _ => M h = some (.inl (13, []))
  | .inr (.inl bs) => ∃ s b cap, M h = some (.inl (9, [.ref s])) ∧ iStr M s b cap bs ∧ cap ≤ 1000
  | .inr (.inr (j, D)) => ∃ bv da, M h = some (.inl (11, [.ref bv, .ref da])) ∧ vv[j]? = some bv ∧ iDel M e0 da D
def iVers (M : Nat → Option Ob) (e0 : Option Nat) (vv : List Nat) (vs : List Vr) : Prop := vv.length = vs.length ∧ ∀ v x, vs[v]? = some x → ∃ a h, vv[v]? = some a ∧ M a = some (.inl (10, [.int (nq v), .ref h])) ∧ iHeld M e0 vv h x
theorem iHeld.sub {F M : Nat → Option Ob} {e0 : Option Nat} {vv : List Nat} {h : Nat} {x : Vr} (k : Sub F M) (q : iHeld F e0 vv h x) : iHeld M e0 vv h x := by
  rcases x with u | bs | ⟨j, D⟩
  · exact k _ _ q
  · obtain ⟨s, b, cap, h1, h2, h3⟩ := q
    exact ⟨s, b, cap, k _ _ h1, h2.sub k, h3⟩
  · obtain ⟨bv, da, h1, h2, h3⟩ := q
    exact ⟨bv, da, k _ _ h1, h2, h3.sub k⟩
theorem iVers.sub {F M : Nat → Option Ob} {e0 : Option Nat} {vv : List Nat} {vs : List Vr} (k : Sub F M) (q : iVers F e0 vv vs) : iVers M e0 vv vs := by
  refine ⟨q.1, fun v x hx => ?_⟩
  obtain ⟨a, h, h1, h2, h3⟩ := q.2 v x hx
  exact ⟨a, h, h1, k _ _ h2, h3.sub k⟩
theorem isO_no {S : St} {a ci k : Nat} {fs : List Value} (h : S.1 a = some (.inl (ci, fs))) (hn : ci ≠ k) : isO S (some a) k = none := by
  simp only [isO, oF, h, if_neg hn, Option.map_none]
theorem v_reb {S : St} {rec : Option Nat → Int32 → St → Option ((Ex ⊕ Option Nat) × St)} {a h : Nat} {x : Int32} (ha : S.1 a = some (.inl (10, [.int x, .ref h]))) : f_X11_rebuilt rec (some a) S = rec (some h) x S := by
  have e1 : oA S (some a) 10 1 = some (some h) := oA_ok (o := some h) ha rfl
  have e2 : oI S (some a) 10 0 = some x := oI_ok ha rfl
  unfold f_X11_rebuilt
  rw [e1, pb1, e2, pb1]
  cases rec (some h) x S with
  | none => rfl
  | some p =>
    obtain ⟨p1, p2⟩ := p
    cases p1 <;> rfl
/-- rebuilt: the bytes, or the exception -/
def rbO (S : St) (c s : Nat) (m : (Nat × Nat × Nat) ⊕ List Nat) (x : Option ((Ex ⊕ Option Nat) × St)) : Prop :=
  (∀ bs, m = .inr bs → ∃ r rb cap S', x = some (.inr (some r), S') ∧ iStr S'.1 r rb cap bs ∧ cap ≤ 1000 ∧ Ch (fun _ => False) c s S S') ∧
  (∀ w, m = .inl w → w.2.1 ≤ 100 ∧ ∃ q S', x = some (.inl ("RollSync$Broken", q), S') ∧ iBrk S'.1 w.2.1 q w.1 w.2.2 ∧ Ch (fun _ => False) c s S S')
theorem rbO.mono {S : St} {c s c' s' : Nat} {m : (Nat × Nat × Nat) ⊕ List Nat} {x : Option ((Ex ⊕ Option Nat) × St)} (h : rbO S c s m x) (hc : c ≤ c') (hs : s ≤ s') : rbO S c' s' m x := by
  refine ⟨fun bs hb => ?_, fun w hw => ?_⟩
  · obtain ⟨r, rb, cap, S', h1, h2, h3, h4⟩ := h.1 bs hb
    exact ⟨r, rb, cap, S', h1, h2, h3, h4.mono (fun _ _ z => z) hc hs⟩
  · obtain ⟨h0, q, S', h1, h2, h3⟩ := h.2 w hw
    exact ⟨h0, q, S', h1, h2, h3.mono (fun _ _ z => z) hc hs⟩
theorem mkV_far {vs : List Vr} (hv : VOk vs) : ∀ (k v : Nat), v < k → v < vs.length → ∀ w, mkV vs v = .inl w → w.2.1 ≤ v ∧ w.1 ≤ v ∧ w.2.2 ≤ 2 := by
  intro k
  induction k with
  | zero => intro v hk; omega
  | succ k ih =>
    intro v hk hl w h
    have hx : vs[v]? = some vs[v] := List.getElem?_eq_getElem hl
    rcases hy : vs[v] with u | bs' | ⟨j, D⟩
    · rw [hy] at hx
      rw [mkV_l hx] at h
      cases h
      exact ⟨Nat.zero_le _, Nat.le_refl _, by show 1 ≤ 2; omega⟩
    · rw [hy] at hx
      rw [mkV_w hx] at h
      cases h
    · rw [hy] at hx
      have hj := (hv.2.2 v j D hx).1
      rw [mkV_d hv hx] at h
      unfold stp at h
      rw [hx] at h
      dsimp only at h
      cases hm : mkV vs j with
      | inl w' =>
        rw [hm] at h
        obtain ⟨a, f, x⟩ := w'
        dsimp only at h
        cases h
        obtain ⟨t1, t2, t3⟩ := ih j (by omega) (by omega) _ hm
        exact ⟨by show f + 1 ≤ v; have : f ≤ j := t1; omega, by show a ≤ v; have : a ≤ j := t2; omega, t3⟩
      | inr bs =>
        rw [hm] at h
        dsimp only at h
        split at h
        · cases h
          exact ⟨Nat.zero_le _, Nat.le_refl _, Nat.le_refl _⟩
        · cases h
theorem v_held {e0 : Option Nat} {vv : List Nat} {vs : List Vr} (hv : VOk vs) : ∀ (n v : Nat), v < n → ∀ (S : St) (x : Vr) (h : Nat), vs[v]? = some x → iHeld S.1 e0 vv h x → iVers S.1 e0 vv vs → Dom S → 4 * (v + 1) ≤ S.2.2.1 → 136 * (v + 1) ≤ S.2.2.2.1 → rbO S (4 * (v + 1)) (136 * (v + 1)) (mkV vs v) (f_held n (some h) (nq v) S) := by
  intro n
  induction n with
  | zero => intro v hk; omega
  | succ n ih =>
    intro v hk S x h hx hh hI hd k1 k2
    have hvl : v < vs.length := by
      by_cases z : v < vs.length
      · exact z
      · rw [List.getElem?_eq_none (by omega)] at hx
        cases hx
    have hv20 := hv.1
    rcases x with u | bs | ⟨j, D⟩
    · have hh : S.1 h = some (.inl (13, [])) := hh
      rw [mkV_l hx]
      refine ⟨fun bs z => (nomatch z), fun w hw => ?_⟩
      cases hw
      refine ⟨Nat.zero_le _, ?_⟩
      obtain ⟨q, S1, S', q1, q2, q3, q4, q5, q6⟩ := b_new v 1 hd (by omega) (by omega)
      refine ⟨q, S', ?_, q4, q6.mono (fun _ _ z => z) (by omega) (by omega)⟩
      have eh : f_held (n + 1) (some h) (nq v) S = f_X14_rebuilt (some h) (nq v) S := by
        simp only [f_held, isO_no hh (show 13 ≠ 9 by omega), isO_no hh (show 13 ≠ 11 by omega), isO_ok hh, if_true]
        rfl
      rw [eh]
      simp only [f_X14_rebuilt, nq_lit, q1, q2, q3, pb1, pb2]
    · obtain ⟨s, b, cap, h1, h2, h3⟩ := hh
      rw [mkV_w hx]
      refine ⟨fun bs' z => ?_, fun w hw => (nomatch hw)⟩
      cases z
      refine ⟨s, b, cap, S, ?_, h2, h3, (Ch.refl _ S).mono (fun _ _ z => z) (Nat.zero_le _) (Nat.zero_le _)⟩
      have e1 : oA S (some h) 9 0 = some (some s) := oA_ok (o := some s) h1 rfl
      have eh : f_held (n + 1) (some h) (nq v) S = hX (f_X10_rebuilt (some h) (nq v) S) := by
        simp only [f_held, isO_ok h1, if_true]
      rw [eh]
      simp only [f_X10_rebuilt, e1, pb1, hX, Option.bind_some]
    · obtain ⟨bv, da, h1, h2, h3⟩ := hh
      have hj := hv.2.2 v j D hx
      obtain ⟨y, hy⟩ : ∃ y, vs[j]? = some y := ⟨_, List.getElem?_eq_getElem (by omega)⟩
      obtain ⟨a', h', g1, g2, g3⟩ := hI.2 j y hy
      have ha' : a' = bv := Option.some.inj (g1.symm.trans h2)
      rw [ha'] at g2
      have eh : f_held (n + 1) (some h) (nq v) S = f_X12_rebuilt (f_held n) (some h) (nq v) S := by
        simp only [f_held, isO_no h1 (show 11 ≠ 9 by omega), isO_ok h1, if_true]
        rfl
      have e1 : oA S (some h) 11 1 = some (some da) := oA_ok (o := some da) h1 rfl
      have e2 : oA S (some h) 11 0 = some (some bv) := oA_ok (o := some bv) h1 rfl
      have ih' := ih j (by omega) S y h' hy g3 hI hd (by omega) (by omega)
      have hfar := mkV_far hv (v + 1) v (by omega) hvl
      have hjok := mkV_ok hv (j + 1) j (by omega) (by omega)
      rw [eh, mkV_d hv hx]
      rw [mkV_d hv hx] at hfar
      unfold stp at hfar ⊢
      rw [hx] at hfar ⊢
      dsimp only at hfar ⊢
      unfold f_X12_rebuilt
      rw [e1, pb1, e2, pb1, isO_ok g2, pb1, v_reb g2]
      cases hm : mkV vs j with
      | inl w =>
        rw [hm] at ih' hfar
        obtain ⟨t0, q, S1, t1, t2, t3⟩ := ih'.2 w rfl
        obtain ⟨wa, wf, wr⟩ := w
        dsimp only at hfar t2 ⊢
        refine ⟨fun bs z => (nomatch z), fun w hw => ?_⟩
        cases hw
        have := (hfar _ rfl).1
        refine ⟨by omega, ?_⟩
        have m1 := t3.2.2.1
        have m2 := t3.2.2.2.1
        obtain ⟨q', S2, S', u1, u2, u3, u4, u5, u6⟩ := b_over v t2 (t3.2.2.2.2.2 hd) (by omega) (by omega)
        refine ⟨q', S', ?_, u4, (t3.trans u6 fun _ _ z => z).mono (fun _ _ z => z) (by omega) (by omega)⟩
        rw [t1, pb2]
        dsimp only
        rw [if_neg (by decide), if_pos rfl]
        simp only [nq_lit, u1, u2, u3, pb1, pb2]
      | inr bs =>
        rw [hm] at ih' hfar
        dsimp only at hfar ⊢
        obtain ⟨r, rb, cap, S1, t1, t2, t3, t4⟩ := ih'.1 bs rfl
        have hbs := (hjok bs hm).1
        have hd1 := t4.2.2.2.2.2 hd
        have m1 := t4.2.2.1
        have m2 := t4.2.2.2.1
        have sub1 : Sub S.1 S1.1 := t4.sub hd (Sub.refl _) fun _ z => z.elim
        obtain ⟨A1, A2⟩ := d_applied (by omega) hj.2 (h3.sub sub1) t2 hd1 (by omega) (by omega)
        have ed : isO S1 (some da) 6 = some () := by
          obtain ⟨l, d, cap', sp, ias, sf, z1, -⟩ := h3.sub sub1
          exact isO_ok z1
        by_cases hb : byd D.2.1 bs.length = true
        · rw [if_pos hb]
          refine ⟨fun bs z => (nomatch z), fun w hw => ?_⟩
          cases hw
          refine ⟨Nat.zero_le _, ?_⟩
          obtain ⟨q, S2, v1, v2⟩ := A2 hb
          have m3 := v2.2.2.1
          have m4 := v2.2.2.2.1
          obtain ⟨q', S3, S', u1, u2, u3, u4, u5, u6⟩ := b_new v 2 (v2.2.2.2.2.2 hd1) (by omega) (by omega)
          refine ⟨q', S', ?_, u4, ((t4.trans v2 fun _ _ z => z).trans u6 fun _ _ z => z).mono (fun _ _ z => z) (by omega) (by omega)⟩
          rw [t1, pb2]
          dsimp only
          rw [ed, pb1, v1, pb2]
          dsimp only
          rw [if_pos rfl]
          simp only [nq_lit, u1, u2, u3, pb1, pb2]
        · rw [if_neg hb]
          refine ⟨fun bs' z => ?_, fun w hw => (nomatch hw)⟩
          cases z
          obtain ⟨r', rb', S', v1, v2, v3, v4, v5⟩ := A1 (Bool.eq_false_iff.mpr hb)
          refine ⟨r', rb', 120, S', ?_, v2, by omega, (t4.trans v5 fun _ _ z => z).mono (fun _ _ z => z) (by omega) (by omega)⟩
          rw [t1, pb2]
          dsimp only
          rw [ed, pb1, v1, pb2]
/-- Version.rebuilt -/
theorem v_ver {S : St} {e0 : Option Nat} {vv : List Nat} {vs : List Vr} {v a : Nat} (hv : VOk vs) (hI : iVers S.1 e0 vv vs) (hl : v < vs.length) (ha : vv[v]? = some a) (hd : Dom S) (k1 : 80 ≤ S.2.2.1) (k2 : 2720 ≤ S.2.2.2.1) : rbO S 80 2720 (mkV vs v) (f_ver (some a) S) := by
  have hv20 := hv.1
  obtain ⟨a', h, g1, g2, g3⟩ := hI.2 v _ (List.getElem?_eq_getElem hl)
  have ha' : a' = a := Option.some.inj (g1.symm.trans ha)
  rw [ha'] at g2
  unfold f_ver
  rw [v_reb g2]
  exact (v_held hv 40 v (by omega) S _ h (List.getElem?_eq_getElem hl) g3 hI hd (by omega) (by omega)).mono (by omega) (by omega)
/-- Version.broken -/
theorem v_broken {S : St} {e0 : Option Nat} {vv : List Nat} {vs : List Vr} {v a : Nat} (hv : VOk vs) (hI : iVers S.1 e0 vv vs) (hl : v < vs.length) (ha : vv[v]? = some a) (hd : Dom S) (k1 : 80 ≤ S.2.2.1) (k2 : 2720 ≤ S.2.2.2.1) :
    ∃ o S', f_X11_broken (some a) S = some (o, S') ∧ Ch (fun _ => False) 80 2720 S S' ∧ (∀ bs, mkV vs v = .inr bs → o = none) ∧ (∀ w, mkV vs v = .inl w → w.2.1 ≤ 100 ∧ ∃ q, o = some q ∧ iBrk S'.1 w.2.1 q w.1 w.2.2) := by
  obtain ⟨t1, t2⟩ := v_ver hv hI hl ha hd k1 k2
  obtain ⟨a', h, g1, g2, g3⟩ := hI.2 v _ (List.getElem?_eq_getElem hl)
  have ha' : a' = a := Option.some.inj (g1.symm.trans ha)
  rw [ha'] at g2
  cases hm : mkV vs v with
  | inl w =>
    obtain ⟨u0, q, S', u1, u2, u3⟩ := t2 w hm
    refine ⟨some q, S', ?_, u3, fun _ z => (nomatch z), fun w' z => by cases z; exact ⟨u0, q, rfl, u2⟩⟩
    unfold f_X11_broken
    rw [isO_ok g2, pb1, u1, pb2]
    dsimp only
    rw [if_pos rfl]
  | inr bs =>
    obtain ⟨r, rb, cap, S', u1, u2, u3, u4⟩ := t1 bs hm
    refine ⟨none, S', ?_, u4, fun _ _ => rfl, fun w' z => (nomatch z)⟩
    unfold f_X11_broken
    rw [isO_ok g2, pb1, u1, pb2]
/-- Held.size -/
theorem v_size {S : St} {e0 : Option Nat} {vv : List Nat} {vs : List Vr} {v h : Nat} {x : Vr} (hx : vs[v]? = some x) (hh : iHeld S.1 e0 vv h x) : f_hsize (some h) S = some (nq (hld vs v), S) := by
  unfold hld
  rw [hx]
  rcases x with u | bs | ⟨j, D⟩
  · have hh : S.1 h = some (.inl (13, [])) := hh
    simp only [f_hsize, isO_no hh (show 13 ≠ 9 by omega), isO_no hh (show 13 ≠ 11 by omega), isO_ok hh, if_true]
    rfl
  · obtain ⟨s, b, cap, h1, h2, h3⟩ := hh
    have e1 : oA S (some h) 9 0 = some (some s) := oA_ok (o := some s) h1 rfl
    have e2 : oI S (some s) 3 1 = some (nq bs.length) := oI_ok h2.1 rfl
    simp only [f_hsize, isO_ok h1, if_true, f_X10_size, e1, e2, pb1]
  · obtain ⟨bv, da, h1, h2, h3⟩ := hh
    obtain ⟨l, d, cap', sp, ias, sf, z1, -⟩ := h3
    have e1 : oA S (some h) 11 1 = some (some da) := oA_ok (o := some da) h1 rfl
    have e2 : oI S (some da) 6 2 = some (nq (cst D.2.1)) := oI_ok z1 rfl
    simp only [f_hsize, isO_no h1 (show 11 ≠ 9 by omega), isO_ok h1, if_true, f_X12_size, e1, e2, pb1]
    rfl
