/-! PURE: release, whole -/
set_option maxRecDepth 100000
theorem allP_of {ps : Nat → Option (List (List Nat))} {v : List Nat} {p : Nat} : ∀ n, p < n → v ∈ prt ps p → v ∈ allP ps n := by
  intro n
  induction n with
  | zero => intro h; exact absurd h (Nat.not_lt_zero _)
  | succ n ih =>
    intro h hv
    show v ∈ allP ps n ++ prt ps n
    by_cases c : p = n
    · rw [c] at hv
      exact List.mem_append_right _ hv
    · exact List.mem_append_left _ (ih (by omega) hv)
section Rele
variable {S : St} {x out : Nat} {A : AA}
theorem q_release (x1 : Int32) (h : SRep S x out A) (hA : AOk A) (k1 : 9000 ≤ S.2.2.1) (k2 : 110000 ≤ S.2.2.2.1) : OQ S x out (o_release A x1) (f_X0_release (some x) x1 (some out) S) := by
  obtain ⟨ρ, e0, fa, sg, de, vl, st, pp, h⟩ := h
  have ho := h.o
  have hox := h.ox
  obtain ⟨t1, t2⟩ := x_paper x1 h (by omega) (by omega)
  have hlp := prt_len hA (ix x1)
  unfold o_release
  by_cases ok : okI x1 12 ∧ (zP A (ix x1)).isSome = true
  · rw [if_pos ok]
    obtain ⟨arr0, g0, -, -, -, -, -, e, ha0, -⟩ := t1 ok
    obtain ⟨⟨h1, h2, h3, h4⟩, ⟨h5, ⟨cl, cd, cap, cs, K, f, i1, i2, i3, i4, i5⟩, h7⟩, h8, h9, h10, h11⟩ := id h
    obtain ⟨p, p1, p2, rfl⟩ := okI_get ok.1
    have hp : ix (nq p) = p := nq_idx p2
    rw [hp] at ok ha0 hlp ⊢
    obtain ⟨l, hz⟩ : ∃ l, zP A p = some l := Option.isSome_iff_exists.mp ok.2
    have hl : prt (zP A) p = l := by unfold prt; rw [hz]; rfl
    obtain ⟨a, arr, g, u1, u2, u3, u4⟩ := (i5 p p1).1 l hz
    have e5 : oA S (some x) 0 5 = some (some pp) := oA_ok (o := some pp) hox rfl
    have e6 : aL S (some pp) 7 (nq p) = some (some a) := by rw [aL_ok (mk_e i4).2 p1 (by omega), u1]
    have e7 : oA S (some a) 15 0 = some (some arr) := oA_ok (o := some arr) (mk_e u2).2 rfl
    obtain ⟨y1, -⟩ := x_there (S := S) (y := nq p) (n := 12) (by omega) (by omega) (by omega)
    have ey := y1 ok.1
    have ep : f_X1_paper (some x) (nq p) S = some (.inr (some arr), S) := by
      simp only [f_X1_paper, ey, e5, e6, e7, pb1, pb2, nq_lit, nq_add, nq_mul, nq_lt, nq_le, nq_eq, nq_lt0, nq10, nq00, Nat.one_ne_zero, Nat.reduceEqDiff, Nat.not_lt_zero, zb1, zb0, eq_self, reduceIte, String.reduceEq, reduceCtorEq]
    have e8 : lenA S (some arr) 9 = some (nq l.length) := lenA_ok (mk_e u3).2
    obtain ⟨F, hF⟩ : ∃ F : Nat → Option Ob, F = rs (fun y => !decide (ρ y = 6)) S.1 := ⟨_, rfl⟩
    have hFs : Sub F S.1 := by rw [hF]; exact rs_sub _ _
    have hFm : ∀ j, j ≠ 6 → Sub (mk S ρ j) F := fun j hj y e' q => by
      obtain ⟨q1, q2⟩ := mk_e q
      rw [hF]
      refine rs_i ?_ q2
      show (!decide (ρ y = 6)) = true
      rw [decide_eq_false (by rw [q1]; exact hj)]
      rfl
    have hFn : ∀ y, decide (ρ y = 6) = true → F y = none := fun y hy => by
      rw [hF]
      unfold rs
      rw [if_neg]
      show ¬ (!decide (ρ y = 6)) = true
      rw [hy]
      decide
    have hall := fun v => allP_wth (ps := zP A) p1 v
    rw [hl] at hall hlp
    have hoth := allP_len (ps := wth (zP A) p) (fun q => by
      unfold prt wth va_up
      by_cases c : q = p
      · rw [if_pos c]
        exact ⟨fun _ hc => (nomatch hc), Nat.zero_le _, fun _ hc => (nomatch hc)⟩
      · rw [if_neg c]
        exact zP_ok hA q) 12
    have hK0 : KOk K (fun v => (allP (wth (zP A) p) 12 ++ l.drop 0).count v) := by
      have : (fun v => (allP (wth (zP A) p) 12 ++ l.drop 0).count v) = fun v => (allP (zP A) 12).count v := by
        funext v
        rw [List.drop_zero, hall v]
      rw [this]
      exact i3
    have hfo : ∀ v ∈ allP (wth (zP A) p) 12 ++ l, FOk v := fun v hv => by
      have : v ∈ allP (zP A) 12 := List.count_pos_iff.mp (by rw [hall v]; exact List.count_pos_iff.mpr hv)
      obtain ⟨q, hq⟩ := allP_mem 12 this
      exact POk_mem (zP_ok hA q) hq
    have hKl := KOk_len hK0 (fun _ => rfl)
    rw [List.drop_zero] at hKl
    have hfl := frs_len (allP (wth (zP A) p) 12 ++ l) []
    rw [List.length_append] at hfl
    obtain ⟨gone, cs', K', S', w1, w2, w3, w4, -, w6, w7⟩ := r_loop (x1 := nq p) (len0 := K.length) (hFm 1 (by decide) _ _ h1) rfl rfl (hFm 0 (by decide) _ _ u3) hFn hlp hoth hfo i2 (by omega) l.length 0 FU 0 S cs K (by unfold FU; omega) (by omega) hFs h10 i1 hK0 (by omega) (fun i _ hi => u4 i hi)
    have hKl' := KOk_len w3 (fun _ => rfl)
    have hg := gne_len (zP A) p
    rw [hl] at hg
    have hgone : gone = gne (zP A) p := by omega
    have hd' := w6.2.2.2.2.2 h10
    have m : ∀ j, j ≠ 6 → Sub (mk S ρ j) (mk S' ρ j) := fun j hj => mk_ch w6 h10 (fun _ _ q => q) (fun y q z => hj (by rw [← z, of_decide_eq_true q]))
    have hpp := m 7 (by decide) _ _ i4
    obtain ⟨S2, d2⟩ : ∃ S2, x_set S' pp (.inr (7, 12, .inr (.inr (.inr (.inr (va_up f p none)))))) = S2 := ⟨_, rfl⟩
    have es : aS S' (some pp) 7 (nq p) none = some S2 := (aS_ok (mk_e hpp).2 p1 (by omega) rfl).trans (congrArg some d2)
    have c2 : Ch (fun y => y = pp) 0 0 S' S2 := by rw [← d2]; exact Ch.set S' _ (mk_e hpp).2
    have v2 : S2.1 pp = some (.inr (7, 12, .inr (.inr (.inr (.inr (va_up f p none)))))) := by rw [← d2]; exact xs_i _ _ _
    have m2 : ∀ j, j ≠ 7 → Sub (mk S' ρ j) (mk S2 ρ j) := fun j hj => mk_ch c2 hd' (fun _ _ q => q) (fun y q z => hj (by rw [← z, (show y = pp from q), (mk_e hpp).1]))
    have mm : ∀ j, j ≠ 6 → j ≠ 7 → Sub (mk S ρ j) (mk S2 ρ j) := fun j a1 a2 => (m j a1).trans (m2 j a2)
    have h' : SR S2 x out (uP A (wth (zP A) p)) ρ e0 fa sg de vl st pp := by
      refine ⟨⟨h1.sub (mm 1 (by decide) (by decide)), h2.sub (mm 2 (by decide) (by decide)), h3.sub (mm 3 (by decide) (by decide)) (mm 0 (by decide) (by decide)), h4.sub (mm 4 (by decide) (by decide)) (mm 0 (by decide) (by decide))⟩, ⟨h5.sub (mm 5 (by decide) (by decide)) (mm 0 (by decide) (by decide)), ⟨cl, cd, cap, cs', K', va_up f p none, iSto.sub w2 (m2 6 (by decide)), i2, w3, mk_i (mk_e hpp).1 v2, fun q hq => ?_⟩, h7.sub (mm 8 (by decide) (by decide))⟩, h8.sub (mm 0 (by decide) (by decide)), by rw [c2.2.2.2.2.1, w6.2.2.2.2.1]; exact h9, c2.2.2.2.2.2 hd', fun y hy => h11 y (by have := c2.2.1; have := w6.2.1; omega)⟩
      show (∀ l, va_up (zP A) p none q = some l → ∃ a arr g, va_up f p none q = some a ∧ mk S2 ρ 0 a = some (.inl (15, [.ref arr])) ∧ mk S2 ρ 0 arr = some (.inr (9, l.length, .inr (.inr (.inr (.inr g))))) ∧ ∀ i, i < l.length → pAt cs' K' (g i) (l.getD i [])) ∧ (va_up (zP A) p none q = none → va_up f p none q = none)
      unfold va_up
      by_cases c : q = p
      · rw [if_pos c, if_pos c]
        exact ⟨fun l hl => (nomatch hl), fun _ => rfl⟩
      · rw [if_neg c, if_neg c]
        refine ⟨fun l' hl' => ?_, (i5 q hq).2⟩
        obtain ⟨a', arr', g', z1, z2, z3, z4⟩ := (i5 q hq).1 l' hl'
        refine ⟨a', arr', g', z1, mm 0 (by decide) (by decide) _ _ z2, mm 0 (by decide) (by decide) _ _ z3, fun i hi => ?_⟩
        obtain ⟨j, y, y1, y2, y3, y4⟩ := z4 i hi
        obtain ⟨j', b1, b2, b3⟩ := w7 j y y2 y3 (by
          rw [y4]
          refine List.count_pos_iff.mpr (allP_of (p := q) 12 hq ?_)
          have hw : prt (wth (zP A) p) q = l' := by
            unfold prt wth va_up
            rw [if_neg c, hl']
            rfl
          rw [hw, List.getD_eq_getElem?_getD, List.getElem?_eq_getElem hi]
          exact List.getElem_mem hi)
        exact ⟨j', y, y1, b1, b2, b3.trans y4⟩
    have e9 : oA S' (some x) 0 5 = some (some pp) := oA_ok (o := some pp) (m 1 (by decide) _ _ h1 |> mk_e).2 rfl
    have w1 : l_X1_release_19 FU (some x, nq p, nq 0, some arr, nq l.length, nq 0) S = some (.inr (nq gone), S2) := by
      rw [w1, e9, pb1, es, pb1]
    rw [hgone] at w1
    have E : f_X0_release (some x) (nq p) (some out) S = bd1 (jS S2 (some out) (nq 0) (nq (gne (zP A) p)).toInt64) fun S8 => some (nq 0, S8) := by
      simp only [f_X0_release, f_X1_release, ho, ep, e8, w1, pb1, pb2, nq_lit, nq_add, nq_mul, nq_lt, nq_le, nq_eq, nq_lt0, nq10, nq00, Nat.one_ne_zero, Nat.reduceEqDiff, Nat.not_lt_zero, zb1, zb0, eq_self, reduceIte, String.reduceEq, reduceCtorEq]
    rw [E]
    exact oq_v (an := yn _ (uP A (wth (zP A) p))) h' rfl rfl (w6.rm.trans c2.rm) (by omega) (by omega)
  · rw [if_neg ok]
    have e := t2 ok
    have E : f_X0_release (some x) x1 (some out) S = some (nq 1, xt S) := by
      simp only [f_X0_release, f_X1_release, ho, e, pb1, pb2, nq_lit, nq_add, nq_mul, nq_lt, nq_le, nq_eq, nq_lt0, nq10, nq00, Nat.one_ne_zero, Nat.reduceEqDiff, Nat.not_lt_zero, zb1, zb0, eq_self, reduceIte, String.reduceEq, reduceCtorEq]
    rw [E]
    exact oq_x (h.xt (by omega) (by omega)) (by decide) (xt_rm (by omega) (by omega)) (by omega) (by omega)
end Rele
