/-! PURE: store -/
set_option maxRecDepth 100000
theorem allP_up {ps : Nat → Option (List (List Nat))} {k : Nat} {l : List (List Nat)} (hk : ps k = none) (v : List Nat) : ∀ n, (allP (va_up ps k (some l)) n).count v = (allP ps n).count v + if k < n then l.count v else 0 := by
  intro n
  induction n with
  | zero => rw [if_neg (Nat.not_lt_zero k)]; rfl
  | succ n ih =>
    show (allP (va_up ps k (some l)) n ++ prt (va_up ps k (some l)) n).count v = (allP ps n ++ prt ps n).count v + _
    rw [List.count_append, List.count_append, ih]
    unfold prt va_up
    by_cases z : n = k
    · rw [if_pos z, z, hk, if_neg (Nat.lt_irrefl k), if_pos (Nat.lt_succ_self k)]
      show _ + 0 + l.count v = _ + ([] : List (List Nat)).count v + l.count v
      rw [List.count_nil]
    · rw [if_neg z]
      by_cases q : k < n
      · rw [if_pos q, if_pos (by omega)]
        omega
      · rw [if_neg q, if_neg (by omega)]
        rfl
theorem POk_mem {l : List (List Nat)} (h : POk l) {c : List Nat} (hc : c ∈ l) : FOk c := by
  obtain ⟨s, t, rfl⟩ := List.append_of_mem hc
  have h2 := h.2
  rw [List.flatten_append, List.flatten_cons] at h2
  refine ⟨?_, fun x hx => h2.2 x (List.mem_append_right _ (List.mem_append_left _ hx))⟩
  have := h2.1
  rw [List.length_append, List.length_append] at this
  omega
theorem allP_mem {ps : Nat → Option (List (List Nat))} {v : List Nat} : ∀ n, v ∈ allP ps n → ∃ p, v ∈ prt ps p := by
  intro n
  induction n with
  | zero => intro h; cases h
  | succ n ih =>
    intro h
    have h : v ∈ allP ps n ++ prt ps n := h
    rcases List.mem_append.mp h with q | q
    · exact ih q
    · exact ⟨n, q⟩
section Stor
variable {S : St} {x out : Nat} {A : AA}
theorem fre_b {ps : Nat → Option (List (List Nat))} : ∀ (N p : Nat), p ≤ fre ps N p ∧ fre ps N p ≤ p + N ∧ (fre ps N p < p + N → ps (fre ps N p) = none) := by
  intro N
  induction N with
  | zero => intro p; exact ⟨Nat.le_refl _, Nat.le_refl _, fun q => absurd q (Nat.lt_irrefl _)⟩
  | succ N ih =>
    intro p
    have e : fre ps (N + 1) p = if (ps p).isSome = true then fre ps N (p + 1) else p := rfl
    rw [e]
    by_cases h : (ps p).isSome = true
    · rw [if_pos h]
      obtain ⟨i1, i2, i3⟩ := ih (p + 1)
      exact ⟨by omega, by omega, fun q => i3 (by omega)⟩
    · rw [if_neg h]
      refine ⟨Nat.le_refl _, by omega, fun _ => ?_⟩
      cases hz : ps p with
      | none => rfl
      | some l => rw [hz] at h; exact absurd rfl h
theorem x_free_l {f : Nat → Option Nat} {pp : Nat} {o6 : Option Nat} {ps : Nat → Option (List (List Nat))} (ex : oA S (some x) 0 5 = some (some pp)) (hp : S.1 pp = some (.inr (7, 12, .inr (.inr (.inr (.inr f)))))) (h : ∀ p, p < 12 → ((ps p).isSome = true ↔ f p ≠ none)) : ∀ (N p n : Nat), N < n → p + N = 12 → l_X1_store_8 n (some x, o6, nq p) S = s_X1_store_29 (some x) o6 (nq (fre ps N p)) S := by
  intro N
  induction N with
  | zero =>
    intro p n hn hk
    obtain ⟨n, rfl⟩ := pre_n hn
    have hk' : 12 ≤ p := by omega
    rw [l_X1_store_8_s]
    simp (disch := omega) only [s_X1_store_8, hk', pb1, pb2, nq_lit, nq_add, nq_mul, nq_lt, nq_le, nq_eq, nq_lt0, nq10, nq00, Nat.one_ne_zero, Nat.reduceEqDiff, Nat.not_lt_zero, zb1, zb0, eq_self, reduceIte, String.reduceEq, reduceCtorEq]
    rfl
  | succ N ih =>
    intro p n hn hk
    obtain ⟨n, rfl⟩ := pre_n hn
    have hk' : ¬ 12 ≤ p := by omega
    have e1 : aL S (some pp) 7 (nq p) = some (f p) := aL_ok hp (by omega) (by omega)
    have hh := h p (by omega)
    have e : fre ps (N + 1) p = if (ps p).isSome = true then fre ps N (p + 1) else p := rfl
    have ih' := ih (p + 1) n (by omega) (by omega)
    rw [l_X1_store_8_s, e]
    cases hf : f p with
    | none =>
      have hs : ¬ (ps p).isSome = true := fun q => hh.mp q hf
      rw [if_neg hs]
      rw [hf] at e1
      simp (disch := omega) only [s_X1_store_8, hk', ex, e1, pb1, pb2, nq_lit, nq_add, nq_mul, nq_lt, nq_le, nq_eq, nq_lt0, nq10, nq00, Nat.one_ne_zero, Nat.reduceEqDiff, Nat.not_lt_zero, zb1, zb0, eq_self, reduceIte, String.reduceEq, reduceCtorEq]
    | some a =>
      have hs : (ps p).isSome = true := hh.mpr (by rw [hf]; exact fun q => nomatch q)
      rw [if_pos hs]
      rw [hf] at e1
      simp (disch := omega) only [s_X1_store_8, hk', ex, e1, pb1, pb2, nq_lit, nq_add, nq_mul, nq_lt, nq_le, nq_eq, nq_lt0, nq10, nq00, Nat.one_ne_zero, Nat.reduceEqDiff, Nat.not_lt_zero, zb1, zb0, eq_self, reduceIte, String.reduceEq, reduceCtorEq]
      exact ih'
theorem q_store (x1 : Int32) (h : SRep S x out A) (hA : AOk A) (k1 : 9000 ≤ S.2.2.1) (k2 : 110000 ≤ S.2.2.2.1) : OQ S x out (o_store A x1) (f_X0_store (some x) x1 (some out) S) := by
  obtain ⟨ρ, e0, fa, sg, de, vl, st, pp, h⟩ := h
  have ho := h.o
  have hox := h.ox
  obtain ⟨t1, t2⟩ := x_strip (y := x1) h hA (by omega) (by omega)
  have hx := fun k (hk : k ≠ 0) => oq_x (out := out) (k := k) (h.xt (by omega) (by omega)) hk (xt_rm (by omega) (by omega)) (by omega) (by omega)
  have n1 := x_can1 S
  have n0 := x_can0 (S := S) (by omega) (by omega)
  have e5 : oA S (some x) 0 5 = some (some pp) := oA_ok (o := some pp) hox rfl
  obtain ⟨⟨h1, h2, h3, h4⟩, ⟨h5, ⟨cl, cd, cap, cs, K, f, i1, i2, i3, i4, i5⟩, h7⟩, h8, h9, h10, h11⟩ := id h
  have hfr := fun o6 : Option Nat => x_free_l (S := S) (x := x) (o6 := o6) (ps := zP A) e5 (mk_e i4).2 (fun p hp => by
    obtain ⟨t1, t2⟩ := i5 p hp
    cases hz : zP A p with
    | none => exact ⟨fun q => (nomatch q), fun q => absurd (t2 hz) q⟩
    | some l =>
      obtain ⟨a, arr, g, u1, -⟩ := t1 l hz
      rw [u1]
      exact ⟨fun _ q => (nomatch q), fun _ => rfl⟩)
  have hfb := fre_b (ps := zP A) 12 0
  unfold o_store
  by_cases ok : okI x1 A.1.length
  · rw [if_pos ok]
    obtain ⟨a, b, e, hs, ra, rb, -⟩ := t1 ok
    have hs : iStr S.1 a b 120 (fl A (ix x1)) := hs
    have hfr := hfr (some a) 12 0 FU (by unfold FU; omega) rfl
    obtain ⟨k, hk⟩ : ∃ k, fre (zP A) 12 0 = k := ⟨_, rfl⟩
    rw [hk] at hfr hfb ⊢
    by_cases ok2 : k < 12
    · rw [if_pos ok2]
      have hkn := hfb.2.2 (by omega)
      have ok2' : ¬ 12 ≤ k := by omega
      -- the cut
      obtain ⟨F, hF⟩ : ∃ F : Nat → Option Ob, F = rs (fun y => !decide (ρ y = 6)) S.1 := ⟨_, rfl⟩
      have hFs : Sub F S.1 := by rw [hF]; exact rs_sub _ _
      have hFi : ∀ y e, S.1 y = some e → ρ y ≠ 6 → F y = some e := fun y e q1 q2 => by
        rw [hF]
        refine rs_i ?_ q1
        show (!decide (ρ y = 6)) = true
        rw [decide_eq_false q2]
        rfl
      have hFn : ∀ y e, F y = some e → decide (ρ y = 6) = false := fun y e q => by
        rw [hF] at q
        have := (rs_e q).1
        have this : (!decide (ρ y = 6)) = true := this
        cases hz : decide (ρ y = 6) with
        | false => rfl
        | true => rw [hz] at this; cases this
      obtain ⟨pp', arr, g, P', cd', cap', cs', K', S', w1, w2, w3, w4, w5, ⟨w6, w7, w8, w9, w10, w11, w12⟩, ⟨w13, w13b⟩, w14⟩ := x_cut (F := F) (P0 := fun y => decide (ρ y = 6)) (S := S) (x := x) (e0 := e0) (c := zC A) (al := allP (zP A) 12) (hFi _ _ hox (by rw [(mk_e h1).1]; decide)) rfl ⟨rfl, rfl, rfl⟩ hA.2.2.2.2.2 (by
        obtain ⟨q1, ff, q2, q3⟩ := hs
        exact ⟨hFi _ _ q1 (by rw [ra]; decide), ff, hFi _ _ q2 (by rw [rb]; decide), q3⟩) (fl_ok hA (ix x1)) (by omega) (by
        obtain ⟨dd, ff, q1, q2⟩ := h8
        exact ⟨dd, ff, q1, hFi _ _ (mk_e q2).2 (by rw [(mk_e q2).1]; decide)⟩) hFn (fun v hv => by
        obtain ⟨p, hp⟩ := allP_mem 12 hv
        exact POk_mem (zP_ok hA p) hp) (allP_len (zP_ok hA) 12) i1 i2 i3 (fun y hy => decide_eq_false (by rw [h11 y hy]; decide)) hFs h10 h9 (by omega) (by omega)
      have hd' := w14.2.2.2.2.2 h10
      have C : Ch (fun y => ρ y = 6) 3000 11000 S S' := w14.mono (fun y hy q => by
        rcases q with q | q
        · exact of_decide_eq_true q
        · omega) (Nat.le_refl _) (Nat.le_refl _)
      obtain ⟨ρ', hρ⟩ : ∃ ρ' : Nat → Nat, ρ' = fun y => if S.2.1 ≤ y then (if P' y = true then 6 else 0) else ρ y := ⟨_, rfl⟩
      have ro : ∀ y, y < S.2.1 → ρ' y = ρ y := fun y hy => by rw [hρ]; exact if_neg (by omega)
      have r6 : ∀ y, S.2.1 ≤ y → P' y = true → ρ' y = 6 := fun y hy q => by rw [hρ]; dsimp only; rw [if_pos hy, if_pos q]
      have r0 : ∀ y, S.2.1 ≤ y → P' y = false → ρ' y = 0 := fun y hy q => by rw [hρ]; dsimp only; rw [if_pos hy, q, if_neg Bool.false_ne_true]
      have m : ∀ j, j ≠ 6 → Sub (mk S ρ j) (mk S' ρ' j) := fun j hj => mk_ch C h10 (fun y hy q => by rw [ro y hy]; exact q) (fun y q z => hj (by rw [← z, (show ρ y = 6 from q)]))
      have hsto : Sub (rs P' S'.1) (mk S' ρ' 6) := fun y e q => by
        obtain ⟨q1, q2⟩ := rs_e q
        by_cases z : y < S.2.1
        · rw [w13 y z] at q1
          exact mk_i (by rw [ro y z]; exact of_decide_eq_true q1) q2
        · exact mk_i (r6 y (by omega) q1) q2
      have hpp : mk S' ρ' 7 pp = some (.inr (7, 12, .inr (.inr (.inr (.inr f))))) := m 7 (by decide) _ _ i4
      have w10' : mk S' ρ' 0 pp' = some (.inl (15, [.ref arr])) := mk_i (r0 _ w6 w8) w10
      have w11' : mk S' ρ' 0 arr = some (.inr (9, (cutA (zC A) (fl A (ix x1))).length, .inr (.inr (.inr (.inr g))))) := mk_i (r0 _ w7 w9) w11
      obtain ⟨S2, d2⟩ : ∃ S2, x_set S' pp (.inr (7, 12, .inr (.inr (.inr (.inr (va_up f k (some pp'))))))) = S2 := ⟨_, rfl⟩
      have es : aS S' (some pp) 7 (nq k) (some pp') = some S2 := (aS_ok (mk_e hpp).2 ok2 (by omega) (asg_ok w10 (by decide))).trans (congrArg some d2)
      have c2 : Ch (fun y => y = pp) 0 0 S' S2 := by rw [← d2]; exact Ch.set S' _ (mk_e hpp).2
      have v2 : S2.1 pp = some (.inr (7, 12, .inr (.inr (.inr (.inr (va_up f k (some pp'))))))) := by rw [← d2]; exact xs_i _ _ _
      have m2 : ∀ j, j ≠ 7 → Sub (mk S' ρ' j) (mk S2 ρ' j) := fun j hj => mk_ch c2 hd' (fun _ _ q => q) (fun y q z => hj (by rw [← z, (show y = pp from q), (mk_e hpp).1]))
      have mm : ∀ j, j ≠ 6 → j ≠ 7 → Sub (mk S ρ j) (mk S2 ρ' j) := fun j a1 a2 => (m j a1).trans (m2 j a2)
      have hkk : KOk K' (fun v => (allP (va_up (zP A) k (some (cutA (zC A) (fl A (ix x1))))) 12).count v) := by
        have : (fun v => (allP (va_up (zP A) k (some (cutA (zC A) (fl A (ix x1))))) 12).count v) = fun v => (allP (zP A) 12 ++ cutA (zC A) (fl A (ix x1))).count v := by
          funext v
          rw [allP_up hkn v 12, if_pos ok2, List.count_append]
        rw [this]
        exact w4
      have h' : SR S2 x out (uP A (va_up (zP A) k (some (cutA (zC A) (fl A (ix x1)))))) ρ' e0 fa sg de vl st pp := by
        refine ⟨⟨h1.sub (mm 1 (by decide) (by decide)), h2.sub (mm 2 (by decide) (by decide)), h3.sub (mm 3 (by decide) (by decide)) (mm 0 (by decide) (by decide)), h4.sub (mm 4 (by decide) (by decide)) (mm 0 (by decide) (by decide))⟩, ⟨h5.sub (mm 5 (by decide) (by decide)) (mm 0 (by decide) (by decide)), ⟨cl, cd', cap', cs', K', va_up f k (some pp'), (w2.sub hsto).sub (m2 6 (by decide)), w3, hkk, mk_i (mk_e hpp).1 v2, fun p hp => ?_⟩, h7.sub (mm 8 (by decide) (by decide))⟩, h8.sub (mm 0 (by decide) (by decide)), by rw [c2.2.2.2.2.1, C.2.2.2.2.1]; exact h9, c2.2.2.2.2.2 hd', fun y hy => ?_⟩
        · show (∀ l, va_up (zP A) k (some (cutA (zC A) (fl A (ix x1)))) p = some l → ∃ a arr g, va_up f k (some pp') p = some a ∧ mk S2 ρ' 0 a = some (.inl (15, [.ref arr])) ∧ mk S2 ρ' 0 arr = some (.inr (9, l.length, .inr (.inr (.inr (.inr g))))) ∧ ∀ i, i < l.length → pAt cs' K' (g i) (l.getD i [])) ∧ (va_up (zP A) k (some (cutA (zC A) (fl A (ix x1)))) p = none → va_up f k (some pp') p = none)
          unfold va_up
          by_cases z : p = k
          · rw [if_pos z, if_pos z]
            refine ⟨fun l hl => ?_, fun q => (nomatch q)⟩
            cases hl
            exact ⟨pp', arr, g, rfl, m2 0 (by decide) _ _ w10', m2 0 (by decide) _ _ w11', w12⟩
          · rw [if_neg z, if_neg z]
            refine ⟨fun l hl => ?_, (i5 p hp).2⟩
            obtain ⟨a, arr, g, u1, u2, u3, u4⟩ := (i5 p hp).1 l hl
            exact ⟨a, arr, g, u1, mm 0 (by decide) (by decide) _ _ u2, mm 0 (by decide) (by decide) _ _ u3, fun i hi => (u4 i hi).mv w5⟩
        · have t1 := c2.2.1
          have t2 := C.2.1
          exact r0 y (by omega) (w13b y (by omega))
      have ei : isO S (some x) 0 = some () := ho
      have E : f_X0_store (some x) x1 (some out) S = bd1 (jS S2 (some out) (nq 0) (nq k).toInt64) fun S8 => some (nq 0, S8) := by
        simp (disch := omega) only [f_X0_store, f_X1_store, s_X1_store_29, s_X1_store_40, ho, e, hfr, ok2', n1, e5, w1, es, pb1, pb2, nq_lit, nq_add, nq_mul, nq_lt, nq_le, nq_eq, nq_lt0, nq10, nq00, Nat.one_ne_zero, Nat.reduceEqDiff, Nat.not_lt_zero, zb1, zb0, eq_self, reduceIte, String.reduceEq, reduceCtorEq]
      rw [E]
      exact oq_v (an := yn k _) h' rfl rfl (C.rm.trans c2.rm) (by omega) (by omega)
    · rw [if_neg ok2]
      have ok2' : 12 ≤ k := by omega
      have E : f_X0_store (some x) x1 (some out) S = some (nq 2, xt S) := by
        have hfr : l_X1_store_8 FU (some x, some a, nq 0) S = _ := hfr
        simp (disch := omega) only [f_X0_store, f_X1_store, s_X1_store_29, s_X1_store_40, ho, e, hfr, ok2', n0, pb1, pb2, nq_lit, nq_add, nq_mul, nq_lt, nq_le, nq_eq, nq_lt0, nq10, nq00, Nat.one_ne_zero, Nat.reduceEqDiff, Nat.not_lt_zero, zb1, zb0, eq_self, reduceIte, String.reduceEq, reduceCtorEq]
      rw [E]
      exact hx 2 (by decide)
  · rw [if_neg ok]
    have e := t2 ok
    have E : f_X0_store (some x) x1 (some out) S = some (nq 1, xt S) := by
      simp (disch := omega) only [f_X0_store, f_X1_store, ho, e, pb1, pb2, nq_lit, nq_add, nq_mul, nq_lt, nq_le, nq_eq, nq_lt0, nq10, nq00, Nat.one_ne_zero, Nat.reduceEqDiff, Nat.not_lt_zero, zb1, zb0, eq_self, reduceIte, String.reduceEq, reduceCtorEq]
    rw [E]
    exact hx 1 (by decide)
end Stor
