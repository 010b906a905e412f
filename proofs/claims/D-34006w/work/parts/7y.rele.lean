/-! PURE: release, the loop -/
set_option maxRecDepth 100000
theorem cnt_drop {oth l : List (List Nat)} {k : Nat} (hk : k < l.length) (v : List Nat) : (oth ++ l.drop k).count v - (if v = l.getD k [] then 1 else 0) = (oth ++ l.drop (k + 1)).count v := by
  have hdr : l.drop k = l.getD k [] :: l.drop (k + 1) := by
    rw [List.drop_eq_getElem_cons hk, List.getD_eq_getElem?_getD, List.getElem?_eq_getElem hk]
    rfl
  rw [hdr, List.count_append, List.count_cons, List.count_append]
  by_cases q : v = l.getD k []
  · rw [if_pos q, if_pos (by rw [q]; exact BEq.refl _)]
    omega
  · rw [if_neg q, if_neg (fun z => q (eq_of_beq z).symm)]
    rfl
theorem r_loop {F : Nat → Option Ob} {P : Nat → Bool} {x arr st cl cd cap pp len0 : Nat} {x1 : Int32} {e0 : Option Nat} {fs : List Value} {g : Nat → Option Nat} {oth l : List (List Nat)} (hx : F x = some (.inl (0, fs))) (hx4 : fs[4]? = some (.ref st)) (hx5 : fs[5]? = some (.ref pp)) (harr : F arr = some (.inr (9, l.length, .inr (.inr (.inr (.inr g)))))) (hFP : ∀ y, P y = true → F y = none) (hl : l.length ≤ 120) (hoth : oth.length ≤ 1440) (hfo : ∀ v ∈ oth ++ l, FOk v) (hcap : cap ≤ 2401) (hlen0 : len0 ≤ 1560) :
    ∀ (N k n gone : Nat) (S : St) (cs : List Nat) (K : KL), N < n → k + N = l.length → Sub F S.1 → Dom S → iSto (rs P S.1) e0 st cl cd cap cs K → KOk K (fun v => (oth ++ l.drop k).count v) → gone + K.length = len0 → (∀ i, k ≤ i → i < l.length → pAt cs K (g i) (l.getD i [])) →
    ∃ gone' cs' K' S', l_X1_release_19 n (some x, x1, nq gone, some arr, nq l.length, nq k) S = (bd1 (oA S' (some x) 0 5) fun v10 => bd1 (aS S' v10 7 x1 none) fun S12 => some (.inr (nq gone'), S12)) ∧ iSto (rs P S'.1) e0 st cl cd cap cs' K' ∧ KOk K' (fun v => oth.count v) ∧ gone' + K'.length = len0 ∧ kMv [] [] K K' ∧ Ch (fun y => P y = true) 0 0 S S' ∧ (∀ j y, cs[j]? = some y → j < K.length → 0 < oth.count (ky K j) → ∃ j', cs'[j']? = some y ∧ j' < K'.length ∧ ky K' j' = ky K j) := by
  intro N
  induction N with
  | zero =>
    intro k n gone S cs K hn hk hsub hd hI hK hg hp
    obtain ⟨n, rfl⟩ := pre_n hn
    have hk' : l.length ≤ k := by omega
    rw [List.drop_eq_nil_of_le hk', List.append_nil] at hK
    refine ⟨gone, cs, K, S, ?_, hI, hK, hg, fun j y q => (nomatch q), Ch.refl _ S, fun j y q1 q2 _ => ⟨j, q1, q2, rfl⟩⟩
    rw [l_X1_release_19_s]
    simp (disch := omega) only [s_X1_release_19, hk', pb1, pb2, nq_lit, nq_add, nq_mul, nq_lt, nq_le, nq_eq, nq_lt0, nq10, nq00, Nat.one_ne_zero, Nat.reduceEqDiff, Nat.not_lt_zero, zb1, zb0, eq_self, reduceIte, String.reduceEq, reduceCtorEq]
  | succ N ih =>
    intro k n gone S cs K hn hk hsub hd hI hK hg hp
    obtain ⟨n, rfl⟩ := pre_n hn
    have hk' : ¬ l.length ≤ k := by omega
    have hkl : k < l.length := by omega
    obtain ⟨r, a, g1, g2, g3, g4⟩ := hp k (Nat.le_refl _) hkl
    have e1 : aL S (some arr) 9 (nq k) = some (some a) := by rw [aL_ok (hsub _ _ harr) hkl (by omega), g1]
    have e2 : oA S (some x) 0 4 = some (some st) := oA_ok (o := some st) (hsub _ _ hx) hx4
    have e3 : isO S (some st) 1 = some () := isO_ok (rs_e hI.1).2
    obtain ⟨b, K', cs', S1, u1, u2, u3, u4, u5, u6⟩ := k_forget hI hK (fun j hj => by
      have hc := hK.cnt hj
      have hm : ky K j ∈ oth ++ l.drop k := List.count_pos_iff.mp (by have t2 := hc.2; rw [hc.1] at t2; exact t2)
      rcases List.mem_append.mp hm with q | q
      · exact hfo _ (List.mem_append_left _ q)
      · exact hfo _ (List.mem_append_right _ (List.mem_of_mem_drop q))) (by omega) (fun w => by
      show (oth ++ l.drop k).count w < 30000
      have : (oth ++ l.drop k).count w ≤ (oth ++ l.drop k).length := List.count_le_length
      rw [List.length_append, List.length_drop] at this
      omega) hcap g3 g2 hd
    rw [g4] at u3 u5
    have hfun : (fun v => (oth ++ l.drop k).count v - if v = l.getD k [] then 1 else 0) = fun v => (oth ++ l.drop (k + 1)).count v := by
      funext v
      exact cnt_drop hkl v
    rw [hfun] at u3
    have hsub1 : Sub F S1.1 := hsub.ch u6 hd fun y q => hFP y q
    have ih' := ih (k + 1) n (gone + if b = true then 1 else 0) S1 cs' K' (by omega) (by omega) hsub1 (u6.2.2.2.2.2 hd) u2 u3 (by omega) (fun i h1 h2 => by
      obtain ⟨j, y, y1, y2, y3, y4⟩ := hp i (by omega) h2
      obtain ⟨j', z1, z2, z3⟩ := u5 j y y2 y3 (by
        rw [cnt_drop hkl, y4, List.count_append]
        have : 0 < (l.drop (k + 1)).count (l.getD i []) := List.count_pos_iff.mpr (by
          rw [List.getD_eq_getElem?_getD, List.getElem?_eq_getElem h2]
          show l[i] ∈ _
          rw [List.mem_iff_getElem?]
          exact ⟨i - (k + 1), by rw [List.getElem?_drop, show k + 1 + (i - (k + 1)) = i by omega]; exact List.getElem?_eq_getElem h2⟩)
        omega)
      exact ⟨j', y, y1, z1, z2, z3.trans y4⟩)
    obtain ⟨gone', cs2, K2, S', w1, w2, w3, w4, w5, w6, w7⟩ := ih'
    refine ⟨gone', cs2, K2, S', ?_, w2, w3, w4, fun j y q => (nomatch q), u6.trans w6 fun _ _ q => q, fun j y q1 q2 q3 => ?_⟩
    · rw [l_X1_release_19_s]
      cases b with
      | true =>
        rw [bq_t] at u1
        rw [if_pos rfl] at w1
        simp (disch := omega) only [s_X1_release_19, s_X1_release_51, hk', e1, e2, e3, u1, pb1, pb2, nq_lit, nq_add, nq_mul, nq_lt, nq_le, nq_eq, nq_lt0, nq10, nq00, Nat.one_ne_zero, Nat.reduceEqDiff, Nat.not_lt_zero, zb1, zb0, eq_self, reduceIte, String.reduceEq, reduceCtorEq]
        exact w1
      | false =>
        rw [bq_f] at u1
        rw [if_neg Bool.false_ne_true] at w1
        simp (disch := omega) only [s_X1_release_19, s_X1_release_51, hk', e1, e2, e3, u1, pb1, pb2, nq_lit, nq_add, nq_mul, nq_lt, nq_le, nq_eq, nq_lt0, nq10, nq00, Nat.one_ne_zero, Nat.reduceEqDiff, Nat.not_lt_zero, zb1, zb0, eq_self, reduceIte, String.reduceEq, reduceCtorEq]
        exact w1
    · obtain ⟨j', z1, z2, z3⟩ := u5 j y q1 q2 (by
        rw [cnt_drop hkl, List.count_append]
        omega)
      obtain ⟨j2, v1, v2, v3⟩ := w7 j' y z1 z2 (by rw [z3]; exact q3)
      exact ⟨j2, v1, v2, v3.trans z3⟩
