/-! PURE: Delta's constructor -/
set_option maxRecDepth 100000
/-- a step: a copy's numbers, or literals -/
def stOk (M : Nat → Option Ob) (q : Nat) (i : In) (fb : List Nat) : Prop := (i.1 = true → M q = some (.inl (100, [.int (nq i.2.1), .int (nq i.2.2)]))) ∧ (i.1 = false → ∃ (t : Nat) (f : Nat → Int32), M q = some (.inl (101, [.ref t])) ∧ M t = some (.inr (0, i.2.2, .inl f)) ∧ ∀ j, j < i.2.2 → f j = nq (gd fb (i.2.1 + j)))
theorem stOk.sub {F M : Nat → Option Ob} {q : Nat} {i : In} {fb : List Nat} (h : stOk F q i fb) (k : Sub F M) : stOk M q i fb := by
  refine ⟨fun c => k _ _ (h.1 c), fun c => ?_⟩
  obtain ⟨t, f, h1, h2, h3⟩ := h.2 c
  exact ⟨t, f, k _ _ h1, k _ _ h2, h3⟩
/-- a delta's things -/
def iDel (M : Nat → Option Ob) (e0 : Option Nat) (a : Nat) (D : Dl) : Prop := ∃ (l d cap sp : Nat) (ias : List Nat) (sf : Nat → Option Nat), M a = some (.inl (6, [.ref l, .int (nq D.1), .int (nq (cst D.2.1)), .ref sp])) ∧ iLst M e0 l d ias cap ∧ cap ≤ 180 ∧ ias.length = D.2.1.length ∧
  (∀ k, k < D.2.1.length → ∃ q lb, ias[k]? = some q ∧ M q = some (.inl (7, [.int (bq (D.2.1.getD k i0).1), .int (nq (D.2.1.getD k i0).2.1), .int (nq (D.2.1.getD k i0).2.2), .int lb]))) ∧
  M sp = some (.inr (8, D.2.1.length, .inr (.inr (.inr (.inr sf))))) ∧ ∀ k, k < D.2.1.length → ∃ q, sf k = some q ∧ stOk M q (D.2.1.getD k i0) D.2.2
theorem iLst.sub {F M : Nat → Option Ob} {e0 : Option Nat} {l d cap : Nat} {as : List Nat} (h : iLst F e0 l d as cap) (k : Sub F M) : iLst M e0 l d as cap := by
  obtain ⟨⟨mc, h1⟩, h2, h3⟩ := h
  exact ⟨⟨mc, k _ _ h1⟩, h2, fun c => ⟨k _ _ (h3 c).1, (h3 c).2⟩⟩
theorem iDel.sub {F M : Nat → Option Ob} {e0 : Option Nat} {a : Nat} {D : Dl} (h : iDel F e0 a D) (k : Sub F M) : iDel M e0 a D := by
  obtain ⟨l, d, cap, sp, ias, sf, h1, h2, h3, h4, h5, h6, h7⟩ := h
  refine ⟨l, d, cap, sp, ias, sf, k _ _ h1, h2.sub k, h3, h4, fun j hj => ?_, k _ _ h6, fun j hj => ?_⟩
  · obtain ⟨q, lb, t1, t2⟩ := h5 j hj
    exact ⟨q, lb, t1, k _ _ t2⟩
  · obtain ⟨q, t1, t2⟩ := h7 j hj
    exact ⟨q, t1, t2.sub k⟩
theorem d_step {S : St} {q sa sbb cp : Nat} {fb : List Nat} {i : In} {lb : Value} (hq : S.1 q = some (.inl (7, [.int (bq i.1), .int (nq i.2.1), .int (nq i.2.2), lb]))) (hst : iStr S.1 sa sbb cp fb) (hc : cp ≤ 100000) (hin : i.1 = false → i.2.1 + i.2.2 ≤ fb.length) (hm : i.2.2 ≤ 1000) (hd : Dom S) (k1 : 2 ≤ S.2.2.1) (k2 : 2 + i.2.2 ≤ S.2.2.2.1) :
    ∃ S' r, f_X7_step (some q) (some sa) S = some (some r, S') ∧ stOk (nw S.2.1 S'.1) r i fb ∧ S.2.1 ≤ r ∧ (∃ ci fs, S'.1 r = some (.inl (ci, fs)) ∧ (ci = 100 ∨ ci = 101)) ∧ Ch (fun _ => False) 2 (2 + i.2.2) S S' := by
  obtain ⟨c, st, mn⟩ := i
  dsimp only at hq hin hm k2 ⊢
  have e1 : oI S (some q) 7 1 = some (nq st) := oI_ok hq rfl
  have e2 : oI S (some q) 7 2 = some (nq mn) := oI_ok hq rfl
  have e3 : oI S (some q) 7 0 = some (bq c) := oI_ok hq rfl
  have lc : fb.length ≤ cp := hst.2.elim fun f q => q.2.1
  cases c with
  | true =>
    have q1 : nL S 0 [.int (nq st), .int (nq mn)] = some (some S.2.1, x_new S 2 (.inl (100, [.int (nq st), .int (nq mn)]))) := nL_ok (j := 0) (by omega) (by show 2 ≤ _; omega)
    refine ⟨x_new S 2 (.inl (100, [.int (nq st), .int (nq mn)])), S.2.1, ?_, ⟨fun _ => nw_i (Nat.le_refl _) (xn_i _ _ _), fun c => (nomatch c)⟩, Nat.le_refl _, ⟨100, _, xn_i _ _ _, Or.inl rfl⟩, ((Ch.new (fun _ => False) S _ (by omega) (by omega)).mono (fun _ _ q => q) (by omega) (by omega))⟩
    simp (disch := omega) only [f_X7_step, e1, e2, e3, bq_t, q1, pb1, pb2, nq_lit, nq_add, nq_mul, nq_lt, nq_le, nq_eq, nq_lt0, nq10, nq00, Nat.one_ne_zero, Nat.reduceEqDiff, Nat.not_lt_zero, zb1, zb0, eq_self, reduceIte]
  | false =>
    have hin := hin rfl
    obtain ⟨S1, d1⟩ : ∃ S1, x_new S mn (.inr (0, mn, .inl fun _ => 0)) = S1 := ⟨_, rfl⟩
    have q1 : nA S 0 (nq mn) (.inl fun _ => nq 0) = some (some S.2.1, S1) := (nA_ok (by omega) (by omega) (by omega)).trans (by rw [← d1]; rfl)
    have c1 : Ch (fun _ => False) 1 mn S S1 := by rw [← d1]; exact Ch.new _ S _ (by omega) (by omega)
    have hd1 := c1.2.2.2.2.2 hd
    have h1 : S1.1 S.2.1 = some (.inr (0, mn, .inl fun _ => 0)) := by rw [← d1]; exact xn_i _ _ _
    obtain ⟨g1, g, g2, g3, g4⟩ := hst
    have g1' := c1.at hd g1 (fun q => q)
    have g2' := c1.at hd g2 (fun q => q)
    obtain ⟨S2, d2⟩ : ∃ S2, x_set S1 S.2.1 (.inr (0, mn, .inl (va_cpy g (fun _ => 0) st 0 mn))) = S2 := ⟨_, rfl⟩
    have q2 : cpI S1 (some sbb) (nq st) (some S.2.1) (nq 0) (nq mn) = some S2 := (cpI_ok g2' h1 (by omega) (by omega) (by omega) (by omega)).trans (by rw [d2])
    have c2 : Ch (fun x => x = S.2.1) 0 0 S1 S2 := by rw [← d2]; exact Ch.set S1 _ h1
    have h2 : S2.1 S.2.1 = some (.inr (0, mn, .inl (va_cpy g (fun _ => 0) st 0 mn))) := by rw [← d2]; exact xs_i _ _ _
    have hn2 : S2.2 = S1.2 := by rw [← d2]; rfl
    have kk1 : S1.2.2.1 = S.2.2.1 - 1 := by rw [← d1]; rfl
    have kk2 : S1.2.2.2.1 = S.2.2.2.1 - mn := by rw [← d1]; rfl
    have kk3 : S1.2.1 = S.2.1 + 1 := by rw [← d1]; rfl
    have q3 : nL S2 1 [va_rf (some S.2.1)] = some (some S2.2.1, x_new S2 1 (.inl (101, [va_rf (some S.2.1)]))) := nL_ok (j := 1) (by rw [hn2]; omega) (by rw [hn2]; show 1 ≤ _; omega)
    have hne : S.2.1 ≠ S2.2.1 := by rw [hn2, kk3]; omega
    have e4 : oA S1 (some sa) 3 0 = some (some sbb) := oA_ok (o := some sbb) g1' rfl
    refine ⟨_, S2.2.1, ?_, ⟨fun c => (nomatch c), fun _ => ⟨S.2.1, _, nw_i (by rw [hn2, kk3]; omega) (xn_i _ _ _), nw_i (Nat.le_refl _) (xn_o hne h2), fun j hj => ?_⟩⟩, by rw [hn2, kk3]; omega, ⟨101, _, xn_i _ _ _, Or.inr rfl⟩, (((c1.or c2).or (Ch.new (fun _ => False) S2 (n := 1) (.inl (101, [va_rf (some S.2.1)])) (by rw [hn2]; omega) (by rw [hn2]; omega))).mono (fun x hx q => ?_) (by omega) (by omega))⟩
    · simp (disch := omega) only [f_X7_step, e1, e2, e3, bq_f, q1, e4, q2, q3, pb1, pb2, nq_lit, nq_add, nq_mul, nq_lt, nq_le, nq_eq, nq_lt0, nq10, nq00, Nat.one_ne_zero, Nat.reduceEqDiff, Nat.not_lt_zero, zb1, zb0, eq_self, reduceIte]
      rfl
    · have hj : j < mn := hj
      show va_cpy g (fun _ => 0) st 0 mn j = nq (gd fb (st + j))
      unfold va_cpy
      rw [if_pos ⟨by omega, by omega⟩, Nat.sub_zero]
      exact g4 _ (by omega)
    · rcases q with (q | q) | q
      · exact q
      · exact absurd q (Nat.ne_of_lt hx)
      · exact q
/-- what remains to be made of the steps, in slots -/
def rem (is : List In) (k : Nat) : Nat := ((is.drop k).map fun i => 2 + i.2.2).sum
theorem rem_s {is : List In} {k : Nat} (h : k < is.length) : rem is k = 2 + (is.getD k i0).2.2 + rem is (k + 1) := by
  unfold rem
  rw [drop_I h, List.map_cons, List.sum_cons]
theorem d_steps {S0 : St} {e0 : Option Nat} {a l d cap sp sa sbb cp : Nat} {v1 v2 : Value} {ias : List Nat} {is : List In} {fb : List Nat} (hc : cp ≤ 100000) (hcap : cap ≤ 60000) (hil : ias.length = is.length) (hin : ∀ i ∈ is, i.2.2 ≤ 1000 ∧ (i.1 = false → i.2.1 + i.2.2 ≤ fb.length)) (ha : S0.1 a = some (.inl (6, [.ref l, v1, v2, .ref sp]))) (hl : iLst S0.1 e0 l d ias cap) (hq : ∀ k, k < is.length → ∃ q lb, ias[k]? = some q ∧ S0.1 q = some (.inl (7, [.int (bq (is.getD k i0).1), .int (nq (is.getD k i0).2.1), .int (nq (is.getD k i0).2.2), .int lb]))) (hst : iStr S0.1 sa sbb cp fb) (hd0 : Dom S0) {x8 : Nat × vp_A} (hsp0 : S0.1 sp = some (.inr x8)) (hx8 : x8.1 = 8) (hn : is.length ≤ 1000) :
    ∀ (N k f c s : Nat) (S : St) (sf : Nat → Option Nat), N < f → k + N = is.length → Ch (fun x => x = sp) c s S0 S → S.1 sp = some (.inr (8, is.length, .inr (.inr (.inr (.inr sf))))) → (∀ j, j < k → ∃ q, sf j = some q ∧ stOk (nw S0.2.1 S.1) q (is.getD j i0) fb) → 2 * N ≤ S.2.2.1 → rem is k ≤ S.2.2.2.1 →
    ∃ S' sf', l_X7_init_284 f (some a, some sa, nq k) S = some ((), S') ∧ S'.1 sp = some (.inr (8, is.length, .inr (.inr (.inr (.inr sf'))))) ∧ (∀ j, j < is.length → ∃ q, sf' j = some q ∧ stOk (nw S0.2.1 S'.1) q (is.getD j i0) fb) ∧ Ch (fun x => x = sp) (c + 2 * N) (s + rem is k) S0 S' := by
  intro N
  have hle := hl.le
  induction N with
  | zero =>
    intro k f c s S sf hf hk hC hsp hs k1 k2
    obtain ⟨f, rfl⟩ := pre_n hf
    have ha' := hC.at hd0 ha (obne ha hsp0 (by simp))
    have e1 : oA S (some a) 6 3 = some (some sp) := oA_ok (o := some sp) ha' rfl
    have e2 : lenA S (some sp) 8 = some (nq is.length) := lenA_ok hsp
    have hk' : is.length ≤ k := by omega
    refine ⟨S, sf, ?_, hsp, fun j hj => hs j (by omega), hC.mono (fun _ _ q => q) (by omega) (by omega)⟩
    rw [l_X7_init_284_s]
    simp (disch := omega) only [s_X7_init_284, e1, e2, hk', pb1, pb2, nq_lit, nq_add, nq_mul, nq_lt, nq_le, nq_eq, nq_lt0, nq10, nq00, Nat.one_ne_zero, Nat.reduceEqDiff, Nat.not_lt_zero, zb1, zb0, eq_self, reduceIte]
  | succ N ih =>
    intro k f c s S sf hf hk hC hsp hs k1 k2
    obtain ⟨f, rfl⟩ := pre_n hf
    have hk1 : k < is.length := by omega
    have hk' : ¬ is.length ≤ k := by omega
    have hrem := rem_s hk1
    have hd := hC.2.2.2.2.2 hd0
    have ha' := hC.at hd0 ha (obne ha hsp0 (by simp))
    have hl' : iLst S.1 e0 l d ias cap := by
      obtain ⟨⟨mc, t1⟩, t2, t3⟩ := hl
      refine ⟨⟨mc, hC.at hd0 t1 (obne t1 hsp0 (by simp))⟩, t2, fun cc => ⟨hC.at hd0 (t3 cc).1 (fun q => ?_), (t3 cc).2⟩⟩
      have t4 := (t3 cc).1
      rw [q, hsp0] at t4
      cases t4
      have hx8 : 3 = 8 := hx8
      omega
    obtain ⟨q, lb, u1, u2⟩ := hq k hk1
    have u2' := hC.at hd0 u2 (obne u2 hsp0 (by simp))
    have hst' : iStr S.1 sa sbb cp fb := by
      obtain ⟨t1, t, t2, t3⟩ := hst
      refine ⟨hC.at hd0 t1 (obne t1 hsp0 (by simp)), t, hC.at hd0 t2 (fun q => ?_), t3⟩
      rw [q, hsp0] at t2
      cases t2
      have hx8 : 0 = 8 := hx8
      omega
    have e1 : oA S (some a) 6 3 = some (some sp) := oA_ok (o := some sp) ha' rfl
    have e2 : lenA S (some sp) 8 = some (nq is.length) := lenA_ok hsp
    have e3 : oA S (some a) 6 0 = some (some l) := oA_ok (o := some l) ha' rfl
    have e4 := hl'.isO
    have e5 := la_get (i := k) hl' (by omega) (by omega)
    rw [u1] at e5
    have e6 := ckO_ok u2'
    obtain ⟨hm, hlit⟩ := hin _ (gI_mem hk1)
    obtain ⟨S1, r, f1, f2, f3, ⟨ci, fs, f4, f5⟩, f6⟩ := d_step (i := is.getD k i0) u2' hst' hc hlit hm hd (by omega) (by omega)
    have hd1 := f6.2.2.2.2.2 hd
    have hsp1 := f6.at hd hsp (fun q => q)
    have hasg : asgOk S1 8 (some r) = true := asg_ok f4 (by rcases f5 with f5 | f5 <;> (rw [f5]; decide))
    have e7 := aS_ok (i := k) (r := some r) hsp1 hk1 (by omega) hasg
    obtain ⟨S2, d2⟩ : ∃ S2, x_set S1 sp (.inr (8, is.length, .inr (.inr (.inr (.inr (va_up sf k (some r))))))) = S2 := ⟨_, rfl⟩
    rw [d2] at e7
    have c2 : Ch (fun x => x = sp) 0 0 S1 S2 := by rw [← d2]; exact Ch.set S1 _ hsp1
    have hn2 : S2.2 = S1.2 := by rw [← d2]; rfl
    have hsub : ∀ q i, stOk (nw S0.2.1 S1.1) q i fb → stOk (nw S0.2.1 S2.1) q i fb := fun q i h => by
      refine ⟨fun cc => nw_ch c2 hd1 (h.1 cc) (obne (nw_e (h.1 cc)).2 hsp1 (by simp)), fun cc => ?_⟩
      obtain ⟨t, g, t1, t2, t3⟩ := h.2 cc
      exact ⟨t, g, nw_ch c2 hd1 t1 (obne (nw_e t1).2 hsp1 (by simp)), nw_ch c2 hd1 t2 (obne (nw_e t2).2 hsp1 (by simp)), t3⟩
    have hC2 : Ch (fun x => x = sp) (c + 2) (s + (2 + (is.getD k i0).2.2)) S0 S2 := (hC.trans ((f6.mono (B := fun x => x = sp) (fun _ _ q => q.elim) (Nat.le_refl _) (Nat.le_refl _)).trans c2 fun _ _ q => q) fun _ _ q => q)
    obtain ⟨S', sf', g1, g2, g3, g4⟩ := ih (k + 1) f (c + 2) (s + (2 + (is.getD k i0).2.2)) S2 (va_up sf k (some r)) (by omega) (by omega) hC2 (by rw [← d2]; exact xs_i _ _ _) (fun j hj => by
      unfold va_up
      by_cases q : j = k
      · rw [if_pos q, q]
        exact ⟨r, rfl, hsub _ _ (f2.sub (nw_mono hC.2.1))⟩
      · rw [if_neg q]
        obtain ⟨q', t1, t2⟩ := hs j (by omega)
        refine ⟨q', t1, hsub _ _ ⟨fun cc => nw_ch f6 hd (t2.1 cc) (fun q => q), fun cc => ?_⟩⟩
        obtain ⟨t, g, t3, t4, t5⟩ := t2.2 cc
        exact ⟨t, g, nw_ch f6 hd t3 (fun q => q), nw_ch f6 hd t4 (fun q => q), t5⟩) (by
      have := f6.2.2.1
      rw [hn2]
      omega) (by
      have := f6.2.2.2.1
      rw [hn2]
      omega)
    refine ⟨S', sf', ?_, g2, g3, g4.mono (fun _ _ q => q) (by omega) (by omega)⟩
    rw [l_X7_init_284_s]
    simp (disch := omega) only [s_X7_init_284, e1, e2, hk', e3, e4, e5, e6, f1, e7, pb1, pb2, nq_lit, nq_add, nq_mul, nq_lt, nq_le, nq_eq, nq_lt0, nq10, nq00, Nat.one_ne_zero, Nat.reduceEqDiff, Nat.not_lt_zero, zb1, zb0, eq_self, reduceIte]
    exact g1
