/-! PURE: chunks are named and forgotten -/
set_option maxRecDepth 100000
/-- a part of a picture -/
def rs (P : Nat → Bool) (M : Nat → Option Ob) : Nat → Option Ob := fun x => if P x = true then M x else none
theorem rs_i {P : Nat → Bool} {x : Nat} {M : Nat → Option Ob} {e : Ob} (h : P x = true) (k : M x = some e) : rs P M x = some e := by
  unfold rs
  rw [if_pos h, k]
theorem rs_e {P : Nat → Bool} {x : Nat} {M : Nat → Option Ob} {e : Ob} (h : rs P M x = some e) : P x = true ∧ M x = some e := by
  unfold rs at h
  by_cases c : P x = true
  · rw [if_pos c] at h
    exact ⟨c, h⟩
  · rw [if_neg c] at h
    cases h
theorem rs_sub (P : Nat → Bool) (M : Nat → Option Ob) : Sub (rs P M) M := fun _ _ h => (rs_e h).2
theorem rs_ch {P : Nat → Bool} {A : Nat → Prop} {c s x : Nat} {S S1 : St} {e : Ob} (h : Ch A c s S S1) (hd : Dom S) (k : rs P S.1 x = some e) (hn : ¬ A x) : rs P S1.1 x = some e := rs_i (rs_e k).1 (h.at hd (rs_e k).2 hn)
theorem iLst_rs {P : Nat → Bool} {M : Nat → Option Ob} {e0 : Option Nat} {l d cap : Nat} {as : List Nat} (h : iLst M e0 l d as cap) (h1 : P l = true) (h2 : 0 < cap → P d = true) : iLst (rs P M) e0 l d as cap := by
  obtain ⟨⟨mc, t1⟩, t2, t3⟩ := h
  exact ⟨⟨mc, rs_i h1 t1⟩, t2, fun c => ⟨rs_i (h2 c) (t3 c).1, (t3 c).2⟩⟩
theorem iLst.P {P : Nat → Bool} {M : Nat → Option Ob} {e0 : Option Nat} {l d cap : Nat} {as : List Nat} (h : iLst (rs P M) e0 l d as cap) : P l = true ∧ (0 < cap → P d = true) := by
  obtain ⟨⟨mc, t1⟩, t2, t3⟩ := h
  exact ⟨(rs_e t1).1, fun c => (rs_e (t3 c).1).1⟩
theorem iSto.sub {F M : Nat → Option Ob} {e0 : Option Nat} {st cl cd cap : Nat} {cs : List Nat} {K : KL} (h : iSto F e0 st cl cd cap cs K) (k : Sub F M) : iSto M e0 st cl cd cap cs K := by
  obtain ⟨h1, h2, h3, h4, h5⟩ := h
  refine ⟨k _ _ h1, h2.sub k, h3, h4, fun j hj => ?_⟩
  obtain ⟨c, t1, t2⟩ := h5 j hj
  exact ⟨c, t1, t2.sub k⟩
theorem nq_16 {n : Nat} (h : n < 32768) : (nq n).toInt16.toInt32 = nq n := by
  rw [← Int32.toInt_inj, Int16.toInt_toInt32, Int32.toInt_toInt16, nq_int (by omega)]
  exact Int.bmod_eq_of_le (by omega) (by omega)
theorem ksum_set {K : KL} {r : Nat} (n : Nat) (hr : r < K.length) : ((K.set r (ky K r, n)).map fun x => x.1.length) = K.map fun x => x.1.length := by
  rw [List.map_set]
  apply List.ext_getElem?
  intro i
  by_cases h : i = r
  · rw [h, List.getElem?_set_self (by rw [List.length_map]; exact hr), List.getElem?_map, k_get hr]
    rfl
  · rw [List.getElem?_set_ne (fun q => h q.symm)]
theorem nd_ne {cs : List Nat} (h : cs.Nodup) {i j a b : Nat} (hi : cs[i]? = some a) (hj : cs[j]? = some b) (hn : i ≠ j) : a ≠ b := fun q => by
  obtain ⟨i1, i2⟩ := List.getElem?_eq_some_iff.mp hi
  obtain ⟨j1, j2⟩ := List.getElem?_eq_some_iff.mp hj
  exact hn ((List.getElem_inj h).mp (i2.trans (q.trans j2.symm)))
/-- a chunk's number is set -/
theorem k_put {S : St} {P : Nat → Bool} {e0 : Option Nat} {st cl cd cap r n c : Nat} {cs : List Nat} {K : KL} (hI : iSto (rs P S.1) e0 st cl cd cap cs K) (hr : r < K.length) (hc : cs[r]? = some c) (hd : Dom S) : ∃ S', pV S (some c) 14 1 (.int (nq n)) = some S' ∧ iSto (rs P S'.1) e0 st cl cd cap cs (K.set r (ky K r, n)) ∧ Ch (fun x => x = c) 0 0 S S' ∧ P c = true ∧ oI S (some c) 14 1 = some (nq (kn K r)) ∧ oI S' (some c) 14 1 = some (nq n) := by
  obtain ⟨h1, h2, h3, h4, h5⟩ := hI
  obtain ⟨c', hc', ba, f, g1, g2, g3⟩ := h5 r hr
  have hcc : c' = c := Option.some.inj (hc'.symm.trans hc)
  subst hcc
  have g1' := (rs_e g1).2
  obtain ⟨S', d⟩ : ∃ S', x_set S c' (.inl (14, [.ref ba, .int (nq n)])) = S' := ⟨_, rfl⟩
  have k1 : Ch (fun x => x = c') 0 0 S S' := by rw [← d]; exact Ch.set S _ g1'
  have w1 : S'.1 c' = some (.inl (14, [.ref ba, .int (nq n)])) := by rw [← d]; exact xs_i _ _ _
  have tr : ∀ x e, rs P S.1 x = some e → x ≠ c' → rs P S'.1 x = some e := fun x e hx hn => rs_ch k1 hd hx hn
  refine ⟨S', (pV_ok g1' (by simp)).trans (congrArg some d), ⟨?_, ?_, by rw [List.length_set]; exact h3, h4, fun k hk => ?_⟩, k1, (rs_e g1).1, oI_ok g1' rfl, oI_ok w1 rfl⟩
  · rw [ksum_set n hr]
    exact tr _ _ h1 (obne h1 g1 (by simp))
  · obtain ⟨⟨mc, t1⟩, t2, t3⟩ := h2
    exact ⟨⟨mc, tr _ _ t1 (obne t1 g1 (by simp))⟩, t2, fun q => ⟨tr _ _ (t3 q).1 (obne (t3 q).1 g1 (by simp)), (t3 q).2⟩⟩
  · rw [List.length_set] at hk
    have e1 := congrArg (fun x => x.1) (set_k (ky K r, n) hr k)
    have e2 := congrArg (fun x => x.2) (set_k (ky K r, n) hr k)
    dsimp only at e1 e2
    have e2 : ((K.set r (ky K r, n)).getD k ([], 0)).2 = _ := e2
    rw [e1, e2]
    by_cases q : k = r
    · rw [if_pos q, q]
      exact ⟨c', hc, ba, f, rs_i (rs_e g1).1 w1, tr _ _ g2 (obne g2 g1 (by simp)), g3⟩
    · rw [if_neg q]
      obtain ⟨ck, m1, bk, fk, m2, m3, m4⟩ := h5 k hk
      exact ⟨ck, m1, bk, fk, tr _ _ m2 (nd_ne h4 m1 hc q), tr _ _ m3 (obne m3 g1 (by simp)), m4⟩
theorem k_93 {S : St} {P : Nat → Bool} {e0 : Option Nat} {st cl cd cap r : Nat} {cs : List Nat} {K : KL} (hI : iSto (rs P S.1) e0 st cl cd cap cs K) (hr : r < K.length) (hn : kn K r + 1 < 32768) (hcap : cap ≤ 60000) (hd : Dom S) :
    ∃ c S', cs[r]? = some c ∧ s_X2_name_93 (some st) (nq r) S = some (some c, S') ∧ iSto (rs P S'.1) e0 st cl cd cap cs (K.set r (ky K r, kn K r + 1)) ∧ Ch (fun x => P x = true) 0 0 S S' := by
  obtain ⟨h1, h2, h3, h4, h5⟩ := id (hI.sub (rs_sub _ _))
  obtain ⟨c, hc, ba, f, g1, g2⟩ := h5 r hr
  have hle := h2.le
  obtain ⟨S', p1, p2, p3, p4, p5, -⟩ := k_put (n := kn K r + 1) hI hr hc hd
  have e1 : oA S (some st) 1 0 = some (some cl) := oA_ok (o := some cl) h1 rfl
  have e2 := h2.isO
  have e3 := la_get (i := r) h2 (by omega) (by omega)
  rw [hc] at e3
  have e4 := ckO_ok g1
  have e5 : (nq (kn K r + 1)).toInt16.toInt32 = nq (kn K r + 1) := nq_16 hn
  refine ⟨c, S', hc, ?_, p2, p3.mono (fun x _ q => by rw [q]; exact p4) (Nat.le_refl _) (Nat.le_refl _)⟩
  simp (disch := omega) only [s_X2_name_93, e1, e2, e3, e4, p5, e5, p1, pb1, pb2, nq_lit, nq_add, nq_mul, nq_lt, nq_le, nq_eq, nq_lt0, nq10, nq00, Nat.one_ne_zero, Nat.reduceEqDiff, Nat.not_lt_zero, zb1, zb0, eq_self, reduceIte]
theorem gc_2 (n cap : Nat) (h : n ≤ cap) : n ≤ 1600 → cap ≤ 2401 → gca n cap ≤ 2401 := by
  intro h1 h2
  unfold gca
  by_cases c : n < cap
  · rw [if_pos c]
    exact h2
  · rw [if_neg c]
    unfold gcap
    by_cases c0 : cap = 0
    · rw [if_pos c0]
      omega
    · rw [if_neg c0]
      split <;> omega
theorem ins_set {α : Type} {K : List α} {r : Nat} (x y : α) (hr : r ≤ K.length) : (K.take r ++ x :: K.drop r).set r y = K.take r ++ y :: K.drop r := by
  rw [List.set_append_right _ _ (by rw [List.length_take]; omega), List.length_take, Nat.min_eq_left hr, Nat.sub_self]
  rfl
theorem k_46 {S : St} {P : Nat → Bool} {e0 : Option Nat} {st cl cd cap sa sb scap p m r : Nat} {cs : List Nat} {K : KL} {fb : List Nat} (hI : iSto (rs P S.1) e0 st cl cd cap cs K) (hr : r ≤ K.length) (hn : K.length ≤ 1600) (hcap : cap ≤ 2401) (hPn : ∀ x, S.2.1 ≤ x → P x = true) (hPe : ∀ de, e0 = some de → P de = false) (hE : iE0 S.1 e0) (h0 : S.2.2.2.2.2 0 = e0) (hs : iStr S.1 sa sb scap fb) (hf : FOk fb) (hsc : scap ≤ 1000) (hp : p + m ≤ fb.length) (hd : Dom S) (k1 : 2 + gkc cs.length cap ≤ S.2.2.1) (k2 : m + 2 + gks cs.length cap ≤ S.2.2.2.1) :
    ∃ c cd' S', s_X2_name_46 (some st) (some sa) (nq p) (nq m) (nq r) S = some (some c, S') ∧ iSto (rs P S'.1) e0 st cl cd' (gca cs.length cap) (cs.take r ++ c :: cs.drop r) (K.take r ++ (slc fb p m, 1) :: K.drop r) ∧ Ch (fun x => P x = true) (2 + gkc cs.length cap) (m + 2 + gks cs.length cap) S S' := by
  have hL := hf.1
  have hsl := slc_len hp
  obtain ⟨h1, h2, h3, h4, h5⟩ := hI
  have hP1 := (rs_e h1).1
  obtain ⟨hP2, hP3⟩ := h2.P
  have h2u := h2.sub (rs_sub P S.1)
  have hle := h2.le
  -- the bytes
  obtain ⟨S1, d1⟩ : ∃ S1, x_new S m (.inr (0, m, .inl fun _ => 0)) = S1 := ⟨_, rfl⟩
  have q1 : nA S 0 (nq m) (.inl fun _ => nq 0) = some (some S.2.1, S1) := (nA_ok (by omega) (by omega) (by omega)).trans (by rw [← d1]; rfl)
  have c1 : Ch (fun _ => False) 1 m S S1 := by rw [← d1]; exact Ch.new _ S _ (by omega) (by omega)
  have hd1 := c1.2.2.2.2.2 hd
  have b1 : S1.1 S.2.1 = some (.inr (0, m, .inl fun _ => 0)) := by rw [← d1]; exact xn_i _ _ _
  obtain ⟨s1, g, s2, s3, s4⟩ := hs
  have s1' := c1.at hd s1 (fun q => q)
  have s2' := c1.at hd s2 (fun q => q)
  have e1 : oA S1 (some sa) 3 0 = some (some sb) := oA_ok (o := some sb) s1' rfl
  obtain ⟨S2, d2⟩ : ∃ S2, x_set S1 S.2.1 (.inr (0, m, .inl (va_cpy g (fun _ => 0) p 0 m))) = S2 := ⟨_, rfl⟩
  have q2 : cpI S1 (some sb) (nq p) (some S.2.1) (nq 0) (nq m) = some S2 := (cpI_ok s2' b1 (by omega) (by omega) (by omega) (by omega)).trans (by rw [d2])
  have c2 : Ch (fun x => x = S.2.1) 0 0 S1 S2 := by rw [← d2]; exact Ch.set S1 _ b1
  have b2 : S2.1 S.2.1 = some (.inr (0, m, .inl (va_cpy g (fun _ => 0) p 0 m))) := by rw [← d2]; exact xs_i _ _ _
  have hn2 : S2.2 = S1.2 := by rw [← d2]; rfl
  have hd2 := c2.2.2.2.2.2 hd1
  have C2 : Ch (fun _ => False) 1 m S S2 := (c1.trans c2 fun x hx q => absurd q (Nat.ne_of_lt hx)).mono (fun _ _ q => q) (by omega) (by omega)
  have kk1 : S1.2.2.1 = S.2.2.1 - 1 := by rw [← d1]; rfl
  have kk2 : S1.2.2.2.1 = S.2.2.2.1 - m := by rw [← d1]; rfl
  have kk3 : S1.2.1 = S.2.1 + 1 := by rw [← d1]; rfl
  -- the chunk
  obtain ⟨S3, d3⟩ : ∃ S3, x_new S2 2 (.inl (14, [.null, .int (nq 0)])) = S3 := ⟨_, rfl⟩
  have q3 : nO S2 14 2 [.null, .int (nq 0)] = some (some S2.2.1, S3) := (nO_ok (by rw [hn2]; omega) (by rw [hn2]; omega)).trans (by rw [d3])
  have c3 : Ch (fun _ => False) 1 2 S2 S3 := by rw [← d3]; exact Ch.new _ S2 _ (by rw [hn2]; omega) (by rw [hn2]; omega)
  have w3 : S3.1 S2.2.1 = some (.inl (14, [.null, .int (nq 0)])) := by rw [← d3]; exact xn_i _ _ _
  have hd3 := c3.2.2.2.2.2 hd2
  obtain ⟨S4, d4⟩ : ∃ S4, x_set S3 S2.2.1 (.inl (14, [va_rf (some S.2.1), .int (nq 0)])) = S4 := ⟨_, rfl⟩
  have p4 : pV S3 (some S2.2.1) 14 0 (va_rf (some S.2.1)) = some S4 := (pV_ok w3 (by simp)).trans (congrArg some d4)
  have c4 : Ch (fun x => x = S2.2.1) 0 0 S3 S4 := by rw [← d4]; exact Ch.set S3 _ w3
  have w4 : S4.1 S2.2.1 = some (.inl (14, [.ref S.2.1, .int (nq 0)])) := by rw [← d4]; exact xs_i _ _ _
  have hn4 : S4.2 = S3.2 := by rw [← d4]; rfl
  have hd4 := c4.2.2.2.2.2 hd3
  have kc : S2.2.1 = S.2.1 + 1 := by rw [hn2, kk3]
  have kk4 : S3.2.1 = S.2.1 + 2 := by rw [← d3]; show S2.2.1 + 1 = _; omega
  have b4 : S4.1 S.2.1 = some (.inr (0, m, .inl (va_cpy g (fun _ => 0) p 0 m))) := c4.at hd3 (c3.at hd2 b2 (fun q => q)) (by omega)
  have C4 : Ch (fun _ => False) 2 (m + 2) S S4 := ((C2.trans c3 fun _ _ q => q).trans c4 fun x hx q => by have : x = S2.2.1 := q; omega).mono (fun _ _ q => q) (by omega) (by omega)
  have m1 := C4.2.2.1
  have m2 := C4.2.2.2.1
  have sub4 : Sub S.1 S4.1 := C4.sub hd (Sub.refl _) fun _ q => q.elim
  -- into the list
  obtain ⟨de, fe, he1, he2⟩ := hE
  have hE4 : iE0 S4.1 e0 := ⟨de, fe, he1, sub4 _ _ he2⟩
  have h04 : S4.2.2.2.2.2 0 = e0 := by rw [C4.2.2.2.2.1]; exact h0
  have hdn : 0 < cap → e0 ≠ some cd := fun q z => by
    have := hPe cd z
    rw [hP3 q] at this
    cases this
  have heo : ∀ a ∈ cs, eOk S4.1 a := fun a ha => by
    obtain ⟨k, hk1, hk2⟩ := List.getElem_of_mem ha
    obtain ⟨ck, t1, bk, fk, t2, t3⟩ := h5 k (by omega)
    rw [List.getElem?_eq_getElem hk1, hk2] at t1
    cases t1
    exact ⟨14, _, sub4 _ _ (rs_e t2).2, by decide⟩
  obtain ⟨S5, f5, l5, c5⟩ := la_insert (v := S2.2.1) (i := r) (h2u.sub sub4) hE4 h04 hdn heo ⟨14, _, w4, by decide⟩ (by omega) (by omega) hd4 (by omega) (by omega)
  have hd5 := c5.2.2.2.2.2 hd4
  have c5' : Ch (fun x => P x = true) (gkc cs.length cap) (gks cs.length cap) S4 S5 := c5.mono (fun x _ q => q.elim (fun q => by rw [q]; exact hP2) fun q => by rw [q.2]; exact hP3 q.1) (Nat.le_refl _) (Nat.le_refl _)
  have tr : ∀ x e, S4.1 x = some e → x ≠ cl → (0 < cap → x ≠ cd) → S5.1 x = some e := fun x e hx n1 n2 => c5.at hd4 hx (fun q => q.elim n1 fun q => n2 q.1 q.2)
  obtain ⟨mc, hl1⟩ := h2u.1
  have nl : ∀ x e, S4.1 x = some e → (∀ fs, e ≠ .inl (16, fs)) → x ≠ cl := fun x e hx hne q => by
    have := sub4 _ _ hl1
    rw [q, this] at hx
    exact hne _ (Option.some.inj hx).symm
  have nd : ∀ x e, S4.1 x = some e → (∀ z, e ≠ .inr (3, z)) → 0 < cap → x ≠ cd := fun x e hx hne q z => by
    have := sub4 _ _ (h2u.2.2 q).1
    rw [z, this] at hx
    exact hne _ (Option.some.inj hx).symm
  have hst5 : S5.1 st = some (.inl (1, [.ref cl, .int (nq (K.map fun x => x.1.length).sum)])) := tr _ _ (sub4 _ _ (rs_e h1).2) (nl _ _ (sub4 _ _ (rs_e h1).2) (by simp)) (nd _ _ (sub4 _ _ (rs_e h1).2) (by simp))
  obtain ⟨S6, d6⟩ : ∃ S6, x_set S5 st (.inl (1, [.ref cl, .int (nq ((K.map fun x => x.1.length).sum + m))])) = S6 := ⟨_, rfl⟩
  have p6 : pV S5 (some st) 1 1 (.int (nq ((K.map fun x => x.1.length).sum + m))) = some S6 := (pV_ok hst5 (by simp)).trans (congrArg some d6)
  have c6 : Ch (fun x => x = st) 0 0 S5 S6 := by rw [← d6]; exact Ch.set S5 _ hst5
  have w6 : S6.1 st = some (.inl (1, [.ref cl, .int (nq ((K.map fun x => x.1.length).sum + m))])) := by rw [← d6]; exact xs_i _ _ _
  have hd6 := c6.2.2.2.2.2 hd5
  have tr6 : ∀ x e, S4.1 x = some e → (∀ fs, e ≠ .inl (16, fs)) → (∀ z, e ≠ .inr (3, z)) → (∀ fs, e ≠ .inl (1, fs)) → S6.1 x = some e := fun x e hx n1 n2 n3 => by
    have := tr x e hx (nl x e hx n1) (nd x e hx n2)
    exact c6.at hd5 this (obne this hst5 (n3 _))
  have hsum : ((K.take r ++ (slc fb p m, 0) :: K.drop r).map fun x => x.1.length).sum = (K.map fun x => x.1.length).sum + m := by
    have : (K.map fun x => x.1.length).sum = ((K.take r ++ K.drop r).map fun x => x.1.length).sum := by rw [List.take_append_drop]
    rw [this, List.map_append, List.map_append, List.map_cons, List.sum_append, List.sum_append, List.sum_cons]
    show _ + ((slc fb p m).length + _) = _
    rw [hsl]
    omega
  have hPc : P S2.2.1 = true := hPn _ (by omega)
  have hPb : P S.2.1 = true := hPn _ (Nat.le_refl _)
  have hcb : ∀ a ∈ cs, a < S.2.1 := fun a ha => by
    obtain ⟨k, hk1, hk2⟩ := List.getElem_of_mem ha
    obtain ⟨ck, t1, bk, fk, t2, t3⟩ := h5 k (by omega)
    rw [List.getElem?_eq_getElem hk1, hk2] at t1
    cases t1
    exact hd _ _ (rs_e t2).2
  have hI6 : iSto (rs P S6.1) e0 st cl (if cs.length < cap then cd else S4.2.1) (gca cs.length cap) (cs.take r ++ S2.2.1 :: cs.drop r) (K.take r ++ (slc fb p m, 0) :: K.drop r) := by
    refine ⟨?_, ?_, ?_, ?_, fun k hk => ?_⟩
    · rw [hsum]
      exact rs_i hP1 w6
    · have l6 : iLst S6.1 e0 cl (if cs.length < cap then cd else S4.2.1) (cs.take r ++ S2.2.1 :: cs.drop r) (gca cs.length cap) := by
        obtain ⟨⟨mc', t1⟩, t2, t3⟩ := l5
        exact ⟨⟨mc', c6.at hd5 t1 (obne t1 hst5 (by simp))⟩, t2, fun q => ⟨c6.at hd5 (t3 q).1 (obne (t3 q).1 hst5 (by simp)), (t3 q).2⟩⟩
      refine iLst_rs l6 hP2 fun q => ?_
      by_cases z : cs.length < cap
      · rw [if_pos z]
        exact hP3 (by omega)
      · rw [if_neg z]
        exact hPn _ (by rw [hn4]; omega)
    · rw [ins_len K _ hr, List.length_append, List.length_cons, List.length_take, List.length_drop]
      omega
    · rw [List.nodup_append]
      have hnd : (cs.take r ++ cs.drop r).Nodup := by rw [List.take_append_drop]; exact h4
      rw [List.nodup_append] at hnd
      refine ⟨hnd.1, List.nodup_cons.mpr ⟨fun q => ?_, hnd.2.1⟩, fun a ha b hb => ?_⟩
      · have := hcb _ (List.mem_of_mem_drop q)
        omega
      · rcases List.mem_cons.mp hb with q | q
        · have := hcb _ (List.mem_of_mem_take ha)
          omega
        · exact hnd.2.2 a ha b q
    · rw [ins_len K _ hr] at hk
      have e1 := congrArg (fun x => x.1) (ins_k (slc fb p m, 0) hr k)
      have e2 := congrArg (fun x => x.2) (ins_k (slc fb p m, 0) hr k)
      dsimp only at e1 e2
      have e2 : ((K.take r ++ (slc fb p m, 0) :: K.drop r).getD k ([], 0)).2 = _ := e2
      rw [e1, e2, ins_get _ (by omega)]
      have old : ∀ j, j < K.length → ∃ c, cs[j]? = some c ∧ iChk (rs P S6.1) c (ky K j) (kn K j) := fun j hj => by
        obtain ⟨cj, t1, bj, fj, t2, t3, t4⟩ := h5 j hj
        exact ⟨cj, t1, bj, fj, rs_i (rs_e t2).1 (tr6 _ _ (sub4 _ _ (rs_e t2).2) (by simp) (by simp) (by simp)), rs_i (rs_e t3).1 (tr6 _ _ (sub4 _ _ (rs_e t3).2) (by simp) (by simp) (by simp)), t4⟩
      by_cases z : k < r
      · rw [if_pos z, if_pos z]
        exact old k (by omega)
      · rw [if_neg z, if_neg z]
        by_cases z2 : k = r
        · rw [if_pos z2, if_pos z2]
          refine ⟨S2.2.1, rfl, S.2.1, va_cpy g (fun _ => 0) p 0 m, rs_i hPc (tr6 _ _ w4 (by simp) (by simp) (by simp)), ?_, fun j hj => ?_⟩
          · show rs P S6.1 S.2.1 = some (.inr (0, (slc fb p m).length, _))
            rw [hsl]
            exact rs_i hPb (tr6 _ _ b4 (by simp) (by simp) (by simp))
          · have hj : j < (slc fb p m).length := hj
            rw [hsl] at hj
            unfold va_cpy
            rw [if_pos ⟨by omega, by omega⟩, Nat.sub_zero]
            show g (p + j) = nq (gd (slc fb p m) j)
            rw [slc_gd hj]
            exact s4 _ (by omega)
        · rw [if_neg z2, if_neg z2]
          exact old (k - 1) (by omega)
  have hkr := congrArg (fun x => x.2) (ins_k (K := K) (slc fb p m, 0) hr r)
  have hkr1 := congrArg (fun x => x.1) (ins_k (K := K) (slc fb p m, 0) hr r)
  dsimp only at hkr hkr1
  rw [if_neg (Nat.lt_irrefl r), if_pos rfl] at hkr hkr1
  have hg2 : gca cs.length cap ≤ 60000 := by have := gc_2 cs.length cap hle (by omega) hcap; omega
  obtain ⟨c, S7, v1, v2, v3, v4⟩ := k_93 (r := r) hI6 (by rw [ins_len K _ hr]; omega) (by rw [hkr]; omega) hg2 hd6
  rw [hkr, hkr1, ins_set _ _ hr] at v3
  have hcc : c = S2.2.1 := by
    rw [ins_get _ (by omega), if_neg (Nat.lt_irrefl r), if_pos rfl] at v1
    exact (Option.some.inj v1).symm
  subst hcc
  refine ⟨S2.2.1, _, S7, ?_, v3, ?_⟩
  · have e3 : oA S2 (some st) 1 0 = some (some cl) := oA_ok (o := some cl) (C2.at hd (rs_e h1).2 (fun q => q)) rfl
    have e4 := (h2u.sub sub4).isO
    have e5 : oI S5 (some st) 1 1 = some (nq (K.map fun x => x.1.length).sum) := oI_ok hst5 rfl
    simp (disch := omega) only [s_X2_name_46, q1, e1, q2, e3, q3, f_X15_init, p4, e4, f5, e5, p6, pb1, pb2, nq_lit, nq_add, nq_mul, nq_lt, nq_le, nq_eq, nq_lt0, nq10, nq00, Nat.one_ne_zero, Nat.reduceEqDiff, Nat.not_lt_zero, zb1, zb0, eq_self, reduceIte]
    exact v2
  · have C6 : Ch (fun x => P x = true) (2 + gkc cs.length cap) (m + 2 + gks cs.length cap) S S6 := (((C4.mono (B := fun x => P x = true) (fun _ _ q => q.elim) (Nat.le_refl _) (Nat.le_refl _)).trans c5' fun _ _ q => q).trans c6 fun x _ q => by rw [q]; exact hP1)
    exact C6.trans v4 fun _ _ q => q
