/-! PURE: Strip -/
set_option maxRecDepth 100000
/-- a strip: its object, its array, its room, its bytes -/
def iStr (M : Nat → Option Ob) (a b cap : Nat) (bs : List Nat) : Prop := M a = some (.inl (3, [.ref b, .int (nq bs.length)])) ∧ ∃ f : Nat → Int32, M b = some (.inr (0, cap, .inl f)) ∧ bs.length ≤ cap ∧ ∀ j, j < bs.length → f j = nq (gd bs j)
theorem iStr.sub {F M : Nat → Option Ob} {a b cap : Nat} {bs : List Nat} (h : iStr F a b cap bs) (k : Sub F M) : iStr M a b cap bs := by
  obtain ⟨h1, f, h2, h3⟩ := h
  exact ⟨k a _ h1, f, k b _ h2, h3⟩
theorem iStr.ne {M : Nat → Option Ob} {a b cap : Nat} {bs : List Nat} (h : iStr M a b cap bs) : a ≠ b := by
  obtain ⟨h1, f, h2, -⟩ := h
  exact obne h1 h2 (by simp)
/-- a place is written -/
theorem iStr.isobj {S : St} {a b cap : Nat} {bs : List Nat} (h : iStr S.1 a b cap bs) : isO S (some a) 3 = some () := isO_ok h.1
theorem t_add {S : St} {a b cap : Nat} {bs : List Nat} (h : iStr S.1 a b cap bs) (hn : bs.length < cap) (hc : cap ≤ 100000) (v : Nat) :
    ∃ S', f_X4_add (some a) (nq v) S = some ((), S') ∧ iStr S'.1 a b cap (bs ++ [v]) ∧ Ch (fun x => x = a ∨ x = b) 0 0 S S' := by
  have hab := h.ne
  obtain ⟨h1, f, h2, h3, h4⟩ := h
  refine ⟨x_set (x_set S b (.inr (0, cap, .inl (va_up f bs.length (nq v))))) a (.inl (3, [.ref b, .int (nq (bs.length + 1))])), ?_, ⟨?_, va_up f bs.length (nq v), ?_, ?_, ?_⟩, ?_⟩
  · unfold f_X4_add
    rw [oA_ok (o := some b) h1 rfl, pb1, oI_ok h1 rfl, pb1, iS_ok h2 hn (by omega), pb1, oI_ok (xs_o hab h1) rfl, pb1, pV_ok (xs_o hab h1) (by simp), pb1, nq_lit, nq_add]
    rfl
  · rw [xs_i, List.length_append]
    rfl
  · exact xs_o (Ne.symm hab) (xs_i _ _ _)
  · rw [List.length_append]
    exact hn
  · intro j hj
    rw [List.length_append, List.length_singleton] at hj
    rw [gd_app]
    by_cases hjn : j < bs.length
    · rw [if_pos hjn, va_up_ne _ _ (by omega)]
      exact h4 j hjn
    · have : j = bs.length := by omega
      subst this
      rw [if_neg hjn, va_up_self, Nat.sub_self]
      rfl
  · exact ((Ch.set S _ h2).or (Ch.set _ _ (xs_o hab h1))).mono (fun x _ q => q.symm) (Nat.le_refl _) (Nat.le_refl _)
/-- many bytes are added -/
theorem t_add2_l {a b cap t m : Nat} {f : Nat → Int32} {cs : List Nat} (hm : cs.length = m) (hm2 : m ≤ 100000) (hc : cap ≤ 100000) (hta : t ≠ a) (htb : t ≠ b) : ∀ (d k n : Nat) (S : St) (bs : List Nat), d + k = m → d < n → S.1 t = some (.inr (0, m, .inl f)) → (∀ j, j < m → f j = nq (gd cs j)) → iStr S.1 a b cap bs → bs.length + d ≤ cap → Dom S →
    ∃ S', l_X4_add_2_2 n (some a, some t, nq k) S = some ((), S') ∧ iStr S'.1 a b cap (bs ++ cs.drop k) ∧ Ch (fun x => x = a ∨ x = b) 0 0 S S' := by
  intro d
  induction d with
  | zero =>
    intro k n S bs hk hn ht hf hs hb hd
    obtain ⟨n, rfl⟩ := pre_n hn
    refine ⟨S, ?_, ?_, Ch.refl _ S⟩
    · rw [l_X4_add_2_2_s]
      simp only [s_X4_add_2_2]
      rw [lenA_ok ht, pb1, if_pos ((nq_le (by omega) (by omega)).mpr (by omega))]
    · rw [List.drop_eq_nil_of_le (by omega), List.append_nil]
      exact hs
  | succ d ih =>
    intro k n S bs hk hn ht hf hs hb hd
    obtain ⟨n, rfl⟩ := pre_n hn
    obtain ⟨S1, e1, i1, c1⟩ := t_add hs (by omega) hc (gd cs k)
    have ht1 : S1.1 t = some (.inr (0, m, .inl f)) := c1.at hd ht (fun q => q.elim hta htb)
    obtain ⟨S2, e2, i2, c2⟩ := ih (k + 1) n S1 (bs ++ [gd cs k]) (by omega) (by omega) ht1 hf i1 (by rw [List.length_append, List.length_singleton]; omega) (c1.2.2.2.2.2 hd)
    refine ⟨S2, ?_, ?_, (c1.trans c2 fun _ _ q => q)⟩
    · rw [l_X4_add_2_2_s]
      simp only [s_X4_add_2_2]
      rw [lenA_ok ht, pb1, if_neg (fun q => by have := (nq_le (by omega) (by omega)).mp q; omega), iL_ok ht (by omega) (by omega), pb1, hs.isobj, pb1, hf k (by omega), e1, pb2, nq_lit, nq_add]
      exact e2
    · have : cs.drop k = gd cs k :: cs.drop (k + 1) := by
        rw [List.drop_eq_getElem_cons (by omega)]
        congr 1
        have := gd_lt (bs := cs) (j := k) (by omega)
        rw [List.getElem?_eq_getElem (by omega)] at this
        exact Option.some.inj this
      rw [this, List.append_cons]
      exact i2
theorem t_add2 {a b cap t : Nat} {f : Nat → Int32} {cs bs : List Nat} {S : St} (hc : cap ≤ 100000) (hta : t ≠ a) (htb : t ≠ b) (ht : S.1 t = some (.inr (0, cs.length, .inl f))) (hf : ∀ j, j < cs.length → f j = nq (gd cs j)) (hs : iStr S.1 a b cap bs) (hb : bs.length + cs.length ≤ cap) (hd : Dom S) :
    ∃ S', f_X4_add_2 (some a) (some t) S = some ((), S') ∧ iStr S'.1 a b cap (bs ++ cs) ∧ Ch (fun x => x = a ∨ x = b) 0 0 S S' := by
  obtain ⟨S', e, i, c⟩ := t_add2_l (m := cs.length) rfl (by omega) hc hta htb cs.length 0 FU S bs rfl (by unfold FU; omega) ht hf hs hb hd
  exact ⟨S', e, i, c⟩
/-- a strip takes another's bytes -/
theorem t_become {S : St} {a b cap a' b' cap' : Nat} {bs bs' : List Nat} (h : iStr S.1 a b cap bs) (h' : iStr S.1 a' b' cap' bs') (hn : bs'.length ≤ cap) (hc : cap ≤ 100000) (hc' : cap' ≤ 100000) :
    ∃ S', f_X4_become (some a) (some a') S = some ((), S') ∧ iStr S'.1 a b cap bs' ∧ Ch (fun x => x = a ∨ x = b) 0 0 S S' := by
  have hab := h.ne
  obtain ⟨h1, f, h2, h3, h4⟩ := h
  obtain ⟨g1, g, g2, g3, g4⟩ := h'
  have hab' : a' ≠ b := obne g1 h2 (by simp)
  refine ⟨x_set (x_set S b (.inr (0, cap, .inl (va_cpy g f 0 0 bs'.length)))) a (.inl (3, [.ref b, .int (nq bs'.length)])), ?_, ⟨?_, va_cpy g f 0 0 bs'.length, ?_, hn, ?_⟩, ?_⟩
  · unfold f_X4_become
    rw [oA_ok (o := some b') g1 rfl, pb1, oA_ok (o := some b) h1 rfl, pb1, oI_ok g1 rfl, pb1, nq_lit, cpI_ok g2 h2 (by omega) (by omega) (by omega) (by omega), pb1, oI_ok (xs_o hab' g1) rfl, pb1, pV_ok (xs_o hab h1) (by simp), pb1]
    rfl
  · exact xs_i _ _ _
  · exact xs_o (Ne.symm hab) (xs_i _ _ _)
  · intro j hj
    unfold va_cpy
    rw [if_pos ⟨by omega, by omega⟩, Nat.zero_add, Nat.sub_zero]
    exact g4 j hj
  · exact ((Ch.set S _ h2).or (Ch.set _ _ (xs_o hab h1))).mono (fun x _ q => q.symm) (Nat.le_refl _) (Nat.le_refl _)
/-- a new strip with room for n bytes; its object is there already -/
theorem t_init2 {S : St} {a n : Nat} {v : Value} (h : S.1 a = some (.inl (3, [v, .int (nq 0)]))) (hd : Dom S) (hn : n ≤ 100000) (k1 : 1 ≤ S.2.2.1) (k2 : n ≤ S.2.2.2.1) :
    ∃ S', f_X4_init_2 (some a) (nq n) S = some ((), S') ∧ iStr S'.1 a S.2.1 n [] ∧ Ch (fun x => x = a) 1 n S S' := by
  have hne : a ≠ S.2.1 := Nat.ne_of_lt (hd a _ h)
  refine ⟨x_set (x_new S n (.inr (0, n, .inl fun _ => 0))) a (.inl (3, [.ref S.2.1, .int (nq 0)])), ?_, ⟨xs_i _ _ _, fun _ => 0, xs_o (Ne.symm hne) (xn_i _ _ _), Nat.zero_le _, fun j hj => absurd hj (Nat.not_lt_zero j)⟩, ?_⟩
  · unfold f_X4_init_2
    rw [pb1, nA_ok hn k1 k2, pb2, pV_ok (xn_o hne h) (by simp), pb1]
    rfl
  · exact ((Ch.new (fun _ => False) S _ k1 k2).or (Ch.set _ _ (xn_o hne h))).mono (fun x _ q => q.elim False.elim id) (Nat.le_refl _) (by omega)
theorem t_copy {S : St} {a b cap : Nat} {bs : List Nat} (h : iStr S.1 a b cap bs) (hc : cap ≤ 100000) (hd : Dom S) (k1 : 2 ≤ S.2.2.1) (k2 : 2 + bs.length ≤ S.2.2.2.1) :
    ∃ S', f_X4_copy (some a) S = some (some S.2.1, S') ∧ iStr S'.1 S.2.1 (S.2.1 + 1) bs.length bs ∧ Ch (fun _ => False) 2 (2 + bs.length) S S' := by
  have hcap : bs.length ≤ cap := h.2.elim fun f q => q.2.1
  have c1 := Ch.new (fun _ => False) S (n := 2) (.inl (3, [.null, .int 0])) (by omega) (by omega)
  have hd1 := c1.2.2.2.2.2 hd
  have ha1 : iStr (x_new S 2 (.inl (3, [.null, .int 0]))).1 a b cap bs := h.sub (c1.sub hd (Sub.refl _) (fun _ q => q.elim))
  obtain ⟨S2, e2, i2, c2⟩ := t_init2 (S := x_new S 2 (.inl (3, [.null, .int 0]))) (a := S.2.1) (n := bs.length) (v := .null) (xn_i _ _ _) hd1 (by omega) (by rw [xn_k]; omega) (by rw [xn_s]; omega)
  have hne : ∀ x : Nat, x < S.2.1 → ¬ x = S.2.1 := fun x q => Nat.ne_of_lt q
  have ha2 : iStr S2.1 a b cap bs := by
    obtain ⟨g1, f, g2, g3⟩ := h
    exact ⟨c2.at hd1 ha1.1 (hne _ (hd _ _ g1)), f, c2.at hd1 (c1.at hd g2 (fun q => q)) (hne _ (hd _ _ g2)), g3⟩
  obtain ⟨S3, e3, i3, c3⟩ := t_become i2 ha2 (Nat.le_refl _) (by omega) hc
  refine ⟨S3, ?_, i3, ?_⟩
  · unfold f_X4_copy
    rw [nO_ok (by omega) (by omega), pb2, oI_ok ha1.1 rfl, pb1, pb1, e2, pb2, i2.isobj, pb1, e3, pb2]
  · exact ((c1.or c2).or c3).mono (fun x hx q => by
      rcases q with (q | q) | q | q
      · exact q
      · exact absurd q (hne x hx)
      · exact absurd q (hne x hx)
      · have : x = S.2.1 + 1 := q
        omega) (by omega) (by omega)
theorem t_same_l {S : St} {a b cap a' b' cap' : Nat} {bs bs' : List Nat} (h : iStr S.1 a b cap bs) (h' : iStr S.1 a' b' cap' bs') (hb : ∀ j, gd bs j < 256) (hb' : ∀ j, gd bs' j < 256) (hl : bs.length = bs'.length) (hc : cap ≤ 100000) (hc' : cap' ≤ 100000) : ∀ (d k n : Nat), d + k = bs.length → d < n → (∀ j, j < k → gd bs j = gd bs' j) →
    l_X4_isSame_17 n (some a, some a', nq k) S = some (bq (decide (bs = bs')), S) := by
  obtain ⟨h1, f, h2, h3, h4⟩ := h
  obtain ⟨g1, g, g2, g3, g4⟩ := h'
  intro d
  induction d with
  | zero =>
    intro k n hk hn he
    obtain ⟨n, rfl⟩ := pre_n hn
    have hk : k = bs.length := by omega
    subst hk
    have e1 : oI S (some a) 3 1 = some (nq bs.length) := oI_ok h1 rfl
    rw [l_X4_isSame_17_s, decide_eq_true (gd_ext hl he)]
    simp (disch := omega) only [s_X4_isSame_17, s_X4_isSame_50, s_X4_isSame_63, e1, Nat.le_refl, pb1, pb2, nq_lit, nq_add, nq_mul, nq_lt, nq_le, nq_eq, nq_lt0, nq10, nq00, Nat.one_ne_zero, Nat.reduceEqDiff, Nat.not_lt_zero, zb1, zb0, eq_self, reduceIte]
    rfl
  | succ d ih =>
    intro k n hk hn he
    obtain ⟨n, rfl⟩ := pre_n hn
    have e1 : oI S (some a) 3 1 = some (nq bs.length) := oI_ok h1 rfl
    have e2 : oA S (some a) 3 0 = some (some b) := oA_ok (o := some b) h1 rfl
    have e3 : oA S (some a') 3 0 = some (some b') := oA_ok (o := some b') g1 rfl
    have hk' : ¬ bs.length ≤ k := by omega
    have hk2 : ¬ k = bs.length := by omega
    have b1 := hb k
    have b2 := hb' k
    have ih' := ih (k + 1) n (by omega) (by omega)
    rw [l_X4_isSame_17_s]
    by_cases hx : gd bs k = gd bs' k
    · simp (disch := omega) only [s_X4_isSame_17, e1, e2, e3, hk', iL_ok h2, iL_ok g2, h4 k (by omega), g4 k (by omega), hx, pb1, pb2, nq_lit, nq_add, nq_mul, nq_lt, nq_le, nq_eq, nq_lt0, nq10, nq00, Nat.one_ne_zero, Nat.reduceEqDiff, Nat.not_lt_zero, zb1, zb0, eq_self, reduceIte]
      exact ih' (ext_lt he hx)
    · rw [decide_eq_false (fun q => hx (by rw [q]))]
      simp (disch := omega) only [s_X4_isSame_17, s_X4_isSame_50, s_X4_isSame_63, e1, e2, e3, hk', hk2, iL_ok h2, iL_ok g2, h4 k (by omega), g4 k (by omega), hx, pb1, pb2, nq_lit, nq_add, nq_mul, nq_lt, nq_le, nq_eq, nq_lt0, nq10, nq00, Nat.one_ne_zero, Nat.reduceEqDiff, Nat.not_lt_zero, zb1, zb0, eq_self, reduceIte]
      rfl
theorem t_same {S : St} {a b cap a' b' cap' : Nat} {bs bs' : List Nat} (h : iStr S.1 a b cap bs) (h' : iStr S.1 a' b' cap' bs') (hb : By bs) (hb' : By bs') (hc : cap ≤ 100000) (hc' : cap' ≤ 100000) :
    f_X4_isSame (some a) (some a') S = some (bq (decide (bs = bs')), S) := by
  have l1 : bs.length ≤ cap := h.2.elim fun f q => q.2.1
  have l2 : bs'.length ≤ cap' := h'.2.elim fun f q => q.2.1
  have e1 : oI S (some a) 3 1 = some (nq bs.length) := oI_ok h.1 rfl
  have e2 : oI S (some a') 3 1 = some (nq bs'.length) := oI_ok h'.1 rfl
  by_cases hl : bs.length = bs'.length
  · have := t_same_l h h' (gd_by hb) (gd_by hb') hl hc hc' bs.length 0 FU (by omega) (by unfold FU; omega) fun j hj => absurd hj (Nat.not_lt_zero j)
    have hl2 : bs'.length = bs.length := hl.symm
    simp (disch := omega) only [f_X4_isSame, s_X4_isSame_16, e1, e2, hl2, pb1, pb2, nq_lit, nq_add, nq_mul, nq_lt, nq_le, nq_eq, nq_lt0, nq10, nq00, Nat.one_ne_zero, Nat.reduceEqDiff, Nat.not_lt_zero, zb1, zb0, eq_self, reduceIte]
    exact this
  · rw [decide_eq_false (fun q => hl (by rw [q]))]
    simp (disch := omega) only [f_X4_isSame, s_X4_isSame_16, e1, e2, hl, pb1, pb2, nq_lit, nq_add, nq_mul, nq_lt, nq_le, nq_eq, nq_lt0, nq10, nq00, Nat.one_ne_zero, Nat.reduceEqDiff, Nat.not_lt_zero, zb1, zb0, eq_self, reduceIte]
    rw [show FU = 999999 + 1 from rfl, l_X4_isSame_17_s]
    have em : -(nq 1) < nq 0 := m1_lt (by omega)
    have em2 : ¬ -(nq 1) = nq bs.length := fun q => (m1_nq (by omega)).mp q
    simp (disch := omega) only [s_X4_isSame_17, s_X4_isSame_50, s_X4_isSame_63, e1, em, em2, pb1, pb2, nq_lit, nq_add, nq_mul, nq_lt, nq_le, nq_eq, nq_lt0, nq10, nq00, Nat.one_ne_zero, Nat.reduceEqDiff, Nat.not_lt_zero, zb1, zb0, eq_self, reduceIte]
    rfl
/-- bytes of another strip are added -/
theorem t_from_l {a b cap a' b' cap' : Nat} {cs : List Nat} (hc : cap ≤ 100000) (hc' : cap' ≤ 100000) (ha : a' ≠ a) (hb : b' ≠ b) : ∀ (d k n p m : Nat) (S : St) (bs : List Nat), d + k = p + m → d < n → p + m ≤ cs.length → iStr S.1 a' b' cap' cs → iStr S.1 a b cap bs → bs.length + d ≤ cap → Dom S →
    ∃ S', l_X4_addFrom_21 n (some a, some a', nq p, nq m, nq k) S = some (.inr (), S') ∧ iStr S'.1 a b cap (bs ++ slc cs k d) ∧ Ch (fun x => x = a ∨ x = b) 0 0 S S' := by
  intro d
  induction d with
  | zero =>
    intro k n p m S bs hk hn hp hs' hs hl hd
    have lc : cs.length ≤ cap' := hs'.2.elim fun f q => q.2.1
    obtain ⟨n, rfl⟩ := pre_n hn
    refine ⟨S, ?_, ?_, Ch.refl _ S⟩
    · rw [l_X4_addFrom_21_s]
      simp only [s_X4_addFrom_21, nq_add]
      rw [if_pos ((nq_le (by omega) (by omega)).mpr (by omega))]
    · rw [slc, List.take_zero, List.append_nil]
      exact hs
  | succ d ih =>
    intro k n p m S bs hk hn hp hs' hs hl hd
    have lc : cs.length ≤ cap' := hs'.2.elim fun f q => q.2.1
    obtain ⟨n, rfl⟩ := pre_n hn
    obtain ⟨S1, e1, i1, c1⟩ := t_add hs (by omega) hc (gd cs k)
    have hx := hs'
    obtain ⟨g1, g, g2, g3, g4⟩ := hx
    have hne1 : ¬ (a' = a ∨ a' = b) := fun q => q.elim ha fun q => by
      obtain ⟨-, f, w2, -⟩ := hs
      exact obne g1 w2 (by simp) q
    have hne2 : ¬ (b' = a ∨ b' = b) := fun q => q.elim (fun q => obne hs.1 g2 (by simp) q.symm) hb
    obtain ⟨S2, e2, i2, c2⟩ := ih (k + 1) n p m S1 (bs ++ [gd cs k]) (by omega) (by omega) hp ⟨c1.at hd g1 hne1, g, c1.at hd g2 hne2, g3, g4⟩ i1 (by rw [List.length_append, List.length_singleton]; omega) (c1.2.2.2.2.2 hd)
    refine ⟨S2, ?_, ?_, (c1.trans c2 fun _ _ q => q)⟩
    · rw [l_X4_addFrom_21_s]
      simp only [s_X4_addFrom_21, nq_add]
      rw [if_neg (fun q => by have := (nq_le (by omega) (by omega)).mp q; omega), oA_ok (o := some b') g1 rfl, pb1, iL_ok g2 (by omega) (by omega), pb1, hs.isobj, pb1, g4 k (by omega), e1, pb2, nq_lit, nq_add]
      exact e2
    · have : slc cs k (d + 1) = gd cs k :: slc cs (k + 1) d := by
        apply gd_ext
        · rw [slc_len (by omega), List.length_cons, slc_len (by omega)]
        · intro j hj
          rw [slc_len (by omega)] at hj
          rw [slc_gd hj, gd_cons]
          by_cases hj0 : j = 0
          · rw [if_pos hj0, hj0]
            rfl
          · rw [if_neg hj0, slc_gd (by omega)]
            congr 1
            omega
      rw [this, List.append_cons]
      exact i2
/-- the exception that tells that a copy goes beyond its basis -/
theorem fillQ_ok {S : St} {a ci : Nat} {fs : List Value} (h : S.1 a = some (.inl (ci, fs))) (h1 : fs.getD 1 .null = va_rf (S.2.2.2.2.2 2)) (h2 : fs.getD 4 .null = .null) : fillQ S (some a) ci = some () := by
  simp only [fillQ, oF_ok h, Option.bind_some]
  exact if_pos ⟨h1, h2⟩
/-- the fields of an exception of the class are set -/
theorem t_exc9 {S : St} {n : Nat} (h : S.1 n = some (.inl (8, [.null, .null, .null, .null, .null, .int 0]))) : ∃ S', f_J3_init_3_X9 (some n) none none S = some ((), S') ∧ S'.1 n = some (.inl (8, [.null, va_rf (S.2.2.2.2.2 2), va_rf (S.2.2.2.2.2 3), .null, .null, .int 0])) ∧ Ch (fun x => x = n) 0 0 S S' := by
  obtain ⟨S1, e1⟩ : ∃ S1, x_set S n (.inl (8, [va_rf (some n), .null, .null, .null, .null, .int 0])) = S1 := ⟨_, rfl⟩
  have h1 : S1.1 n = some (.inl (8, [va_rf (some n), .null, .null, .null, .null, .int 0])) := by rw [← e1]; exact xs_i _ _ _
  have c1 : Ch (fun x => x = n) 0 0 S S1 := by rw [← e1]; exact Ch.set S _ h
  obtain ⟨S2, e2⟩ : ∃ S2, x_set S1 n (.inl (8, [va_rf (some n), va_rf (S1.2.2.2.2.2 2), .null, .null, .null, .int 0])) = S2 := ⟨_, rfl⟩
  have h2 : S2.1 n = some (.inl (8, [va_rf (some n), va_rf (S1.2.2.2.2.2 2), .null, .null, .null, .int 0])) := by rw [← e2]; exact xs_i _ _ _
  have c2 : Ch (fun x => x = n) 0 0 S1 S2 := by rw [← e2]; exact Ch.set S1 _ h1
  obtain ⟨S3, e3⟩ : ∃ S3, x_set S2 n (.inl (8, [va_rf (some n), va_rf (S1.2.2.2.2.2 2), va_rf (S2.2.2.2.2.2 3), .null, .null, .int 0])) = S3 := ⟨_, rfl⟩
  have h3 : S3.1 n = some (.inl (8, [va_rf (some n), va_rf (S1.2.2.2.2.2 2), va_rf (S2.2.2.2.2.2 3), .null, .null, .int 0])) := by rw [← e3]; exact xs_i _ _ _
  have c3 : Ch (fun x => x = n) 0 0 S2 S3 := by rw [← e3]; exact Ch.set S2 _ h2
  obtain ⟨S4, e4⟩ : ∃ S4, x_set S3 n (.inl (8, [va_rf (some n), va_rf (S1.2.2.2.2.2 2), va_rf (S2.2.2.2.2.2 3), va_rf none, .null, .int 0])) = S4 := ⟨_, rfl⟩
  have h4 : S4.1 n = some (.inl (8, [va_rf (some n), va_rf (S1.2.2.2.2.2 2), va_rf (S2.2.2.2.2.2 3), va_rf none, .null, .int 0])) := by rw [← e4]; exact xs_i _ _ _
  have c4 : Ch (fun x => x = n) 0 0 S3 S4 := by rw [← e4]; exact Ch.set S3 _ h3
  obtain ⟨S5, e5⟩ : ∃ S5, x_set S4 n (.inl (8, [va_rf none, va_rf (S1.2.2.2.2.2 2), va_rf (S2.2.2.2.2.2 3), va_rf none, .null, .int 0])) = S5 := ⟨_, rfl⟩
  have h5 : S5.1 n = some (.inl (8, [va_rf none, va_rf (S1.2.2.2.2.2 2), va_rf (S2.2.2.2.2.2 3), va_rf none, .null, .int 0])) := by rw [← e5]; exact xs_i _ _ _
  have c5 : Ch (fun x => x = n) 0 0 S4 S5 := by rw [← e5]; exact Ch.set S4 _ h4
  have g1 : S1.2.2.2.2 = S.2.2.2.2 := c1.2.2.2.2.1
  have g2 : S2.2.2.2.2 = S.2.2.2.2 := c2.2.2.2.2.1.trans g1
  have g3 : S3.2.2.2.2 = S.2.2.2.2 := c3.2.2.2.2.1.trans g2
  have p1 : pV S (some n) 8 0 (va_rf (some n)) = some S1 := (pV_ok h (by simp)).trans (congrArg some e1)
  have p2 : pV S1 (some n) 8 1 (va_rf (S1.2.2.2.2.2 2)) = some S2 := (pV_ok h1 (by simp)).trans (congrArg some e2)
  have p3 : pV S2 (some n) 8 2 (va_rf (S2.2.2.2.2.2 3)) = some S3 := (pV_ok h2 (by simp)).trans (congrArg some e3)
  have p4 : pV S3 (some n) 8 3 (va_rf none) = some S4 := (pV_ok h3 (by simp)).trans (congrArg some e4)
  have p5 : pV S4 (some n) 8 0 (va_rf none) = some S5 := (pV_ok h4 (by simp)).trans (congrArg some e5)
  have pq : fillQ S3 (some n) 8 = some () := fillQ_ok h3 (by rw [g3, ← g1]; rfl) rfl
  refine ⟨S5, ?_, ?_, ((((c1.trans c2 fun _ _ q => q).trans c3 fun _ _ q => q).trans c4 fun _ _ q => q).trans c5 fun _ _ q => q)⟩
  · unfold f_J3_init_3_X9
    rw [pb1, p1, pb1, p2, pb1, p3, pb1, pq, pb1, p4, pb1, p5, pb1]
  · rw [h5, g1, g2]
    rfl
theorem t_beyond {S : St} {n : Nat} (h : S.1 n = some (.inl (8, [.null, .null, .null, .null, .null, .int 0]))) : ∃ S', f_X9_init (some n) S = some ((), S') ∧ (∃ fs, S'.1 n = some (.inl (8, fs))) ∧ Ch (fun x => x = n) 0 0 S S' := by
  obtain ⟨S', e, h', c⟩ := t_exc9 h
  refine ⟨S', ?_, ⟨_, h'⟩, c⟩
  unfold f_X9_init f_J4_init_3_X9
  rw [pb1, pb1, e, pb2, pb2]
/-- bytes of another strip: added, or the exception -/
theorem t_from {S : St} {a b cap a' b' cap' p m : Nat} {bs cs : List Nat} (hc : cap ≤ 100000) (hc' : cap' ≤ 100000) (ha : a' ≠ a) (hb : b' ≠ b) (hs' : iStr S.1 a' b' cap' cs) (hs : iStr S.1 a b cap bs) (hl : bs.length + m ≤ cap) (hp : p + m ≤ cs.length) (hd : Dom S) :
    ∃ S', f_X4_addFrom (some a) (some a') (nq p) (nq m) S = some (.inr (), S') ∧ iStr S'.1 a b cap (bs ++ slc cs p m) ∧ Ch (fun x => x = a ∨ x = b) 0 0 S S' := by
  have lc : cs.length ≤ cap' := hs'.2.elim fun f q => q.2.1
  obtain ⟨S', e, i, c⟩ := t_from_l hc hc' ha hb m p FU p m S bs (by omega) (by unfold FU; omega) hp hs' hs hl hd
  refine ⟨S', ?_, i, c⟩
  unfold f_X4_addFrom
  rw [oI_ok hs'.1 rfl, pb1, nq_add, if_pos ((nq_le (by omega) (by omega)).mpr hp)]
  exact e
theorem t_from_x {S : St} {a a' b' cap' p m : Nat} {cs : List Nat} (hc' : cap' ≤ 100000) (hs' : iStr S.1 a' b' cap' cs) (hp : cs.length < p + m) (hpm : p + m < 1000000) (k1 : 1 ≤ S.2.2.1) (k2 : 6 ≤ S.2.2.2.1) (o : Option Nat) :
    ∃ q S', f_X4_addFrom o (some a') (nq p) (nq m) S = some (.inl ("RollSync$Beyond", q), S') ∧ Ch (fun _ => False) 1 6 S S' := by
  have lc : cs.length ≤ cap' := hs'.2.elim fun f q => q.2.1
  obtain ⟨S', e, ⟨fs, h'⟩, c⟩ := t_beyond (S := x_new S 6 (.inl (8, [.null, .null, .null, .null, .null, .int 0]))) (xn_i _ _ _)
  refine ⟨S.2.1, S', ?_, ((Ch.new (fun _ => False) S _ k1 k2).trans c fun x hx q => absurd q (Nat.ne_of_lt hx))⟩
  unfold f_X4_addFrom
  rw [oI_ok hs'.1 rfl, pb1, nq_add, if_neg (fun q => by have := (nq_le (by omega) (by omega)).mp q; omega), nO_ok k1 k2, pb2, pb1, e, pb2, oQ_ok h', pb1]
