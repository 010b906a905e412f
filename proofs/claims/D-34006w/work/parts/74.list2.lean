/-! PURE: ArrayList, an element put in and taken out -/
set_option maxRecDepth 100000
theorem ins_fn {as : List Nat} {i v : Nat} (hi : i ≤ as.length) : va_up (va_cpy (fun k => as[k]?) (fun k => as[k]?) i (i + 1) (as.length - i)) i (some v) = fun k => (as.take i ++ v :: as.drop i)[k]? := by
  funext k
  unfold va_up va_cpy
  by_cases h : k = i
  · rw [if_pos h, h, List.getElem?_append_right (by rw [List.length_take]; omega), List.length_take, Nat.min_eq_left hi, Nat.sub_self]
    rfl
  · rw [if_neg h]
    by_cases h2 : k < i
    · rw [if_neg (by omega), List.getElem?_append_left (by rw [List.length_take]; omega), List.getElem?_take, if_pos h2]
    · rw [List.getElem?_append_right (by rw [List.length_take]; omega), List.length_take, Nat.min_eq_left hi]
      obtain ⟨j, hj⟩ : ∃ j, k - i = j + 1 := ⟨k - i - 1, by omega⟩
      rw [hj, List.getElem?_cons_succ, List.getElem?_drop]
      by_cases h3 : k < i + 1 + (as.length - i)
      · rw [if_pos ⟨by omega, h3⟩]
        congr 1
        omega
      · rw [if_neg (by omega)]
        show as[k]? = as[i + j]?
        rw [List.getElem?_eq_none (l := as) (by omega), List.getElem?_eq_none (l := as) (by omega)]
theorem la_insert {S : St} {e0 : Option Nat} {l d cap v i : Nat} {as : List Nat} (h : iLst S.1 e0 l d as cap) (hE : iE0 S.1 e0) (hst : S.2.2.2.2.2 0 = e0) (hdn : 0 < cap → e0 ≠ some d) (he : ∀ a ∈ as, eOk S.1 a) (hv : eOk S.1 v) (hc : cap ≤ 60000) (hi : i ≤ as.length) (hd : Dom S) (k1 : gkc as.length cap ≤ S.2.2.1) (k2 : gks as.length cap ≤ S.2.2.2.1) :
    ∃ S', f_J2_add_3 (some l) (nq i) (some v) S = some ((), S') ∧ iLst S'.1 e0 l (if as.length < cap then d else S.2.1) (as.take i ++ v :: as.drop i) (gca as.length cap) ∧ Ch (fun x => x = l ∨ (0 < cap ∧ x = d)) (gkc as.length cap) (gks as.length cap) S S' := by
  have hle := h.le
  obtain ⟨x, hx, hlen⟩ := h.data hE
  have hgp := gcap_pos cap
  have hlen' : (as.take i ++ v :: as.drop i).length = as.length + 1 := by
    rw [List.length_append, List.length_cons, List.length_take, List.length_drop]
    omega
  obtain ⟨⟨mc, h1⟩, h0, h2⟩ := h
  obtain ⟨S1, d1⟩ : ∃ S1, x_set S l (.inl (16, [.int (mc + nq 1), .ref d, .int (nq as.length)])) = S1 := ⟨_, rfl⟩
  have g1 : S1.1 l = some (.inl (16, [.int (mc + nq 1), .ref d, .int (nq as.length)])) := by rw [← d1]; exact xs_i _ _ _
  have c1 : Ch (fun x => x = l) 0 0 S S1 := by rw [← d1]; exact Ch.set S _ h1
  have hnx : S1.2 = S.2 := by rw [← d1]; rfl
  have p1 : pV S (some l) 16 0 (.int (mc + nq 1)) = some S1 := (pV_ok h1 (by simp)).trans (congrArg some d1)
  have hd1 := c1.2.2.2.2.2 hd
  have hdl : d ≠ l := (obne h1 hx (by simp)).symm
  have hx1 := c1.at hd hx hdl
  have e0' : oI S (some l) 16 0 = some mc := oI_ok h1 rfl
  have e00 : oI S (some l) 16 2 = some (nq as.length) := oI_ok h1 rfl
  have e000 := isO_ok h1
  have e1 : oA S1 (some l) 16 1 = some (some d) := oA_ok (o := some d) g1 rfl
  have e2 : oI S1 (some l) 16 2 = some (nq as.length) := oI_ok g1 rfl
  have e3 := isO_ok g1
  have hlen1 : lenA S1 (some d) 3 = some (nq cap) := by
    have e1 : aR S1 (some d) = some x := aR_ok hx1
    have e2 : aR S (some d) = some x := aR_ok hx
    have := lenA_of hx hlen
    unfold lenA at this ⊢
    rw [e1]
    rw [e2] at this
    exact this
  have hv1 : eOk S1.1 v := hv.ch c1 hd (hv.ne h1)
  have he1 : ∀ a ∈ as, eOk S1.1 a := fun a ha => (he a ha).ch c1 hd ((he a ha).ne h1)
  have hi' : ¬ as.length < i := by omega
  have hi0 : 0 ≤ i := Nat.zero_le i
  by_cases hf : as.length < cap
  · have hne : ¬ as.length = cap := by omega
    have ek : gkc as.length cap = 0 := if_pos hf
    have es : gks as.length cap = 0 := if_pos hf
    have ea : gca as.length cap = cap := if_pos hf
    rw [ek, es, ea, if_pos hf]
    have h3 := (h2 (by omega)).1
    have h31 := c1.at hd h3 hdl
    have q0 : cpA S1 (some d) (nq i) (some d) (nq (i + 1)) (nq (as.length - i)) = some (x_set S1 d (.inr (3, cap, .inr (.inr (.inr (.inr (va_cpy (fun k => as[k]?) (fun k => as[k]?) i (i + 1) (as.length - i)))))))) := cpA_ok h31 h31 (by omega) (by omega) (by omega) (by omega) (by omega) fun k hk => by
      cases hx : as[i + k]? with
      | none => rfl
      | some a => exact (he1 a (List.mem_of_getElem? hx)).asg
    obtain ⟨S2, d2⟩ : ∃ S2, x_set S1 d (.inr (3, cap, .inr (.inr (.inr (.inr (va_cpy (fun k => as[k]?) (fun k => as[k]?) i (i + 1) (as.length - i))))))) = S2 := ⟨_, rfl⟩
    rw [d2] at q0
    have g2 : S2.1 l = some (.inl (16, [.int (mc + nq 1), .ref d, .int (nq as.length)])) := by rw [← d2]; exact xs_o (Ne.symm hdl) g1
    have g2d : S2.1 d = some (.inr (3, cap, .inr (.inr (.inr (.inr (va_cpy (fun k => as[k]?) (fun k => as[k]?) i (i + 1) (as.length - i))))))) := by rw [← d2]; exact xs_i _ _ _
    have c2 : Ch (fun x => x = d) 0 0 S1 S2 := by rw [← d2]; exact Ch.set S1 _ h31
    have hv2 : eOk S2.1 v := hv1.ch c2 hd1 (hv1.ne' h31)
    have q1 : aS S2 (some d) 3 (nq i) (some v) = some (x_set S2 d (.inr (3, cap, .inr (.inr (.inr (.inr fun k => (as.take i ++ v :: as.drop i)[k]?)))))) := by
      rw [aS_ok g2d (by omega) (by omega) hv2.asg, ins_fn hi]
    obtain ⟨S3, d3⟩ : ∃ S3, x_set S2 d (.inr (3, cap, .inr (.inr (.inr (.inr fun k => (as.take i ++ v :: as.drop i)[k]?))))) = S3 := ⟨_, rfl⟩
    rw [d3] at q1
    have g3 : S3.1 l = some (.inl (16, [.int (mc + nq 1), .ref d, .int (nq as.length)])) := by rw [← d3]; exact xs_o (Ne.symm hdl) g2
    have c3 : Ch (fun x => x = d) 0 0 S2 S3 := by rw [← d3]; exact Ch.set S2 _ g2d
    have p2 : pV S3 (some l) 16 2 (.int (nq (as.length + 1))) = some (x_set S3 l (.inl (16, [.int (mc + nq 1), .ref d, .int (nq (as.length + 1))]))) := pV_ok g3 (by simp)
    refine ⟨_, ?_, ⟨⟨mc + nq 1, ?_⟩, fun q => absurd q (by omega), fun _ => ⟨?_, by rw [hlen']; omega⟩⟩, ((((c1.or c2).or c3).or (Ch.set S3 (.inl (16, [.int (mc + nq 1), .ref d, .int (nq (as.length + 1))])) g3))).mono (fun x _ q => ?_) (Nat.le_refl _) (Nat.le_refl _)⟩
    · simp (disch := omega) only [f_J2_add_3, f_J2_rangeCheckForAdd, s_J2_add_3_38, e0', e00, e000, e1, e2, e3, hlen1, hne, hi', hi0, nq_sub, p1, q0, q1, p2, pb1, pb2, nq_lit, nq_add, nq_mul, nq_lt, nq_le, nq_eq, nq_lt0, nq10, nq00, Nat.one_ne_zero, Nat.reduceEqDiff, Nat.not_lt_zero, zb1, zb0, eq_self, reduceIte]
    · rw [xs_i, hlen']
    · refine xs_o hdl ?_
      rw [← d3]
      exact xs_i _ _ _
    · rcases q with ((q | q) | q) | q
      · exact Or.inl q
      · exact Or.inr ⟨by omega, q⟩
      · exact Or.inr ⟨by omega, q⟩
      · exact Or.inl q
  · have heq : as.length = cap := by omega
    have ek : gkc as.length cap = 1 := if_neg hf
    have es : gks as.length cap = gcap cap := if_neg hf
    have ea : gca as.length cap = gcap cap := if_neg hf
    rw [ek] at k1
    rw [es] at k2
    rw [ek, es, ea, if_neg hf]
    obtain ⟨S2, r1, r2, r3, r4⟩ := la_grow (S := S1) (e0 := e0) g1 heq (fun c => ⟨(h0 c).2, by
      obtain ⟨d', f, w1, w2⟩ := hE
      have : d' = d := Option.some.inj (w1.symm.trans (h0 c).2)
      exact ⟨d', f, w1, c1.at hd w2 (by rw [this]; exact hdl)⟩, by rw [c1.2.2.2.2.1]; exact hst⟩) (fun c => ⟨c1.at hd (h2 c).1 hdl, by rw [c1.2.2.2.2.1, hst]; exact hdn c⟩) he1 hc hd1 (by rw [hnx]; exact k1) (by rw [hnx]; exact k2)
    rw [hnx] at r1 r2 r3
    have hd2 := r4.2.2.2.2.2 hd1
    have hv2 : eOk S2.1 v := hv1.ch r4 hd1 (hv1.ne g1)
    have he2 : ∀ a ∈ as, eOk S2.1 a := fun a ha => (he1 a ha).ch r4 hd1 ((he1 a ha).ne g1)
    have hgc : gcap cap ≤ 100000 := by
      unfold gcap
      split
      · omega
      · split <;> omega
    have hnl : S.2.1 ≠ l := (Nat.ne_of_lt (hd l _ h1)).symm
    have q0 : cpA S2 (some S.2.1) (nq i) (some S.2.1) (nq (i + 1)) (nq (as.length - i)) = some (x_set S2 S.2.1 (.inr (3, gcap cap, .inr (.inr (.inr (.inr (va_cpy (fun k => as[k]?) (fun k => as[k]?) i (i + 1) (as.length - i)))))))) := cpA_ok r3 r3 (by omega) (by omega) (by omega) (by omega) (by omega) fun k hk => by
      cases hx : as[i + k]? with
      | none => rfl
      | some a => exact (he2 a (List.mem_of_getElem? hx)).asg
    obtain ⟨S3, d3⟩ : ∃ S3, x_set S2 S.2.1 (.inr (3, gcap cap, .inr (.inr (.inr (.inr (va_cpy (fun k => as[k]?) (fun k => as[k]?) i (i + 1) (as.length - i))))))) = S3 := ⟨_, rfl⟩
    rw [d3] at q0
    have g3 : S3.1 l = some (.inl (16, [.int (mc + nq 1), .ref S.2.1, .int (nq as.length)])) := by rw [← d3]; exact xs_o (Ne.symm hnl) r2
    have g3d : S3.1 S.2.1 = some (.inr (3, gcap cap, .inr (.inr (.inr (.inr (va_cpy (fun k => as[k]?) (fun k => as[k]?) i (i + 1) (as.length - i))))))) := by rw [← d3]; exact xs_i _ _ _
    have c3 : Ch (fun x => x = S.2.1) 0 0 S2 S3 := by rw [← d3]; exact Ch.set S2 _ r3
    have hv3 : eOk S3.1 v := hv2.ch c3 hd2 (hv2.ne' r3)
    have q1 : aS S3 (some S.2.1) 3 (nq i) (some v) = some (x_set S3 S.2.1 (.inr (3, gcap cap, .inr (.inr (.inr (.inr fun k => (as.take i ++ v :: as.drop i)[k]?)))))) := by
      rw [aS_ok g3d (by omega) (by omega) hv3.asg, ins_fn hi]
    obtain ⟨S4, d4⟩ : ∃ S4, x_set S3 S.2.1 (.inr (3, gcap cap, .inr (.inr (.inr (.inr fun k => (as.take i ++ v :: as.drop i)[k]?))))) = S4 := ⟨_, rfl⟩
    rw [d4] at q1
    have g4 : S4.1 l = some (.inl (16, [.int (mc + nq 1), .ref S.2.1, .int (nq as.length)])) := by rw [← d4]; exact xs_o (Ne.symm hnl) g3
    have c4 : Ch (fun x => x = S.2.1) 0 0 S3 S4 := by rw [← d4]; exact Ch.set S3 _ g3d
    have p3 : pV S4 (some l) 16 2 (.int (nq (as.length + 1))) = some (x_set S4 l (.inl (16, [.int (mc + nq 1), .ref S.2.1, .int (nq (as.length + 1))]))) := pV_ok g4 (by simp)
    refine ⟨_, ?_, ⟨⟨mc + nq 1, ?_⟩, fun q => absurd q (by omega), fun _ => ⟨?_, by rw [hlen']; omega⟩⟩, (((((c1.or r4).or c3).or c4).or (Ch.set S4 (.inl (16, [.int (mc + nq 1), .ref S.2.1, .int (nq (as.length + 1))])) g4))).mono (fun x hx q => ?_) (by omega) (by omega)⟩
    · simp (disch := omega) only [f_J2_add_3, f_J2_rangeCheckForAdd, s_J2_add_3_38, e0', e00, e000, e1, e2, e3, hlen1, heq.symm, hi', hi0, nq_sub, p1, r1, q0, q1, p3, pb1, pb2, nq_lit, nq_add, nq_mul, nq_lt, nq_le, nq_eq, nq_lt0, nq10, nq00, Nat.one_ne_zero, Nat.reduceEqDiff, Nat.not_lt_zero, zb1, zb0, eq_self, reduceIte]
    · rw [xs_i, hlen']
    · refine xs_o hnl ?_
      rw [← d4]
      exact xs_i _ _ _
    · rcases q with (((q | q) | q) | q) | q
      · exact Or.inl q
      · exact Or.inl q
      · exact absurd q (Nat.ne_of_lt hx)
      · exact absurd q (Nat.ne_of_lt hx)
      · exact Or.inl q
theorem rem_fn {as : List Nat} {k : Nat} (hk : k < as.length) : va_up (if as.length - 1 ≤ k then (fun j => as[j]?) else va_cpy (fun j => as[j]?) (fun j => as[j]?) (k + 1) k (as.length - 1 - k)) (as.length - 1) none = fun j => (as.take k ++ as.drop (k + 1))[j]? := by
  funext j
  have hl : (as.take k ++ as.drop (k + 1)).length = as.length - 1 := by
    rw [List.length_append, List.length_take, List.length_drop]
    omega
  unfold va_up
  by_cases h : j = as.length - 1
  · rw [if_pos h, List.getElem?_eq_none (by omega)]
  · rw [if_neg h]
    by_cases hj : j < k
    · rw [List.getElem?_append_left (by rw [List.length_take]; omega), List.getElem?_take, if_pos hj]
      by_cases h2 : as.length - 1 ≤ k
      · rw [if_pos h2]
      · rw [if_neg h2]
        unfold va_cpy
        rw [if_neg (by omega)]
    · rw [List.getElem?_append_right (by rw [List.length_take]; omega), List.length_take, Nat.min_eq_left (by omega), List.getElem?_drop]
      by_cases h2 : as.length - 1 ≤ k
      · rw [if_pos h2, List.getElem?_eq_none (by omega), List.getElem?_eq_none (by omega)]
      · rw [if_neg h2]
        unfold va_cpy
        by_cases h3 : j < k + (as.length - 1 - k)
        · rw [if_pos ⟨by omega, h3⟩]
        · rw [if_neg (by omega)]
          show as[j]? = as[k + 1 + (j - k)]?
          rw [List.getElem?_eq_none (l := as) (by omega), List.getElem?_eq_none (l := as) (by omega)]
theorem la_fast {S : St} {e0 : Option Nat} {l d cap k : Nat} {as : List Nat} (h : iLst S.1 e0 l d as cap) (he : ∀ a ∈ as, eOk S.1 a) (hc : cap ≤ 60000) (hk : k < as.length) (hd : Dom S) :
    ∃ S', f_J2_fastRemove (some l) (some d) (nq k) S = some ((), S') ∧ iLst S'.1 e0 l d (as.take k ++ as.drop (k + 1)) cap ∧ Ch (fun x => x = l ∨ x = d) 0 0 S S' := by
  have hle := h.le
  have hlen' : (as.take k ++ as.drop (k + 1)).length = as.length - 1 := by
    rw [List.length_append, List.length_take, List.length_drop]
    omega
  obtain ⟨⟨mc, h1⟩, h0, h2⟩ := h
  have h3 := (h2 (by omega)).1
  have hdl : d ≠ l := (obne h1 h3 (by simp)).symm
  obtain ⟨S1, d1⟩ : ∃ S1, x_set S l (.inl (16, [.int (mc + nq 1), .ref d, .int (nq as.length)])) = S1 := ⟨_, rfl⟩
  have g1 : S1.1 l = some (.inl (16, [.int (mc + nq 1), .ref d, .int (nq as.length)])) := by rw [← d1]; exact xs_i _ _ _
  have c1 : Ch (fun x => x = l) 0 0 S S1 := by rw [← d1]; exact Ch.set S _ h1
  have p1 : pV S (some l) 16 0 (.int (mc + nq 1)) = some S1 := (pV_ok h1 (by simp)).trans (congrArg some d1)
  have h31 := c1.at hd h3 hdl
  have e0' : oI S (some l) 16 0 = some mc := oI_ok h1 rfl
  have e2 : oI S1 (some l) 16 2 = some (nq as.length) := oI_ok g1 rfl
  have he1 : ∀ a ∈ as, eOk S1.1 a := fun a ha => (he a ha).ch c1 hd ((he a ha).ne h1)
  have hf := rem_fn hk
  generalize hF : (if as.length - 1 ≤ k then (fun j => as[j]?) else va_cpy (fun j => as[j]?) (fun j => as[j]?) (k + 1) k (as.length - 1 - k)) = F at hf
  have key : ∃ S2, s_J2_fastRemove_34 (some l) (some d) (nq (as.length - 1)) S2 = f_J2_fastRemove (some l) (some d) (nq k) S ∧ S2.1 l = some (.inl (16, [.int (mc + nq 1), .ref d, .int (nq as.length)])) ∧ S2.1 d = some (.inr (3, cap, .inr (.inr (.inr (.inr F))))) ∧ Ch (fun x => x = l ∨ x = d) 0 0 S S2 := by
    by_cases c : as.length - 1 ≤ k
    · rw [if_pos c] at hF
      refine ⟨S1, ?_, g1, by rw [← hF]; exact h31, c1.mono (fun _ _ q => Or.inl q) (Nat.le_refl _) (Nat.le_refl _)⟩
      simp (disch := omega) only [f_J2_fastRemove, e0', e2, p1, nq_sub, c, pb1, pb2, nq_lit, nq_add, nq_mul, nq_lt, nq_le, nq_eq, nq_lt0, nq10, nq00, Nat.one_ne_zero, Nat.reduceEqDiff, Nat.not_lt_zero, zb1, zb0, eq_self, reduceIte]
    · rw [if_neg c] at hF
      have q0 : cpA S1 (some d) (nq (k + 1)) (some d) (nq k) (nq (as.length - 1 - k)) = some (x_set S1 d (.inr (3, cap, .inr (.inr (.inr (.inr F)))))) := by
        rw [← hF]
        exact cpA_ok h31 h31 (by omega) (by omega) (by omega) (by omega) (by omega) fun j hj => by
          cases hx : as[k + 1 + j]? with
          | none => rfl
          | some a => exact (he1 a (List.mem_of_getElem? hx)).asg
      refine ⟨x_set S1 d (.inr (3, cap, .inr (.inr (.inr (.inr F))))), ?_, xs_o (Ne.symm hdl) g1, xs_i _ _ _, c1.or (Ch.set S1 _ h31)⟩
      simp (disch := omega) only [f_J2_fastRemove, e0', e2, p1, nq_sub, c, q0, pb1, pb2, nq_lit, nq_add, nq_mul, nq_lt, nq_le, nq_eq, nq_lt0, nq10, nq00, Nat.one_ne_zero, Nat.reduceEqDiff, Nat.not_lt_zero, zb1, zb0, eq_self, reduceIte]
  obtain ⟨S2, k1, k2, k3, k4⟩ := key
  rw [← k1]
  obtain ⟨S3, d3⟩ : ∃ S3, x_set S2 l (.inl (16, [.int (mc + nq 1), .ref d, .int (nq (as.length - 1))])) = S3 := ⟨_, rfl⟩
  have g3 : S3.1 l = some (.inl (16, [.int (mc + nq 1), .ref d, .int (nq (as.length - 1))])) := by rw [← d3]; exact xs_i _ _ _
  have g3d : S3.1 d = some (.inr (3, cap, .inr (.inr (.inr (.inr F))))) := by rw [← d3]; exact xs_o hdl k3
  have c3 : Ch (fun x => x = l) 0 0 S2 S3 := by rw [← d3]; exact Ch.set S2 _ k2
  have p3 : pV S2 (some l) 16 2 (.int (nq (as.length - 1))) = some S3 := (pV_ok k2 (by simp)).trans (congrArg some d3)
  have q3 : aS S3 (some d) 3 (nq (as.length - 1)) none = some (x_set S3 d (.inr (3, cap, .inr (.inr (.inr (.inr fun j => (as.take k ++ as.drop (k + 1))[j]?)))))) := by
    rw [aS_ok g3d (by omega) (by omega) rfl, hf]
  refine ⟨_, ?_, ⟨⟨mc + nq 1, ?_⟩, fun q => absurd q (by omega), fun _ => ⟨xs_i _ _ _, by rw [hlen']; omega⟩⟩, ((k4.or c3).or (Ch.set S3 (.inr (3, cap, .inr (.inr (.inr (.inr fun j => (as.take k ++ as.drop (k + 1))[j]?))))) g3d)).mono (fun x _ q => ?_) (Nat.le_refl _) (Nat.le_refl _)⟩
  · unfold s_J2_fastRemove_34
    rw [p3, pb1, q3, pb1]
  · rw [xs_o (Ne.symm hdl) g3, hlen']
  · rcases q with (q | q) | q
    · exact q
    · exact Or.inl q
    · exact Or.inr q
theorem la_remove_l {S : St} {e0 : Option Nat} {l d cap k v : Nat} {as : List Nat} {fs : List Value} (h : iLst S.1 e0 l d as cap) (he : ∀ a ∈ as, eOk S.1 a) (hv : S.1 v = some (.inl (14, fs))) (hc : cap ≤ 60000) (hk : as[k]? = some v) (hf : ∀ j, j < k → as[j]? ≠ some v) (hd : Dom S) : ∀ (N j n : Nat), N < n → j + N = k →
    ∃ S', l_J2_remove_39 n (some l, some v, some d, nq as.length, nq j) S = some (nq 1, S') ∧ iLst S'.1 e0 l d (as.take k ++ as.drop (k + 1)) cap ∧ Ch (fun x => x = l ∨ x = d) 0 0 S S' := by
  have hle := h.le
  have hkl : k < as.length := (List.getElem?_eq_some_iff.mp hk).1
  have h3 := (h.2.2 (by omega)).1
  have hvo := isO_ok hv
  have hlo := h.isO
  intro N
  induction N with
  | zero =>
    intro j n hn hj
    obtain ⟨n, rfl⟩ := pre_n hn
    have e : j = k := by omega
    subst e
    obtain ⟨S', f1, f2, f3⟩ := la_fast h he hc hkl hd
    have hj' : ¬ as.length ≤ j := by omega
    have e1 := aL_ok (ti := 3) (i := j) h3 (by omega) (by omega)
    rw [hk] at e1
    refine ⟨S', ?_, f2, f3⟩
    rw [l_J2_remove_39_s]
    simp (disch := omega) only [s_J2_remove_39, f_J21_equals, s_J21_equals_10, hj', e1, hvo, hlo, f1, pb1, pb2, nq_lit, nq_add, nq_mul, nq_lt, nq_le, nq_eq, nq_lt0, nq10, nq00, Nat.one_ne_zero, Nat.reduceEqDiff, Nat.not_lt_zero, zb1, zb0, eq_self, reduceIte]
  | succ N ih =>
    intro j n hn hj
    obtain ⟨n, rfl⟩ := pre_n hn
    obtain ⟨S', f1, f2, f3⟩ := ih (j + 1) n (by omega) (by omega)
    have hj' : ¬ as.length ≤ j := by omega
    have e1 := aL_ok (ti := 3) (i := j) h3 (by omega) (by omega)
    have hne : ¬ some v = as[j]? := fun q => hf j (by omega) q.symm
    refine ⟨S', ?_, f2, f3⟩
    rw [l_J2_remove_39_s]
    simp (disch := omega) only [s_J2_remove_39, f_J21_equals, s_J21_equals_10, hj', e1, hvo, hlo, hne, pb1, pb2, nq_lit, nq_add, nq_mul, nq_lt, nq_le, nq_eq, nq_lt0, nq10, nq00, Nat.one_ne_zero, Nat.reduceEqDiff, Nat.not_lt_zero, zb1, zb0, eq_self, reduceIte]
    exact f1
theorem la_remove {S : St} {e0 : Option Nat} {l d cap k v : Nat} {as : List Nat} {fs : List Value} (h : iLst S.1 e0 l d as cap) (he : ∀ a ∈ as, eOk S.1 a) (hv : S.1 v = some (.inl (14, fs))) (hc : cap ≤ 60000) (hk : as[k]? = some v) (hf : ∀ j, j < k → as[j]? ≠ some v) (hd : Dom S) :
    ∃ S', f_J2_remove (some l) (some v) S = some (nq 1, S') ∧ iLst S'.1 e0 l d (as.take k ++ as.drop (k + 1)) cap ∧ Ch (fun x => x = l ∨ x = d) 0 0 S S' := by
  have hle := h.le
  have hkl : k < as.length := (List.getElem?_eq_some_iff.mp hk).1
  obtain ⟨S', f1, f2, f3⟩ := la_remove_l h he hv hc hk hf hd k 0 FU (by unfold FU; omega) (by omega)
  obtain ⟨⟨mc, h1⟩, -⟩ := h
  refine ⟨S', ?_, f2, f3⟩
  unfold f_J2_remove
  rw [oA_ok (o := some d) h1 rfl, pb1, oI_ok h1 rfl, pb1, if_neg (fun q => nomatch q)]
  exact f1
