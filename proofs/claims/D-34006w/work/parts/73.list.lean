/-! PURE: ArrayList -/
set_option maxRecDepth 100000
theorem nq_shr {a : Nat} (ha : a < 2147483648) : nq a >>> (nq 1 &&& nq 31) = nq (a / 2) := by
  have e1 : nq 1 &&& nq 31 = nq 1 := by decide
  rw [e1]
  apply Int32.toInt.inj
  rw [nq_int (by omega)]
  have e2 : (nq a >>> nq 1).toInt = (nq a).toInt >>> 1 := by
    show ((nq a).toBitVec.sshiftRight' ((nq 1).toBitVec.smod 32)).toInt = _
    have e3 : (nq 1).toBitVec.smod 32 = 1#32 := by decide
    rw [e3, BitVec.toInt_sshiftRight']
    rfl
  rw [e2, nq_int ha, Int.shiftRight_eq_div_pow]
  rfl
/-- a list's object and array: d the array, cap its room (0: the shared empty one) -/
def iLst (M : Nat → Option Ob) (e0 : Option Nat) (l d : Nat) (as : List Nat) (cap : Nat) : Prop := (∃ mc : Int32, M l = some (.inl (16, [.int mc, .ref d, .int (nq as.length)]))) ∧ (cap = 0 → as = [] ∧ e0 = some d) ∧ (0 < cap → M d = some (.inr (3, cap, .inr (.inr (.inr (.inr fun i => as[i]?))))) ∧ as.length ≤ cap)
/-- the shared empty array -/
def iE0 (M : Nat → Option Ob) (e0 : Option Nat) : Prop := ∃ d f, e0 = some d ∧ M d = some (.inr (3, 0, .inr (.inr (.inr (.inr f)))))
/-- what a list may hold -/
def eOk (M : Nat → Option Ob) (a : Nat) : Prop := ∃ ci fs, M a = some (.inl (ci, fs)) ∧ r_asg.contains (3, ci) = true
theorem eOk.asg {S : St} {a : Nat} (h : eOk S.1 a) : asgOk S 3 (some a) = true := by
  obtain ⟨ci, fs, h1, h2⟩ := h
  exact asg_ok h1 h2
theorem eOk.ne {M : Nat → Option Ob} {a l : Nat} {fs : List Value} (h : eOk M a) (hl : M l = some (.inl (16, fs))) : a ≠ l := by
  obtain ⟨ci, fs', h1, h2⟩ := h
  intro q
  rw [q, hl] at h1
  cases h1
  exact absurd h2 (by decide)
theorem eOk.ne' {M : Nat → Option Ob} {a d : Nat} {x : Nat × vp_A} (h : eOk M a) (hd : M d = some (.inr x)) : a ≠ d := by
  obtain ⟨ci, fs', h1, h2⟩ := h
  intro q
  rw [q, hd] at h1
  cases h1
theorem eOk.ch {A : Nat → Prop} {c s : Nat} {S S1 : St} {a : Nat} (h : eOk S.1 a) (k : Ch A c s S S1) (hd : Dom S) (hn : ¬ A a) : eOk S1.1 a := by
  obtain ⟨ci, fs, h1, h2⟩ := h
  exact ⟨ci, fs, k.at hd h1 hn, h2⟩
theorem iLst.le {M : Nat → Option Ob} {e0 : Option Nat} {l d cap : Nat} {as : List Nat} (h : iLst M e0 l d as cap) : as.length ≤ cap := by
  by_cases c : cap = 0
  · rw [(h.2.1 c).1]
    exact Nat.zero_le _
  · exact (h.2.2 (by omega)).2
theorem la_size {S : St} {e0 : Option Nat} {l d cap : Nat} {as : List Nat} (h : iLst S.1 e0 l d as cap) : f_J2_size (some l) S = some (nq as.length, S) := by
  obtain ⟨⟨mc, h1⟩, -⟩ := h
  unfold f_J2_size
  rw [oI_ok h1 rfl, pb1]
theorem iLst.isO {S : St} {e0 : Option Nat} {l d cap : Nat} {as : List Nat} (h : iLst S.1 e0 l d as cap) : isO S (some l) 16 = some () := by
  obtain ⟨⟨mc, h1⟩, -⟩ := h
  exact isO_ok h1
theorem la_empty {S : St} {e0 : Option Nat} {l d cap : Nat} {as : List Nat} (h : iLst S.1 e0 l d as cap) (hl : as.length < 100000) : f_J2_isEmpty (some l) S = some (bq (decide (as = [])), S) := by
  obtain ⟨⟨mc, h1⟩, -⟩ := h
  have e1 : oI S (some l) 16 2 = some (nq as.length) := oI_ok h1 rfl
  by_cases c : as = []
  · have c' : as.length = 0 := by rw [c]; rfl
    rw [decide_eq_true c]
    simp (disch := omega) only [f_J2_isEmpty, s_J2_isEmpty_12, e1, c', pb1, pb2, nq_lit, nq_add, nq_mul, nq_lt, nq_le, nq_eq, nq_lt0, nq10, nq00, Nat.one_ne_zero, Nat.reduceEqDiff, Nat.not_lt_zero, zb1, zb0, eq_self, reduceIte]
    rfl
  · have c' : ¬ as.length = 0 := fun q => c (List.length_eq_zero_iff.mp q)
    rw [decide_eq_false c]
    simp (disch := omega) only [f_J2_isEmpty, s_J2_isEmpty_12, e1, c', pb1, pb2, nq_lit, nq_add, nq_mul, nq_lt, nq_le, nq_eq, nq_lt0, nq10, nq00, Nat.one_ne_zero, Nat.reduceEqDiff, Nat.not_lt_zero, zb1, zb0, eq_self, reduceIte]
    rfl
theorem la_get {S : St} {e0 : Option Nat} {l d cap i : Nat} {as : List Nat} (h : iLst S.1 e0 l d as cap) (hc : cap ≤ 100000) (hi : i < as.length) : f_J2_get (some l) (nq i) S = some (as[i]?, S) := by
  have hle := h.le
  obtain ⟨⟨mc, h1⟩, -, h2⟩ := h
  obtain ⟨h3, h4⟩ := h2 (by omega)
  have e1 : oI S (some l) 16 2 = some (nq as.length) := oI_ok h1 rfl
  have e2 : oA S (some l) 16 1 = some (some d) := oA_ok (o := some d) h1 rfl
  have e3 := isO_ok h1
  have e4 := aL_ok (ti := 3) (i := i) h3 (by omega) (by omega)
  simp (disch := omega) only [f_J2_get, f_J20_checkIndex, f_J14_checkIndex, f_J2_elementData, e1, e2, e3, e4, hi, pb1, pb2, nq_lit, nq_add, nq_mul, nq_lt, nq_le, nq_eq, nq_lt0, nq10, nq00, Nat.one_ne_zero, Nat.reduceEqDiff, Nat.not_lt_zero, zb1, zb0, eq_self, reduceIte]
/-- a new list's start -/
theorem la_init2 {S : St} {l : Nat} {v : Value} (h : S.1 l = some (.inl (16, [.int (nq 0), v, .int (nq 0)]))) {d : Nat} (hs : S.2.2.2.2.2 0 = some d) : ∃ S', f_J2_init_2 (some l) S = some ((), S') ∧ iLst S'.1 (some d) l d [] 0 ∧ Ch (fun x => x = l) 0 0 S S' := by
  obtain ⟨S1, d1⟩ : ∃ S1, x_set S l (.inl (16, [.int (nq 0), v, .int (nq 0)])) = S1 := ⟨_, rfl⟩
  have h1 : S1.1 l = some (.inl (16, [.int (nq 0), v, .int (nq 0)])) := by rw [← d1]; exact xs_i _ _ _
  have c1 : Ch (fun x => x = l) 0 0 S S1 := by rw [← d1]; exact Ch.set S _ h
  have p1 : pV S (some l) 16 0 (.int (nq 0)) = some S1 := (pV_ok h (by simp)).trans (congrArg some d1)
  have p2 : pV S1 (some l) 16 1 (va_rf (S1.2.2.2.2.2 0)) = some (x_set S1 l (.inl (16, [.int (nq 0), va_rf (S1.2.2.2.2.2 0), .int (nq 0)]))) := pV_ok h1 (by simp)
  refine ⟨_, ?_, ⟨⟨nq 0, ?_⟩, fun _ => ⟨rfl, rfl⟩, fun q => absurd q (Nat.lt_irrefl 0)⟩, c1.trans (Ch.set S1 (.inl (16, [.int (nq 0), va_rf (S1.2.2.2.2.2 0), .int (nq 0)])) h1) fun _ _ q => q⟩
  · unfold f_J2_init_2 f_J1_init f_J0_init
    rw [pb1, pb1, pb1, pb2, nq_lit, p1, pb1, pb2, p2, pb1]
  · rw [xs_i, c1.2.2.2.2.1, hs]
    rfl
theorem la_initN {S : St} {l n : Nat} {v : Value} (h : S.1 l = some (.inl (16, [.int (nq 0), v, .int (nq 0)]))) (hd : Dom S) (hn : 0 < n ∧ n ≤ 1000) (k1 : 1 ≤ S.2.2.1) (k2 : n ≤ S.2.2.2.1) (e0 : Option Nat) : ∃ S', f_J2_init (some l) (nq n) S = some ((), S') ∧ iLst S'.1 e0 l S.2.1 [] n ∧ Ch (fun x => x = l) 1 n S S' := by
  obtain ⟨S1, d1⟩ : ∃ S1, x_set S l (.inl (16, [.int (nq 0), v, .int (nq 0)])) = S1 := ⟨_, rfl⟩
  have h1 : S1.1 l = some (.inl (16, [.int (nq 0), v, .int (nq 0)])) := by rw [← d1]; exact xs_i _ _ _
  have c1 : Ch (fun x => x = l) 0 0 S S1 := by rw [← d1]; exact Ch.set S _ h
  have hnx : S1.2 = S.2 := by rw [← d1]; rfl
  have p1 : pV S (some l) 16 0 (.int (nq 0)) = some S1 := (pV_ok h (by simp)).trans (congrArg some d1)
  have hne : l ≠ S.2.1 := Nat.ne_of_lt (hd l _ h)
  have q1 : nA S1 3 (nq n) (.inr (.inr (.inr (.inr fun _ => none)))) = some (some S1.2.1, x_new S1 n (.inr (3, n, .inr (.inr (.inr (.inr fun _ => none)))))) := nA_ok (by omega) (by rw [hnx]; exact k1) (by rw [hnx]; exact k2)
  have h2 : (x_new S1 n (.inr (3, n, .inr (.inr (.inr (.inr fun _ => none)))))).1 l = some (.inl (16, [.int (nq 0), v, .int (nq 0)])) := xn_o (by rw [hnx]; exact hne) h1
  have p2 : pV (x_new S1 n (.inr (3, n, .inr (.inr (.inr (.inr fun _ => none)))))) (some l) 16 1 (va_rf (some S1.2.1)) = some (x_set (x_new S1 n (.inr (3, n, .inr (.inr (.inr (.inr fun _ => none)))))) l (.inl (16, [.int (nq 0), va_rf (some S1.2.1), .int (nq 0)]))) := pV_ok h2 (by simp)
  have c2 := Ch.new (fun _ => False) S1 (n := n) (.inr (3, n, .inr (.inr (.inr (.inr fun _ => none))))) (by rw [hnx]; exact k1) (by rw [hnx]; exact k2)
  have c3 := Ch.set (x_new S1 n (.inr (3, n, .inr (.inr (.inr (.inr fun _ => none)))))) (.inl (16, [.int (nq 0), va_rf (some S1.2.1), .int (nq 0)])) h2
  refine ⟨_, ?_, ⟨⟨nq 0, ?_⟩, fun q => absurd q (by omega), fun _ => ⟨?_, Nat.zero_le _⟩⟩, (((c1.or c2).or c3).mono (fun x _ q => q.elim (fun q => q.elim id False.elim) id) (by omega) (by omega))⟩
  · have hn0 : ¬ n ≤ 0 := by omega
    simp (disch := omega) only [f_J2_init, f_J1_init, f_J0_init, p1, q1, p2, hn0, pb1, pb2, nq_lit, nq_add, nq_mul, nq_lt, nq_le, nq_eq, nq_lt0, nq10, nq00, Nat.one_ne_zero, Nat.reduceEqDiff, Nat.not_lt_zero, zb1, zb0, eq_self, reduceIte]
  · rw [xs_i, hnx]
    rfl
  · rw [← hnx]
    have : ∀ i : Nat, ([] : List Nat)[i]? = none := fun i => rfl
    exact xs_o (by rw [hnx]; exact Ne.symm hne) (xn_i _ _ _)
/-- the room of a grown array -/
def gcap (cap : Nat) : Nat := if cap = 0 then 10 else cap + (if cap / 2 < 1 then 1 else cap / 2)
theorem la_grow {S : St} {e0 : Option Nat} {l d cap : Nat} {as : List Nat} {mc : Int32} (h1 : S.1 l = some (.inl (16, [.int mc, .ref d, .int (nq as.length)]))) (hf : as.length = cap) (h0 : cap = 0 → e0 = some d ∧ iE0 S.1 e0 ∧ S.2.2.2.2.2 0 = e0) (h2 : 0 < cap → S.1 d = some (.inr (3, cap, .inr (.inr (.inr (.inr fun i => as[i]?))))) ∧ S.2.2.2.2.2 0 ≠ some d) (he : ∀ a ∈ as, eOk S.1 a) (hc : cap ≤ 60000) (hd : Dom S) (k1 : 1 ≤ S.2.2.1) (k2 : gcap cap ≤ S.2.2.2.1) :
    ∃ S', f_J2_grow (some l) S = some (some S.2.1, S') ∧ S'.1 l = some (.inl (16, [.int mc, .ref S.2.1, .int (nq as.length)])) ∧ S'.1 S.2.1 = some (.inr (3, gcap cap, .inr (.inr (.inr (.inr fun i => as[i]?))))) ∧ Ch (fun x => x = l) 1 (gcap cap) S S' := by
  have hne : l ≠ S.2.1 := Nat.ne_of_lt (hd l _ h1)
  have e1 : oI S (some l) 16 2 = some (nq as.length) := oI_ok h1 rfl
  have e2 : oA S (some l) 16 1 = some (some d) := oA_ok (o := some d) h1 rfl
  have e3 := isO_ok h1
  have hgc : gcap cap ≤ 100000 := by
    unfold gcap
    split
    · omega
    · split <;> omega
  by_cases c : cap = 0
  · obtain ⟨g1, ⟨d', f, g2, g3⟩, g4⟩ := h0 c
    have hdd : d = d' := Option.some.inj (g1.symm.trans g2)
    have g3 : S.1 d = some (.inr (3, 0, .inr (.inr (.inr (.inr f))))) := by rw [hdd]; exact g3
    have e4 : lenA S (some d) 3 = some (nq 0) := lenA_ok g3
    have eg : gcap cap = 10 := if_pos c
    rw [eg] at k2 ⊢
    have has : as = [] := List.length_eq_zero_iff.mp (by omega)
    have q1 : nA S 3 (nq 10) (.inr (.inr (.inr (.inr fun _ => none)))) = some (some S.2.1, x_new S 10 (.inr (3, 10, .inr (.inr (.inr (.inr fun _ => none)))))) := nA_ok (by omega) k1 k2
    have h3 : (x_new S 10 (.inr (3, 10, .inr (.inr (.inr (.inr fun _ => none)))))).1 l = some (.inl (16, [.int mc, .ref d, .int (nq as.length)])) := xn_o hne h1
    have p2 : pV (x_new S 10 (.inr (3, 10, .inr (.inr (.inr (.inr fun _ => none)))))) (some l) 16 1 (va_rf (some S.2.1)) = some (x_set (x_new S 10 (.inr (3, 10, .inr (.inr (.inr (.inr fun _ => none)))))) l (.inl (16, [.int mc, va_rf (some S.2.1), .int (nq as.length)]))) := pV_ok h3 (by simp)
    refine ⟨_, ?_, xs_i _ _ _, ?_, ((Ch.new (fun _ => False) S (n := 10) (.inr (3, 10, .inr (.inr (.inr (.inr fun _ => none))))) k1 k2).or (Ch.set _ (.inl (16, [.int mc, va_rf (some S.2.1), .int (nq as.length)])) h3)).mono (fun x _ q => q.elim False.elim id) (by omega) (by omega)⟩
    · have g5 : S.2.2.2.2.2 0 = some d := g4.trans g1
      have h10 : ¬ 10 < as.length + 1 := by omega
      simp (disch := omega) only [f_J2_grow, f_J2_grow_2, f_J12_max, s_J12_max_10, e1, e2, e3, e4, g5, Nat.lt_irrefl, h10, q1, p2, pb1, pb2, nq_lit, nq_add, nq_mul, nq_lt, nq_le, nq_eq, nq_lt0, nq10, nq00, Nat.one_ne_zero, Nat.reduceEqDiff, Nat.not_lt_zero, zb1, zb0, eq_self, reduceIte]
      rfl
    · rw [has]
      exact xs_o (Ne.symm hne) (xn_i _ _ _)
  · obtain ⟨g1, g0⟩ := h2 (by omega)
    have e4 : lenA S (some d) 3 = some (nq cap) := lenA_ok g1
    have hcp : 0 < cap := by omega
    have eg : gcap cap = cap + (if cap / 2 < 1 then 1 else cap / 2) := if_neg c
    have hg0 : 0 < gcap cap := by rw [eg]; omega
    have q1 : nA S 3 (nq (gcap cap)) (.inr (.inr (.inr (.inr fun _ => none)))) = some (some S.2.1, x_new S (gcap cap) (.inr (3, gcap cap, .inr (.inr (.inr (.inr fun _ => none)))))) := nA_ok hgc k1 k2
    obtain ⟨S1, d1⟩ : ∃ S1, x_new S (gcap cap) (.inr (3, gcap cap, .inr (.inr (.inr (.inr fun _ => none))))) = S1 := ⟨_, rfl⟩
    rw [d1] at q1
    have hdne : d ≠ S.2.1 := Nat.ne_of_lt (hd d _ g1)
    have h3 : S1.1 l = some (.inl (16, [.int mc, .ref d, .int (nq as.length)])) := by rw [← d1]; exact xn_o hne h1
    have h4 : S1.1 d = some (.inr (3, cap, .inr (.inr (.inr (.inr fun i => as[i]?))))) := by rw [← d1]; exact xn_o hdne g1
    have h5 : S1.1 S.2.1 = some (.inr (3, gcap cap, .inr (.inr (.inr (.inr fun _ => none))))) := by rw [← d1]; exact xn_i _ _ _
    have c1 : Ch (fun x => x = l) 1 (gcap cap) S S1 := by rw [← d1]; exact Ch.new _ S _ k1 k2
    have e5 : lenA S1 (some d) 3 = some (nq cap) := lenA_ok h4
    have q2 : cpA S1 (some d) (nq 0) (some S.2.1) (nq 0) (nq cap) = some (x_set S1 S.2.1 (.inr (3, gcap cap, .inr (.inr (.inr (.inr (va_cpy (fun i => as[i]?) (fun _ => none) 0 0 cap))))))) := cpA_ok h4 h5 (by omega) (by rw [eg]; omega) hg0 (by omega) (by omega) fun i hi => by
      rw [Nat.zero_add]
      cases hx : as[i]? with
      | none => rfl
      | some a => exact ((he a (List.mem_of_getElem? hx)).ch c1 hd ((he a (List.mem_of_getElem? hx)).ne h1)).asg
    have ev : va_cpy (fun i => as[i]?) (fun _ => none) 0 0 cap = fun i => as[i]? := by
      funext i
      unfold va_cpy
      by_cases hi : i < cap
      · rw [if_pos ⟨Nat.zero_le _, by omega⟩, Nat.zero_add, Nat.sub_zero]
      · rw [if_neg (by omega), List.getElem?_eq_none (by omega)]
    rw [ev] at q2
    obtain ⟨S2, d2⟩ : ∃ S2, x_set S1 S.2.1 (.inr (3, gcap cap, .inr (.inr (.inr (.inr fun i => as[i]?))))) = S2 := ⟨_, rfl⟩
    rw [d2] at q2
    have h6 : S2.1 l = some (.inl (16, [.int mc, .ref d, .int (nq as.length)])) := by rw [← d2]; exact xs_o hne h3
    have c2 : Ch (fun x => x = S.2.1) 0 0 S1 S2 := by rw [← d2]; exact Ch.set S1 _ h5
    have p2 : pV S2 (some l) 16 1 (va_rf (some S.2.1)) = some (x_set S2 l (.inl (16, [.int mc, va_rf (some S.2.1), .int (nq as.length)]))) := pV_ok h6 (by simp)
    have hst : S1.2.2.2.2.2 4 = S.2.2.2.2.2 4 := by rw [c1.2.2.2.2.1]
    refine ⟨_, ?_, xs_i _ _ _, ?_, ((c1.trans c2 fun x hx q => absurd q (Nat.ne_of_lt hx)).trans (Ch.set S2 (.inl (16, [.int mc, va_rf (some S.2.1), .int (nq as.length)])) h6) fun _ _ q => q)⟩
    · have hs1 : cap + 1 - cap = 1 := by omega
      have hmn : ¬ gcap cap < cap := by rw [eg]; omega
      have hle0 : ¬ gcap cap ≤ 0 := by omega
      have hbig : ¬ 2147483639 < gcap cap := by omega
      by_cases hh : cap / 2 < 1
      · have eg' : cap + 1 = gcap cap := by rw [eg, if_pos hh]
        have hh' : ¬ 1 < cap / 2 := by omega
        have hs2 : gcap cap - cap = 1 := by omega
        simp (disch := omega) only [f_J2_grow, f_J2_grow_2, s_J2_grow_2_20, f_J11_newLength, f_J12_max, s_J12_max_10, f_J13_copyOf_2, f_J13_copyOf_3, f_J12_min, s_J12_min_10, e1, e2, e3, e4, e5, hf, hcp, nq_sub, hs1, nq_shr, hh', eg', hs2, hle0, hbig, hmn, q1, q2, p2, pb1, pb2, nq_lit, nq_add, nq_mul, nq_lt, nq_le, nq_eq, nq_lt0, nq10, nq00, Nat.one_ne_zero, Nat.reduceEqDiff, Nat.not_lt_zero, zb1, zb0, eq_self, reduceIte]
        rfl
      · have eg' : cap + cap / 2 = gcap cap := by rw [eg, if_neg hh]
        by_cases hh' : 1 < cap / 2
        · simp (disch := omega) only [f_J2_grow, f_J2_grow_2, s_J2_grow_2_20, f_J11_newLength, f_J12_max, s_J12_max_10, f_J13_copyOf_2, f_J13_copyOf_3, f_J12_min, s_J12_min_10, e1, e2, e3, e4, e5, hf, hcp, nq_sub, hs1, nq_shr, hh', eg', hle0, hbig, hmn, q1, q2, p2, pb1, pb2, nq_lit, nq_add, nq_mul, nq_lt, nq_le, nq_eq, nq_lt0, nq10, nq00, Nat.one_ne_zero, Nat.reduceEqDiff, Nat.not_lt_zero, zb1, zb0, eq_self, reduceIte]
          rfl
        · have eg'' : cap + 1 = gcap cap := by rw [← eg']; omega
          have hs2 : gcap cap - cap = 1 := by omega
          simp (disch := omega) only [f_J2_grow, f_J2_grow_2, s_J2_grow_2_20, f_J11_newLength, f_J12_max, s_J12_max_10, f_J13_copyOf_2, f_J13_copyOf_3, f_J12_min, s_J12_min_10, e1, e2, e3, e4, e5, hf, hcp, nq_sub, hs1, nq_shr, hh', eg'', hs2, hle0, hbig, hmn, q1, q2, p2, pb1, pb2, nq_lit, nq_add, nq_mul, nq_lt, nq_le, nq_eq, nq_lt0, nq10, nq00, Nat.one_ne_zero, Nat.reduceEqDiff, Nat.not_lt_zero, zb1, zb0, eq_self, reduceIte]
          rfl
    · refine xs_o (Ne.symm hne) ?_
      rw [← d2]
      exact xs_i _ _ _
theorem iLst.data {M : Nat → Option Ob} {e0 : Option Nat} {l d cap : Nat} {as : List Nat} (h : iLst M e0 l d as cap) (hE : iE0 M e0) : ∃ x : Nat × vp_A, M d = some (.inr x) ∧ lenA (M, 0, 0, 0, none, fun _ => none) (some d) 3 = some (nq cap) := by
  by_cases c : cap = 0
  · obtain ⟨d', f, g2, g3⟩ := hE
    have hdd : d = d' := Option.some.inj ((h.2.1 c).2.symm.trans g2)
    subst hdd
    exact ⟨_, g3, by rw [c]; exact lenA_ok g3⟩
  · have := (h.2.2 (by omega)).1
    exact ⟨_, this, lenA_ok this⟩
theorem lenA_of {S : St} {cap d : Nat} {x : Nat × vp_A} (h : S.1 d = some (.inr x)) (k : lenA (S.1, 0, 0, 0, none, fun _ => none) (some d) 3 = some (nq cap)) : lenA S (some d) 3 = some (nq cap) := by
  have e1 : aR S (some d) = some x := aR_ok h
  have e2 : aR (S.1, 0, 0, 0, none, fun _ => none) (some d) = some x := aR_ok (S := (S.1, 0, 0, 0, none, fun _ => none)) h
  unfold lenA at k ⊢
  rw [e1]
  rw [e2] at k
  exact k
/-- cells and slots of an append -/
def gkc (n cap : Nat) : Nat := if n < cap then 0 else 1
def gks (n cap : Nat) : Nat := if n < cap then 0 else gcap cap
def gca (n cap : Nat) : Nat := if n < cap then cap else gcap cap
theorem gcap_pos (cap : Nat) : cap < gcap cap := by
  unfold gcap
  split
  · omega
  · split <;> omega
theorem app_fn (as : List Nat) (v : Nat) : va_up (fun i => as[i]?) as.length (some v) = fun i => (as ++ [v])[i]? := by
  funext i
  unfold va_up
  by_cases h : i = as.length
  · rw [if_pos h, h, List.getElem?_append_right (Nat.le_refl _), Nat.sub_self]
    rfl
  · rw [if_neg h]
    by_cases h2 : i < as.length
    · show as[i]? = (as ++ [v])[i]?
      rw [List.getElem?_append_left h2]
    · show as[i]? = (as ++ [v])[i]?
      rw [List.getElem?_eq_none (l := as) (by omega), List.getElem?_eq_none (l := as ++ [v]) (by rw [List.length_append, List.length_singleton]; omega)]
theorem la_add {S : St} {e0 : Option Nat} {l d cap v : Nat} {as : List Nat} (h : iLst S.1 e0 l d as cap) (hE : iE0 S.1 e0) (hst : S.2.2.2.2.2 0 = e0) (hdn : 0 < cap → e0 ≠ some d) (he : ∀ a ∈ as, eOk S.1 a) (hv : eOk S.1 v) (hc : cap ≤ 60000) (hd : Dom S) (k1 : gkc as.length cap ≤ S.2.2.1) (k2 : gks as.length cap ≤ S.2.2.2.1) :
    ∃ S', f_J2_add (some l) (some v) S = some (nq 1, S') ∧ iLst S'.1 e0 l (if as.length < cap then d else S.2.1) (as ++ [v]) (gca as.length cap) ∧ Ch (fun x => x = l ∨ (0 < cap ∧ x = d)) (gkc as.length cap) (gks as.length cap) S S' := by
  have hle := h.le
  obtain ⟨x, hx, hlen⟩ := h.data hE
  have hgp := gcap_pos cap
  have hlist := h
  obtain ⟨⟨mc, h1⟩, h0, h2⟩ := h
  obtain ⟨S1, d1⟩ : ∃ S1, x_set S l (.inl (16, [.int (mc + nq 1), .ref d, .int (nq as.length)])) = S1 := ⟨_, rfl⟩
  have g1 : S1.1 l = some (.inl (16, [.int (mc + nq 1), .ref d, .int (nq as.length)])) := by rw [← d1]; exact xs_i _ _ _
  have c1 : Ch (fun x => x = l) 0 0 S S1 := by rw [← d1]; exact Ch.set S _ h1
  have hnx : S1.2 = S.2 := by rw [← d1]; rfl
  have p1 : pV S (some l) 16 0 (.int (mc + nq 1)) = some S1 := (pV_ok h1 (by simp)).trans (congrArg some d1)
  have hd1 := c1.2.2.2.2.2 hd
  have hdl : d ≠ l := (obne h1 hx (by simp)).symm
  have hx1 := c1.at hd hx hdl
  have e0' : oI S (some l) 16 0 = some mc := oI_ok h1 rfl
  have e1 : oA S1 (some l) 16 1 = some (some d) := oA_ok (o := some d) g1 rfl
  have e2 : oI S1 (some l) 16 2 = some (nq as.length) := oI_ok g1 rfl
  have e3 := isO_ok g1
  have hlen1 : lenA S1 (some d) 3 = some (nq cap) := by
    have e1 : aR S1 (some d) = some x := aR_ok hx1
    have e2 : aR S (some d) = some x := aR_ok hx
    have := lenA_of hx hlen
    unfold lenA at this ⊢
    rw [e1]
    rw [e2] at this
    exact this
  have hv1 : eOk S1.1 v := hv.ch c1 hd (hv.ne h1)
  by_cases hf : as.length < cap
  · have hne : ¬ as.length = cap := by omega
    have ek : gkc as.length cap = 0 := if_pos hf
    have es : gks as.length cap = 0 := if_pos hf
    have ea : gca as.length cap = cap := if_pos hf
    rw [ek, es, ea, if_pos hf]
    have h3 := (h2 (by omega)).1
    have h31 := c1.at hd h3 hdl
    have q1 : aS S1 (some d) 3 (nq as.length) (some v) = some (x_set S1 d (.inr (3, cap, .inr (.inr (.inr (.inr fun i => (as ++ [v])[i]?)))))) := by
      rw [aS_ok h31 hf (by omega) hv1.asg, app_fn]
    obtain ⟨S2, d2⟩ : ∃ S2, x_set S1 d (.inr (3, cap, .inr (.inr (.inr (.inr fun i => (as ++ [v])[i]?))))) = S2 := ⟨_, rfl⟩
    rw [d2] at q1
    have g2 : S2.1 l = some (.inl (16, [.int (mc + nq 1), .ref d, .int (nq as.length)])) := by rw [← d2]; exact xs_o (Ne.symm hdl) g1
    have c2 : Ch (fun x => x = d) 0 0 S1 S2 := by rw [← d2]; exact Ch.set S1 _ h31
    have p2 : pV S2 (some l) 16 2 (.int (nq (as.length + 1))) = some (x_set S2 l (.inl (16, [.int (mc + nq 1), .ref d, .int (nq (as.length + 1))]))) := pV_ok g2 (by simp)
    refine ⟨_, ?_, ⟨⟨mc + nq 1, ?_⟩, fun q => absurd q (by omega), fun _ => ⟨?_, by rw [List.length_append, List.length_singleton]; omega⟩⟩, (((c1.or c2).or (Ch.set S2 (.inl (16, [.int (mc + nq 1), .ref d, .int (nq (as.length + 1))])) g2))).mono (fun x _ q => ?_) (Nat.le_refl _) (Nat.le_refl _)⟩
    · simp (disch := omega) only [f_J2_add, f_J2_add_2, s_J2_add_2_11, e0', e1, e2, e3, hlen1, hne, p1, q1, p2, pb1, pb2, nq_lit, nq_add, nq_mul, nq_lt, nq_le, nq_eq, nq_lt0, nq10, nq00, Nat.one_ne_zero, Nat.reduceEqDiff, Nat.not_lt_zero, zb1, zb0, eq_self, reduceIte]
    · rw [xs_i, List.length_append]
      rfl
    · refine xs_o hdl ?_
      rw [← d2]
      exact xs_i _ _ _
    · rcases q with (q | q) | q
      · exact Or.inl q
      · exact Or.inr ⟨by omega, q⟩
      · exact Or.inl q
  · have heq : as.length = cap := by omega
    have ek : gkc as.length cap = 1 := if_neg hf
    have es : gks as.length cap = gcap cap := if_neg hf
    have ea : gca as.length cap = gcap cap := if_neg hf
    rw [ek] at k1
    rw [es] at k2
    rw [ek, es, ea, if_neg hf]
    obtain ⟨S2, r1, r2, r3, r4⟩ := la_grow (S := S1) (e0 := e0) g1 heq (fun c => ⟨(h0 c).2, by
      obtain ⟨d', f, w1, w2⟩ := hE
      have : d' = d := Option.some.inj (w1.symm.trans (h0 c).2)
      exact ⟨d', f, w1, c1.at hd w2 (by rw [this]; exact hdl)⟩, by rw [c1.2.2.2.2.1]; exact hst⟩) (fun c => ⟨c1.at hd (h2 c).1 hdl, by rw [c1.2.2.2.2.1, hst]; exact hdn c⟩) (fun a ha => (he a ha).ch c1 hd ((he a ha).ne h1)) hc hd1 (by rw [hnx]; exact k1) (by rw [hnx]; exact k2)
    rw [hnx] at r1 r2 r3
    have hv2 : eOk S2.1 v := hv1.ch r4 hd1 (hv1.ne g1)
    have hgc : gcap cap ≤ 100000 := by
      unfold gcap
      split
      · omega
      · split <;> omega
    have hnl : S.2.1 ≠ l := (Nat.ne_of_lt (hd l _ h1)).symm
    have q1 : aS S2 (some S.2.1) 3 (nq as.length) (some v) = some (x_set S2 S.2.1 (.inr (3, gcap cap, .inr (.inr (.inr (.inr fun i => (as ++ [v])[i]?)))))) := by
      rw [aS_ok r3 (by omega) (by omega) hv2.asg, app_fn]
    obtain ⟨S3, d3⟩ : ∃ S3, x_set S2 S.2.1 (.inr (3, gcap cap, .inr (.inr (.inr (.inr fun i => (as ++ [v])[i]?))))) = S3 := ⟨_, rfl⟩
    rw [d3] at q1
    have g3 : S3.1 l = some (.inl (16, [.int (mc + nq 1), .ref S.2.1, .int (nq as.length)])) := by rw [← d3]; exact xs_o (Ne.symm hnl) r2
    have c3 : Ch (fun x => x = S.2.1) 0 0 S2 S3 := by rw [← d3]; exact Ch.set S2 _ r3
    have p3 : pV S3 (some l) 16 2 (.int (nq (as.length + 1))) = some (x_set S3 l (.inl (16, [.int (mc + nq 1), .ref S.2.1, .int (nq (as.length + 1))]))) := pV_ok g3 (by simp)
    refine ⟨_, ?_, ⟨⟨mc + nq 1, ?_⟩, fun q => absurd q (by omega), fun _ => ⟨?_, by rw [List.length_append, List.length_singleton]; omega⟩⟩, ((((c1.or r4).or c3).or (Ch.set S3 (.inl (16, [.int (mc + nq 1), .ref S.2.1, .int (nq (as.length + 1))])) g3))).mono (fun x hx q => ?_) (by omega) (by omega)⟩
    · rw [heq] at e2 q1 p3 ⊢
      simp (disch := omega) only [f_J2_add, f_J2_add_2, s_J2_add_2_11, e0', e1, e2, e3, hlen1, p1, r1, q1, p3, pb1, pb2, nq_lit, nq_add, nq_mul, nq_lt, nq_le, nq_eq, nq_lt0, nq10, nq00, Nat.one_ne_zero, Nat.reduceEqDiff, Nat.not_lt_zero, zb1, zb0, eq_self, reduceIte]
    · rw [xs_i, List.length_append]
      rfl
    · refine xs_o hnl ?_
      rw [← d3]
      exact xs_i _ _ _
    · rcases q with ((q | q) | q) | q
      · exact Or.inl q
      · exact Or.inl q
      · exact absurd q (Nat.ne_of_lt hx)
      · exact Or.inl q
