/-! PURE: operations on pictures, when they answer -/
set_option maxRecDepth 100000
theorem xs_i (S : St) (a : Nat) (e : Ob) : (x_set S a e).1 a = some e := by simp [x_set, va_up]
theorem xs_o {S : St} {a b : Nat} {e : Ob} {r : Option Ob} (h : b ≠ a) (k : S.1 b = r) : (x_set S a e).1 b = r := by simp [x_set, va_up, h, k]
theorem xn_i (S : St) (n : Nat) (e : Ob) : (x_new S n e).1 S.2.1 = some e := by simp [x_new, va_up]
theorem xn_o {S : St} {n b : Nat} {e : Ob} {r : Option Ob} (h : b ≠ S.2.1) (k : S.1 b = r) : (x_new S n e).1 b = r := by simp [x_new, va_up, h, k]
theorem xs_2 (S : St) (a : Nat) (e : Ob) : (x_set S a e).2 = S.2 := rfl
theorem xn_nx (S : St) (n : Nat) (e : Ob) : (x_new S n e).2.1 = S.2.1 + 1 := rfl
theorem xn_k (S : St) (n : Nat) (e : Ob) : (x_new S n e).2.2.1 = S.2.2.1 - 1 := rfl
theorem xn_s (S : St) (n : Nat) (e : Ob) : (x_new S n e).2.2.2.1 = S.2.2.2.1 - n := rfl
theorem xn_g (S : St) (n : Nat) (e : Ob) : (x_new S n e).2.2.2.2 = S.2.2.2.2 := rfl
theorem oF_ok {S : St} {a ci : Nat} {fs : List Value} (h : S.1 a = some (.inl (ci, fs))) : oF S (some a) ci = some fs := by
  simp only [oF, h, if_true]
theorem oI_ok {S : St} {a ci k : Nat} {fs : List Value} {v : Int32} (h : S.1 a = some (.inl (ci, fs))) (hv : fs[k]? = some (.int v)) : oI S (some a) ci k = some v := by
  simp only [oI, oF_ok h, Option.bind_some, hv, vI]
theorem vA_rf (o : Option Nat) : vA (some (va_rf o)) = some o := by cases o <;> rfl
theorem oA_ok {S : St} {a ci k : Nat} {fs : List Value} {o : Option Nat} (h : S.1 a = some (.inl (ci, fs))) (hv : fs[k]? = some (va_rf o)) : oA S (some a) ci k = some o := by
  simp only [oA, oF_ok h, Option.bind_some, hv, vA_rf]
theorem isO_ok {S : St} {a ci : Nat} {fs : List Value} (h : S.1 a = some (.inl (ci, fs))) : isO S (some a) ci = some () := by
  simp only [isO, oF_ok h, Option.map_some]
theorem ckO_ok {S : St} {a ci : Nat} {fs : List Value} (h : S.1 a = some (.inl (ci, fs))) : ckO S (some a) ci = some () := isO_ok h
theorem oQ_ok {S : St} {a ci : Nat} {fs : List Value} (h : S.1 a = some (.inl (ci, fs))) : oQ S (some a) ci = some a := by
  simp only [oQ, oF_ok h, Option.bind_some]
theorem pV_ok {S : St} {a ci k : Nat} {fs : List Value} {v : Value} (h : S.1 a = some (.inl (ci, fs))) (hk : k < fs.length) : pV S (some a) ci k v = some (x_set S a (.inl (ci, fs.set k v))) := by
  simp only [pV, oF_ok h, Option.bind_some, if_pos hk]
theorem aR_ok {S : St} {a : Nat} {x : Nat × vp_A} (h : S.1 a = some (.inr x)) : aR S (some a) = some x := by
  simp only [aR, h]
theorem lenA_ok {S : St} {a ti n : Nat} {c : (Nat → Int32) ⊕ (Nat → Int64) ⊕ (Nat → UInt32) ⊕ (Nat → UInt64) ⊕ (Nat → Option Nat)} (h : S.1 a = some (.inr (ti, n, c))) : lenA S (some a) ti = some (nq n) := by
  simp only [lenA, aR_ok h, Option.bind_some, if_true, nq]
theorem in_ok {i n : Nat} (h : i < n) (hi : i < 2147483648) : ¬ (nq i < 0 ∨ n ≤ (nq i).toNatClampNeg) := by
  rw [nq_idx hi]
  intro q
  rcases q with q | q
  · exact (nq_lt0 hi).mp q
  · omega
theorem iL_ok {S : St} {a ti n i : Nat} {f : Nat → Int32} (h : S.1 a = some (.inr (ti, n, .inl f))) (hi : i < n) (h2 : i < 2147483648) : iL S (some a) ti (nq i) = some (f i) := by
  simp only [iL, aR_ok h, Option.bind_some]
  rw [if_pos ⟨trivial, in_ok hi h2⟩, nq_idx h2]
theorem jL_ok {S : St} {a n i : Nat} {f : Nat → Int64} (h : S.1 a = some (.inr (1, n, .inr (.inl f)))) (hi : i < n) (h2 : i < 2147483648) : jL S (some a) (nq i) = some (f i) := by
  simp only [jL, aR_ok h, Option.bind_some]
  rw [if_pos ⟨trivial, in_ok hi h2⟩, nq_idx h2]
theorem aL_ok {S : St} {a ti n i : Nat} {f : Nat → Option Nat} (h : S.1 a = some (.inr (ti, n, .inr (.inr (.inr (.inr f)))))) (hi : i < n) (h2 : i < 2147483648) : aL S (some a) ti (nq i) = some (f i) := by
  simp only [aL, aR_ok h, Option.bind_some]
  rw [if_pos ⟨trivial, in_ok hi h2⟩, nq_idx h2]
theorem iS_ok {S : St} {a ti n i : Nat} {f : Nat → Int32} {v : Int32} (h : S.1 a = some (.inr (ti, n, .inl f))) (hi : i < n) (h2 : i < 2147483648) : iS S (some a) ti (nq i) v = some (x_set S a (.inr (ti, n, .inl (va_up f i v)))) := by
  simp only [iS, aR_ok h, Option.bind_some]
  rw [if_pos ⟨trivial, in_ok hi h2⟩, nq_idx h2]
theorem jS_ok {S : St} {a n i : Nat} {f : Nat → Int64} {v : Int64} (h : S.1 a = some (.inr (1, n, .inr (.inl f)))) (hi : i < n) (h2 : i < 2147483648) : jS S (some a) (nq i) v = some (x_set S a (.inr (1, n, .inr (.inl (va_up f i v))))) := by
  simp only [jS, aR_ok h, Option.bind_some]
  rw [if_pos ⟨trivial, in_ok hi h2⟩, nq_idx h2]
theorem aS_ok {S : St} {a ti n i : Nat} {f : Nat → Option Nat} {r : Option Nat} (h : S.1 a = some (.inr (ti, n, .inr (.inr (.inr (.inr f)))))) (hi : i < n) (h2 : i < 2147483648) (ha : asgOk S ti r = true) : aS S (some a) ti (nq i) r = some (x_set S a (.inr (ti, n, .inr (.inr (.inr (.inr (va_up f i r))))))) := by
  simp only [aS, aR_ok h, Option.bind_some]
  rw [if_pos ⟨trivial, in_ok hi h2, ha⟩, nq_idx h2]
theorem asg_ok {S : St} {a ci ti : Nat} {fs : List Value} (h : S.1 a = some (.inl (ci, fs))) (k : r_asg.contains (ti, ci) = true) : asgOk S ti (some a) = true := by
  simp only [asgOk, clsOf, h, k]
theorem nO_ok {S : St} {ci n : Nat} {fs : List Value} (h1 : 1 ≤ S.2.2.1) (h2 : n ≤ S.2.2.2.1) : nO S ci n fs = some (some S.2.1, x_new S n (.inl (ci, fs))) := by
  simp only [nO]
  rw [if_pos ⟨h1, h2⟩]
theorem nA_ok {S : St} {ti n : Nat} {c : (Nat → Int32) ⊕ (Nat → Int64) ⊕ (Nat → UInt32) ⊕ (Nat → UInt64) ⊕ (Nat → Option Nat)} (hn : n ≤ 100000) (h1 : 1 ≤ S.2.2.1) (h2 : n ≤ S.2.2.2.1) : nA S ti (nq n) c = some (some S.2.1, x_new S n (.inr (ti, n, c))) := by
  simp only [nA]
  rw [nq_idx (by omega), if_pos ⟨⟨fun q => (nq_lt0 (by omega)).mp q, hn⟩, h1, h2⟩]
theorem nL_ok {S : St} {j : Nat} {fs : List Value} (h1 : 1 ≤ S.2.2.1) (h2 : fs.length ≤ S.2.2.2.1) : nL S j fs = some (some S.2.1, x_new S fs.length (.inl (100 + j, fs))) := by
  simp only [nL]
  rw [if_pos ⟨h1, h2⟩]
theorem cpI_ok {S : St} {a b n m sp dp k : Nat} {f g : Nat → Int32} (ha : S.1 a = some (.inr (0, n, .inl f))) (hb : S.1 b = some (.inr (0, m, .inl g))) (h1 : sp + k ≤ n) (h2 : dp + k ≤ m) (hn : n < 2147483648) (hm : m < 2147483648) :
    cpI S (some a) (nq sp) (some b) (nq dp) (nq k) = some (x_set S b (.inr (0, m, .inl (va_cpy f g sp dp k)))) := by
  simp only [cpI, aR_ok ha, aR_ok hb, Option.bind_some]
  rw [nq_idx (by omega), nq_idx (by omega), nq_idx (by omega), if_pos]
  exact ⟨⟨trivial, trivial⟩, ⟨fun q => (nq_lt0 (by omega)).mp q, fun q => (nq_lt0 (by omega)).mp q, fun q => (nq_lt0 (by omega)).mp q⟩, h1, h2⟩
theorem cpA_ok {S : St} {a b n m sp dp k : Nat} {f g : Nat → Option Nat} (ha : S.1 a = some (.inr (3, n, .inr (.inr (.inr (.inr f)))))) (hb : S.1 b = some (.inr (3, m, .inr (.inr (.inr (.inr g)))))) (h1 : sp + k ≤ n) (h2 : dp + k ≤ m) (h0 : 0 < m) (hn : n < 2147483648) (hm : m < 2147483648)
    (hA : ∀ i, i < k → asgOk S 3 (f (sp + i)) = true) : cpA S (some a) (nq sp) (some b) (nq dp) (nq k) = some (x_set S b (.inr (3, m, .inr (.inr (.inr (.inr (va_cpy f g sp dp k))))))) := by
  simp only [cpA, aR_ok ha, aR_ok hb, Option.bind_some]
  rw [nq_idx (by omega), nq_idx (by omega), nq_idx (by omega), if_pos]
  refine ⟨⟨trivial, trivial⟩, ⟨fun q => (nq_lt0 (by omega)).mp q, fun q => (nq_lt0 (by omega)).mp q, fun q => (nq_lt0 (by omega)).mp q⟩, h1, h2, h0, ?_⟩
  rw [List.all_eq_true]
  intro i hi
  exact hA i (List.mem_range.mp hi)
/-- behind a thrown exception -/
def xt (S : St) : St := (S.1, S.2.1 + 1, S.2.2.1 - 1, S.2.2.2.1 - 6, S.2.2.2.2)
theorem thr_ok {S : St} {E : String} (h1 : 1 ≤ S.2.2.1) (h2 : 6 ≤ S.2.2.2.1) : thr S E = some ((E, S.2.1), xt S) := by
  simp only [thr]
  rw [if_pos ⟨h1, h2⟩]
  rfl
/-! ### what a method changes -/
def Dom (S : St) : Prop := ∀ (a : Nat) (e : Ob), S.1 a = some e → a < S.2.1
/-- only old things in A have changed; at most c cells of s slots are new -/
def Ch (A : Nat → Prop) (c s : Nat) (S S' : St) : Prop := (∀ a, a < S.2.1 → ¬ A a → S'.1 a = S.1 a) ∧ S.2.1 ≤ S'.2.1 ∧ S.2.2.1 ≤ S'.2.2.1 + c ∧ S.2.2.2.1 ≤ S'.2.2.2.1 + s ∧ S'.2.2.2.2 = S.2.2.2.2 ∧ (Dom S → Dom S')
theorem Ch.refl (A : Nat → Prop) (S : St) : Ch A 0 0 S S := ⟨fun _ _ _ => rfl, Nat.le_refl _, Nat.le_refl _, Nat.le_refl _, rfl, fun h => h⟩
theorem Ch.trans {A B : Nat → Prop} {c s c' s' : Nat} {S S1 S2 : St} (h : Ch A c s S S1) (k : Ch B c' s' S1 S2) (hAB : ∀ a, a < S.2.1 → B a → A a) : Ch A (c + c') (s + s') S S2 := by
  obtain ⟨a1, a2, a3, a4, a5, a6⟩ := h
  obtain ⟨b1, b2, b3, b4, b5, b6⟩ := k
  refine ⟨fun a ha hA => ?_, by omega, by omega, by omega, b5.trans a5, fun q => b6 (a6 q)⟩
  rw [b1 a (by omega) fun q => hA (hAB a ha q)]
  exact a1 a ha hA
theorem Ch.mono {A B : Nat → Prop} {c s c' s' : Nat} {S S1 : St} (h : Ch A c s S S1) (hA : ∀ a, a < S.2.1 → A a → B a) (hc : c ≤ c') (hs : s ≤ s') : Ch B c' s' S S1 := by
  obtain ⟨a1, a2, a3, a4, a5, a6⟩ := h
  exact ⟨fun a ha q => a1 a ha fun r => q (hA a ha r), a2, by omega, by omega, a5, a6⟩
theorem Ch.or {A B : Nat → Prop} {c s c' s' : Nat} {S S1 S2 : St} (h : Ch A c s S S1) (k : Ch B c' s' S1 S2) : Ch (fun x => A x ∨ B x) (c + c') (s + s') S S2 :=
  (h.mono (B := fun x => A x ∨ B x) (fun _ _ q => Or.inl q) (Nat.le_refl _) (Nat.le_refl _)).trans k fun _ _ q => Or.inr q
theorem Ch.set (S : St) {a : Nat} {e0 : Ob} (e : Ob) (h : S.1 a = some e0) : Ch (fun x => x = a) 0 0 S (x_set S a e) := by
  refine ⟨fun b hb hn => by simp [x_set, va_up, hn], Nat.le_refl _, Nat.le_refl _, Nat.le_refl _, rfl, fun hd b eb hb => ?_⟩
  by_cases hba : b = a
  · subst hba
    exact hd b _ h
  · exact hd b eb (by simpa [x_set, va_up, hba] using hb)
theorem Ch.new (A : Nat → Prop) (S : St) {n : Nat} (e : Ob) (h1 : 1 ≤ S.2.2.1) (h2 : n ≤ S.2.2.2.1) : Ch A 1 n S (x_new S n e) := by
  refine ⟨fun b hb hn => by simp [x_new, va_up, show b ≠ S.2.1 by omega], Nat.le_succ _, ?_, ?_, rfl, fun hd b eb hb => ?_⟩
  · show S.2.2.1 ≤ S.2.2.1 - 1 + 1
    omega
  · show S.2.2.2.1 ≤ S.2.2.2.1 - n + n
    omega
  · show b < S.2.1 + 1
    by_cases hba : b = S.2.1
    · omega
    · have := hd b eb (by simpa [x_new, va_up, hba] using hb)
      omega
theorem Ch.thr (A : Nat → Prop) (S : St) (h1 : 1 ≤ S.2.2.1) (h2 : 6 ≤ S.2.2.2.1) : Ch A 1 6 S (xt S) := by
  refine ⟨fun b hb hn => rfl, Nat.le_succ _, ?_, ?_, rfl, fun hd b eb hb => ?_⟩
  · show S.2.2.1 ≤ S.2.2.1 - 1 + 1
    omega
  · show S.2.2.2.1 ≤ S.2.2.2.1 - 6 + 6
    omega
  · show b < S.2.1 + 1
    have := hd b eb hb
    omega
/-- what was there stays -/
theorem Ch.at {A : Nat → Prop} {c s : Nat} {S S1 : St} (h : Ch A c s S S1) (hd : Dom S) {a : Nat} {e : Ob} (ha : S.1 a = some e) (hn : ¬ A a) : S1.1 a = some e := by
  rw [h.1 a (hd a e ha) hn]
  exact ha
/-- a smaller picture -/
def Sub (F M : Nat → Option Ob) : Prop := ∀ (a : Nat) (e : Ob), F a = some e → M a = some e
theorem Ch.sub {A : Nat → Prop} {c s : Nat} {S S1 : St} {F : Nat → Option Ob} (h : Ch A c s S S1) (hd : Dom S) (hF : Sub F S.1) (hn : ∀ a, A a → F a = none) : Sub F S1.1 := by
  intro a e ha
  refine h.at hd (hF a e ha) fun q => ?_
  rw [hn a q] at ha
  cases ha
theorem Sub.refl (F : Nat → Option Ob) : Sub F F := fun _ _ h => h
theorem Sub.trans {F M N : Nat → Option Ob} (h : Sub F M) (k : Sub M N) : Sub F N := fun a e q => k a e (h a e q)
theorem obne {M : Nat → Option Ob} {a b : Nat} {e e' : Ob} (h : M a = some e) (k : M b = some e') (hn : e ≠ e') : a ≠ b := by
  intro q
  rw [q, k] at h
  exact hn (Option.some.inj h).symm
/-- what is new -/
def nw (n : Nat) (M : Nat → Option Ob) : Nat → Option Ob := fun x => if n ≤ x then M x else none
theorem nw_i {n x : Nat} {M : Nat → Option Ob} {e : Ob} (h : n ≤ x) (k : M x = some e) : nw n M x = some e := by
  unfold nw
  rw [if_pos h, k]
theorem nw_e {n x : Nat} {M : Nat → Option Ob} {e : Ob} (h : nw n M x = some e) : n ≤ x ∧ M x = some e := by
  unfold nw at h
  by_cases c : n ≤ x
  · rw [if_pos c] at h
    exact ⟨c, h⟩
  · rw [if_neg c] at h
    cases h
theorem nw_sub (n : Nat) (M : Nat → Option Ob) : Sub (nw n M) M := fun _ _ h => (nw_e h).2
theorem nw_mono {n n' : Nat} {M : Nat → Option Ob} (h : n ≤ n') : Sub (nw n' M) (nw n M) := fun _ _ q => nw_i (Nat.le_trans h (nw_e q).1) (nw_e q).2
theorem nw_ch {A : Nat → Prop} {c s n x : Nat} {S S1 : St} {e : Ob} (h : Ch A c s S S1) (hd : Dom S) (k : nw n S.1 x = some e) (hn : ¬ A x) : nw n S1.1 x = some e := nw_i (nw_e k).1 (h.at hd (nw_e k).2 hn)
