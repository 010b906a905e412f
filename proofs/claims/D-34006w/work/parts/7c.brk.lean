/-! PURE: Broken, and how versions are rebuilt -/
set_option maxRecDepth 100000
theorem t_exc13 {S : St} {n : Nat} {o : Option Nat} (h0 : S.1 n = some (.inl (12, [.null, .null, .null, .null, .null, .int (nq 0), .int (nq 0), .int (nq 0)]))) : ∃ S', f_J3_init_3_X13 (some n) none o S = some ((), S') ∧ S'.1 n = some (.inl (12, [va_rf o, va_rf (S.2.2.2.2.2 2), va_rf (S.2.2.2.2.2 3), va_rf none, .null, .int (nq 0), .int (nq 0), .int (nq 0)])) ∧ Ch (fun x => x = n) 0 0 S S' := by
  obtain ⟨S1, e1⟩ : ∃ S1, x_set S n (.inl (12, [va_rf (some n), .null, .null, .null, .null, .int (nq 0), .int (nq 0), .int (nq 0)])) = S1 := ⟨_, rfl⟩
  have h1 : S1.1 n = some (.inl (12, [va_rf (some n), .null, .null, .null, .null, .int (nq 0), .int (nq 0), .int (nq 0)])) := by rw [← e1]; exact xs_i _ _ _
  have c1 : Ch (fun x => x = n) 0 0 S S1 := by rw [← e1]; exact Ch.set S _ h0
  have p1 : pV S (some n) 12 0 (va_rf (some n)) = some S1 := (pV_ok h0 (by simp)).trans (congrArg some e1)
  obtain ⟨S2, e2⟩ : ∃ S2, x_set S1 n (.inl (12, [va_rf (some n), va_rf (S1.2.2.2.2.2 2), .null, .null, .null, .int (nq 0), .int (nq 0), .int (nq 0)])) = S2 := ⟨_, rfl⟩
  have h2 : S2.1 n = some (.inl (12, [va_rf (some n), va_rf (S1.2.2.2.2.2 2), .null, .null, .null, .int (nq 0), .int (nq 0), .int (nq 0)])) := by rw [← e2]; exact xs_i _ _ _
  have c2 : Ch (fun x => x = n) 0 0 S1 S2 := by rw [← e2]; exact Ch.set S1 _ h1
  have p2 : pV S1 (some n) 12 1 (va_rf (S1.2.2.2.2.2 2)) = some S2 := (pV_ok h1 (by simp)).trans (congrArg some e2)
  obtain ⟨S3, e3⟩ : ∃ S3, x_set S2 n (.inl (12, [va_rf (some n), va_rf (S1.2.2.2.2.2 2), va_rf (S2.2.2.2.2.2 3), .null, .null, .int (nq 0), .int (nq 0), .int (nq 0)])) = S3 := ⟨_, rfl⟩
  have h3 : S3.1 n = some (.inl (12, [va_rf (some n), va_rf (S1.2.2.2.2.2 2), va_rf (S2.2.2.2.2.2 3), .null, .null, .int (nq 0), .int (nq 0), .int (nq 0)])) := by rw [← e3]; exact xs_i _ _ _
  have c3 : Ch (fun x => x = n) 0 0 S2 S3 := by rw [← e3]; exact Ch.set S2 _ h2
  have p3 : pV S2 (some n) 12 2 (va_rf (S2.2.2.2.2.2 3)) = some S3 := (pV_ok h2 (by simp)).trans (congrArg some e3)
  obtain ⟨S4, e4⟩ : ∃ S4, x_set S3 n (.inl (12, [va_rf (some n), va_rf (S1.2.2.2.2.2 2), va_rf (S2.2.2.2.2.2 3), va_rf none, .null, .int (nq 0), .int (nq 0), .int (nq 0)])) = S4 := ⟨_, rfl⟩
  have h4 : S4.1 n = some (.inl (12, [va_rf (some n), va_rf (S1.2.2.2.2.2 2), va_rf (S2.2.2.2.2.2 3), va_rf none, .null, .int (nq 0), .int (nq 0), .int (nq 0)])) := by rw [← e4]; exact xs_i _ _ _
  have c4 : Ch (fun x => x = n) 0 0 S3 S4 := by rw [← e4]; exact Ch.set S3 _ h3
  have p4 : pV S3 (some n) 12 3 (va_rf none) = some S4 := (pV_ok h3 (by simp)).trans (congrArg some e4)
  obtain ⟨S5, e5⟩ : ∃ S5, x_set S4 n (.inl (12, [va_rf o, va_rf (S1.2.2.2.2.2 2), va_rf (S2.2.2.2.2.2 3), va_rf none, .null, .int (nq 0), .int (nq 0), .int (nq 0)])) = S5 := ⟨_, rfl⟩
  have h5 : S5.1 n = some (.inl (12, [va_rf o, va_rf (S1.2.2.2.2.2 2), va_rf (S2.2.2.2.2.2 3), va_rf none, .null, .int (nq 0), .int (nq 0), .int (nq 0)])) := by rw [← e5]; exact xs_i _ _ _
  have c5 : Ch (fun x => x = n) 0 0 S4 S5 := by rw [← e5]; exact Ch.set S4 _ h4
  have p5 : pV S4 (some n) 12 0 (va_rf o) = some S5 := (pV_ok h4 (by simp)).trans (congrArg some e5)
  have g1 : S1.2.2.2.2 = S.2.2.2.2 := c1.2.2.2.2.1
  have g2 : S2.2.2.2.2 = S.2.2.2.2 := c2.2.2.2.2.1.trans g1
  have g3 : S3.2.2.2.2 = S.2.2.2.2 := c3.2.2.2.2.1.trans g2
  have pq : fillQ S3 (some n) 12 = some () := fillQ_ok h3 (by rw [g3, ← g1]; rfl) rfl
  refine ⟨S5, ?_, ?_, ((((c1.trans c2 fun _ _ q => q).trans c3 fun _ _ q => q).trans c4 fun _ _ q => q).trans c5 fun _ _ q => q)⟩
  · unfold f_J3_init_3_X13
    rw [pb1, p1, pb1, p2, pb1, p3, pb1, pq, pb1, p4, pb1, p5, pb1]
  · rw [h5, g1, g2]
theorem t_brk2 {S : St} {n : Nat} {o : Option Nat} (v r : Nat) (h0 : S.1 n = some (.inl (12, [.null, .null, .null, .null, .null, .int (nq 0), .int (nq 0), .int (nq 0)]))) : ∃ S' s2 s3, f_X13_init_2 (some n) (nq v) (nq r) o S = some ((), S') ∧ S'.1 n = some (.inl (12, [va_rf o, s2, s3, .null, .null, .int (nq 0), .int (nq v), .int (nq r)])) ∧ Ch (fun x => x = n) 0 0 S S' := by
  obtain ⟨S1, e1, h1, c1⟩ := t_exc13 (o := o) h0
  obtain ⟨S2, d2⟩ : ∃ S2, x_set S1 n (.inl (12, [va_rf o, va_rf (S.2.2.2.2.2 2), va_rf (S.2.2.2.2.2 3), va_rf none, .null, .int (nq 0), .int (nq v), .int (nq 0)])) = S2 := ⟨_, rfl⟩
  have h2 : S2.1 n = some (.inl (12, [va_rf o, va_rf (S.2.2.2.2.2 2), va_rf (S.2.2.2.2.2 3), va_rf none, .null, .int (nq 0), .int (nq v), .int (nq 0)])) := by rw [← d2]; exact xs_i _ _ _
  have c2 : Ch (fun x => x = n) 0 0 S1 S2 := by rw [← d2]; exact Ch.set S1 _ h1
  have p2 : pV S1 (some n) 12 6 (.int (nq v)) = some S2 := (pV_ok h1 (by simp)).trans (congrArg some d2)
  obtain ⟨S3, d3⟩ : ∃ S3, x_set S2 n (.inl (12, [va_rf o, va_rf (S.2.2.2.2.2 2), va_rf (S.2.2.2.2.2 3), va_rf none, .null, .int (nq 0), .int (nq v), .int (nq r)])) = S3 := ⟨_, rfl⟩
  have h3 : S3.1 n = some (.inl (12, [va_rf o, va_rf (S.2.2.2.2.2 2), va_rf (S.2.2.2.2.2 3), va_rf none, .null, .int (nq 0), .int (nq v), .int (nq r)])) := by rw [← d3]; exact xs_i _ _ _
  have c3 : Ch (fun x => x = n) 0 0 S2 S3 := by rw [← d3]; exact Ch.set S2 _ h2
  have p3 : pV S2 (some n) 12 7 (.int (nq r)) = some S3 := (pV_ok h2 (by simp)).trans (congrArg some d3)
  refine ⟨S3, _, _, ?_, h3, (c1.trans c2 fun _ _ q => q).trans c3 fun _ _ q => q⟩
  unfold f_X13_init_2 f_J4_init_3_X13
  rw [pb1, pb1, e1, pb2, pb2, p2, pb1, p3, pb1]

/-- an exception: how many lie below it; the version at which they end; why -/
def iBrk (M : Nat → Option Ob) : Nat → Nat → Nat → Nat → Prop
  | 0, q, v, r => ∃ s2 s3, M q = some (.inl (12, [.null, s2, s3, .null, .null, .int (nq 0), .int (nq v), .int (nq r)]))
  | f + 1, q, v, r => ∃ c v' s2 s3, M q = some (.inl (12, [.ref c, s2, s3, .null, .null, .int (nq 0), .int (nq v'), .int (nq r)])) ∧ c < q ∧ iBrk M f c v r
theorem iBrk.reason {S : St} {f q v r : Nat} (h : iBrk S.1 f q v r) : oI S (some q) 12 7 = some (nq r) := by
  cases f with
  | zero => obtain ⟨s2, s3, h⟩ := h; exact oI_ok h rfl
  | succ f => obtain ⟨c, v', s2, s3, h, -⟩ := h; exact oI_ok h rfl
theorem iBrk.o {S : St} {f q v r : Nat} (h : iBrk S.1 f q v r) : ∃ fs, S.1 q = some (.inl (12, fs)) := by
  cases f with
  | zero => obtain ⟨s2, s3, h⟩ := h; exact ⟨_, h⟩
  | succ f => obtain ⟨c, v', s2, s3, h, -⟩ := h; exact ⟨_, h⟩
theorem iBrk.sub {F M : Nat → Option Ob} (k : Sub F M) : ∀ (f : Nat) {q v r : Nat}, iBrk F f q v r → iBrk M f q v r := by
  intro f
  induction f with
  | zero => rintro q v r ⟨s2, s3, h⟩; exact ⟨s2, s3, k _ _ h⟩
  | succ f ih => rintro q v r ⟨c, v', s2, s3, h, h2, h3⟩; exact ⟨c, v', s2, s3, k _ _ h, h2, ih h3⟩
theorem b_root_l {S : St} : ∀ (f n q v r : Nat), f < n → iBrk S.1 f q v r → l_X13_root_2 n (some q) S = some (nq v, S) := by
  intro f
  induction f with
  | zero =>
    rintro n q v r hn ⟨s2, s3, h⟩
    obtain ⟨n, rfl⟩ := pre_n hn
    have e1 : oA S (some q) 12 0 = some none := oA_ok (o := none) h rfl
    have e2 : oI S (some q) 12 6 = some (nq v) := oI_ok h rfl
    rw [l_X13_root_2_s]
    simp only [s_X13_root_2, e1, e2, ckO_ok h, pb1]
    rfl
  | succ f ih =>
    rintro n q v r hn ⟨c, v', s2, s3, h, h2, h3⟩
    obtain ⟨n, rfl⟩ := pre_n hn
    have e1 : oA S (some q) 12 0 = some (some c) := oA_ok (o := some c) h rfl
    have hne : ¬ (some c = some q) := fun z => Nat.ne_of_lt h2 (Option.some.inj z)
    rw [l_X13_root_2_s]
    simp only [s_X13_root_2, e1, pb1, if_neg hne]
    rw [if_neg (fun z => nomatch z)]
    exact ih n c v r (by omega) h3
theorem b_root {S : St} {f q v r : Nat} (hf : f < 1000) (h : iBrk S.1 f q v r) : f_X13_root (some q) S = some (nq v, S) := b_root_l f FU q v r (by unfold FU; omega) h
theorem b_steps_l {S : St} : ∀ (f n k q v r : Nat), f < n → iBrk S.1 f q v r → l_X13_steps_7 (n + 1) (nq k, some q) S = some (nq (k + f + 1), S) := by
  intro f
  induction f with
  | zero =>
    rintro n k q v r hn ⟨s2, s3, h⟩
    obtain ⟨n, rfl⟩ := pre_n hn
    have e1 : oA S (some q) 12 0 = some none := oA_ok (o := none) h rfl
    rw [l_X13_steps_7_s]
    simp only [s_X13_steps_7, e1, pb1]
    rw [if_neg (fun z => nomatch z), if_neg (fun z => nomatch z), l_X13_steps_7_s]
    simp only [s_X13_steps_7, nq_lit, nq_add]
    rfl
  | succ f ih =>
    rintro n k q v r hn ⟨c, v', s2, s3, h, h2, h3⟩
    obtain ⟨n, rfl⟩ := pre_n hn
    have e1 : oA S (some q) 12 0 = some (some c) := oA_ok (o := some c) h rfl
    have hne : ¬ (some c = some q) := fun z => Nat.ne_of_lt h2 (Option.some.inj z)
    rw [l_X13_steps_7_s]
    simp only [s_X13_steps_7, e1, pb1]
    rw [if_neg (fun z => nomatch z), if_neg hne, nq_lit, nq_add]
    have := ih n (k + 1) c v r (by omega) h3
    rw [show k + (f + 1) + 1 = k + 1 + f + 1 by omega]
    exact this
theorem b_steps {S : St} {f q v r : Nat} (hf : f < 1000) (h : iBrk S.1 f q v r) : f_X13_steps (some q) S = some (nq f, S) := by
  unfold f_X13_steps
  cases f with
  | zero =>
    obtain ⟨s2, s3, h⟩ := h
    have e1 : oA S (some q) 12 0 = some none := oA_ok (o := none) h rfl
    rw [e1, pb1, if_neg (fun z => nomatch z), show FU = 999999 + 1 from rfl, l_X13_steps_7_s]
    simp only [s_X13_steps_7, nq_lit]
    rfl
  | succ f =>
    obtain ⟨c, v', s2, s3, h, h2, h3⟩ := h
    have e1 : oA S (some q) 12 0 = some (some c) := oA_ok (o := some c) h rfl
    have hne : ¬ (some c = some q) := fun z => Nat.ne_of_lt h2 (Option.some.inj z)
    rw [e1, pb1, if_neg hne, nq_lit, show FU = 999999 + 1 from rfl]
    have := b_steps_l f 999999 0 c v r (by omega) h3
    rw [Nat.zero_add] at this
    exact this
/-- a new one -/
theorem b_new {S : St} (v r : Nat) (hd : Dom S) (k1 : 1 ≤ S.2.2.1) (k2 : 8 ≤ S.2.2.2.1) : ∃ q S1 S', nO S 12 8 [.null, .null, .null, .null, .null, .int (nq 0), .int (nq 0), .int (nq 0)] = some (some q, S1) ∧ f_X13_init (some q) (nq v) (nq r) S1 = some ((), S') ∧ oQ S' (some q) 12 = some q ∧ iBrk S'.1 0 q v r ∧ S.2.1 ≤ q ∧ Ch (fun _ => False) 1 8 S S' := by
  obtain ⟨S1, d1⟩ : ∃ S1, x_new S 8 (.inl (12, [.null, .null, .null, .null, .null, .int (nq 0), .int (nq 0), .int (nq 0)])) = S1 := ⟨_, rfl⟩
  have c1 : Ch (fun _ => False) 1 8 S S1 := by rw [← d1]; exact Ch.new _ S _ k1 k2
  have h1 : S1.1 S.2.1 = some (.inl (12, [.null, .null, .null, .null, .null, .int (nq 0), .int (nq 0), .int (nq 0)])) := by rw [← d1]; exact xn_i _ _ _
  obtain ⟨S', s2, s3, e, h, c⟩ := t_brk2 (o := none) v r h1
  refine ⟨S.2.1, S1, S', (nO_ok k1 k2).trans (by rw [d1]), ?_, oQ_ok h, ⟨s2, s3, h⟩, Nat.le_refl _, c1.trans c fun x hx z => absurd z (Nat.ne_of_lt hx)⟩
  unfold f_X13_init
  rw [pb1, e, pb2]
/-- .. over another one -/
theorem b_over {S : St} {f c w r : Nat} (v : Nat) (h0 : iBrk S.1 f c w r) (hd : Dom S) (k1 : 1 ≤ S.2.2.1) (k2 : 8 ≤ S.2.2.2.1) : ∃ q S1 S', nO S 12 8 [.null, .null, .null, .null, .null, .int (nq 0), .int (nq 0), .int (nq 0)] = some (some q, S1) ∧ f_X13_init_3 (some q) (nq v) (some c) S1 = some ((), S') ∧ oQ S' (some q) 12 = some q ∧ iBrk S'.1 (f + 1) q w r ∧ S.2.1 ≤ q ∧ Ch (fun _ => False) 1 8 S S' := by
  obtain ⟨S1, d1⟩ : ∃ S1, x_new S 8 (.inl (12, [.null, .null, .null, .null, .null, .int (nq 0), .int (nq 0), .int (nq 0)])) = S1 := ⟨_, rfl⟩
  have c1 : Ch (fun _ => False) 1 8 S S1 := by rw [← d1]; exact Ch.new _ S _ k1 k2
  have h1 : S1.1 S.2.1 = some (.inl (12, [.null, .null, .null, .null, .null, .int (nq 0), .int (nq 0), .int (nq 0)])) := by rw [← d1]; exact xn_i _ _ _
  obtain ⟨S', s2, s3, e, h, c'⟩ := t_brk2 (o := some c) v r h1
  have C : Ch (fun _ => False) 1 8 S S' := c1.trans c' fun x hx z => absurd z (Nat.ne_of_lt hx)
  have hb1 := iBrk.sub (c1.sub hd (Sub.refl _) fun _ z => z.elim) f h0
  refine ⟨S.2.1, S1, S', (nO_ok k1 k2).trans (by rw [d1]), ?_, oQ_ok h, ⟨c, v, s2, s3, h, ?_, iBrk.sub (C.sub hd (Sub.refl _) fun _ z => z.elim) f h0⟩, Nat.le_refl _, C⟩
  · unfold f_X13_init_3
    rw [hb1.reason, pb1, pb1, e, pb2]
  · obtain ⟨fs, hfs⟩ := h0.o
    exact hd _ _ hfs
