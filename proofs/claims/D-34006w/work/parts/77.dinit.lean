/-! PURE: Delta's constructor, pieces -/
set_option maxRecDepth 100000
abbrev TI : Type := Option Nat × Option Nat × Option Nat × Option Nat × Int32 → St → Option (Unit × St)
/-- an instruction grows, the delta's cost with it -/
theorem d_217 {S : St} {rc : TI} {a q p o n co : Nat} {a1 a2 a3 : Option Nat} {fo : Int32} {c : Bool} {v0 v1 v3 x0 x1 x3 : Value} (ha : S.1 a = some (.inl (6, [v0, v1, .int (nq co), v3]))) (hq : S.1 q = some (.inl (7, [x0, x1, .int (nq o), x3]))) :
    ∃ S', s_X7_init_217 rc (some a) a1 a2 a3 (nq p) fo (bq c) (nq n) (some q) S = rc (some a, a1, a2, a3, nq (p + n)) S' ∧ S'.1 q = some (.inl (7, [x0, x1, .int (nq (o + n)), .int fo])) ∧ S'.1 a = some (.inl (6, [v0, v1, .int (nq (co + (if c = true then 0 else 1))), v3])) ∧ Ch (fun x => x = q ∨ x = a) 0 0 S S' := by
  have naq : a ≠ q := obne ha hq (by simp)
  obtain ⟨S1, d1⟩ : ∃ S1, x_set S q (.inl (7, [x0, x1, .int (nq (o + n)), x3])) = S1 := ⟨_, rfl⟩
  have h1 : S1.1 q = some (.inl (7, [x0, x1, .int (nq (o + n)), x3])) := by rw [← d1]; exact xs_i _ _ _
  have c1 : Ch (fun x => x = q) 0 0 S S1 := by rw [← d1]; exact Ch.set S _ hq
  have p1 : pV S (some q) 7 2 (.int (nq (o + n))) = some S1 := (pV_ok hq (by simp)).trans (congrArg some d1)
  obtain ⟨S2, d2⟩ : ∃ S2, x_set S1 q (.inl (7, [x0, x1, .int (nq (o + n)), .int fo])) = S2 := ⟨_, rfl⟩
  have h2 : S2.1 q = some (.inl (7, [x0, x1, .int (nq (o + n)), .int fo])) := by rw [← d2]; exact xs_i _ _ _
  have c2 : Ch (fun x => x = q) 0 0 S1 S2 := by rw [← d2]; exact Ch.set S1 _ h1
  have p2 : pV S1 (some q) 7 3 (.int fo) = some S2 := (pV_ok h1 (by simp)).trans (congrArg some d2)
  have a2' : S2.1 a = some (.inl (6, [v0, v1, .int (nq co), v3])) := by
    rw [← d2, ← d1]
    exact xs_o naq (xs_o naq ha)
  have e1 : oI S (some q) 7 2 = some (nq o) := oI_ok hq rfl
  have e2 : oI S2 (some a) 6 2 = some (nq co) := oI_ok a2' rfl
  have p3 : ∀ k : Nat, pV S2 (some a) 6 2 (.int (nq (co + k))) = some (x_set S2 a (.inl (6, [v0, v1, .int (nq (co + k)), v3]))) := fun k => pV_ok a2' (by simp)
  refine ⟨x_set S2 a (.inl (6, [v0, v1, .int (nq (co + (if c = true then 0 else 1))), v3])), ?_, xs_o (Ne.symm naq) h2, xs_i _ _ _, (((c1.trans c2 fun _ _ q => q).or (Ch.set S2 _ a2')))⟩
  cases c with
  | false =>
    have p3' := p3 1
    simp (disch := omega) only [s_X7_init_217, s_X7_init_251, e1, p1, p2, e2, bq_f, p3', Bool.false_eq_true, pb1, pb2, nq_lit, nq_add, nq_mul, nq_lt, nq_le, nq_eq, nq_lt0, nq10, nq00, Nat.one_ne_zero, Nat.reduceEqDiff, Nat.not_lt_zero, zb1, zb0, eq_self, reduceIte]
  | true =>
    have p3' := p3 0
    simp (disch := omega) only [s_X7_init_217, s_X7_init_251, e1, p1, p2, e2, bq_t, p3', pb1, pb2, nq_lit, nq_add, nq_mul, nq_lt, nq_le, nq_eq, nq_lt0, nq10, nq00, Nat.one_ne_zero, Nat.reduceEqDiff, Nat.not_lt_zero, zb1, zb0, eq_self, reduceIte]
/-- a new instruction -/
theorem d_158 {S : St} {rc : TI} {e0 : Option Nat} {a l d cap p n co sg b sv : Nat} {a2 a3 : Option Nat} {fo : Int32} {c : Bool} {ias : List Nat} {v1 v3 : Value} {sfs : List Value} (ha : S.1 a = some (.inl (6, [.ref l, v1, .int (nq co), v3]))) (hsg : S.1 sg = some (.inl (4, sfs))) (hsb : sfs[0]? = some (.int (nq b))) (hsv : (if c = true then fo * nq b else nq p) = nq sv) (hl : iLst S.1 e0 l d ias cap) (hE : iE0 S.1 e0) (hst : S.2.2.2.2.2 0 = e0) (hdn : 0 < cap → e0 ≠ some d) (he : ∀ x ∈ ias, eOk S.1 x) (hc : cap ≤ 60000) (hd : Dom S) (k1 : 1 + gkc ias.length cap ≤ S.2.2.1) (k2 : 4 + gks ias.length cap ≤ S.2.2.2.1) :
    ∃ S' d', s_X7_init_158 rc (some a) (some sg) a2 a3 (nq p) fo (bq c) (nq n) S = rc (some a, some sg, a2, a3, nq (p + n)) S' ∧ S'.1 S.2.1 = some (.inl (7, [.int (bq c), .int (nq sv), .int (nq n), .int fo])) ∧ S'.1 a = some (.inl (6, [.ref l, v1, .int (nq (co + (if c = true then 3 else 2))), v3])) ∧
      iLst S'.1 e0 l d' (ias ++ [S.2.1]) (gca ias.length cap) ∧ (d' = d ∨ S.2.1 ≤ d') ∧ (cap = 0 → S.2.1 ≤ d') ∧ Ch (fun x => x = a ∨ x = l ∨ (0 < cap ∧ x = d)) (1 + gkc ias.length cap) (4 + gks ias.length cap) S S' := by
  have hmc := hl.1
  obtain ⟨mc, hlo⟩ := hmc
  have nal : a ≠ l := obne ha hlo (by simp)
  obtain ⟨x9, hxd, -⟩ := hl.data hE
  have nad : a ≠ d := obne ha hxd (by simp)
  -- the object
  obtain ⟨S1, d1⟩ : ∃ S1, x_new S 4 (.inl (7, [.int (nq 0), .int (nq 0), .int (nq 0), .int (nq 0)])) = S1 := ⟨_, rfl⟩
  have q1 : nO S 7 4 [.int (nq 0), .int (nq 0), .int (nq 0), .int (nq 0)] = some (some S.2.1, S1) := (nO_ok (by omega) (by omega)).trans (by rw [d1])
  have c1 : Ch (fun _ => False) 1 4 S S1 := by rw [← d1]; exact Ch.new _ S _ (by omega) (by omega)
  have h1 : S1.1 S.2.1 = some (.inl (7, [.int (nq 0), .int (nq 0), .int (nq 0), .int (nq 0)])) := by rw [← d1]; exact xn_i _ _ _
  have kk1 : S1.2.2.1 = S.2.2.1 - 1 := by rw [← d1]; rfl
  have kk2 : S1.2.2.2.1 = S.2.2.2.1 - 4 := by rw [← d1]; rfl
  have kk3 : S1.2.1 = S.2.1 + 1 := by rw [← d1]; rfl
  have hd1 := c1.2.2.2.2.2 hd
  obtain ⟨S2, d2⟩ : ∃ S2, x_set S1 S.2.1 (.inl (7, [.int (bq c), .int (nq 0), .int (nq 0), .int (nq 0)])) = S2 := ⟨_, rfl⟩
  have h2 : S2.1 S.2.1 = some (.inl (7, [.int (bq c), .int (nq 0), .int (nq 0), .int (nq 0)])) := by rw [← d2]; exact xs_i _ _ _
  have c2 : Ch (fun x => x = S.2.1) 0 0 S1 S2 := by rw [← d2]; exact Ch.set S1 _ h1
  have p2 : pV S1 (some S.2.1) 7 0 (.int (bq c)) = some S2 := (pV_ok h1 (by simp)).trans (congrArg some d2)
  obtain ⟨S3, d3⟩ : ∃ S3, x_set S2 S.2.1 (.inl (7, [.int (bq c), .int (nq sv), .int (nq 0), .int (nq 0)])) = S3 := ⟨_, rfl⟩
  have h3 : S3.1 S.2.1 = some (.inl (7, [.int (bq c), .int (nq sv), .int (nq 0), .int (nq 0)])) := by rw [← d3]; exact xs_i _ _ _
  have c3 : Ch (fun x => x = S.2.1) 0 0 S2 S3 := by rw [← d3]; exact Ch.set S2 _ h2
  have p3 : pV S2 (some S.2.1) 7 1 (.int (nq sv)) = some S3 := (pV_ok h2 (by simp)).trans (congrArg some d3)
  obtain ⟨S4, d4⟩ : ∃ S4, x_set S3 S.2.1 (.inl (7, [.int (bq c), .int (nq sv), .int (nq 0), .int (-(nq 1))])) = S4 := ⟨_, rfl⟩
  have h4 : S4.1 S.2.1 = some (.inl (7, [.int (bq c), .int (nq sv), .int (nq 0), .int (-(nq 1))])) := by rw [← d4]; exact xs_i _ _ _
  have c4 : Ch (fun x => x = S.2.1) 0 0 S3 S4 := by rw [← d4]; exact Ch.set S3 _ h3
  have p4 : pV S3 (some S.2.1) 7 3 (.int (-(nq 1))) = some S4 := (pV_ok h3 (by simp)).trans (congrArg some d4)
  have hn4 : S4.2 = S1.2 := by rw [← d4, ← d3, ← d2]; rfl
  have C4 : Ch (fun _ => False) 1 4 S S4 := (((c1.or c2).or c3).or c4).mono (fun x hx q => by
    rcases q with ((q | q) | q) | q
    · exact q
    · exact absurd q (Nat.ne_of_lt hx)
    · exact absurd q (Nat.ne_of_lt hx)
    · exact absurd q (Nat.ne_of_lt hx)) (Nat.le_refl _) (Nat.le_refl _)
  have hd4 := C4.2.2.2.2.2 hd
  have ha4 := C4.at hd ha (fun q => q)
  have hsg4 := C4.at hd hsg (fun q => q)
  have hl4 : iLst S4.1 e0 l d ias cap := by
    obtain ⟨⟨mc, t1⟩, t2, t3⟩ := hl
    exact ⟨⟨mc, C4.at hd t1 (fun q => q)⟩, t2, fun c => ⟨C4.at hd (t3 c).1 (fun q => q), (t3 c).2⟩⟩
  have hE4 : iE0 S4.1 e0 := by
    obtain ⟨d', f, t1, t2⟩ := hE
    exact ⟨d', f, t1, C4.at hd t2 (fun q => q)⟩
  -- the list
  obtain ⟨S5, f1, f2, f3⟩ := la_add (v := S.2.1) hl4 hE4 (by rw [C4.2.2.2.2.1]; exact hst) hdn (fun x hx => (he x hx).ch C4 hd (fun q => q)) ⟨7, _, h4, by decide⟩ hc hd4 (by rw [hn4]; omega) (by rw [hn4]; omega)
  have hd5 := f3.2.2.2.2.2 hd4
  have nql : S.2.1 ≠ l := (Nat.ne_of_lt (hd l _ hlo)).symm
  have nqd : S.2.1 ≠ d := (Nat.ne_of_lt (hd d _ hxd)).symm
  have nqa : S.2.1 ≠ a := (Nat.ne_of_lt (hd a _ ha)).symm
  have h5 := f3.at hd4 h4 (fun q => q.elim nql (fun q => nqd q.2))
  have ha5 := f3.at hd4 ha4 (fun q => q.elim nal (fun q => nad q.2))
  -- its cost
  obtain ⟨S6, d6⟩ : ∃ S6, x_set S5 a (.inl (6, [.ref l, v1, .int (nq (co + (if c = true then 3 else 1))), v3])) = S6 := ⟨_, rfl⟩
  have ha6 : S6.1 a = some (.inl (6, [.ref l, v1, .int (nq (co + (if c = true then 3 else 1))), v3])) := by rw [← d6]; exact xs_i _ _ _
  have c6 : Ch (fun x => x = a) 0 0 S5 S6 := by rw [← d6]; exact Ch.set S5 _ ha5
  have p6 : pV S5 (some a) 6 2 (.int (nq (co + (if c = true then 3 else 1)))) = some S6 := (pV_ok ha5 (by simp)).trans (congrArg some d6)
  have h6 := c6.at hd5 h5 nqa
  obtain ⟨S7, g1, g2, g3, g4⟩ := d_217 (rc := rc) (a1 := some sg) (a2 := a2) (a3 := a3) (p := p) (n := n) (fo := fo) (c := c) ha6 h6
  rw [Nat.zero_add] at g2
  have hd6 := c6.2.2.2.2.2 hd5
  have hl6 : iLst S6.1 e0 l (if ias.length < cap then d else S4.2.1) (ias ++ [S.2.1]) (gca ias.length cap) := by
    obtain ⟨⟨mc, t1⟩, t2, t3⟩ := f2
    exact ⟨⟨mc, c6.at hd5 t1 (obne t1 ha5 (by simp))⟩, t2, fun cc => ⟨c6.at hd5 (t3 cc).1 (obne (t3 cc).1 ha5 (by simp)), (t3 cc).2⟩⟩
  have hl7 : iLst S7.1 e0 l (if ias.length < cap then d else S4.2.1) (ias ++ [S.2.1]) (gca ias.length cap) := by
    obtain ⟨⟨mc, t1⟩, t2, t3⟩ := hl6
    exact ⟨⟨mc, g4.at hd6 t1 (fun q => q.elim (obne t1 h6 (by simp)) (obne t1 ha6 (by simp)))⟩, t2, fun cc => ⟨g4.at hd6 (t3 cc).1 (fun q => q.elim (obne (t3 cc).1 h6 (by simp)) (obne (t3 cc).1 ha6 (by simp))), (t3 cc).2⟩⟩
  refine ⟨S7, _, ?_, g2, ?_, hl7, ?_, fun q => ?_, ((((C4.or f3).or c6).or g4).mono (fun x hx q => ?_) (by omega) (by omega))⟩
  · rw [← g1]
    have e1 : oA S4 (some a) 6 0 = some (some l) := oA_ok (o := some l) ha4 rfl
    have e2 := hl4.isO
    have e3 : oI S5 (some a) 6 2 = some (nq co) := oI_ok ha5 rfl
    have e4 : oI S1 (some sg) 4 0 = some (nq b) := oI_ok (c1.at hd hsg (fun q => q)) hsb
    have ez := zbq c
    cases c with
    | false =>
      have hsv : nq p = nq sv := hsv
      rw [← hsv] at p3
      have p6 : pV S5 (some a) 6 2 (.int (nq (co + 1))) = some S6 := p6
      rw [bq_f] at ez p2
      simp (disch := omega) only [s_X7_init_158, s_X7_init_181, s_X7_init_213, f_X8_init, q1, ez, p2, p3, p4, e1, e2, f1, e3, bq_f, p6, pb1, pb2, nq_lit, nq_add, nq_mul, nq_lt, nq_le, nq_eq, nq_lt0, nq10, nq00, Nat.one_ne_zero, Nat.reduceEqDiff, Nat.not_lt_zero, zb1, zb0, eq_self, reduceIte]
    | true =>
      have hsv : fo * nq b = nq sv := hsv
      have p6 : pV S5 (some a) 6 2 (.int (nq (co + 3))) = some S6 := p6
      rw [bq_t] at ez p2
      simp (disch := omega) only [s_X7_init_158, s_X7_init_181, s_X7_init_213, f_X8_init, q1, ez, p2, e4, hsv, p3, p4, e1, e2, f1, e3, bq_t, p6, pb1, pb2, nq_lit, nq_add, nq_mul, nq_lt, nq_le, nq_eq, nq_lt0, nq10, nq00, Nat.one_ne_zero, Nat.reduceEqDiff, Nat.not_lt_zero, zb1, zb0, eq_self, reduceIte]
  · rw [g3]
    cases c with
    | false => rfl
    | true => rfl
  · split
    · exact Or.inl rfl
    · refine Or.inr ?_
      rw [hn4, kk3]
      omega
  · have hle := hl.le
    rw [if_neg (by omega), hn4, kk3]
    omega
  · rcases q with ((q | q) | q) | q | q
    · exact q.elim
    · exact Or.inr q
    · exact Or.inl q
    · exact absurd (q : x = S.2.1) (by omega)
    · exact Or.inl q
