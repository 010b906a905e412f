/-! PURE: Delta's constructor, whole -/
set_option maxRecDepth 100000
theorem w_init {S : St} {w sa m : Nat} {fb : List Nat} (h : S.1 w = some (.inl (5, [.null, .int (nq 0), .int (nq 0), .int (nq 0), .int (nq 0), .int (nq 0)]))) :
    ∃ S', f_X6_init (some w) (some sa) (nq m) S = some ((), S') ∧ iWin S'.1 w sa m (gd fb) 0 0 ∧ Ch (fun x => x = w) 0 0 S S' := by
  obtain ⟨S8, d8⟩ : ∃ S8, x_set S w (.inl (5, [va_rf (some sa), .int (nq 0), .int (nq 0), .int (nq 0), .int (nq 0), .int (nq 0)])) = S8 := ⟨_, rfl⟩
  have w8 : S8.1 w = some (.inl (5, [va_rf (some sa), .int (nq 0), .int (nq 0), .int (nq 0), .int (nq 0), .int (nq 0)])) := by rw [← d8]; exact xs_i _ _ _
  have c8 : Ch (fun x => x = w) 0 0 S S8 := by rw [← d8]; exact Ch.set S _ h
  have p8 : pV S (some w) 5 0 (va_rf (some sa)) = some S8 := (pV_ok h (by simp)).trans (congrArg some d8)
  obtain ⟨S9, d9⟩ : ∃ S9, x_set S8 w (.inl (5, [va_rf (some sa), .int (nq m), .int (nq 0), .int (nq 0), .int (nq 0), .int (nq 0)])) = S9 := ⟨_, rfl⟩
  have w9 : S9.1 w = some (.inl (5, [va_rf (some sa), .int (nq m), .int (nq 0), .int (nq 0), .int (nq 0), .int (nq 0)])) := by rw [← d9]; exact xs_i _ _ _
  have c9 : Ch (fun x => x = w) 0 0 S8 S9 := by rw [← d9]; exact Ch.set S8 _ w8
  have p9 : pV S8 (some w) 5 1 (.int (nq m)) = some S9 := (pV_ok w8 (by simp)).trans (congrArg some d9)
  refine ⟨S9, ?_, ?_, c8.trans c9 fun _ _ q => q⟩
  · simp only [f_X6_init, p8, p9, pb1]
  · unfold iWin
    rw [w9]
    have z1 : s1 (gd fb) 0 0 % m = 0 := Nat.zero_mod m
    have z2 : s2w (gd fb) 0 0 0 % m = 0 := Nat.zero_mod m
    rw [z1, z2]
    rfl
theorem d_init {F : Nat → Option Ob} {S : St} {a sg sa sbb cp b m : Nat} {e0 : Option Nat} {sb fb : List Nat} {v0 v3 : Value} (hs : SOk (b, m, sb)) (hfb : FOk fb) (hc : cp ≤ 100000) (hsg : iSig F sg (b, m, sb)) (hst : iStr F sa sbb cp fb) (hE : iE0 F e0) (hsub : Sub F S.1) (hFa : F a = none) (h0 : S.2.2.2.2.2 0 = e0) (ha : S.1 a = some (.inl (6, [v0, .int (nq 0), .int (nq 0), v3]))) (hd : Dom S) (k1 : 543 ≤ S.2.2.1) (k2 : 1689 ≤ S.2.2.2.1) :
    ∃ S', f_X7_init (some a) (some sg) (some sa) S = some ((), S') ∧ iDel (nw a S'.1) e0 a (cmpD b m sb fb) ∧ Ch (fun x => x = a) 543 1689 S S' := by
  have hL := hfb.1
  have han := hd _ _ ha
  obtain ⟨de, fe, he1, he2⟩ := hE
  -- the list
  obtain ⟨S1, d1⟩ : ∃ S1, x_new S 3 (.inl (16, [.int (nq 0), .null, .int (nq 0)])) = S1 := ⟨_, rfl⟩
  have q1 : nO S 16 3 [.int (nq 0), .null, .int (nq 0)] = some (some S.2.1, S1) := (nO_ok (by omega) (by omega)).trans (by rw [d1])
  have c1 : Ch (fun _ => False) 1 3 S S1 := by rw [← d1]; exact Ch.new _ S _ (by omega) (by omega)
  have l1 : S1.1 S.2.1 = some (.inl (16, [.int (nq 0), .null, .int (nq 0)])) := by rw [← d1]; exact xn_i _ _ _
  have hd1 := c1.2.2.2.2.2 hd
  have st1 : S1.2.2.2.2.2 0 = some de := by rw [c1.2.2.2.2.1, h0, he1]
  obtain ⟨S2, f2, l2, c2⟩ := la_init2 l1 st1
  have hd2 := c2.2.2.2.2.2 hd1
  have a2 := c2.at hd1 (c1.at hd ha (fun q => q)) (Nat.ne_of_lt han)
  obtain ⟨S3, d3⟩ : ∃ S3, x_set S2 a (.inl (6, [va_rf (some S.2.1), .int (nq 0), .int (nq 0), v3])) = S3 := ⟨_, rfl⟩
  have a3 : S3.1 a = some (.inl (6, [va_rf (some S.2.1), .int (nq 0), .int (nq 0), v3])) := by rw [← d3]; exact xs_i _ _ _
  have c3 : Ch (fun x => x = a) 0 0 S2 S3 := by rw [← d3]; exact Ch.set S2 _ a2
  have p3 : pV S2 (some a) 6 0 (va_rf (some S.2.1)) = some S3 := (pV_ok a2 (by simp)).trans (congrArg some d3)
  have hd3 := c3.2.2.2.2.2 hd2
  have C3 : Ch (fun x => x = a) 1 3 S S3 := ((c1.or c2).or c3).mono (fun x hx q => by
    rcases q with (q | q) | q
    · exact q.elim
    · exact absurd q (Nat.ne_of_lt hx)
    · exact q) (Nat.le_refl _) (Nat.le_refl _)
  have m31 := C3.2.2.1
  have m32 := C3.2.2.2.1
  -- the window
  obtain ⟨S4, d4⟩ : ∃ S4, x_new S3 6 (.inl (5, [.null, .int (nq 0), .int (nq 0), .int (nq 0), .int (nq 0), .int (nq 0)])) = S4 := ⟨_, rfl⟩
  have q4 : nO S3 5 6 [.null, .int (nq 0), .int (nq 0), .int (nq 0), .int (nq 0), .int (nq 0)] = some (some S3.2.1, S4) := (nO_ok (by omega) (by omega)).trans (by rw [d4])
  have c4 : Ch (fun _ => False) 1 6 S3 S4 := by rw [← d4]; exact Ch.new _ S3 _ (by omega) (by omega)
  have w4 : S4.1 S3.2.1 = some (.inl (5, [.null, .int (nq 0), .int (nq 0), .int (nq 0), .int (nq 0), .int (nq 0)])) := by rw [← d4]; exact xn_i _ _ _
  have hd4 := c4.2.2.2.2.2 hd3
  obtain ⟨S5, f5, w5, c5⟩ := w_init (sa := sa) (m := m) (fb := fb) w4
  have hd5 := c5.2.2.2.2.2 hd4
  have K : Ch (fun x => x = S3.2.1) 1 6 S3 S5 := (c4.mono (B := fun x => x = S3.2.1) (fun _ _ q => q.elim) (Nat.le_refl _) (Nat.le_refl _)).trans c5 fun _ _ q => q
  have ne3 : ∀ x e, S3.1 x = some e → ¬ x = S3.2.1 := fun x e he => Nat.ne_of_lt (hd3 x e he)
  have C5 : Ch (fun x => x = a) 2 9 S S5 := (C3.or K).mono (fun x hx q => by
    rcases q with q | q
    · exact q
    · have := C3.2.1
      exact absurd (q : x = S3.2.1) (by omega)) (Nat.le_refl _) (Nat.le_refl _)
  have a5 := K.at hd3 a3 (ne3 _ _ a3)
  have l3 : iLst S3.1 (some de) S.2.1 de [] 0 := by
    obtain ⟨⟨mc, t1⟩, t2, t3⟩ := l2
    exact ⟨⟨mc, c3.at hd2 t1 (obne t1 a2 (by simp))⟩, t2, fun cc => absurd cc (by omega)⟩
  have l5 : iLst S5.1 e0 S.2.1 de [] 0 := by
    rw [he1]
    obtain ⟨⟨mc, t1⟩, t2, t3⟩ := l3
    exact ⟨⟨mc, K.at hd3 t1 (ne3 _ _ t1)⟩, t2, fun cc => absurd cc (by omega)⟩
  have hF : ∀ x, x = a ∨ S.2.1 ≤ x → F x = none := fun x hx => by
    rcases hx with hx | hx
    · rw [hx]
      exact hFa
    · cases hz : F x with
      | none => rfl
      | some e => have := hd x e (hsub x e hz); omega
  have sub5 : Sub F S5.1 := hsub.ch C5 hd fun x hx => hF x (Or.inl hx)
  have n3 := C3.2.1
  have m51 := C5.2.2.1
  have m52 := C5.2.2.2.1
  obtain ⟨S', g1, g2, g3⟩ := d_loop (F := F) (n0 := S.2.1) (a := a) (sg := sg) (sa := sa) (m := m) (b := b) (l := S.2.1) (w := S3.2.1) (e0 := e0) (v3 := v3) hs hfb hc hsg hst ⟨de, fe, he1, he2⟩ hF han fb.length 0 FU S5 none 0 [] [] de 0 0 0 (by unfold FU; omega) (by omega) (Nat.zero_le _)
    ⟨⟨a5, l5, by omega, List.nodup_nil, rfl⟩, fun k hk => absurd hk (Nat.not_lt_zero k), fun _ => rfl, ⟨w5, Nat.zero_le _, by omega⟩, ⟨Nat.le_refl _, n3, fun cc => absurd cc (by omega)⟩, sub5, hd5, by rw [C5.2.2.2.2.1]; exact h0, C5.2.1⟩
    ⟨rfl, fun i hi => (nomatch hi), Nat.le_refl _, fun h => absurd h (Nat.not_lt_zero _), fun j hj => (nomatch hj)⟩ (fun j hj => (nomatch hj)) (by omega) (by omega)
  refine ⟨S', ?_, g2, (C5.trans g3 fun x hx q => q.elim id fun q => absurd q (by omega)).mono (fun _ _ q => q) (by omega) (by omega)⟩
  obtain ⟨so, r1, r2, gg, F1, F2, y1, -⟩ := hsg.sub hsub
  have nsg : sg ≠ a := obne y1 ha (by simp)
  have y4 := c4.at hd3 (C3.at hd y1 nsg) (fun q => q)
  have e17 : oI S4 (some sg) 4 1 = some (nq m) := oI_ok y4 rfl
  unfold f_X7_init
  simp (disch := omega) only [q1, f2, p3, q4, e17, f5, pb1, pb2, nq_lit, nq_add, nq_mul, nq_lt, nq_le, nq_eq, nq_lt0, nq10, nq00, Nat.one_ne_zero, Nat.reduceEqDiff, Nat.not_lt_zero, zb1, zb0, eq_self, reduceIte]
  exact g1
