/-! PURE: Signature -/
set_option maxRecDepth 100000
/-- a signature's things -/
def iSig (M : Nat → Option Ob) (a : Nat) (s : Nat × Nat × List Nat) : Prop := ∃ (so r1 r2 : Nat) (g : Nat → Option Nat) (F1 F2 : Nat → Int64), M a = some (.inl (4, [.int (nq s.1), .int (nq s.2.1), .int (nq (nb s.2.2.length s.1)), .int (nq (s.2.2.length % s.1)), .ref so])) ∧ M so = some (.inr (4, 2, .inr (.inr (.inr (.inr g))))) ∧ g 0 = some r1 ∧ g 1 = some r2 ∧
  M r1 = some (.inr (1, nb s.2.2.length s.1, .inr (.inl F1))) ∧ M r2 = some (.inr (1, nb s.2.2.length s.1, .inr (.inl F2))) ∧ ∀ k, k < nb s.2.2.length s.1 → F1 k = (nq (sWk s k)).toInt64 ∧ F2 k = sSt s k
theorem iSig.sub {F M : Nat → Option Ob} {a : Nat} {s : Nat × Nat × List Nat} (h : iSig F a s) (k : Sub F M) : iSig M a s := by
  obtain ⟨so, r1, r2, g, F1, F2, h1, h2, h3, h4, h5, h6, h7⟩ := h
  exact ⟨so, r1, r2, g, F1, F2, k _ _ h1, k _ _ h2, h3, h4, k _ _ h5, k _ _ h6, h7⟩
theorem sg_l {a so r1 r2 w sa sb cap b m : Nat} {bs : List Nat} {g : Nat → Option Nat} {v1 v3 : Value} (hb : 1 ≤ b ∧ b ≤ 7) (hm : 1 ≤ m ∧ m ≤ 4096) (hbs : FOk bs) (hc : cap ≤ 100000) (g0 : g 0 = some r1) (g1 : g 1 = some r2) (hr : r1 ≠ r2) : ∀ (N k f st sz : Nat) (F1 F2 : Nat → Int64) (S : St), N < f → k + N = nb bs.length b → S.1 a = some (.inl (4, [.int (nq b), v1, .int (nq (nb bs.length b)), v3, .ref so])) → S.1 so = some (.inr (4, 2, .inr (.inr (.inr (.inr g))))) →
    S.1 r1 = some (.inr (1, nb bs.length b, .inr (.inl F1))) → S.1 r2 = some (.inr (1, nb bs.length b, .inr (.inl F2))) → (∀ j, j < k → F1 j = (nq (sWk (b, m, bs) j)).toInt64 ∧ F2 j = sSt (b, m, bs) j) → iWin S.1 w sa m (gd bs) st sz → st + sz ≤ bs.length → sz ≤ 7 → iStr S.1 sa sb cap bs → Dom S →
    ∃ S', l_X5_init_65 f (some a, some sa, nq b, some w, nq k) S = some ((), S') ∧ (∃ F1 F2 : Nat → Int64, S'.1 r1 = some (.inr (1, nb bs.length b, .inr (.inl F1))) ∧ S'.1 r2 = some (.inr (1, nb bs.length b, .inr (.inl F2))) ∧ ∀ j, j < nb bs.length b → F1 j = (nq (sWk (b, m, bs) j)).toInt64 ∧ F2 j = sSt (b, m, bs) j) ∧ Ch (fun x => x = w ∨ x = r1 ∨ x = r2) 0 0 S S' := by
  have bn := nb_le hb.1 hbs.1
  have hL := hbs.1
  intro N
  induction N with
  | zero =>
    intro k f st sz F1 F2 S hf hk ha hso h1 h2 hF hw hin hsz hs hd
    obtain ⟨f, rfl⟩ := pre_n hf
    have e1 : oI S (some a) 4 2 = some (nq (nb bs.length b)) := oI_ok ha rfl
    have hk' : nb bs.length b ≤ k := by omega
    refine ⟨S, ?_, ⟨F1, F2, h1, h2, fun j hj => hF j (by omega)⟩, Ch.refl _ S⟩
    rw [l_X5_init_65_s]
    simp (disch := omega) only [s_X5_init_65, e1, hk', pb1, pb2, nq_lit, nq_add, nq_mul, nq_lt, nq_le, nq_eq, nq_lt0, nq10, nq00, Nat.one_ne_zero, Nat.reduceEqDiff, Nat.not_lt_zero, zb1, zb0, eq_self, reduceIte]
  | succ N ih =>
    intro k f st sz F1 F2 S hf hk ha hso h1 h2 hF hw hin hsz hs hd
    obtain ⟨f, rfl⟩ := pre_n hf
    have hk' : ¬ nb bs.length b ≤ k := by omega
    have hk1 : k < nb bs.length b := by omega
    have hkb := nb_lt hb.1 hk1
    have hbl := bln_le bs.length b k
    have hbp := bln_pos hb.1 hkb
    have hbi := bln_in hkb
    have hcm : b * k = k * b := Nat.mul_comm b k
    -- the window comes to the block
    obtain ⟨S1, w1, w2, w3⟩ := w_come (p := k * b) (n := bln bs.length b k) hs hc hbs.2 hm ⟨hbp, by omega⟩ hsz hbi hin hw hd
    have hd1 := w3.2.2.2.2.2 hd
    have naw : a ≠ w := obne ha hw (by simp)
    have nsw : so ≠ w := obne hso hw (by simp)
    have n1w : r1 ≠ w := obne h1 hw (by simp)
    have n2w : r2 ≠ w := obne h2 hw (by simp)
    have ha1 := w3.at hd ha naw
    have hso1 := w3.at hd hso nsw
    have h11 := w3.at hd h1 n1w
    have h21 := w3.at hd h2 n2w
    have hs1 : iStr S1.1 sa sb cap bs := by
      obtain ⟨q1, q, q2, q3⟩ := hs
      exact ⟨w3.at hd q1 (obne q1 hw (by simp)), q, w3.at hd q2 (obne q2 hw (by simp)), q3⟩
    have ew := w_weak (f := gd bs) w2
    have ej1 := jS_ok (i := k) (v := (nq (sWk (b, m, bs) k)).toInt64) h11 hk1 (by omega)
    obtain ⟨S2, d2⟩ : ∃ S2, x_set S1 r1 (.inr (1, nb bs.length b, .inr (.inl (va_up F1 k (nq (sWk (b, m, bs) k)).toInt64)))) = S2 := ⟨_, rfl⟩
    rw [d2] at ej1
    have c2 : Ch (fun x => x = r1) 0 0 S1 S2 := by rw [← d2]; exact Ch.set S1 _ h11
    have nar1 : a ≠ r1 := obne ha h1 (by simp)
    have nsr1 : so ≠ r1 := obne hso h1 (by simp)
    have ha2 := c2.at hd1 ha1 nar1
    have hso2 := c2.at hd1 hso1 nsr1
    have h12 : S2.1 r1 = some (.inr (1, nb bs.length b, .inr (.inl (va_up F1 k (nq (sWk (b, m, bs) k)).toInt64)))) := by rw [← d2]; exact xs_i _ _ _
    have h22 := c2.at hd1 h21 (Ne.symm hr)
    have w22 : iWin S2.1 w sa m (gd bs) (k * b) (bln bs.length b k) := c2.at hd1 w2 (Ne.symm n1w)
    have hs2 : iStr S2.1 sa sb cap bs := by
      obtain ⟨q1, q, q2, q3⟩ := hs1
      exact ⟨c2.at hd1 q1 (obne q1 h11 (by simp)), q, c2.at hd1 q2 (obne q2 h11 (by simp)), q3⟩
    have hd2 := c2.2.2.2.2.2 hd1
    have es := w_strong hs2 hc w22 hbi
    have ej2 := jS_ok (i := k) (v := sSt (b, m, bs) k) h22 hk1 (by omega)
    obtain ⟨S3, d3⟩ : ∃ S3, x_set S2 r2 (.inr (1, nb bs.length b, .inr (.inl (va_up F2 k (sSt (b, m, bs) k))))) = S3 := ⟨_, rfl⟩
    rw [d3] at ej2
    have c3 : Ch (fun x => x = r2) 0 0 S2 S3 := by rw [← d3]; exact Ch.set S2 _ h22
    have ha3 := c3.at hd2 ha2 (obne ha h2 (by simp))
    have hso3 := c3.at hd2 hso2 (obne hso h2 (by simp))
    have h13 := c3.at hd2 h12 hr
    have h23 : S3.1 r2 = some (.inr (1, nb bs.length b, .inr (.inl (va_up F2 k (sSt (b, m, bs) k))))) := by rw [← d3]; exact xs_i _ _ _
    have w33 : iWin S3.1 w sa m (gd bs) (k * b) (bln bs.length b k) := c3.at hd2 w22 (Ne.symm n2w)
    have hs3 : iStr S3.1 sa sb cap bs := by
      obtain ⟨q1, q, q2, q3⟩ := hs2
      exact ⟨c3.at hd2 q1 (obne q1 h22 (by simp)), q, c3.at hd2 q2 (obne q2 h22 (by simp)), q3⟩
    obtain ⟨S', f1, f2, f3⟩ := ih (k + 1) f _ _ _ _ S3 (by omega) (by omega) ha3 hso3 h13 h23 (fun j hj => by
      unfold va_up
      by_cases q : j = k
      · rw [if_pos q, if_pos q, q]
        exact ⟨rfl, rfl⟩
      · rw [if_neg q, if_neg q]
        exact hF j (by omega)) w33 hbi (by omega) hs3 (c3.2.2.2.2.2 hd2)
    refine ⟨S', ?_, f2, (((w3.or c2).or c3).mono (fun x _ q => ?_) (Nat.le_refl _) (Nat.le_refl _)).trans f3 fun _ _ q => q⟩
    · have e1 : oI S (some a) 4 2 = some (nq (nb bs.length b)) := oI_ok ha rfl
      have e2 : oI S (some sa) 3 1 = some (nq bs.length) := oI_ok hs.1 rfl
      have e3 : isO S (some w) 5 = some () := isO_ok hw
      have e4 : oA S1 (some a) 4 4 = some (some so) := oA_ok (o := some so) ha1 rfl
      have e5 : aL S1 (some so) 4 (nq 0) = some (some r1) := by rw [← g0]; exact aL_ok hso1 (by omega) (by omega)
      have e6 : isO S1 (some w) 5 = some () := isO_ok w2
      have e7 : oA S2 (some a) 4 4 = some (some so) := oA_ok (o := some so) ha2 rfl
      have e8 : aL S2 (some so) 4 (nq 1) = some (some r2) := by rw [← g1]; exact aL_ok hso2 (by omega) (by omega)
      have e9 : isO S2 (some w) 5 = some () := isO_ok w22
      rw [l_X5_init_65_s]
      have hsWk : wk (gd bs) (k * b) (bln bs.length b k) m = sWk (b, m, bs) k := rfl
      have hsSt : st64 (gd bs) (bln bs.length b k) (k * b) = sSt (b, m, bs) k := rfl
      rw [hsWk] at ew
      rw [hsSt] at es
      by_cases cc : b ≤ bs.length - k * b
      · have eb : bln bs.length b k = b := if_pos cc
        have cc' : ¬ bs.length - k * b < b := by omega
        rw [eb] at w1
        simp (disch := omega) only [s_X5_init_65, f_J12_min, s_J12_min_10, e1, e2, e3, hk', hcm, nq_sub, cc', w1, e4, e5, e6, ew, ej1, e7, e8, e9, es, ej2, pb1, pb2, nq_lit, nq_add, nq_mul, nq_lt, nq_le, nq_eq, nq_lt0, nq10, nq00, Nat.one_ne_zero, Nat.reduceEqDiff, Nat.not_lt_zero, zb1, zb0, eq_self, reduceIte]
        exact f1
      · have eb : bln bs.length b k = bs.length - k * b := if_neg cc
        have cc' : bs.length - k * b < b := by omega
        rw [eb] at w1
        simp (disch := omega) only [s_X5_init_65, f_J12_min, s_J12_min_10, e1, e2, e3, hk', hcm, nq_sub, cc', w1, e4, e5, e6, ew, ej1, e7, e8, e9, es, ej2, pb1, pb2, nq_lit, nq_add, nq_mul, nq_lt, nq_le, nq_eq, nq_lt0, nq10, nq00, Nat.one_ne_zero, Nat.reduceEqDiff, Nat.not_lt_zero, zb1, zb0, eq_self, reduceIte]
        exact f1
    · rcases q with (q | q) | q
      · exact Or.inl q
      · exact Or.inr (Or.inl q)
      · exact Or.inr (Or.inr q)
/-- new rows of longs -/
theorem nM_ok {S : St} {k : Nat} (hk : k ≤ 1000) (k1 : 3 ≤ S.2.2.1) (k2 : 2 + 2 * k ≤ S.2.2.2.1) : ∃ S', nM S (nq 2) (nq k) = some (some S.2.1, S') ∧ S'.1 S.2.1 = some (.inr (4, 2, .inr (.inr (.inr (.inr fun j => some (S.2.1 + 1 + j)))))) ∧ S'.1 (S.2.1 + 1) = some (.inr (1, k, .inr (.inl fun _ => 0))) ∧ S'.1 (S.2.1 + 2) = some (.inr (1, k, .inr (.inl fun _ => 0))) ∧ S'.2.1 = S.2.1 + 3 ∧ Ch (fun _ => False) 3 (2 + 2 * k) S S' := by
  refine ⟨((fun a => if a = S.2.1 then some (.inr (4, 2, .inr (.inr (.inr (.inr fun j => some (S.2.1 + 1 + j)))))) else if S.2.1 < a ∧ a < S.2.1 + 1 + 2 then some (.inr (1, k, .inr (.inl fun _ => 0))) else S.1 a), S.2.1 + (1 + 2), S.2.2.1 - (1 + 2), S.2.2.2.1 - (2 + 2 * k), S.2.2.2.2), ?_, ?_, ?_, ?_, rfl, ?_⟩
  · unfold nM
    rw [nq_idx (by omega), nq_idx (by omega), if_pos]
    exact ⟨⟨⟨fun q => (nq_lt0 (by omega)).mp q, fun q => (nq_lt0 (by omega)).mp q⟩, by omega, by omega⟩, by omega, k2⟩
  · show (if S.2.1 = S.2.1 then _ else _) = _
    rw [if_pos rfl]
  · show (if S.2.1 + 1 = S.2.1 then _ else _) = _
    rw [if_neg (by omega), if_pos (by omega)]
  · show (if S.2.1 + 2 = S.2.1 then _ else _) = _
    rw [if_neg (by omega), if_pos (by omega)]
  · refine ⟨fun a ha _ => ?_, by show S.2.1 ≤ S.2.1 + 3; omega, by show S.2.2.1 ≤ S.2.2.1 - 3 + 3; omega, by show S.2.2.2.1 ≤ S.2.2.2.1 - (2 + 2 * k) + (2 + 2 * k); omega, rfl, fun hd a e he => ?_⟩
    · show (if a = S.2.1 then _ else _) = _
      rw [if_neg (by omega), if_neg (by omega)]
    · show a < S.2.1 + 3
      by_cases q1 : a = S.2.1
      · omega
      · by_cases q2 : S.2.1 < a ∧ a < S.2.1 + 1 + 2
        · omega
        · have he : (if a = S.2.1 then some (.inr (4, 2, .inr (.inr (.inr (.inr fun j => some (S.2.1 + 1 + j)))))) else if S.2.1 < a ∧ a < S.2.1 + 1 + 2 then some (.inr (1, k, .inr (.inl fun _ => 0))) else S.1 a) = some e := he
          rw [if_neg q1, if_neg q2] at he
          have := hd a e he
          omega
theorem sg_init {S : St} {a sa sb cap b m : Nat} {bs : List Nat} {v4 : Value} (hb : 1 ≤ b ∧ b ≤ 7) (hm : 1 ≤ m ∧ m ≤ 4096) (hbs : FOk bs) (hc : cap ≤ 100000) (h0 : S.1 a = some (.inl (4, [.int (nq 0), .int (nq 0), .int (nq 0), .int (nq 0), v4]))) (hs : iStr S.1 sa sb cap bs) (hd : Dom S) (k1 : 4 ≤ S.2.2.1) (k2 : 250 ≤ S.2.2.2.1) :
    ∃ S', f_X5_init (some a) (some sa) (nq b) (nq m) S = some ((), S') ∧ iSig (nw a S'.1) a (b, m, bs) ∧ Ch (fun x => x = a) 4 248 S S' := by
  have bn := nb_le hb.1 hbs.1
  have hL := hbs.1
  have nsa : sa ≠ a := obne hs.1 h0 (by simp)
  have nsb : sb ≠ a := by
    obtain ⟨-, q, q2, -⟩ := hs
    exact obne q2 h0 (by simp)
  -- the four numbers
  obtain ⟨S1, d1⟩ : ∃ S1, x_set S a (.inl (4, [.int (nq b), .int (nq 0), .int (nq 0), .int (nq 0), v4])) = S1 := ⟨_, rfl⟩
  have h1 : S1.1 a = some (.inl (4, [.int (nq b), .int (nq 0), .int (nq 0), .int (nq 0), v4])) := by rw [← d1]; exact xs_i _ _ _
  have c1 : Ch (fun x => x = a) 0 0 S S1 := by rw [← d1]; exact Ch.set S _ h0
  have p1 : pV S (some a) 4 0 (.int (nq b)) = some S1 := (pV_ok h0 (by simp)).trans (congrArg some d1)
  obtain ⟨S2, d2⟩ : ∃ S2, x_set S1 a (.inl (4, [.int (nq b), .int (nq m), .int (nq 0), .int (nq 0), v4])) = S2 := ⟨_, rfl⟩
  have h2 : S2.1 a = some (.inl (4, [.int (nq b), .int (nq m), .int (nq 0), .int (nq 0), v4])) := by rw [← d2]; exact xs_i _ _ _
  have c2 : Ch (fun x => x = a) 0 0 S1 S2 := by rw [← d2]; exact Ch.set S1 _ h1
  have p2 : pV S1 (some a) 4 1 (.int (nq m)) = some S2 := (pV_ok h1 (by simp)).trans (congrArg some d2)
  obtain ⟨S3, d3⟩ : ∃ S3, x_set S2 a (.inl (4, [.int (nq b), .int (nq m), .int (nq 0), .int (nq (bs.length % b)), v4])) = S3 := ⟨_, rfl⟩
  have h3 : S3.1 a = some (.inl (4, [.int (nq b), .int (nq m), .int (nq 0), .int (nq (bs.length % b)), v4])) := by rw [← d3]; exact xs_i _ _ _
  have c3 : Ch (fun x => x = a) 0 0 S2 S3 := by rw [← d3]; exact Ch.set S2 _ h2
  have p3 : pV S2 (some a) 4 3 (.int (nq (bs.length % b))) = some S3 := (pV_ok h2 (by simp)).trans (congrArg some d3)
  obtain ⟨S4, d4⟩ : ∃ S4, x_set S3 a (.inl (4, [.int (nq b), .int (nq m), .int (nq (nb bs.length b)), .int (nq (bs.length % b)), v4])) = S4 := ⟨_, rfl⟩
  have h4 : S4.1 a = some (.inl (4, [.int (nq b), .int (nq m), .int (nq (nb bs.length b)), .int (nq (bs.length % b)), v4])) := by rw [← d4]; exact xs_i _ _ _
  have c4 : Ch (fun x => x = a) 0 0 S3 S4 := by rw [← d4]; exact Ch.set S3 _ h3
  have p4 : pV S3 (some a) 4 2 (.int (nq (nb bs.length b))) = some S4 := (pV_ok h3 (by simp)).trans (congrArg some d4)
  have C2 := c1.trans c2 fun _ _ q => q
  have C3 := C2.trans c3 fun _ _ q => q
  have C4 := C3.trans c4 fun _ _ q => q
  have hnx : S4.2 = S.2 := by rw [← d4, ← d3, ← d2, ← d1]; rfl
  have hd4 := C4.2.2.2.2.2 hd
  have st : ∀ T : St, Ch (fun x => x = a) 0 0 S T → iStr T.1 sa sb cap bs := fun T C => by
    obtain ⟨q1, q, q2, q3⟩ := hs
    exact ⟨C.at hd q1 nsa, q, C.at hd q2 nsb, q3⟩
  -- the rows
  obtain ⟨S5, m1, m2, m3, m4, m5, c5⟩ := nM_ok (S := S4) (k := nb bs.length b) (by omega) (by rw [hnx]; omega) (by rw [hnx]; omega)
  have hd5 := c5.2.2.2.2.2 hd4
  have h5 := c5.at hd4 h4 (fun q => q)
  obtain ⟨S6, d6⟩ : ∃ S6, x_set S5 a (.inl (4, [.int (nq b), .int (nq m), .int (nq (nb bs.length b)), .int (nq (bs.length % b)), va_rf (some S4.2.1)])) = S6 := ⟨_, rfl⟩
  have h6 : S6.1 a = some (.inl (4, [.int (nq b), .int (nq m), .int (nq (nb bs.length b)), .int (nq (bs.length % b)), .ref S4.2.1])) := by rw [← d6]; exact xs_i _ _ _
  have c6 : Ch (fun x => x = a) 0 0 S5 S6 := by rw [← d6]; exact Ch.set S5 _ h5
  have p6 : pV S5 (some a) 4 4 (va_rf (some S4.2.1)) = some S6 := (pV_ok h5 (by simp)).trans (congrArg some d6)
  have hd6 := c6.2.2.2.2.2 hd5
  have m2' := c6.at hd5 m2 (obne m2 h5 (by simp))
  have m3' := c6.at hd5 m3 (obne m3 h5 (by simp))
  have m4' := c6.at hd5 m4 (obne m4 h5 (by simp))
  have hnx6 : S6.2 = S5.2 := by rw [← d6]; rfl
  have kr1 := c5.2.2.1
  have kr2 := c5.2.2.2.1
  rw [hnx] at kr1 kr2
  have kk1 : 1 ≤ S6.2.2.1 := by rw [hnx6]; omega
  have kk2 : 6 ≤ S6.2.2.2.1 := by rw [hnx6]; omega
  -- the window
  obtain ⟨S7, d7⟩ : ∃ S7, x_new S6 6 (.inl (5, [.null, .int (nq 0), .int (nq 0), .int (nq 0), .int (nq 0), .int (nq 0)])) = S7 := ⟨_, rfl⟩
  have q7 : nO S6 5 6 [.null, .int (nq 0), .int (nq 0), .int (nq 0), .int (nq 0), .int (nq 0)] = some (some S6.2.1, S7) := (nO_ok kk1 kk2).trans (by rw [d7])
  have c7 : Ch (fun _ => False) 1 6 S6 S7 := by rw [← d7]; exact Ch.new _ S6 _ kk1 kk2
  have w7 : S7.1 S6.2.1 = some (.inl (5, [.null, .int (nq 0), .int (nq 0), .int (nq 0), .int (nq 0), .int (nq 0)])) := by rw [← d7]; exact xn_i _ _ _
  have hd7 := c7.2.2.2.2.2 hd6
  obtain ⟨S8, d8⟩ : ∃ S8, x_set S7 S6.2.1 (.inl (5, [va_rf (some sa), .int (nq 0), .int (nq 0), .int (nq 0), .int (nq 0), .int (nq 0)])) = S8 := ⟨_, rfl⟩
  have w8 : S8.1 S6.2.1 = some (.inl (5, [va_rf (some sa), .int (nq 0), .int (nq 0), .int (nq 0), .int (nq 0), .int (nq 0)])) := by rw [← d8]; exact xs_i _ _ _
  have c8 : Ch (fun x => x = S6.2.1) 0 0 S7 S8 := by rw [← d8]; exact Ch.set S7 _ w7
  have p8 : pV S7 (some S6.2.1) 5 0 (va_rf (some sa)) = some S8 := (pV_ok w7 (by simp)).trans (congrArg some d8)
  obtain ⟨S9, d9⟩ : ∃ S9, x_set S8 S6.2.1 (.inl (5, [va_rf (some sa), .int (nq m), .int (nq 0), .int (nq 0), .int (nq 0), .int (nq 0)])) = S9 := ⟨_, rfl⟩
  have w9 : S9.1 S6.2.1 = some (.inl (5, [va_rf (some sa), .int (nq m), .int (nq 0), .int (nq 0), .int (nq 0), .int (nq 0)])) := by rw [← d9]; exact xs_i _ _ _
  have c9 : Ch (fun x => x = S6.2.1) 0 0 S8 S9 := by rw [← d9]; exact Ch.set S8 _ w8
  have p9 : pV S8 (some S6.2.1) 5 1 (.int (nq m)) = some S9 := (pV_ok w8 (by simp)).trans (congrArg some d9)
  have hw : iWin S9.1 S6.2.1 sa m (gd bs) 0 0 := by
    unfold iWin
    rw [w9]
    have z1 : s1 (gd bs) 0 0 % m = 0 := Nat.zero_mod m
    have z2 : s2w (gd bs) 0 0 0 % m = 0 := Nat.zero_mod m
    rw [z1, z2]
    rfl
  have C9 : Ch (fun x => x = S6.2.1) 0 0 S7 S9 := c8.trans c9 fun _ _ q => q
  have K : Ch (fun x => x = S6.2.1) 1 6 S6 S9 := (c7.mono (B := fun x => x = S6.2.1) (fun _ _ q => q.elim) (Nat.le_refl _) (Nat.le_refl _)).trans C9 fun _ _ q => q
  have hd9 := K.2.2.2.2.2 hd6
  have ne6 : ∀ x e, S6.1 x = some e → ¬ x = S6.2.1 := fun x e he => Nat.ne_of_lt (hd6 x e he)
  have a9 := K.at hd6 h6 (ne6 _ _ h6)
  have m29 := K.at hd6 m2' (ne6 _ _ m2')
  have m39 := K.at hd6 m3' (ne6 _ _ m3')
  have m49 := K.at hd6 m4' (ne6 _ _ m4')
  have C6 : Ch (fun x => x = a) 3 (2 + 2 * nb bs.length b) S S6 := ((C4.trans (c5.mono (B := fun x => x = a) (fun _ _ q => q.elim) (Nat.le_refl _) (Nat.le_refl _)) fun _ _ q => q).trans c6 fun _ _ q => q).mono (fun _ _ q => q) (by omega) (by omega)
  have hs6 : iStr S6.1 sa sb cap bs := by
    obtain ⟨q1, q, q2, q3⟩ := hs
    exact ⟨C6.at hd q1 nsa, q, C6.at hd q2 nsb, q3⟩
  have hs9 : iStr S9.1 sa sb cap bs := by
    obtain ⟨q1, q, q2, q3⟩ := hs6
    exact ⟨K.at hd6 q1 (ne6 _ _ q1), q, K.at hd6 q2 (ne6 _ _ q2), q3⟩
  obtain ⟨S', f1, ⟨F1, F2, f2, f3, f4⟩, f5⟩ := sg_l (a := a) (so := S4.2.1) (r1 := S4.2.1 + 1) (r2 := S4.2.1 + 2) (w := S6.2.1) (g := fun j => some (S4.2.1 + 1 + j)) hb hm hbs hc rfl rfl (by omega) (nb bs.length b) 0 FU 0 0 _ _ S9 (by unfold FU; omega) (by omega) a9 m29 m39 m49 (fun j hj => absurd hj (Nat.not_lt_zero j)) hw (Nat.zero_le _) (Nat.zero_le _) hs9 hd9
  have a' := f5.at hd9 a9 (fun q => by
    rcases q with q | q | q
    · exact ne6 _ _ h6 q
    · exact obne h6 m3' (by simp) q
    · exact obne h6 m4' (by simp) q)
  have so' := f5.at hd9 m29 (fun q => by
    rcases q with q | q | q
    · exact ne6 _ _ m2' q
    · exact absurd q (by omega)
    · exact absurd q (by omega))
  have hna : a ≤ S4.2.1 := by rw [hnx]; exact Nat.le_of_lt (hd _ _ h0)
  refine ⟨S', ?_, ⟨S4.2.1, S4.2.1 + 1, S4.2.1 + 2, fun j => some (S4.2.1 + 1 + j), F1, F2, nw_i (Nat.le_refl _) a', nw_i (by omega) so', rfl, rfl, nw_i (by omega) f2, nw_i (by omega) f3, f4⟩, ?_⟩
  · have e1 : oI S2 (some sa) 3 1 = some (nq bs.length) := oI_ok (st S2 C2).1 rfl
    have e2 : oI S3 (some sa) 3 1 = some (nq bs.length) := oI_ok (st S3 C3).1 rfl
    have e3 : oI S4 (some a) 4 2 = some (nq (nb bs.length b)) := oI_ok h4 rfl
    have hz : nz (nq b) = some () := nz_ok (by omega) (by omega)
    have enb : (bs.length + b - 1) / b = nb bs.length b := rfl
    have hmod : nq bs.length - nq (bs.length / b * b) = nq (bs.length % b) := by
      rw [← nq_mul, ← nq_div (by omega) (by omega), nq_mod (by omega) (by omega)]
    unfold f_X5_init f_X6_init
    simp (disch := omega) only [p1, p2, e1, hz, hmod, p3, e2, nq_sub, nq_div, enb, p4, e3, m1, p6, q7, p8, p9, pb1, pb2, nq_lit, nq_add, nq_mul, nq_lt, nq_le, nq_eq, nq_lt0, nq10, nq00, Nat.one_ne_zero, Nat.reduceEqDiff, Nat.not_lt_zero, zb1, zb0, eq_self, reduceIte]
    exact f1
  · have hnn : S4.2.1 = S.2.1 := by rw [hnx]
    have hn6 : S.2.1 ≤ S6.2.1 := C6.2.1
    refine ((C6.or K).or f5).mono (fun x hx q => ?_) (by omega) (by omega)
    rcases q with (q | q) | q | q | q
    · exact q
    · exact absurd (q : x = S6.2.1) (by omega)
    · exact absurd (q : x = S6.2.1) (by omega)
    · exact absurd (q : x = S4.2.1 + 1) (by omega)
    · exact absurd (q : x = S4.2.1 + 2) (by omega)
section SigUse
variable {S : St} {a : Nat} {s : Nat × Nat × List Nat}
theorem sg_weak (h : iSig S.1 a s) (hs : SOk s) {k : Nat} (hk : k < nb s.2.2.length s.1) : f_X5_weak (some a) (nq k) S = some (nq (sWk s k), S) := by
  have bn := nb_le hs.1.1 hs.2.2.1
  obtain ⟨so, r1, r2, g, F1, F2, h1, h2, h3, h4, h5, h6, h7⟩ := h
  have e5 : aL S (some so) 4 (nq 0) = some (some r1) := by rw [← h3]; exact aL_ok h2 (by omega) (by omega)
  unfold f_X5_weak
  rw [oA_ok (o := some so) h1 rfl, pb1, nq_lit, e5, pb1, jL_ok h5 hk (by omega), pb1, (h7 k hk).1, Int32.toInt32_toInt64]
theorem sg_strong (h : iSig S.1 a s) (hs : SOk s) {k : Nat} (hk : k < nb s.2.2.length s.1) : f_X5_strong (some a) (nq k) S = some (sSt s k, S) := by
  have bn := nb_le hs.1.1 hs.2.2.1
  obtain ⟨so, r1, r2, g, F1, F2, h1, h2, h3, h4, h5, h6, h7⟩ := h
  have e5 : aL S (some so) 4 (nq 1) = some (some r2) := by rw [← h4]; exact aL_ok h2 (by omega) (by omega)
  unfold f_X5_strong
  rw [oA_ok (o := some so) h1 rfl, pb1, nq_lit, e5, pb1, jL_ok h6 hk (by omega), pb1, (h7 k hk).2]
/-- the blocks that are not short -/
def whl (s : Nat × Nat × List Nat) : Nat := if s.2.2.length % s.1 = 0 then nb s.2.2.length s.1 else nb s.2.2.length s.1 - 1
theorem nb_pos {L b : Nat} (hb : 1 ≤ b) (hL : 0 < L) : 1 ≤ nb L b := by
  unfold nb
  rw [Nat.le_div_iff_mul_le (by omega)]
  omega
theorem sg_whole (h : iSig S.1 a s) (hs : SOk s) : f_X5_whole (some a) S = some (nq (whl s), S) := by
  have bn := nb_le hs.1.1 hs.2.2.1
  have hm : s.2.2.length % s.1 < s.1 := Nat.mod_lt _ (by have := hs.1.1; omega)
  have hb := hs.1
  obtain ⟨so, r1, r2, g, F1, F2, h1, -⟩ := h
  have e1 : oI S (some a) 4 3 = some (nq (s.2.2.length % s.1)) := oI_ok h1 rfl
  have e2 : oI S (some a) 4 2 = some (nq (nb s.2.2.length s.1)) := oI_ok h1 rfl
  unfold whl
  by_cases c : s.2.2.length % s.1 = 0
  · rw [if_pos c]
    simp (disch := omega) only [f_X5_whole, s_X5_whole_20, e1, e2, c, pb1, pb2, nq_lit, nq_add, nq_mul, nq_lt, nq_le, nq_eq, nq_lt0, nq10, nq00, Nat.one_ne_zero, Nat.reduceEqDiff, Nat.not_lt_zero, zb1, zb0, eq_self, reduceIte]
  · rw [if_neg c]
    have : 0 < s.2.2.length := by
      by_cases q : s.2.2.length = 0
      · rw [q, Nat.zero_mod] at c
        exact absurd rfl c
      · omega
    have hp := nb_pos hb.1 this
    simp (disch := omega) only [f_X5_whole, s_X5_whole_20, e1, e2, c, nq_sub, pb1, pb2, nq_lit, nq_add, nq_mul, nq_lt, nq_le, nq_eq, nq_lt0, nq10, nq00, Nat.one_ne_zero, Nat.reduceEqDiff, Nat.not_lt_zero, zb1, zb0, eq_self, reduceIte]
end SigUse
