/-! PURE: floorMod, Window -/
set_option maxRecDepth 100000
theorem xor_nn {x y : Int32} : nq 0 ≤ x ^^^ y ↔ (x.toInt < 0 ↔ y.toInt < 0) := by
  have h : (x.toBitVec ^^^ y.toBitVec).msb = (x.toBitVec.msb ^^ y.toBitVec.msb) := BitVec.msb_xor
  rw [BitVec.msb_eq_toInt, BitVec.msb_eq_toInt, BitVec.msb_eq_toInt] at h
  rw [Int32.le_iff_toInt_le]
  have e0 : (nq 0).toInt = 0 := by decide
  rw [e0]
  have e1 : (x ^^^ y).toInt = (x.toBitVec ^^^ y.toBitVec).toInt := rfl
  have e2 : x.toInt = x.toBitVec.toInt := rfl
  have e3 : y.toInt = y.toBitVec.toInt := rfl
  rw [e1, e2, e3]
  by_cases a : x.toBitVec.toInt < 0
  · by_cases b : y.toBitVec.toInt < 0
    · rw [decide_eq_true a, decide_eq_true b] at h
      have := of_decide_eq_false h
      exact ⟨fun _ => ⟨fun _ => b, fun _ => a⟩, fun _ => by omega⟩
    · rw [decide_eq_true a, decide_eq_false b] at h
      have := of_decide_eq_true h
      exact ⟨fun q => by omega, fun q => absurd (q.mp a) b⟩
  · by_cases b : y.toBitVec.toInt < 0
    · rw [decide_eq_false a, decide_eq_true b] at h
      have := of_decide_eq_true h
      exact ⟨fun q => by omega, fun q => absurd (q.mpr b) a⟩
    · rw [decide_eq_false a, decide_eq_false b] at h
      have := of_decide_eq_false h
      exact ⟨fun _ => ⟨fun q => absurd q a, fun q => absurd q b⟩, fun _ => by omega⟩
theorem rem_int {x : Int32} {m : Nat} (h1 : 1 ≤ m) (hm : m < 2147483648) (hx : x.toInt < 0) : (x - x / nq m * nq m).toInt = x.toInt.tmod m := by
  have hlo : -2147483648 ≤ x.toInt := x.le_toInt
  have hmi := nq_int hm
  have ht := Int.tmod_add_tdiv_mul x.toInt m
  have ht1 : x.toInt.tmod m ≤ 0 := by
    have := Int.neg_tmod (-x.toInt) m
    rw [Int.neg_neg] at this
    have h2 := Int.tmod_nonneg (a := -x.toInt) m (by omega)
    omega
  have hq : x.toInt.tdiv m ≤ 0 := by
    by_cases c : 0 < x.toInt.tdiv m
    · have : 0 < x.toInt.tdiv m * m := Int.mul_pos c (by omega)
      have h3 := Int.lt_tmod_of_pos x.toInt (b := m) (by omega)
      have h4 : (1 : Int) * m ≤ x.toInt.tdiv m * m := Int.mul_le_mul_of_nonneg_right (by omega) (by omega)
      omega
    · omega
  have hqm : x.toInt.tdiv m * m ≤ x.toInt.tdiv m * 1 := Int.mul_le_mul_of_nonpos_left hq (by omega)
  have hqm2 : x.toInt ≤ x.toInt.tdiv m * m := by omega
  have hqm3 : x.toInt.tdiv m * m ≤ 0 := by omega
  rw [Int32.toInt_sub, Int32.toInt_mul, Int32.toInt_div, hmi]
  have b1 : (x.toInt.tdiv ↑m).bmod (2 ^ 32) = x.toInt.tdiv ↑m := Int.bmod_eq_of_le (by omega) (by omega)
  rw [b1]
  have b2 : (x.toInt.tdiv ↑m * ↑m).bmod (2 ^ 32) = x.toInt.tdiv ↑m * ↑m := Int.bmod_eq_of_le (by omega) (by omega)
  rw [b2]
  have b3 : x.toInt - x.toInt.tdiv ↑m * ↑m = x.toInt.tmod ↑m := by omega
  rw [b3]
  exact Int.bmod_eq_of_le (by omega) (by omega)
theorem j_floorMod {x : Int32} {m : Nat} (h1 : 1 ≤ m) (hm : m < 2147483648) (S : St) : f_J12_floorMod x (nq m) S = some (nq (x.toInt % (m : Int)).toNat, S) := by
  have hmi := nq_int hm
  have hz : nz (nq m) = some () := nz_ok (by omega) hm
  rcases nq_cases x with hx | ⟨a, ha, rfl⟩
  · have hx' : x.toInt < 0 := by
      rw [Int32.lt_iff_toInt_lt] at hx
      exact hx
    have c : ¬ nq 0 ≤ x ^^^ nq m := fun q => by
      have := (xor_nn.mp q).mp hx'
      omega
    have hr := rem_int h1 hm hx'
    have ht := Int.tmod_add_mul_tdiv x.toInt m
    have hlo := Int.lt_tmod_of_pos x.toInt (b := m) (by omega)
    have ht1 : x.toInt.tmod m ≤ 0 := by
      have := Int.neg_tmod (-x.toInt) m
      rw [Int.neg_neg] at this
      have h2 := Int.tmod_nonneg (a := -x.toInt) m (by omega)
      omega
    have he : x.toInt % (m : Int) = x.toInt.tmod m % m := by
      have := Int.add_mul_emod_self_left (x.toInt.tmod m) m (x.toInt.tdiv m)
      rw [ht] at this
      exact this
    by_cases h0 : x - x / nq m * nq m = nq 0
    · rw [h0] at hr
      have e0 : (nq 0).toInt = 0 := by decide
      rw [e0] at hr
      rw [he, ← hr, Int.zero_emod]
      simp only [f_J12_floorMod, s_J12_floorMod_18, hz, pb1, nq_lit, if_neg c, h0, if_pos]
      rfl
    · have hne : ¬ x.toInt.tmod m = 0 := fun q => h0 (Int32.toInt.inj (by rw [hr, q]; decide))
      have he2 : x.toInt % (m : Int) = x.toInt.tmod m + m := by
        rw [he, ← Int.add_emod_right, Int.emod_eq_of_lt (by omega) (by omega)]
      simp only [f_J12_floorMod, s_J12_floorMod_18, hz, pb1, nq_lit, c, h0, reduceIte]
      congr 2
      apply Int32.toInt.inj
      rw [Int32.toInt_add, hr, hmi, he2, nq_int (by omega), Int.toNat_of_nonneg (by omega)]
      exact Int.bmod_eq_of_le (by omega) (by omega)
  · have c : nq 0 ≤ nq a ^^^ nq m := xor_nn.mpr (by rw [nq_int ha, hmi]; omega)
    rw [nq_int ha]
    have e : ((a : Int) % (m : Int)).toNat = a % m := by rw [← Int.natCast_emod, Int.toNat_natCast]
    rw [e]
    simp only [f_J12_floorMod, s_J12_floorMod_18, hz, pb1, nq_lit, if_pos c, nq_mod ha hm]
/-- a window on a strip: where it stands and its sums -/
def iWin (M : Nat → Option Ob) (w sa m : Nat) (f : Nat → Nat) (st sz : Nat) : Prop := M w = some (.inl (5, [.ref sa, .int (nq m), .int (nq st), .int (nq sz), .int (nq (s1 f st sz % m)), .int (nq (s2w f st sz sz % m))]))
theorem s1_front (f : Nat → Nat) (p : Nat) : ∀ n, s1 f p (n + 1) = f p + s1 f (p + 1) n := by
  intro n
  induction n with
  | zero =>
    show 0 + f (p + 0) = f p + 0
    rw [Nat.add_zero, Nat.zero_add, Nat.add_zero]
  | succ n ih =>
    show s1 f p (n + 1) + f (p + (n + 1)) = f p + (s1 f (p + 1) n + f (p + 1 + n))
    rw [ih, show p + (n + 1) = p + 1 + n by omega]
    omega
/-- sums of sums -/
def s2 (f : Nat → Nat) (p : Nat) : Nat → Nat
  | 0 => 0
  | n + 1 => s2 f p n + s1 f p (n + 1)
theorem s2w_s2 (f : Nat → Nat) (p w : Nat) : ∀ n, n ≤ w → s2w f p w n = s2 f p n + (w - n) * s1 f p n := by
  intro n
  induction n with
  | zero => intro _; show 0 = 0 + (w - 0) * 0; omega
  | succ n ih =>
    intro hn
    have e : w - n = (w - (n + 1)) + 1 := by omega
    show s2w f p w n + (w - n) * f (p + n) = (s2 f p n + (s1 f p n + f (p + n))) + (w - (n + 1)) * (s1 f p n + f (p + n))
    rw [ih (by omega), e, Nat.add_mul, Nat.add_mul, Nat.mul_add, Nat.one_mul, Nat.one_mul]
    omega
theorem s2w_full (f : Nat → Nat) (p w : Nat) : s2w f p w w = s2 f p w := by
  rw [s2w_s2 f p w w (Nat.le_refl _), Nat.sub_self, Nat.zero_mul, Nat.add_zero]
theorem s2_roll (f : Nat → Nat) (p : Nat) : ∀ w, s2 f (p + 1) w + w * f p = s2 f p w + s1 f (p + 1) w := by
  intro w
  induction w with
  | zero =>
    show 0 + 0 * f p = 0 + 0
    omega
  | succ w ih =>
    have h := s1_front f p w
    show (s2 f (p + 1) w + s1 f (p + 1) (w + 1)) + (w + 1) * f p = (s2 f p w + s1 f p (w + 1)) + s1 f (p + 1) (w + 1)
    rw [h, Nat.add_mul, Nat.one_mul]
    omega
/-- a rolled sum, modulo -/
theorem roll_mod {a m : Nat} (h1 : 1 ≤ m) {g x b : Nat} (e : b + g = a + x) : (((a % m : Nat) : Int) - g + x) % (m : Int) = ((b % m : Nat) : Int) := by
  rw [Int.natCast_emod, Int.natCast_emod]
  have h : (b : Int) = (a : Int) - g + x := by omega
  rw [h, Int.add_emod, Int.sub_emod, Int.emod_emod, ← Int.sub_emod, ← Int.add_emod]
section Win
variable {S : St} {w sa sb cap m st sz p n : Nat} {bs : List Nat}
theorem w_weak {f : Nat → Nat} (h : iWin S.1 w sa m f st sz) : f_X6_weak (some w) S = some (nq (wk f st sz m), S) := by
  unfold f_X6_weak
  rw [oI_ok h rfl, pb1, oI_ok h rfl, pb1, oI_ok h rfl, pb1, nq_mul, nq_add]
  rfl
theorem w_strong_l (hs : iStr S.1 sa sb cap bs) (hc : cap ≤ 100000) {v3 v4 v5 : Value} {v1 : Value} (h : S.1 w = some (.inl (5, [.ref sa, v1, .int (nq st), v3, v4, v5]))) (hin : st + sz ≤ bs.length) : ∀ (c k : Nat), c < k → c ≤ sz → l_X6_strong_14 k (some w, st64 (gd bs) (sz - c) (st + c), nq (st + c) - nq 1) S = some (st64 (gd bs) sz st, S) := by
  have lc : bs.length ≤ cap := hs.2.elim fun f q => q.2.1
  obtain ⟨g1, g, g2, g3, g4⟩ := hs
  have e1 : oI S (some w) 5 2 = some (nq st) := oI_ok h rfl
  have e2 : oA S (some w) 5 0 = some (some sa) := oA_ok (o := some sa) h rfl
  have e3 : oA S (some sa) 3 0 = some (some sb) := oA_ok (o := some sb) g1 rfl
  intro c
  induction c with
  | zero =>
    intro k hk hcz
    obtain ⟨k, rfl⟩ := pre_n hk
    have hlt : nq (st + 0) - nq 1 < nq st := by
      by_cases h0 : st = 0
      · rw [h0]
        decide
      · rw [nq_sub (by omega), nq_lt (by omega) (by omega)]
        omega
    rw [l_X6_strong_14_s]
    simp (disch := omega) only [s_X6_strong_14, e1, hlt, pb1, pb2, nq_lit, nq_add, nq_mul, nq_lt, nq_le, nq_eq, nq_lt0, nq10, nq00, Nat.one_ne_zero, Nat.reduceEqDiff, Nat.not_lt_zero, zb1, zb0, eq_self, reduceIte]
    rfl
  | succ c ih =>
    intro k hk hcz
    obtain ⟨k, rfl⟩ := pre_n hk
    have hlt : ¬ st + c < st := by omega
    have eq : nq (st + (c + 1)) - nq 1 = nq (st + c) := by
      rw [nq_sub (by omega)]
      congr 1
    have eq2 : nq (st + c) + -(nq 1) = nq (st + c) - nq 1 := (Int32.sub_eq_add_neg _ _).symm
    have ih' := ih k (by omega) (by omega)
    rw [show sz - c = (sz - (c + 1)) + 1 by omega] at ih'
    rw [l_X6_strong_14_s, eq]
    simp (disch := omega) only [s_X6_strong_14, e1, e2, e3, hlt, iL_ok g2, g4 (st + c) (by omega), pb1, pb2, nq_lit, nq_add, nq_mul, nq_lt, nq_le, nq_eq, nq_lt0, nq10, nq00, Nat.one_ne_zero, Nat.reduceEqDiff, Nat.not_lt_zero, zb1, zb0, eq_self, reduceIte]
    rw [eq2]
    exact ih'
theorem w_strong (hs : iStr S.1 sa sb cap bs) (hc : cap ≤ 100000) (h : iWin S.1 w sa m (gd bs) st sz) (hin : st + sz ≤ bs.length) : f_X6_strong (some w) S = some (st64 (gd bs) sz st, S) := by
  have lc : bs.length ≤ cap := hs.2.elim fun f q => q.2.1
  have := w_strong_l hs hc h hin sz FU (by unfold FU; omega) (Nat.le_refl _)
  rw [Nat.sub_self] at this
  unfold f_X6_strong
  rw [oI_ok h rfl, pb1, oI_ok h rfl, pb1, nq_add]
  exact this
/-- the sums are made anew -/
theorem w_come_l (hs : iStr S.1 sa sb cap bs) (hc : cap ≤ 100000) (hby : By bs) (hm : 1 ≤ m ∧ m ≤ 4096) (hn : n ≤ 7) (hin : p + n ≤ bs.length) {fs0 : List Value} (hw0 : S.1 w = some (.inl (5, fs0))) (hd : Dom S) {v2 v3 : Value} : ∀ (d k f : Nat) (S1 : St), d < f → k + d = n → S1.1 w = some (.inl (5, [.ref sa, .int (nq m), v2, v3, .int (nq (s1 (gd bs) p k % m)), .int (nq (s2w (gd bs) p n k % m))])) → Ch (fun x => x = w) 0 0 S S1 →
    ∃ S', l_X6_come_101 f (some w, nq p, nq n, nq k) S1 = some ((), S') ∧ iWin S'.1 w sa m (gd bs) p n ∧ Ch (fun x => x = w) 0 0 S S' := by
  have lc : bs.length ≤ cap := hs.2.elim fun f q => q.2.1
  intro d
  induction d with
  | zero =>
    intro k f S1 hf hk hw hC
    obtain ⟨f, rfl⟩ := pre_n hf
    have hk' : n ≤ k := by omega
    have ek : k = n := by omega
    obtain ⟨S2, e2⟩ : ∃ S2, x_set S1 w (.inl (5, [.ref sa, .int (nq m), .int (nq p), v3, .int (nq (s1 (gd bs) p k % m)), .int (nq (s2w (gd bs) p n k % m))])) = S2 := ⟨_, rfl⟩
    have h2 : S2.1 w = some (.inl (5, [.ref sa, .int (nq m), .int (nq p), v3, .int (nq (s1 (gd bs) p k % m)), .int (nq (s2w (gd bs) p n k % m))])) := by rw [← e2]; exact xs_i _ _ _
    have c2 : Ch (fun x => x = w) 0 0 S1 S2 := by rw [← e2]; exact Ch.set S1 _ hw
    have p2 : pV S1 (some w) 5 2 (.int (nq p)) = some S2 := (pV_ok hw (by simp)).trans (congrArg some e2)
    have p3 : pV S2 (some w) 5 3 (.int (nq n)) = some (x_set S2 w (.inl (5, [.ref sa, .int (nq m), .int (nq p), .int (nq n), .int (nq (s1 (gd bs) p k % m)), .int (nq (s2w (gd bs) p n k % m))]))) := pV_ok h2 (by simp)
    refine ⟨x_set S2 w (.inl (5, [.ref sa, .int (nq m), .int (nq p), .int (nq n), .int (nq (s1 (gd bs) p k % m)), .int (nq (s2w (gd bs) p n k % m))])), ?_, ?_, (hC.trans c2 fun _ _ q => q).trans (Ch.set S2 _ h2) fun _ _ q => q⟩
    · rw [l_X6_come_101_s]
      simp (disch := omega) only [s_X6_come_101, s_X6_come_166, hk', p2, p3, pb1, pb2, nq_lit, nq_add, nq_mul, nq_lt, nq_le, nq_eq, nq_lt0, nq10, nq00, Nat.one_ne_zero, Nat.reduceEqDiff, Nat.not_lt_zero, zb1, zb0, eq_self, reduceIte]
    · unfold iWin
      rw [xs_i, ek]
  | succ d ih =>
    intro k f S1 hf hk hw hC
    obtain ⟨f, rfl⟩ := pre_n hf
    have hk' : ¬ n ≤ k := by omega
    have hx := hs
    obtain ⟨g1, g, g2, g3, g4⟩ := hx
    have hn1 : sa ≠ w := obne g1 hw0 (by simp)
    have hn2 : sb ≠ w := obne g2 hw0 (by simp)
    have t1 := hC.at hd g1 hn1
    have t2 := hC.at hd g2 hn2
    have gb := gd_by hby (p + k)
    have b1 := s1_le (gd_by hby) p k
    have b2 := s2w_le (gd_by hby) hn p k
    have m1 : s1 (gd bs) p k % m < m := Nat.mod_lt _ (by omega)
    have m2 : s2w (gd bs) p n k % m < m := Nat.mod_lt _ (by omega)
    have m3 : (n - k) * gd bs (p + k) ≤ 7 * 255 := Nat.mul_le_mul (by omega) (by omega)
    have q1 : (s1 (gd bs) p k % m + gd bs (p + k)) % m = s1 (gd bs) p (k + 1) % m := Nat.mod_add_mod _ _ _
    have q2 : (s2w (gd bs) p n k % m + (n - k) * gd bs (p + k)) % m = s2w (gd bs) p n (k + 1) % m := Nat.mod_add_mod _ _ _
    obtain ⟨S2, e2⟩ : ∃ S2, x_set S1 w (.inl (5, [.ref sa, .int (nq m), v2, v3, .int (nq (s1 (gd bs) p (k + 1) % m)), .int (nq (s2w (gd bs) p n k % m))])) = S2 := ⟨_, rfl⟩
    have h2 : S2.1 w = some (.inl (5, [.ref sa, .int (nq m), v2, v3, .int (nq (s1 (gd bs) p (k + 1) % m)), .int (nq (s2w (gd bs) p n k % m))])) := by rw [← e2]; exact xs_i _ _ _
    have c2 : Ch (fun x => x = w) 0 0 S1 S2 := by rw [← e2]; exact Ch.set S1 _ hw
    have p2 : pV S1 (some w) 5 4 (.int (nq (s1 (gd bs) p (k + 1) % m))) = some S2 := (pV_ok hw (by simp)).trans (congrArg some e2)
    obtain ⟨S3, e3⟩ : ∃ S3, x_set S2 w (.inl (5, [.ref sa, .int (nq m), v2, v3, .int (nq (s1 (gd bs) p (k + 1) % m)), .int (nq (s2w (gd bs) p n (k + 1) % m))])) = S3 := ⟨_, rfl⟩
    have h3 : S3.1 w = some (.inl (5, [.ref sa, .int (nq m), v2, v3, .int (nq (s1 (gd bs) p (k + 1) % m)), .int (nq (s2w (gd bs) p n (k + 1) % m))])) := by rw [← e3]; exact xs_i _ _ _
    have c3 : Ch (fun x => x = w) 0 0 S2 S3 := by rw [← e3]; exact Ch.set S2 _ h2
    have p3 : pV S2 (some w) 5 5 (.int (nq (s2w (gd bs) p n (k + 1) % m))) = some S3 := (pV_ok h2 (by simp)).trans (congrArg some e3)
    have hC2 := hC.trans c2 fun _ _ q => q
    have u1 := hC2.at hd g1 hn1
    have u2 := hC2.at hd g2 hn2
    have r1 : oI S1 (some w) 5 4 = some (nq (s1 (gd bs) p k % m)) := oI_ok hw rfl
    have r2 : oA S1 (some w) 5 0 = some (some sa) := oA_ok (o := some sa) hw rfl
    have r3 : oA S1 (some sa) 3 0 = some (some sb) := oA_ok (o := some sb) t1 rfl
    have r4 : oI S1 (some w) 5 1 = some (nq m) := oI_ok hw rfl
    have r5 : oI S2 (some w) 5 5 = some (nq (s2w (gd bs) p n k % m)) := oI_ok h2 rfl
    have r6 : oA S2 (some w) 5 0 = some (some sa) := oA_ok (o := some sa) h2 rfl
    have r7 : oA S2 (some sa) 3 0 = some (some sb) := oA_ok (o := some sb) u1 rfl
    have r8 : oI S2 (some w) 5 1 = some (nq m) := oI_ok h2 rfl
    have hz : nz (nq m) = some () := nz_ok (by omega) (by omega)
    obtain ⟨S', f1, f2, f3⟩ := ih (k + 1) f S3 (by omega) (by omega) h3 (hC2.trans c3 fun _ _ q => q)
    refine ⟨S', ?_, f2, f3⟩
    rw [l_X6_come_101_s]
    simp (disch := omega) only [s_X6_come_101, hk', r1, r2, r3, r4, r5, r6, r7, r8, hz, iL_ok t2, iL_ok u2, g4 (p + k) (by omega), nq_sub, nq_mod, q1, q2, p2, p3, pb1, pb2, nq_lit, nq_add, nq_mul, nq_lt, nq_le, nq_eq, nq_lt0, nq10, nq00, Nat.one_ne_zero, Nat.reduceEqDiff, Nat.not_lt_zero, zb1, zb0, eq_self, reduceIte]
    exact f1
theorem w_come (hs : iStr S.1 sa sb cap bs) (hc : cap ≤ 100000) (hby : By bs) (hm : 1 ≤ m ∧ m ≤ 4096) (hn : 1 ≤ n ∧ n ≤ 7) (hsz : sz ≤ 7) (hin : p + n ≤ bs.length) (hin0 : st + sz ≤ bs.length) (h : iWin S.1 w sa m (gd bs) st sz) (hd : Dom S) :
    ∃ S', f_X6_come (some w) (nq p) (nq n) S = some ((), S') ∧ iWin S'.1 w sa m (gd bs) p n ∧ Ch (fun x => x = w) 0 0 S S' := by
  have lc : bs.length ≤ cap := hs.2.elim fun f q => q.2.1
  have hx := hs
  obtain ⟨g1, g, g2, g3, g4⟩ := hx
  have hn1 : sa ≠ w := obne g1 h (by simp)
  have hn2 : sb ≠ w := obne g2 h (by simp)
  have r1 : oI S (some w) 5 2 = some (nq st) := oI_ok h rfl
  have r2 : oI S (some w) 5 3 = some (nq sz) := oI_ok h rfl
  by_cases c : p = st + 1 ∧ n = sz
  · obtain ⟨cp, cn⟩ := c
    have r3 : oA S (some w) 5 0 = some (some sa) := oA_ok (o := some sa) h rfl
    have r4 : oA S (some sa) 3 0 = some (some sb) := oA_ok (o := some sb) g1 rfl
    have r5 : oI S (some w) 5 4 = some (nq (s1 (gd bs) st sz % m)) := oI_ok h rfl
    have r6 : oI S (some w) 5 1 = some (nq m) := oI_ok h rfl
    have b1 := gd_by hby st
    have b2 := gd_by hby (st + sz)
    have m1 : s1 (gd bs) st sz % m < m := Nat.mod_lt _ (by omega)
    have m2 : s2w (gd bs) st sz sz % m < m := Nat.mod_lt _ (by omega)
    have m3 : s1 (gd bs) p n % m < m := Nat.mod_lt _ (by omega)
    have ef := s1_front (gd bs) st sz
    have e1 : s1 (gd bs) p n + gd bs st = s1 (gd bs) st sz + gd bs (st + sz) := by
      rw [cp, cn]
      have : s1 (gd bs) st (sz + 1) = s1 (gd bs) st sz + gd bs (st + sz) := rfl
      omega
    have e2 : s2w (gd bs) p n n + sz * gd bs st = s2w (gd bs) st sz sz + s1 (gd bs) p n := by
      rw [cp, cn, s2w_full, s2w_full]
      exact s2_roll (gd bs) st sz
    have f1 := j_floorMod (x := nq (s1 (gd bs) st sz % m) - nq (gd bs st) + nq (gd bs (st + sz))) (m := m) hm.1 (by omega) S
    have i1 : (nq (s1 (gd bs) st sz % m) - nq (gd bs st) + nq (gd bs (st + sz))).toInt = ((s1 (gd bs) st sz % m : Nat) : Int) - gd bs st + gd bs (st + sz) := by
      rw [Int32.toInt_add, Int32.toInt_sub, nq_int (by omega), nq_int (by omega), nq_int (by omega)]
      rw [Int.bmod_eq_of_le (n := ((s1 (gd bs) st sz % m : Nat) : Int) - gd bs st) (by omega) (by omega)]
      exact Int.bmod_eq_of_le (by omega) (by omega)
    rw [i1, roll_mod hm.1 e1, Int.toNat_natCast] at f1
    obtain ⟨S1, d1⟩ : ∃ S1, x_set S w (.inl (5, [.ref sa, .int (nq m), .int (nq st), .int (nq sz), .int (nq (s1 (gd bs) p n % m)), .int (nq (s2w (gd bs) st sz sz % m))])) = S1 := ⟨_, rfl⟩
    have h1 : S1.1 w = some (.inl (5, [.ref sa, .int (nq m), .int (nq st), .int (nq sz), .int (nq (s1 (gd bs) p n % m)), .int (nq (s2w (gd bs) st sz sz % m))])) := by rw [← d1]; exact xs_i _ _ _
    have c1 : Ch (fun x => x = w) 0 0 S S1 := by rw [← d1]; exact Ch.set S _ h
    have p1 : pV S (some w) 5 4 (.int (nq (s1 (gd bs) p n % m))) = some S1 := (pV_ok h (by simp)).trans (congrArg some d1)
    have r7 : oI S1 (some w) 5 5 = some (nq (s2w (gd bs) st sz sz % m)) := oI_ok h1 rfl
    have r8 : oI S1 (some w) 5 4 = some (nq (s1 (gd bs) p n % m)) := oI_ok h1 rfl
    have r9 : oI S1 (some w) 5 1 = some (nq m) := oI_ok h1 rfl
    have m4 : sz * gd bs st ≤ 7 * 255 := Nat.mul_le_mul hsz (by omega)
    have f2 := j_floorMod (x := nq (s2w (gd bs) st sz sz % m) - nq (sz * gd bs st) + nq (s1 (gd bs) p n % m)) (m := m) hm.1 (by omega) S1
    have i2 : (nq (s2w (gd bs) st sz sz % m) - nq (sz * gd bs st) + nq (s1 (gd bs) p n % m)).toInt = ((s2w (gd bs) st sz sz % m : Nat) : Int) - (sz * gd bs st : Nat) + (s1 (gd bs) p n % m : Nat) := by
      rw [Int32.toInt_add, Int32.toInt_sub, nq_int (by omega), nq_int (by omega), nq_int (by omega)]
      rw [Int.bmod_eq_of_le (n := ((s2w (gd bs) st sz sz % m : Nat) : Int) - (sz * gd bs st : Nat)) (by omega) (by omega)]
      exact Int.bmod_eq_of_le (by omega) (by omega)
    have i3 : (((s2w (gd bs) st sz sz % m : Nat) : Int) - (sz * gd bs st : Nat) + (s1 (gd bs) p n % m : Nat)) % (m : Int) = ((s2w (gd bs) p n n % m : Nat) : Int) := by
      have := roll_mod hm.1 e2
      rw [← this, Int.natCast_emod (s1 (gd bs) p n), Int.add_emod, Int.emod_emod, ← Int.add_emod]
    rw [i2, i3, Int.toNat_natCast] at f2
    obtain ⟨S2, d2⟩ : ∃ S2, x_set S1 w (.inl (5, [.ref sa, .int (nq m), .int (nq st), .int (nq sz), .int (nq (s1 (gd bs) p n % m)), .int (nq (s2w (gd bs) p n n % m))])) = S2 := ⟨_, rfl⟩
    have h2 : S2.1 w = some (.inl (5, [.ref sa, .int (nq m), .int (nq st), .int (nq sz), .int (nq (s1 (gd bs) p n % m)), .int (nq (s2w (gd bs) p n n % m))])) := by rw [← d2]; exact xs_i _ _ _
    have c2 : Ch (fun x => x = w) 0 0 S1 S2 := by rw [← d2]; exact Ch.set S1 _ h1
    have p2 : pV S1 (some w) 5 5 (.int (nq (s2w (gd bs) p n n % m))) = some S2 := (pV_ok h1 (by simp)).trans (congrArg some d2)
    obtain ⟨S3, d3⟩ : ∃ S3, x_set S2 w (.inl (5, [.ref sa, .int (nq m), .int (nq p), .int (nq sz), .int (nq (s1 (gd bs) p n % m)), .int (nq (s2w (gd bs) p n n % m))])) = S3 := ⟨_, rfl⟩
    have h3 : S3.1 w = some (.inl (5, [.ref sa, .int (nq m), .int (nq p), .int (nq sz), .int (nq (s1 (gd bs) p n % m)), .int (nq (s2w (gd bs) p n n % m))])) := by rw [← d3]; exact xs_i _ _ _
    have c3 : Ch (fun x => x = w) 0 0 S2 S3 := by rw [← d3]; exact Ch.set S2 _ h2
    have p3 : pV S2 (some w) 5 2 (.int (nq p)) = some S3 := (pV_ok h2 (by simp)).trans (congrArg some d3)
    have p4 : pV S3 (some w) 5 3 (.int (nq n)) = some (x_set S3 w (.inl (5, [.ref sa, .int (nq m), .int (nq p), .int (nq n), .int (nq (s1 (gd bs) p n % m)), .int (nq (s2w (gd bs) p n n % m))]))) := pV_ok h3 (by simp)
    refine ⟨_, ?_, xs_i _ _ _, (((c1.trans c2 fun _ _ q => q).trans c3 fun _ _ q => q).trans (Ch.set S3 _ h3) fun _ _ q => q)⟩
    have ei : st + 1 + sz - 1 = st + sz := by omega
    simp only [cp, cn] at p1 p2 p3 p4 f1 f2 r8 ⊢
    simp (disch := omega) only [f_X6_come, s_X6_come_166, r1, r2, r3, r4, r5, r6, r7, r8, r9, iL_ok g2, nq_sub (show 1 ≤ st + 1 + sz by omega), ei, g4 st (by omega), g4 (st + sz) (by omega), f1, p1, f2, p2, p3, p4, pb1, pb2, nq_lit, nq_add, nq_mul, nq_lt, nq_le, nq_eq, nq_lt0, nq10, nq00, Nat.one_ne_zero, Nat.reduceEqDiff, Nat.not_lt_zero, zb1, zb0, eq_self, reduceIte]
  · obtain ⟨S1, d1⟩ : ∃ S1, x_set S w (.inl (5, [.ref sa, .int (nq m), .int (nq st), .int (nq sz), .int (nq 0), .int (nq (s2w (gd bs) st sz sz % m))])) = S1 := ⟨_, rfl⟩
    have h1 : S1.1 w = some (.inl (5, [.ref sa, .int (nq m), .int (nq st), .int (nq sz), .int (nq 0), .int (nq (s2w (gd bs) st sz sz % m))])) := by rw [← d1]; exact xs_i _ _ _
    have c1 : Ch (fun x => x = w) 0 0 S S1 := by rw [← d1]; exact Ch.set S _ h
    have p1 : pV S (some w) 5 4 (.int (nq 0)) = some S1 := (pV_ok h (by simp)).trans (congrArg some d1)
    obtain ⟨S2, d2⟩ : ∃ S2, x_set S1 w (.inl (5, [.ref sa, .int (nq m), .int (nq st), .int (nq sz), .int (nq 0), .int (nq 0)])) = S2 := ⟨_, rfl⟩
    have h2 : S2.1 w = some (.inl (5, [.ref sa, .int (nq m), .int (nq st), .int (nq sz), .int (nq 0), .int (nq 0)])) := by rw [← d2]; exact xs_i _ _ _
    have c2 : Ch (fun x => x = w) 0 0 S1 S2 := by rw [← d2]; exact Ch.set S1 _ h1
    have p2 : pV S1 (some w) 5 5 (.int (nq 0)) = some S2 := (pV_ok h1 (by simp)).trans (congrArg some d2)
    have z1 : s1 (gd bs) p 0 % m = 0 := Nat.zero_mod m
    have z2 : s2w (gd bs) p n 0 % m = 0 := Nat.zero_mod m
    obtain ⟨S', k1, k2, k3⟩ := w_come_l (w := w) (p := p) (n := n) (m := m) hs hc hby hm hn.2 hin h hd n 0 FU S2 (by unfold FU; omega) (by omega) (by rw [z1, z2]; exact h2) (c1.trans c2 fun _ _ q => q)
    refine ⟨S', ?_, k2, k3⟩
    by_cases a1 : p = st + 1
    · have a2 : ¬ n = sz := fun q => c ⟨a1, q⟩
      simp (disch := omega) only [f_X6_come, s_X6_come_89, r1, r2, ← a1, a2, p1, p2, pb1, pb2, nq_lit, nq_add, nq_mul, nq_lt, nq_le, nq_eq, nq_lt0, nq10, nq00, Nat.one_ne_zero, Nat.reduceEqDiff, Nat.not_lt_zero, zb1, zb0, eq_self, reduceIte]
      exact k1
    · simp (disch := omega) only [f_X6_come, s_X6_come_89, r1, r2, a1, p1, p2, pb1, pb2, nq_lit, nq_add, nq_mul, nq_lt, nq_le, nq_eq, nq_lt0, nq10, nq00, Nat.one_ne_zero, Nat.reduceEqDiff, Nat.not_lt_zero, zb1, zb0, eq_self, reduceIte]
      exact k1
end Win
