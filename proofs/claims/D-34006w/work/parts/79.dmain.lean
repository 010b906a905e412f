/-! PURE: Delta's constructor, the loop over the file, and whole -/
set_option maxRecDepth 100000
def DInv (S : St) (F : Nat → Option Ob) (n0 : Nat) (e0 : Option Nat) (a l w sa m : Nat) (fb : List Nat) (v3 : Value) (d cap : Nat) (ias : List Nat) (bh : Option Nat) (al : Nat) (is : List In) (st sz : Nat) : Prop :=
  (S.1 a = some (.inl (6, [.ref l, .int (nq al), .int (nq (cst is)), v3])) ∧ iLst S.1 e0 l d ias cap ∧ cap ≤ 180 ∧ ias.Nodup ∧ ias.length = is.length) ∧
  (∀ k, k < is.length → ∃ q lb, ias[k]? = some q ∧ n0 ≤ q ∧ S.1 q = some (.inl (7, [.int (bq (is.getD k i0).1), .int (nq (is.getD k i0).2.1), .int (nq (is.getD k i0).2.2), .int lb])) ∧ (k + 1 = is.length → (is.getD k i0).1 = true → ∃ j, bh = some (j + 1) ∧ lb = nq j)) ∧
  ((is.length = 0 ∨ (lsI is).1 = false) → bh = none) ∧ (iWin S.1 w sa m (gd fb) st sz ∧ st + sz ≤ fb.length ∧ sz ≤ 7) ∧ (n0 ≤ l ∧ n0 ≤ w ∧ (0 < cap → n0 ≤ d)) ∧ Sub F S.1 ∧ Dom S ∧ S.2.2.2.2.2 0 = e0 ∧ n0 ≤ S.2.1
theorem gc_pot (n cap : Nat) (h : n ≤ cap) : gkc n cap ≤ gca n cap - cap ∧ gks n cap ≤ 4 * (gca n cap - cap) ∧ cap ≤ gca n cap ∧ (n ≤ 119 → cap ≤ 180 → gca n cap ≤ 180) := by
  unfold gkc gks gca
  by_cases c : n < cap
  · rw [if_pos c, if_pos c, if_pos c]
    omega
  · rw [if_neg c, if_neg c, if_neg c]
    unfold gcap
    by_cases c0 : cap = 0
    · rw [if_pos c0, c0]
      omega
    · rw [if_neg c0]
      split <;> omega
theorem is_len {is : List In} (h : ∀ i ∈ is, 1 ≤ i.2.2) : is.length ≤ (is.map fun i => i.2.2).sum := by
  induction is with
  | nil => exact Nat.le_refl _
  | cons i is ih =>
    have a1 := h i List.mem_cons_self
    have a2 := ih fun j hj => h j (List.mem_cons_of_mem _ hj)
    rw [List.map_cons, List.sum_cons, List.length_cons]
    omega
theorem many_le {is : List In} {i : In} (h : i ∈ is) : i.2.2 ≤ (is.map fun i => i.2.2).sum := by
  induction is with
  | nil => cases h
  | cons j is ih =>
    rw [List.map_cons, List.sum_cons]
    rcases List.mem_cons.mp h with q | q
    · rw [q]
      omega
    · have := ih q
      omega
theorem rem_0 (is : List In) : rem is 0 = 2 * is.length + (is.map fun i => i.2.2).sum := by
  unfold rem
  rw [List.drop_zero]
  induction is with
  | nil => rfl
  | cons i is ih =>
    rw [List.map_cons, List.sum_cons, ih, List.map_cons, List.sum_cons, List.length_cons]
    omega
theorem cst_app (is : List In) (i : In) : cst (is ++ [i]) = cst is + (if i.1 = true then 3 else 1 + i.2.2) := by
  unfold cst
  rw [List.map_append, List.sum_append]
  rfl
theorem cst_set : ∀ (is : List In) (k : Nat) (x : In), k < is.length → cst (is.set k x) + (if (is.getD k i0).1 = true then 3 else 1 + (is.getD k i0).2.2) = cst is + (if x.1 = true then 3 else 1 + x.2.2) := by
  intro is
  induction is with
  | nil => intro k x h; exact absurd h (Nat.not_lt_zero _)
  | cons a is ih =>
    intro k x h
    cases k with
    | zero =>
      show cst (x :: is) + (if a.1 = true then 3 else 1 + a.2.2) = cst (a :: is) + (if x.1 = true then 3 else 1 + x.2.2)
      unfold cst
      rw [List.map_cons, List.map_cons, List.sum_cons, List.sum_cons]
      omega
    | succ k =>
      have := ih k x (by rw [List.length_cons] at h; omega)
      show cst (a :: is.set k x) + (if (is.getD k i0).1 = true then 3 else 1 + (is.getD k i0).2.2) = cst (a :: is) + (if x.1 = true then 3 else 1 + x.2.2)
      unfold cst at this ⊢
      rw [List.map_cons, List.map_cons, List.sum_cons, List.sum_cons]
      omega
theorem cst_ext {is : List In} (h : 0 < is.length) (w : Nat) : cst (ext is w) = cst is + (if (lsI is).1 = true then 0 else w) := by
  have := cst_set is (is.length - 1) ((lsI is).1, (lsI is).2.1, (lsI is).2.2 + w) (by omega)
  have e : is.getD (is.length - 1) i0 = lsI is := rfl
  have e2 : cst (is.set (is.length - 1) ((lsI is).1, (lsI is).2.1, (lsI is).2.2 + w)) = cst (ext is w) := rfl
  rw [e, e2] at this
  by_cases c : (lsI is).1 = true
  · rw [if_pos c, if_pos c] at this
    rw [if_pos c]
    omega
  · rw [if_neg c, if_neg c] at this
    rw [if_neg c]
    dsimp only at this
    omega
theorem Sub.ch {A : Nat → Prop} {c s : Nat} {S S1 : St} {F : Nat → Option Ob} (hF : Sub F S.1) (k : Ch A c s S S1) (hd : Dom S) (hn : ∀ a, A a → F a = none) : Sub F S1.1 := k.sub hd hF hn
theorem d_loop {F : Nat → Option Ob} {n0 a sg sa sbb cp b m l w : Nat} {e0 : Option Nat} {sb fb : List Nat} {v3 : Value} (hs : SOk (b, m, sb)) (hfb : FOk fb) (hc : cp ≤ 100000) (hsg : iSig F sg (b, m, sb)) (hst : iStr F sa sbb cp fb) (hE : iE0 F e0) (hF : ∀ x, x = a ∨ n0 ≤ x → F x = none) (han : a < n0) :
    ∀ (N p f : Nat) (S : St) (bh : Option Nat) (al : Nat) (is : List In) (ias : List Nat) (d cap st sz : Nat), N < f → fb.length ≤ p + N → p ≤ fb.length → DInv S F n0 e0 a l w sa m fb v3 d cap ias bh al is st sz → CI fb p bh al is → ob bh → (fb.length - p) + (180 - cap) + 241 ≤ S.2.2.1 → 4 * (fb.length - p) + 4 * (180 - cap) + 480 ≤ S.2.2.2.1 →
    ∃ S', l_X7_init_31 f (some a, some sg, some sa, some w, nq p) S = some ((), S') ∧ iDel (nw a S'.1) e0 a ((cmpG b m sb fb N p bh al is).1, (cmpG b m sb fb N p bh al is).2, fb) ∧ Ch (fun x => x = a ∨ n0 ≤ x) ((fb.length - p) + (180 - cap) + 241) (4 * (fb.length - p) + 4 * (180 - cap) + 480) S S' := by
  have hL := hfb.1
  have hb : 1 ≤ b ∧ b ≤ 7 := hs.1
  have bn : nb sb.length b ≤ 120 := nb_le hs.1.1 hs.2.2.1
  -- the end: the steps are made
  have fin : ∀ (p f : Nat) (S : St) (bh : Option Nat) (al : Nat) (is : List In) (ias : List Nat) (d cap st sz : Nat), fb.length ≤ p → p ≤ fb.length → DInv S F n0 e0 a l w sa m fb v3 d cap ias bh al is st sz → CI fb p bh al is → 241 ≤ S.2.2.1 → 480 ≤ S.2.2.2.1 →
      ∃ S', l_X7_init_31 (f + 1) (some a, some sg, some sa, some w, nq p) S = some ((), S') ∧ iDel (nw a S'.1) e0 a (al, is, fb) ∧ Ch (fun x => x = a ∨ n0 ≤ x) 241 480 S S' := fun p f S bh al is ias d cap st sz hp hpl hI hCI k1 k2 => by
    obtain ⟨⟨ha, hl, hcap, hnd, hil⟩, hq, hbn, ⟨hw, hin, hsz⟩, ⟨nl, nww, ndd⟩, hsub, hd, h0, hnx⟩ := hI
    obtain ⟨i1, i2, i3, i4, i5⟩ := hCI
    have hlen := is_len fun i hi => (i2 i hi).1
    have hst' := hst.sub hsub
    have e1 : oI S (some sa) 3 1 = some (nq fb.length) := oI_ok hst'.1 rfl
    have e2 : oA S (some a) 6 0 = some (some l) := oA_ok (o := some l) ha rfl
    have e3 := hl.isO
    have e4 := la_size hl
    rw [hil] at e4
    obtain ⟨S1, d1⟩ : ∃ S1, x_new S is.length (.inr (8, is.length, .inr (.inr (.inr (.inr fun _ => none))))) = S1 := ⟨_, rfl⟩
    have q1 : nA S 8 (nq is.length) (.inr (.inr (.inr (.inr fun _ => none)))) = some (some S.2.1, S1) := (nA_ok (by omega) (by omega) (by omega)).trans (by rw [d1])
    have c1 : Ch (fun _ => False) 1 is.length S S1 := by rw [← d1]; exact Ch.new _ S _ (by omega) (by omega)
    have hd1 := c1.2.2.2.2.2 hd
    have h1 : S1.1 S.2.1 = some (.inr (8, is.length, .inr (.inr (.inr (.inr fun _ => none))))) := by rw [← d1]; exact xn_i _ _ _
    have ha1 := c1.at hd ha (fun q => q)
    obtain ⟨S2, d2⟩ : ∃ S2, x_set S1 a (.inl (6, [.ref l, .int (nq al), .int (nq (cst is)), va_rf (some S.2.1)])) = S2 := ⟨_, rfl⟩
    have ha2 : S2.1 a = some (.inl (6, [.ref l, .int (nq al), .int (nq (cst is)), .ref S.2.1])) := by rw [← d2]; exact xs_i _ _ _
    have c2 : Ch (fun x => x = a) 0 0 S1 S2 := by rw [← d2]; exact Ch.set S1 _ ha1
    have p2 : pV S1 (some a) 6 3 (va_rf (some S.2.1)) = some S2 := (pV_ok ha1 (by simp)).trans (congrArg some d2)
    have hd2 := c2.2.2.2.2.2 hd1
    have h2 := c2.at hd1 h1 (obne h1 ha1 (by simp))
    have hn2 : S2.2 = S1.2 := by rw [← d2]; rfl
    have kk1 : S1.2.2.1 = S.2.2.1 - 1 := by rw [← d1]; rfl
    have kk2 : S1.2.2.2.1 = S.2.2.2.1 - is.length := by rw [← d1]; rfl
    have tr : ∀ x e, S.1 x = some e → x ≠ a → S2.1 x = some e := fun x e hx hne => c2.at hd1 (c1.at hd hx (fun q => q)) hne
    have hl2 : iLst S2.1 e0 l d ias cap := by
      obtain ⟨⟨mc, t1⟩, t2, t3⟩ := hl
      exact ⟨⟨mc, tr _ _ t1 (obne t1 ha (by simp))⟩, t2, fun cc => ⟨tr _ _ (t3 cc).1 (obne (t3 cc).1 ha (by simp)), (t3 cc).2⟩⟩
    have hq2 : ∀ k, k < is.length → ∃ q lb, ias[k]? = some q ∧ S2.1 q = some (.inl (7, [.int (bq (is.getD k i0).1), .int (nq (is.getD k i0).2.1), .int (nq (is.getD k i0).2.2), .int lb])) := fun k hk => by
      obtain ⟨q, lb, t1, -, t2, -⟩ := hq k hk
      exact ⟨q, lb, t1, tr _ _ t2 (obne t2 ha (by simp))⟩
    have hst2 : iStr S2.1 sa sbb cp fb := by
      obtain ⟨t1, t, t2, t3⟩ := hst'
      exact ⟨tr _ _ t1 (obne t1 ha (by simp)), t, tr _ _ t2 (obne t2 ha (by simp)), t3⟩
    have hrem := rem_0 is
    obtain ⟨S', sf', f1, f2, f3, f4⟩ := d_steps hc (by omega) hil (fun i hi => ⟨by have := many_le hi; omega, (i2 i hi).2.2⟩) ha2 hl2 hq2 hst2 hd2 h2 rfl (by omega) is.length 0 FU 0 0 S2 (fun _ => none) (by unfold FU; omega) (Nat.zero_add _) (Ch.refl _ S2) h2 (fun j hj => absurd hj (Nat.not_lt_zero j)) (by rw [hn2]; omega) (by rw [hn2]; omega)
    have tr2 : ∀ x e, S2.1 x = some e → x ≠ S.2.1 → S'.1 x = some e := fun x e hx hne => f4.at hd2 hx hne
    have hna : a ≤ S.2.1 := by omega
    have hna2 : a ≤ S2.2.1 := by rw [hn2]; have := c1.2.1; omega
    refine ⟨S', ?_, ⟨l, d, cap, S.2.1, ias, sf', nw_i (Nat.le_refl _) (tr2 _ _ ha2 (obne ha2 h2 (by simp))), ?_, hcap, hil, fun k hk => ?_, nw_i hna f2, fun k hk => ?_⟩, ((c1.or c2).or f4).mono (fun x hx q => ?_) (by omega) (by omega)⟩
    · rw [l_X7_init_31_s]
      have hp' : fb.length ≤ p := hp
      simp (disch := omega) only [s_X7_init_31, e1, hp', e2, e3, e4, q1, p2, pb1, pb2, nq_lit, nq_add, nq_mul, nq_lt, nq_le, nq_eq, nq_lt0, nq10, nq00, Nat.one_ne_zero, Nat.reduceEqDiff, Nat.not_lt_zero, zb1, zb0, eq_self, reduceIte]
      exact f1
    · obtain ⟨⟨mc, t1⟩, t2, t3⟩ := hl2
      refine ⟨⟨mc, nw_i (by omega) (tr2 _ _ t1 (obne t1 h2 (by simp)))⟩, t2, fun cc => ⟨nw_i (by have := ndd cc; omega) (tr2 _ _ (t3 cc).1 (fun q => ?_)), (t3 cc).2⟩⟩
      have := hd d _ (hl.2.2 cc).1
      omega
    · obtain ⟨q, lb, t1, t2⟩ := hq2 k hk
      obtain ⟨q', lb', t1', t3', -⟩ := hq k hk
      have hqq : q' = q := Option.some.inj (t1'.symm.trans t1)
      exact ⟨q, lb, t1, nw_i (by omega) (tr2 _ _ t2 (obne t2 h2 (by simp)))⟩
    · obtain ⟨q, t1, t2⟩ := f3 k hk
      exact ⟨q, t1, t2.sub (nw_mono hna2)⟩
    · rcases q with (q | q) | q
      · exact q.elim
      · exact Or.inl q
      · exact absurd q (Nat.ne_of_lt hx)
  intro N
  induction N with
  | zero =>
    intro p f S bh al is ias d cap st sz hf hp hpl hI hCI hob k1 k2
    obtain ⟨f, rfl⟩ := pre_n hf
    obtain ⟨S', f1, f2, f3⟩ := fin p f S bh al is ias d cap st sz (by omega) hpl hI hCI (by omega) (by omega)
    exact ⟨S', f1, f2, f3.mono (fun _ _ q => q) (by omega) (by omega)⟩
  | succ N ih =>
    intro p f S bh al is ias d cap st sz hf hp hpl hI hCI hob k1 k2
    obtain ⟨f, rfl⟩ := pre_n hf
    rw [cmpG_s]
    by_cases c : fb.length ≤ p
    · rw [if_pos c]
      obtain ⟨S', f1, f2, f3⟩ := fin p f S bh al is ias d cap st sz c hpl hI hCI (by omega) (by omega)
      exact ⟨S', f1, f2, f3.mono (fun _ _ q => q) (by omega) (by omega)⟩
    · rw [if_neg c]
      have hpp : p < fb.length := by omega
      obtain ⟨w1, w2, w3⟩ := wnd_ok hb hpp
      obtain ⟨⟨ha, hl, hcap, hnd, hil⟩, hq, hbn, ⟨hw, hin, hsz⟩, ⟨nl, nww, ndd⟩, hsub, hd, h0, hnx⟩ := hI
      obtain ⟨i1, i2, i3, i4, i5⟩ := hCI
      have hlen := is_len fun i hi => (i2 i hi).1
      have hle := hl.le
      have hlast : lastOk S.1 ias bh := by
        refine ⟨fun he => hbn (Or.inl (by rw [← hil, he]; rfl)), fun q hq' => ?_⟩
        have hpos : 0 < ias.length := by
          by_cases z : ias.length = 0
          · rw [List.getElem?_eq_none (by omega)] at hq'
            cases hq'
          · omega
        obtain ⟨q', lb, t1, -, t2, t3⟩ := hq (is.length - 1) (by omega)
        rw [hil] at hq'
        have : q' = q := Option.some.inj (t1.symm.trans hq')
        rw [this] at t2
        exact ⟨_, _, _, lb, t2, fun z => hbn (Or.inr z), fun z => t3 (by omega) z⟩
      obtain ⟨S1, st1, sz1, g1, g2, g3, g4, g5, g6, g7⟩ := d_match (S := S) (a := a) (sg := sg) (w := w) (sa := sa) (p := p) (al := al) (bh := bh) hs hfb (hsg.sub hsub) (hst.sub hsub) hc hw hin hsz hpp ha hl (by omega) hob hlast hd
      have hd1 := g7.2.2.2.2.2 hd
      have g7' : Ch (fun x => x = a ∨ n0 ≤ x) 0 0 S S1 := g7.mono (fun x _ q => q.elim Or.inl (fun q => Or.inr (by rw [q]; exact nww))) (Nat.le_refl _) (Nat.le_refl _)
      have hsub1 := hsub.ch g7' hd hF
      have trA : ∀ x e, S.1 x = some e → x ≠ a → x ≠ w → S1.1 x = some e := fun x e hx h1 h2 => g7.at hd hx (fun q => q.elim h1 h2)
      have hl1 : iLst S1.1 e0 l d ias cap := by
        obtain ⟨⟨mc, t1⟩, t2, t3⟩ := hl
        exact ⟨⟨mc, trA _ _ t1 (obne t1 ha (by simp)) (obne t1 hw (by simp))⟩, t2, fun cc => ⟨trA _ _ (t3 cc).1 (obne (t3 cc).1 ha (by simp)) (obne (t3 cc).1 hw (by simp)), (t3 cc).2⟩⟩
      have hq1 : ∀ k, k < is.length → ∃ q lb, ias[k]? = some q ∧ n0 ≤ q ∧ S1.1 q = some (.inl (7, [.int (bq (is.getD k i0).1), .int (nq (is.getD k i0).2.1), .int (nq (is.getD k i0).2.2), .int lb])) ∧ (k + 1 = is.length → (is.getD k i0).1 = true → ∃ j, bh = some (j + 1) ∧ lb = nq j) := fun k hk => by
        obtain ⟨q, lb, t1, t2, t3, t4⟩ := hq k hk
        exact ⟨q, lb, t1, t2, trA _ _ t3 (obne t3 ha (by simp)) (obne t3 hw (by simp)), t4⟩
      have h01 : S1.2.2.2.2.2 0 = e0 := by rw [g7.2.2.2.2.1]; exact h0
      have hE1 : iE0 S1.1 e0 := by
        obtain ⟨dd, ff, t1, t2⟩ := hE
        exact ⟨dd, ff, t1, hsub1 _ _ t2⟩
      have hdn : 0 < cap → e0 ≠ some d := fun cc q => by
        obtain ⟨dd, ff, t1, t2⟩ := hE
        have : dd = d := Option.some.inj (t1.symm.trans q)
        rw [this, hF d (Or.inr (ndd cc))] at t2
        cases t2
      have hnx1 : n0 ≤ S1.2.1 := Nat.le_trans hnx g7.2.1
      have hfo := fnd_ob (sf := gd sb) (ff := gd fb) (sl := sb.length) (b := b) (m := m) (p := p) (w := wnd b fb.length p) (bh := bh) (n := nb sb.length b) (nb sb.length b) (Nat.le_refl _)
      generalize fnd (gd sb) (gd fb) sb.length b m p (wnd b fb.length p) bh (nb sb.length b) = R at g1 g2 g6 hfo ⊢
      obtain ⟨fo, xx⟩ := R
      dsimp only at g1 g2 g6 hfo
      -- from here on by what is found
      have hkc := g7.2.2.1
      have hks := g7.2.2.2.1
      have pot := gc_pot ias.length cap hle
      -- the loop goes on
      have ext' : ∀ (fo' : Option Nat) (ad al' : Nat) (cc : Bool), 0 < is.length → (lsI is).1 = cc → 1 ≤ ad → p + ad ≤ fb.length → S1.1 a = some (.inl (6, [.ref l, .int (nq al'), .int (nq (cst is)), v3])) → al' ≤ p + ad → (cc = false → ad = 1 ∧ fo' = none) → (cc = true → ∃ k, fo' = some k ∧ k < 900) →
          ∃ q lb S', ias[ias.length - 1]? = some q ∧ S1.1 q = some (.inl (7, [.int (bq cc), .int (nq (lsI is).2.1), .int (nq (lsI is).2.2), .int lb])) ∧ s_X7_init_217 (l_X7_init_31 f) (some a) (some sg) (some sa) (some w) (nq p) (oq fo') (bq cc) (nq ad) (some q) S1 = some ((), S') ∧
            iDel (nw a S'.1) e0 a ((cmpG b m sb fb N (p + ad) (fo'.map (· + 1)) al' (ext is ad)).1, (cmpG b m sb fb N (p + ad) (fo'.map (· + 1)) al' (ext is ad)).2, fb) ∧ Ch (fun x => x = a ∨ n0 ≤ x) ((fb.length - p) + (180 - cap) + 241) (4 * (fb.length - p) + 4 * (180 - cap) + 480) S S' := fun fo' ad al' cc hn hcc had hadl ha1 hal' hcf hct => by
        obtain ⟨q, lb, t1, t2, t3, t4⟩ := hq1 (is.length - 1) (by omega)
        have t3 : S1.1 q = some (.inl (7, [.int (bq (lsI is).1), .int (nq (lsI is).2.1), .int (nq (lsI is).2.2), .int lb])) := t3
        rw [hcc] at t3
        obtain ⟨S2, u1, u2, u3, u4⟩ := d_217 (rc := l_X7_init_31 f) (a1 := some sg) (a2 := some sa) (a3 := some w) (p := p) (n := ad) (fo := oq fo') (c := cc) ha1 t3
        have hd2 := u4.2.2.2.2.2 hd1
        have u4' : Ch (fun x => x = a ∨ n0 ≤ x) 0 0 S1 S2 := u4.mono (fun x _ z => z.elim (fun z => Or.inr (by rw [z]; exact t2)) Or.inl) (Nat.le_refl _) (Nat.le_refl _)
        have trB : ∀ x e, S1.1 x = some e → x ≠ a → x ≠ q → S2.1 x = some e := fun x e hx h1 h2 => u4.at hd1 hx (fun z => z.elim h2 h1)
        have hcst : cst is + (if cc = true then 0 else 1) = cst (ext is ad) := by
          rw [cst_ext hn, hcc]
          cases cc with
          | true => rfl
          | false => rw [(hcf rfl).1]
        rw [hcst] at u3
        have hI2 : DInv S2 F n0 e0 a l w sa m fb v3 d cap ias (fo'.map (· + 1)) al' (ext is ad) st1 sz1 := by
          refine ⟨⟨u3, ?_, hcap, hnd, by rw [ext_len]; exact hil⟩, fun k hk => ?_, fun z => ?_, ⟨trB _ _ g3 (obne g3 ha1 (by simp)) (obne g3 t3 (by simp)), g4, g5⟩, ⟨nl, nww, ndd⟩, hsub1.ch u4' hd1 hF, hd2, by rw [u4.2.2.2.2.1]; exact h01, Nat.le_trans hnx1 u4.2.1⟩
          · obtain ⟨⟨mc, x1⟩, x2, x3⟩ := hl1
            exact ⟨⟨mc, trB _ _ x1 (obne x1 ha1 (by simp)) (obne x1 t3 (by simp))⟩, x2, fun z => ⟨trB _ _ (x3 z).1 (obne (x3 z).1 ha1 (by simp)) (obne (x3 z).1 t3 (by simp)), (x3 z).2⟩⟩
          · rw [ext_len] at hk
            have eg : (ext is ad).getD k i0 = if k = is.length - 1 then ((lsI is).1, (lsI is).2.1, (lsI is).2.2 + ad) else is.getD k i0 := gI_set is _ (by omega) k
            rw [eg, ext_len]
            by_cases hkl : k = is.length - 1
            · rw [if_pos hkl]
              refine ⟨q, oq fo', by rw [hkl]; exact t1, t2, ?_, fun _ hz => ?_⟩
              · rw [hcc]
                exact u2
              · rw [hcc] at hz
                obtain ⟨k', y1, y2⟩ := hct hz
                rw [y1]
                exact ⟨k', rfl, rfl⟩
            · rw [if_neg hkl]
              obtain ⟨q', lb', y1, y2, y3, y4⟩ := hq1 k hk
              have hqq : q' ≠ q := fun z => by
                rw [z] at y1
                have b1 := List.getElem?_eq_some_iff.mp y1
                have b2 := List.getElem?_eq_some_iff.mp t1
                obtain ⟨b11, b12⟩ := b1
                obtain ⟨b21, b22⟩ := b2
                exact hkl ((List.getElem_inj hnd).mp (b12.trans b22.symm))
              exact ⟨q', lb', y1, y2, trB _ _ y3 (obne y3 ha1 (by simp)) hqq, fun z => absurd z (by omega)⟩
          · rw [ext_len, lsI_ext hn] at z
            rcases z with z | z
            · omega
            · have z : (lsI is).1 = false := z
              rw [hcc] at z
              rw [(hcf z).2]
              rfl
        have hCI2 : CI fb (p + ad) (fo'.map (· + 1)) al' (ext is ad) := CI_ext (al' := al') ⟨i1, i2, i3, i4, i5⟩ hn hadl hal' (fun j hj => by
          cases cc with
          | true => exact hcc
          | false =>
            rw [(hcf rfl).2] at hj
            cases hj)
        have hob2 : ob (fo'.map (· + 1)) := fun j hj => by
          cases cc with
          | true =>
            obtain ⟨k', y1, y2⟩ := hct rfl
            rw [y1] at hj
            cases hj
            show k' + 1 < 1000
            omega
          | false =>
            rw [(hcf rfl).2] at hj
            cases hj
        have kk1 := u4.2.2.1
        have kk2 := u4.2.2.2.1
        obtain ⟨S', z1, z2, z3⟩ := ih (p + ad) f S2 _ al' _ ias d cap st1 sz1 (by omega) (by omega) hadl hI2 hCI2 hob2 (by omega) (by omega)
        exact ⟨q, lb, S', by rw [hil]; exact t1, t3, u1.trans z1, z2, ((g7'.trans u4' fun _ _ z => z).trans z3 fun _ _ z => z).mono (fun _ _ z => z) (by omega) (by omega)⟩
      have new' : ∀ (fo' : Option Nat) (ad al' sv : Nat) (cc : Bool), 1 ≤ ad → p + ad ≤ fb.length → S1.1 a = some (.inl (6, [.ref l, .int (nq al'), .int (nq (cst is)), v3])) → al' ≤ p + ad → (cc = false → ad = 1 ∧ fo' = none ∧ sv = p) → (cc = true → ∃ k, fo' = some k ∧ k < 900 ∧ sv = k * b ∧ sv ≤ 120) →
          ∃ S', s_X7_init_158 (l_X7_init_31 f) (some a) (some sg) (some sa) (some w) (nq p) (oq fo') (bq cc) (nq ad) S1 = some ((), S') ∧
            iDel (nw a S'.1) e0 a ((cmpG b m sb fb N (p + ad) (fo'.map (· + 1)) al' (is ++ [(cc, sv, ad)])).1, (cmpG b m sb fb N (p + ad) (fo'.map (· + 1)) al' (is ++ [(cc, sv, ad)])).2, fb) ∧ Ch (fun x => x = a ∨ n0 ≤ x) ((fb.length - p) + (180 - cap) + 241) (4 * (fb.length - p) + 4 * (180 - cap) + 480) S S' := fun fo' ad al' sv cc had hadl ha1 hal' hcf hct => by
        obtain ⟨so, r1, r2, gg, FF1, FF2, y1, -⟩ := hsg.sub hsub1
        have hE1' := hE1
        obtain ⟨S2, d', u1, u2, u3, u4, u5, u6, u7⟩ := d_158 (rc := l_X7_init_31 f) (a2 := some sa) (a3 := some w) (p := p) (n := ad) (fo := oq fo') (c := cc) (sv := sv) (b := b) ha1 y1 rfl (by
          cases cc with
          | true =>
            obtain ⟨k, z1, z2, z3, z4⟩ := hct rfl
            rw [if_pos rfl, z1, z3]
            exact nq_mul k b
          | false =>
            rw [if_neg (by decide), (hcf rfl).2.2]) hl1 hE1 h01 hdn (fun x hx => by
          obtain ⟨k, hk1, hk2⟩ := List.getElem_of_mem hx
          obtain ⟨q, lb, t1, t2, t3, t4⟩ := hq1 k (by omega)
          rw [List.getElem?_eq_getElem hk1, hk2] at t1
          cases t1
          exact ⟨7, _, t3, by decide⟩) (by omega) hd1 (by omega) (by omega)
        have hd2 := u7.2.2.2.2.2 hd1
        have u7' : Ch (fun x => x = a ∨ n0 ≤ x) (1 + gkc ias.length cap) (4 + gks ias.length cap) S1 S2 := u7.mono (fun x _ z => by
          rcases z with z | z | z
          · exact Or.inl z
          · exact Or.inr (by rw [z]; exact nl)
          · exact Or.inr (by rw [z.2]; exact ndd z.1)) (Nat.le_refl _) (Nat.le_refl _)
        obtain ⟨mc, x1⟩ := hl1.1
        have trB : ∀ x e, S1.1 x = some e → x ≠ a → x ≠ l → x ≠ d → S2.1 x = some e := fun x e hx h1 h2 h3 => u7.at hd1 hx (fun z => by
          rcases z with z | z | z
          · exact h1 z
          · exact h2 z
          · exact h3 z.2)
        obtain ⟨x9, hxd, -⟩ := hl1.data hE1
        have hcst : cst is + (if cc = true then 3 else 2) = cst (is ++ [(cc, sv, ad)]) := by
          rw [cst_app]
          cases cc with
          | true => rfl
          | false => rw [(hcf rfl).1]; rfl
        rw [hcst] at u3
        have hlen2 : (is ++ [(cc, sv, ad)]).length = is.length + 1 := by rw [List.length_append, List.length_singleton]
        have hI2 : DInv S2 F n0 e0 a l w sa m fb v3 d' (gca ias.length cap) (ias ++ [S1.2.1]) (fo'.map (· + 1)) al' (is ++ [(cc, sv, ad)]) st1 sz1 := by
          refine ⟨⟨u3, u4, pot.2.2.2 (by omega) hcap, ?_, by rw [List.length_append, List.length_singleton, hlen2, hil]⟩, fun k hk => ?_, fun z => ?_, ⟨trB _ _ g3 (obne g3 ha1 (by simp)) (obne g3 x1 (by simp)) (obne g3 hxd (by simp)), g4, g5⟩, ⟨nl, nww, fun z => ?_⟩, hsub1.ch u7' hd1 hF, hd2, by rw [u7.2.2.2.2.1]; exact h01, Nat.le_trans hnx1 u7.2.1⟩
          · rw [List.nodup_append]
            refine ⟨hnd, by simp, fun x hx y hy z => ?_⟩
            rw [List.mem_singleton] at hy
            obtain ⟨k, hk1, hk2⟩ := List.getElem_of_mem hx
            obtain ⟨q, lb, t1, t2, t3, t4⟩ := hq1 k (by omega)
            rw [List.getElem?_eq_getElem hk1, hk2] at t1
            cases t1
            have := hd1 _ _ t3
            omega
          · rw [hlen2] at hk
            rw [gI_app _ _ _ hk]
            by_cases hkl : k = is.length
            · rw [if_pos hkl]
              refine ⟨S1.2.1, oq fo', ?_, hnx1, u2, fun _ hz => ?_⟩
              · rw [hkl, ← hil, List.getElem?_append_right (Nat.le_refl _), Nat.sub_self]
                rfl
              · obtain ⟨k', z1, z2, z3, z4⟩ := hct hz
                rw [z1]
                exact ⟨k', rfl, rfl⟩
            · rw [if_neg hkl, hlen2]
              obtain ⟨q', lb', y1, y2, y3, y4⟩ := hq1 k (by omega)
              refine ⟨q', lb', ?_, y2, trB _ _ y3 (obne y3 ha1 (by simp)) (obne y3 x1 (by simp)) (obne y3 hxd (by simp)), fun z => absurd z (by omega)⟩
              rw [List.getElem?_append_left (by omega)]
              exact y1
          · rw [hlen2, lsI_app] at z
            rcases z with z | z
            · omega
            · rw [(hcf z).2.1]
              rfl
          · rcases u5 with u5 | u5
            · rw [u5]
              by_cases c0 : 0 < cap
              · exact ndd c0
              · have := u6 (by omega)
                rw [u5] at this
                omega
            · omega
        have hCI2 : CI fb (p + ad) (fo'.map (· + 1)) al' (is ++ [(cc, sv, ad)]) := CI_new (i := (cc, sv, ad)) ⟨i1, i2, i3, i4, i5⟩ had (by
          cases cc with
          | true => obtain ⟨k', z1, z2, z3, z4⟩ := hct rfl; exact z4
          | false => show sv ≤ 120; rw [(hcf rfl).2.2]; omega) (fun z => by
          have z : cc = false := z
          have := (hcf z).2.2
          exact ⟨by show sv + ad ≤ fb.length; omega, this⟩) hal' (fun j hj => by
          cases cc with
          | true => rfl
          | false =>
            rw [(hcf rfl).2.1] at hj
            cases hj)
        have hob2 : ob (fo'.map (· + 1)) := fun j hj => by
          cases cc with
          | true =>
            obtain ⟨k', y1, y2, -, -⟩ := hct rfl
            rw [y1] at hj
            cases hj
            show k' + 1 < 1000
            omega
          | false =>
            rw [(hcf rfl).2.1] at hj
            cases hj
        have kk1 := u7.2.2.1
        have kk2 := u7.2.2.2.1
        obtain ⟨S', z1, z2, z3⟩ := ih (p + ad) f S2 _ al' _ _ d' _ st1 sz1 (by omega) (by omega) hadl hI2 hCI2 hob2 (by omega) (by omega)
        exact ⟨S', u1.trans z1, z2, ((g7'.trans u7' fun _ _ z => z).trans z3 fun _ _ z => z).mono (fun _ _ z => z) (by omega) (by omega)⟩
      -- what stands last
      have e1 : oI S (some sa) 3 1 = some (nq fb.length) := oI_ok (hst.sub hsub).1 rfl
      have e2 : oA S1 (some a) 6 0 = some (some l) := oA_ok (o := some l) g2 rfl
      have e3 := hl1.isO
      have e4 := la_empty hl1 (by omega)
      have e5 := la_size hl1
      have ea := isO_ok ha
      have last : ∀ (fo' : Int32) (cc : Bool) (ad : Nat), (is.length = 0 → s_X7_init_83 (l_X7_init_31 f) (some a) (some sg) (some sa) (some w) (nq p) fo' (bq cc) (nq ad) S1 = s_X7_init_158 (l_X7_init_31 f) (some a) (some sg) (some sa) (some w) (nq p) fo' (bq cc) (nq ad) S1) ∧
          (0 < is.length → ∀ q lb, ias[ias.length - 1]? = some q → S1.1 q = some (.inl (7, [.int (bq (lsI is).1), .int (nq (lsI is).2.1), .int (nq (lsI is).2.2), .int lb])) → s_X7_init_83 (l_X7_init_31 f) (some a) (some sg) (some sa) (some w) (nq p) fo' (bq cc) (nq ad) S1 = if (lsI is).1 = cc ∧ (cc = true → lb + nq 1 = fo') then s_X7_init_217 (l_X7_init_31 f) (some a) (some sg) (some sa) (some w) (nq p) fo' (bq cc) (nq ad) (some q) S1 else s_X7_init_158 (l_X7_init_31 f) (some a) (some sg) (some sa) (some w) (nq p) fo' (bq cc) (nq ad) S1) := fun fo' cc ad => by
        refine ⟨fun z => ?_, fun z q lb hq1 hq2 => ?_⟩
        · have he : ias = [] := List.length_eq_zero_iff.mp (by omega)
          rw [decide_eq_true he, bq_t] at e4
          simp (disch := omega) only [s_X7_init_83, s_X7_init_124, e2, e3, e4, pb1, pb2, nq_lit, nq_add, nq_mul, nq_lt, nq_le, nq_eq, nq_lt0, nq10, nq00, Nat.one_ne_zero, Nat.reduceEqDiff, Nat.not_lt_zero, zb1, zb0, eq_self, reduceIte]
        · have he : ¬ ias = [] := fun r => by rw [r] at hil; simp only [List.length_nil] at hil; omega
          rw [decide_eq_false he, bq_f] at e4
          have e6 := la_get (i := ias.length - 1) hl1 (by omega) (by omega)
          rw [hq1] at e6
          have e7 := ckO_ok hq2
          have e8 : oI S1 (some q) 7 0 = some (bq (lsI is).1) := oI_ok hq2 rfl
          have e9 : oI S1 (some q) 7 3 = some lb := oI_ok hq2 rfl
          have hns : (some q = none) = False := eq_false (fun r => nomatch r)
          generalize (lsI is).1 = cl at e8 hq2 ⊢
          cases cl with
          | false =>
            cases cc with
            | false =>
              rw [if_pos ⟨rfl, fun r => nomatch r⟩]
              simp (disch := omega) only [s_X7_init_83, s_X7_init_124, e2, e3, e4, e5, nq_sub, e6, e7, hns, e8, bq_f, pb1, pb2, nq_lit, nq_add, nq_mul, nq_lt, nq_le, nq_eq, nq_lt0, nq10, nq00, Nat.one_ne_zero, Nat.reduceEqDiff, Nat.not_lt_zero, zb1, zb0, eq_self, reduceIte]
            | true =>
              rw [if_neg (fun r => nomatch r.1)]
              have h01 : (nq 0 = nq 1) = False := eq_false (by decide)
              simp (disch := omega) only [s_X7_init_83, s_X7_init_124, e2, e3, e4, e5, nq_sub, e6, e7, hns, e8, bq_f, bq_t, h01, pb1, pb2, nq_lit, nq_add, nq_mul, nq_lt, nq_le, nq_eq, nq_lt0, nq10, nq00, Nat.one_ne_zero, Nat.reduceEqDiff, Nat.not_lt_zero, zb1, zb0, eq_self, reduceIte]
          | true =>
            cases cc with
            | false =>
              rw [if_neg (fun r => nomatch r.1)]
              simp (disch := omega) only [s_X7_init_83, s_X7_init_124, e2, e3, e4, e5, nq_sub, e6, e7, hns, e8, bq_f, bq_t, pb1, pb2, nq_lit, nq_add, nq_mul, nq_lt, nq_le, nq_eq, nq_lt0, nq10, nq00, Nat.one_ne_zero, Nat.reduceEqDiff, Nat.not_lt_zero, zb1, zb0, eq_self, reduceIte]
            | true =>
              by_cases hlb : lb + nq 1 = fo'
              · rw [if_pos ⟨rfl, fun _ => hlb⟩]
                simp (disch := omega) only [s_X7_init_83, s_X7_init_124, e2, e3, e4, e5, nq_sub, e6, e7, hns, e8, e9, bq_t, hlb, pb1, pb2, nq_lit, nq_add, nq_mul, nq_lt, nq_le, nq_eq, nq_lt0, nq10, nq00, Nat.one_ne_zero, Nat.reduceEqDiff, Nat.not_lt_zero, zb1, zb0, eq_self, reduceIte]
              · rw [if_neg (fun r => hlb (r.2 rfl))]
                simp (disch := omega) only [s_X7_init_83, s_X7_init_124, e2, e3, e4, e5, nq_sub, e6, e7, hns, e8, e9, bq_t, hlb, pb1, pb2, nq_lit, nq_add, nq_mul, nq_lt, nq_le, nq_eq, nq_lt0, nq10, nq00, Nat.one_ne_zero, Nat.reduceEqDiff, Nat.not_lt_zero, zb1, zb0, eq_self, reduceIte]
      cases fo with
      | none =>
        dsimp only
        have eg : l_X7_init_31 (f + 1) (some a, some sg, some sa, some w, nq p) S = s_X7_init_83 (l_X7_init_31 f) (some a) (some sg) (some sa) (some w) (nq p) (-(nq 1)) (bq false) (nq 1) S1 := by
          rw [l_X7_init_31_s]
          have g1 : f_X7_match (some a) (some sg) (some w) (nq p) (nq (fb.length - p)) S = some (-(nq 1), S1) := g1
          simp (disch := omega) only [s_X7_init_31, s_X7_init_68, e1, c, ea, nq_sub, g1, bq_f, pb1, pb2, nq_lit, nq_add, nq_mul, nq_lt, nq_le, nq_eq, nq_lt0, nq10, nq00, Nat.one_ne_zero, Nat.reduceEqDiff, Nat.not_lt_zero, zb1, zb0, eq_self, reduceIte]
        have hal : alN (none, xx) al = if xx = true then al + 1 else al := rfl
        rw [hal] at g2
        have hal2 : (if xx = true then al + 1 else al) ≤ p + 1 := by split <;> omega
        rw [eg]
        obtain ⟨l1, l2⟩ := last (-(nq 1)) false 1
        by_cases hlit : lit is = true
        · rw [if_pos hlit]
          unfold lit at hlit
          rw [Bool.and_eq_true] at hlit
          have hn := of_decide_eq_true hlit.1
          have hcl : (lsI is).1 = false := by
            cases hz : (lsI is).1 with
            | false => rfl
            | true =>
              rw [hz] at hlit
              exact nomatch hlit.2
          obtain ⟨q, lb, S', v1, v2, v4, v5, v6⟩ := ext' none 1 _ false hn hcl (Nat.le_refl _) (by omega) g2 hal2 (fun _ => ⟨rfl, rfl⟩) (fun r => nomatch r)
          refine ⟨S', ?_, v5, v6⟩
          rw [l2 hn q lb v1 (by rw [hcl]; exact v2), if_pos ⟨hcl, fun r => nomatch r⟩]
          exact v4
        · rw [if_neg hlit]
          obtain ⟨S', v4, v5, v6⟩ := new' none 1 _ p false (Nat.le_refl _) (by omega) g2 hal2 (fun _ => ⟨rfl, rfl, rfl⟩) (fun r => nomatch r)
          refine ⟨S', ?_, v5, v6⟩
          by_cases hn : is.length = 0
          · rw [l1 hn]
            exact v4
          · obtain ⟨q, lb, t1, t2, t3, t4⟩ := hq1 (is.length - 1) (by omega)
            rw [l2 (by omega) q lb (by rw [hil]; exact t1) t3, if_neg (fun r => hlit (by unfold lit; rw [decide_eq_true (by omega), r.1]; rfl))]
            exact v4
      | some k =>
        dsimp only
        have hk := hfo k rfl
        have hkb := nb_lt hb.1 hk
        have hz1 := g6 k rfl
        have hkm : (nq k = -(nq 1)) = False := eq_false (fun r => (nq_m1 (by omega)).mp r)
        have e53 : oI S1 (some w) 5 3 = some (nq sz1) := oI_ok g3 rfl
        have eg : l_X7_init_31 (f + 1) (some a, some sg, some sa, some w, nq p) S = s_X7_init_83 (l_X7_init_31 f) (some a) (some sg) (some sa) (some w) (nq p) (nq k) (bq true) (nq (wnd b fb.length p)) S1 := by
          rw [l_X7_init_31_s, ← hz1]
          have g1 : f_X7_match (some a) (some sg) (some w) (nq p) (nq (fb.length - p)) S = some (nq k, S1) := g1
          simp (disch := omega) only [s_X7_init_31, s_X7_init_68, e1, c, ea, nq_sub, g1, hkm, e53, bq_t, pb1, pb2, nq_lit, nq_add, nq_mul, nq_lt, nq_le, nq_eq, nq_lt0, nq10, nq00, Nat.one_ne_zero, Nat.reduceEqDiff, Nat.not_lt_zero, zb1, zb0, eq_self, reduceIte]
        have g2 : S1.1 a = some (.inl (6, [.ref l, .int (nq al), .int (nq (cst is)), v3])) := g2
        rw [eg]
        obtain ⟨l1, l2⟩ := last (nq k) true (wnd b fb.length p)
        by_cases hq' : some k = bh
        · rw [if_pos hq']
          obtain ⟨hn, hcl⟩ := i5 k hq'.symm
          obtain ⟨q, lb, S', v1, v2, v4, v5, v6⟩ := ext' (some k) (wnd b fb.length p) al true hn hcl w1 w3 g2 (by omega) (fun r => nomatch r) (fun _ => ⟨k, rfl, by omega⟩)
          refine ⟨S', ?_, v5, v6⟩
          obtain ⟨q9, lb9, t1, t2, t3, t4⟩ := hq1 (is.length - 1) (by omega)
          rw [hil, t1] at v1
          cases v1
          obtain ⟨j, y1, y2⟩ := t4 (by omega) hcl
          rw [y1] at hq'
          have hkj : k = j + 1 := Option.some.inj hq'
          rw [l2 hn q lb9 (by rw [hil]; exact t1) t3, if_pos ⟨hcl, fun _ => by rw [y2, nq_add, hkj]⟩]
          exact v4
        · rw [if_neg hq']
          obtain ⟨S', v4, v5, v6⟩ := new' (some k) (wnd b fb.length p) al (k * b) true w1 w3 g2 (by omega) (fun r => nomatch r) (fun _ => ⟨k, rfl, by omega, rfl, by have := hs.2.2.1; have : sb.length ≤ 120 := this; omega⟩)
          refine ⟨S', ?_, v5, v6⟩
          by_cases hn : is.length = 0
          · rw [l1 hn]
            exact v4
          · obtain ⟨q, lb, t1, t2, t3, t4⟩ := hq1 (is.length - 1) (by omega)
            rw [l2 (by omega) q lb (by rw [hil]; exact t1) t3, if_neg (fun r => by
              obtain ⟨j, y1, y2⟩ := t4 (by omega) r.1
              have := r.2 rfl
              rw [y2, nq_add] at this
              have hj := hob _ y1
              have : j + 1 = k := (nq_eq (by omega) (by omega)).mp this
              exact hq' (by rw [y1, this]))]
            exact v4
