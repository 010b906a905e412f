/-! PURE: a strip is cut, a paper is made -/
set_option maxRecDepth 100000
theorem pp_init_l {pp arr l d cap n : Nat} {as : List Nat} {e0 : Option Nat} (hn : as.length = n) (hn2 : n ≤ 1000) (hcap : cap ≤ 60000) : ∀ (N k f : Nat) (S : St) (g : Nat → Option Nat), N < f → k + N = n → S.1 pp = some (.inl (15, [.ref arr])) → S.1 arr = some (.inr (9, n, .inr (.inr (.inr (.inr g))))) → iLst S.1 e0 l d as cap → (∀ a ∈ as, ∃ fs, S.1 a = some (.inl (14, fs))) → (∀ j, j < k → g j = as[j]?) → Dom S →
    ∃ S' g', l_X16_init_19 f (some pp, some l, nq k) S = some ((), S') ∧ S'.1 pp = some (.inl (15, [.ref arr])) ∧ S'.1 arr = some (.inr (9, n, .inr (.inr (.inr (.inr g'))))) ∧ (∀ j, j < n → g' j = as[j]?) ∧ Ch (fun x => x = arr) 0 0 S S' := by
  intro N
  induction N with
  | zero =>
    intro k f S g hf hk hp ha hl he hg hd
    obtain ⟨f, rfl⟩ := pre_n hf
    have e1 : oA S (some pp) 15 0 = some (some arr) := oA_ok (o := some arr) hp rfl
    have e2 : lenA S (some arr) 9 = some (nq n) := lenA_ok ha
    have hk' : n ≤ k := by omega
    refine ⟨S, g, ?_, hp, ha, fun j hj => hg j (by omega), Ch.refl _ S⟩
    rw [l_X16_init_19_s]
    simp (disch := omega) only [s_X16_init_19, e1, e2, hk', pb1, pb2, nq_lit, nq_add, nq_mul, nq_lt, nq_le, nq_eq, nq_lt0, nq10, nq00, Nat.one_ne_zero, Nat.reduceEqDiff, Nat.not_lt_zero, zb1, zb0, eq_self, reduceIte]
  | succ N ih =>
    intro k f S g hf hk hp ha hl he hg hd
    obtain ⟨f, rfl⟩ := pre_n hf
    have e1 : oA S (some pp) 15 0 = some (some arr) := oA_ok (o := some arr) hp rfl
    have e2 : lenA S (some arr) 9 = some (nq n) := lenA_ok ha
    have hk' : ¬ n ≤ k := by omega
    have hkl : k < as.length := by omega
    obtain ⟨fs, hfs⟩ := he _ (List.getElem_mem hkl)
    have e3 := la_get (i := k) hl (by omega) hkl
    rw [List.getElem?_eq_getElem hkl] at e3
    have e4 := ckO_ok hfs
    have e5 := aS_ok (i := k) (r := some as[k]) ha (by omega) (by omega) (asg_ok hfs (by decide))
    obtain ⟨S1, d1⟩ : ∃ S1, x_set S arr (.inr (9, n, .inr (.inr (.inr (.inr (va_up g k (some as[k]))))))) = S1 := ⟨_, rfl⟩
    rw [d1] at e5
    have c1 : Ch (fun x => x = arr) 0 0 S S1 := by rw [← d1]; exact Ch.set S _ ha
    have ha1 : S1.1 arr = some (.inr (9, n, .inr (.inr (.inr (.inr (va_up g k (some as[k]))))))) := by rw [← d1]; exact xs_i _ _ _
    have hl1 : iLst S1.1 e0 l d as cap := by
      obtain ⟨⟨mc, t1⟩, t2, t3⟩ := hl
      exact ⟨⟨mc, c1.at hd t1 (obne t1 ha (by simp))⟩, t2, fun q => ⟨c1.at hd (t3 q).1 (obne (t3 q).1 ha (by simp)), (t3 q).2⟩⟩
    obtain ⟨S', g', f1, f2, f3, f4, f5⟩ := ih (k + 1) f S1 _ (by omega) (by omega) (c1.at hd hp (obne hp ha (by simp))) ha1 hl1 (fun a h => by
      obtain ⟨fs, hfs⟩ := he a h
      exact ⟨fs, c1.at hd hfs (obne hfs ha (by simp))⟩) (fun j hj => by
      unfold va_up
      by_cases q : j = k
      · rw [if_pos q, q, List.getElem?_eq_getElem hkl]
      · rw [if_neg q]
        exact hg j (by omega)) (c1.2.2.2.2.2 hd)
    refine ⟨S', g', ?_, f2, f3, f4, c1.trans f5 fun _ _ q => q⟩
    rw [l_X16_init_19_s]
    have ei := hl.isO
    simp (disch := omega) only [s_X16_init_19, e1, e2, hk', ei, e3, e4, e5, pb1, pb2, nq_lit, nq_add, nq_mul, nq_lt, nq_le, nq_eq, nq_lt0, nq10, nq00, Nat.one_ne_zero, Nat.reduceEqDiff, Nat.not_lt_zero, zb1, zb0, eq_self, reduceIte]
    exact f1
theorem pp_init {S : St} {pp l d cap : Nat} {as : List Nat} {e0 : Option Nat} {v : Value} (hp : S.1 pp = some (.inl (15, [v]))) (hl : iLst S.1 e0 l d as cap) (he : ∀ a ∈ as, ∃ fs, S.1 a = some (.inl (14, fs))) (hn2 : as.length ≤ 1000) (hcap : cap ≤ 60000) (hd : Dom S) (k1 : 1 ≤ S.2.2.1) (k2 : as.length ≤ S.2.2.2.1) :
    ∃ S' g, f_X16_init (some pp) (some l) S = some ((), S') ∧ S'.1 pp = some (.inl (15, [.ref S.2.1])) ∧ S'.1 S.2.1 = some (.inr (9, as.length, .inr (.inr (.inr (.inr g))))) ∧ (∀ j, j < as.length → g j = as[j]?) ∧ Ch (fun x => x = pp) 1 as.length S S' := by
  obtain ⟨S1, d1⟩ : ∃ S1, x_new S as.length (.inr (9, as.length, .inr (.inr (.inr (.inr fun _ => none))))) = S1 := ⟨_, rfl⟩
  have q1 : nA S 9 (nq as.length) (.inr (.inr (.inr (.inr fun _ => none)))) = some (some S.2.1, S1) := (nA_ok (by omega) (by omega) (by omega)).trans (by rw [d1])
  have c1 : Ch (fun _ => False) 1 as.length S S1 := by rw [← d1]; exact Ch.new _ S _ k1 k2
  have a1 : S1.1 S.2.1 = some (.inr (9, as.length, .inr (.inr (.inr (.inr fun _ => none))))) := by rw [← d1]; exact xn_i _ _ _
  have hd1 := c1.2.2.2.2.2 hd
  have hp1 := c1.at hd hp (fun q => q)
  obtain ⟨S2, d2⟩ : ∃ S2, x_set S1 pp (.inl (15, [va_rf (some S.2.1)])) = S2 := ⟨_, rfl⟩
  have p2 : pV S1 (some pp) 15 0 (va_rf (some S.2.1)) = some S2 := (pV_ok hp1 (by simp)).trans (congrArg some d2)
  have c2 : Ch (fun x => x = pp) 0 0 S1 S2 := by rw [← d2]; exact Ch.set S1 _ hp1
  have hp2 : S2.1 pp = some (.inl (15, [.ref S.2.1])) := by rw [← d2]; exact xs_i _ _ _
  have hd2 := c2.2.2.2.2.2 hd1
  have a2 := c2.at hd1 a1 (obne a1 hp1 (by simp))
  have tr : ∀ x e, S.1 x = some e → x ≠ pp → S2.1 x = some e := fun x e hx hn => c2.at hd1 (c1.at hd hx (fun q => q)) hn
  have hl2 : iLst S2.1 e0 l d as cap := by
    obtain ⟨⟨mc, t1⟩, t2, t3⟩ := hl
    exact ⟨⟨mc, tr _ _ t1 (obne t1 hp (by simp))⟩, t2, fun q => ⟨tr _ _ (t3 q).1 (obne (t3 q).1 hp (by simp)), (t3 q).2⟩⟩
  obtain ⟨S', g', f1, f2, f3, f4, f5⟩ := pp_init_l (pp := pp) (arr := S.2.1) rfl hn2 hcap as.length 0 FU S2 _ (by unfold FU; omega) (by omega) hp2 a2 hl2 (fun a h => by
    obtain ⟨fs, hfs⟩ := he a h
    exact ⟨fs, tr _ _ hfs (obne hfs hp (by simp))⟩) (fun j hj => absurd hj (Nat.not_lt_zero j)) hd2
  refine ⟨S', g', ?_, f2, f3, f4, ?_⟩
  · have ei := hl.isO
    have es := la_size hl
    simp (disch := omega) only [f_X16_init, ei, es, q1, p2, pb1, pb2, nq_lit, nq_add, nq_mul, nq_lt, nq_le, nq_eq, nq_lt0, nq10, nq00, Nat.one_ne_zero, Nat.reduceEqDiff, Nat.not_lt_zero, zb1, zb0, eq_self, reduceIte]
    exact f1
  · exact ((c1.or c2).or f5).mono (fun x hx q => by
      rcases q with (q | q) | q
      · exact q.elim
      · exact q
      · exact absurd (q : x = S.2.1) (Nat.ne_of_lt hx)) (by omega) (by omega)
