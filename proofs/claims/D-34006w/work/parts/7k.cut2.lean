/-! PURE: a strip is cut into chunks that the store names -/
set_option maxRecDepth 100000
theorem rs_chs {P : Nat → Bool} {A : Nat → Prop} {c s : Nat} {S S1 : St} (h : Ch A c s S S1) (hd : Dom S) (hn : ∀ y, A y → P y = false) : Sub (rs P S.1) (rs P S1.1) := fun y e k => rs_ch h hd k fun q => by
  have := (rs_e k).1
  rw [hn y q] at this
  cases this
theorem rs_mono {P Q : Nat → Bool} {M : Nat → Option Ob} (h : ∀ y e, M y = some e → P y = true → Q y = true) : Sub (rs P M) (rs Q M) := fun y e k => rs_i (h y e (rs_e k).2 (rs_e k).1) (rs_e k).2
theorem cnt_app_1 (a b : List (List Nat)) (w v : List Nat) : (a ++ (b ++ [w])).count v = (a ++ b).count v + if v = w then 1 else 0 := by
  rw [← List.append_assoc, List.count_append (l₂ := [w]), List.count_singleton]
  congr 1
  by_cases q : v = w
  · rw [if_pos q, if_pos (by rw [q]; exact BEq.refl w)]
  · rw [if_neg q, if_neg (fun z => q (eq_of_beq z).symm)]
/-- the parts' addresses -/
def pAt (cs : List Nat) (K : KL) (a : Option Nat) (w : List Nat) : Prop := ∃ k x, a = some x ∧ cs[k]? = some x ∧ k < K.length ∧ ky K k = w
theorem pAt.mv {cs cs' : List Nat} {K K' : KL} {a : Option Nat} {w : List Nat} (h : pAt cs K a w) (k : kMv cs cs' K K') : pAt cs' K' a w := by
  obtain ⟨j, x, h1, h2, h3, h4⟩ := h
  obtain ⟨j', t1, t2, t3⟩ := k j x h2 h3
  exact ⟨j', x, h1, t1, t2, t3.trans h4⟩
theorem kMv.trans {cs cs' cs2 : List Nat} {K K' K2 : KL} (h : kMv cs cs' K K') (g : kMv cs' cs2 K' K2) : kMv cs cs2 K K2 := fun k a h1 h2 => by
  obtain ⟨k', t1, t2, t3⟩ := h k a h1 h2
  obtain ⟨k2, u1, u2, u3⟩ := g k' a t1 t2
  exact ⟨k2, u1, u2, u3.trans t3⟩
theorem kMv.refl (cs : List Nat) (K : KL) : kMv cs cs K K := fun k a h1 h2 => ⟨k, h1, h2, rfl⟩
theorem iSto.chk {M : Nat → Option Ob} {e0 : Option Nat} {st cl cd cap : Nat} {cs : List Nat} {K : KL} (h : iSto M e0 st cl cd cap cs K) {k a : Nat} (hk : cs[k]? = some a) : ∃ fs, M a = some (.inl (14, fs)) := by
  obtain ⟨h1, h2, h3, h4, h5⟩ := h
  have hkl := (List.getElem?_eq_some_iff.mp hk).1
  obtain ⟨c, t1, ba, f, t2, -⟩ := h5 k (by omega)
  rw [hk] at t1
  cases t1
  exact ⟨_, t2⟩
def CuI (S : St) (F : Nat → Option Ob) (P0 : Nat → Bool) (n0 : Nat) (e0 : Option Nat) (st cl l : Nat) (al : List (List Nat)) (P : Nat → Bool) (cd cap d cap2 : Nat) (cs ps : List Nat) (K : KL) (dn : List (List Nat)) : Prop :=
  (iSto (rs P S.1) e0 st cl cd cap cs K ∧ cap ≤ 2401 ∧ KOk K (fun v => (al ++ dn).count v)) ∧ (P l = false ∧ (0 < cap2 → P d = false) ∧ ∀ y, S.2.1 ≤ y → P y = false) ∧
  (iLst S.1 e0 l d ps cap2 ∧ cap2 ≤ 180 ∧ ps.length = dn.length ∧ ∀ i, i < dn.length → pAt cs K ps[i]? (dn.getD i [])) ∧ (n0 ≤ l ∧ (0 < cap2 → n0 ≤ d) ∧ n0 ≤ S.2.1 ∧ ∀ y, y < n0 → P y = P0 y) ∧ Sub F S.1 ∧ Dom S ∧ S.2.2.2.2.2 0 = e0 ∧ ∀ v ∈ dn, FOk v
/-- what is left behind: the store, the paper -/
def CuR (S : St) (P0 : Nat → Bool) (n0 : Nat) (e0 : Option Nat) (st cl : Nat) (al : List (List Nat)) (cs : List Nat) (K : KL) (ls : List (List Nat)) (c s : Nat) (v : Option (Option Nat × St)) : Prop :=
  ∃ pp arr g P' cd' cap' cs' K' S', v = some (some pp, S') ∧ iSto (rs P' S'.1) e0 st cl cd' cap' cs' K' ∧ cap' ≤ 2401 ∧ KOk K' (fun v => (al ++ ls).count v) ∧ kMv cs cs' K K' ∧ (n0 ≤ pp ∧ n0 ≤ arr ∧ P' pp = false ∧ P' arr = false ∧ S'.1 pp = some (.inl (15, [.ref arr])) ∧ S'.1 arr = some (.inr (9, ls.length, .inr (.inr (.inr (.inr g))))) ∧ ∀ i, i < ls.length → pAt cs' K' (g i) (ls.getD i [])) ∧
      ((∀ y, y < n0 → P' y = P0 y) ∧ ∀ y, S'.2.1 ≤ y → P' y = false) ∧ Ch (fun y => P0 y = true ∨ n0 ≤ y) c s S S'
theorem CuR.mono {S : St} {P0 : Nat → Bool} {n0 : Nat} {e0 : Option Nat} {st cl : Nat} {al : List (List Nat)} {cs : List Nat} {K : KL} {ls : List (List Nat)} {c s c' s' : Nat} {v : Option (Option Nat × St)} (h : CuR S P0 n0 e0 st cl al cs K ls c s v) (hc : c ≤ c') (hs : s ≤ s') : CuR S P0 n0 e0 st cl al cs K ls c' s' v := by
  obtain ⟨pp, arr, g, P', cd', cap', cs', K', S', w1, w2, w3, w4, w5, w6, w13, w14⟩ := h
  exact ⟨pp, arr, g, P', cd', cap', cs', K', S', w1, w2, w3, w4, w5, w6, w13, w14.mono (fun _ _ q => q) hc hs⟩
theorem c_end {F : Nat → Option Ob} {P0 : Nat → Bool} {n0 x sa sb scap st cl l : Nat} {e0 : Option Nat} {fs : List Value} {c : Nat × Nat × Nat} {fb : List Nat} {al : List (List Nat)} (hx : F x = some (.inl (0, fs))) (hx4 : fs[4]? = some (.ref st)) (hx6 : fs[6]? = some (.int (nq c.1)) ∧ fs[7]? = some (.int (nq c.2.1)) ∧ fs[8]? = some (.int (nq c.2.2))) (hc : COk c) (hs : iStr F sa sb scap fb) (hfb : FOk fb) (hsc : scap ≤ 1000) (hE : iE0 F e0) (hF : ∀ y e, F y = some e → y < n0 ∧ P0 y = false) (hal : ∀ v ∈ al, FOk v) (hal2 : al.length ≤ 1440) {s p f : Nat} {S : St} {P : Nat → Bool} {cd cap d cap2 : Nat} {cs ps : List Nat} {K : KL} {dn : List (List Nat)} (hp' : fb.length ≤ p) (hpl : p ≤ fb.length) (hdl : dn.length ≤ 120) (hI : CuI S F P0 n0 e0 st cl l al P cd cap d cap2 cs ps K dn) (k1 : 2 ≤ S.2.2.1) (k2 : 121 ≤ S.2.2.2.1) :
    CuR S P0 n0 e0 st cl al cs K dn 2 121 (l_X1_cut_13 (f + 1) (some x, some sa, some l, nq s, nq p) S) := by
  have hL := hfb.1
  obtain ⟨⟨a1, a2, a3⟩, ⟨b1, b2, b3⟩, ⟨l1, l2, l3, l4⟩, ⟨n1, n2, n3, n4⟩, hsub, hd, h0, hdn⟩ := hI
  have e1 : oI S (some sa) 3 1 = some (nq fb.length) := oI_ok (hs.sub hsub).1 rfl
  obtain ⟨S1, d1⟩ : ∃ S1, x_new S 1 (.inl (15, [.null])) = S1 := ⟨_, rfl⟩
  have q1 : nO S 15 1 [.null] = some (some S.2.1, S1) := (nO_ok (by omega) (by omega)).trans (by rw [d1])
  have c1 : Ch (fun _ => False) 1 1 S S1 := by rw [← d1]; exact Ch.new _ S _ (by omega) (by omega)
  have w1 : S1.1 S.2.1 = some (.inl (15, [.null])) := by rw [← d1]; exact xn_i _ _ _
  have hd1 := c1.2.2.2.2.2 hd
  have sub1 : Sub S.1 S1.1 := c1.sub hd (Sub.refl _) fun _ q => q.elim
  have m1 := c1.2.2.1
  have m2 := c1.2.2.2.1
  have nx1 : S1.2.1 = S.2.1 + 1 := by rw [← d1]; rfl
  obtain ⟨S', g, f1, f2, f3, f4, f5⟩ := pp_init w1 (l1.sub sub1) (fun a ha => by
    obtain ⟨i, hi1, hi2⟩ := List.getElem_of_mem ha
    obtain ⟨k, y, t1, t2, t3, t4⟩ := l4 i (by omega)
    rw [List.getElem?_eq_getElem hi1, hi2] at t1
    cases t1
    obtain ⟨fs, hfs⟩ := a1.chk t2
    exact ⟨fs, sub1 _ _ (rs_e hfs).2⟩) (by omega) (by omega) hd1 (by omega) (by omega)
  have C : Ch (fun y => P0 y = true ∨ n0 ≤ y) 2 (1 + ps.length) S S' := (c1.trans (f5.mono (B := fun y => y = S.2.1) (fun _ _ q => q) (Nat.le_refl _) (Nat.le_refl _)) fun y hy q => absurd q (Nat.ne_of_lt hy)).mono (fun _ _ q => q.elim) (by omega) (by omega)
  have cF : Ch (fun _ => False) 2 (1 + ps.length) S S' := (c1.trans (f5.mono (B := fun y => y = S.2.1) (fun _ _ q => q) (Nat.le_refl _) (Nat.le_refl _)) fun y hy q => absurd q (Nat.ne_of_lt hy)).mono (fun _ _ q => q) (by omega) (by omega)
  refine ⟨S.2.1, S1.2.1, g, P, cd, cap, cs, K, S', ?_, a1.sub (rs_chs cF hd fun _ q => q.elim), a2, a3, kMv.refl _ _, ⟨n3, by omega, b3 _ (Nat.le_refl _), b3 _ (by omega), f2, by rw [← l3]; exact f3, fun i hi => ?_⟩, ⟨n4, fun y hy => b3 y (Nat.le_trans cF.2.1 hy)⟩, C.mono (fun _ _ q => q) (by omega) (by omega)⟩
  · rw [l_X1_cut_13_s]
    simp (disch := omega) only [s_X1_cut_13, e1, hp', q1, f1, pb1, pb2, nq_lit, nq_add, nq_mul, nq_lt, nq_le, nq_eq, nq_lt0, nq10, nq00, Nat.one_ne_zero, Nat.reduceEqDiff, Nat.not_lt_zero, zb1, zb0, eq_self, reduceIte]
  · rw [f4 i (by omega)]
    exact l4 i hi
theorem c_cut {F : Nat → Option Ob} {P0 : Nat → Bool} {n0 x sa sb scap st cl l : Nat} {e0 : Option Nat} {fs : List Value} {c : Nat × Nat × Nat} {fb : List Nat} {al : List (List Nat)} (hx : F x = some (.inl (0, fs))) (hx4 : fs[4]? = some (.ref st)) (hx6 : fs[6]? = some (.int (nq c.1)) ∧ fs[7]? = some (.int (nq c.2.1)) ∧ fs[8]? = some (.int (nq c.2.2))) (hc : COk c) (hs : iStr F sa sb scap fb) (hfb : FOk fb) (hsc : scap ≤ 1000) (hE : iE0 F e0) (hF : ∀ y e, F y = some e → y < n0 ∧ P0 y = false) (hal : ∀ v ∈ al, FOk v) (hal2 : al.length ≤ 1440) {s p f : Nat} {S : St} {P : Nat → Bool} {cd cap d cap2 : Nat} {cs ps : List Nat} {K : KL} {dn ls : List (List Nat)} {C0 Q0 : Nat} (hp' : p < fb.length) (hsp : s ≤ p) (hdl : dn.length ≤ s) (hI : CuI S F P0 n0 e0 st cl l al P cd cap d cap2 cs ps K dn) (k1 : C0 + 2 + (2401 - cap) + (180 - cap2) ≤ S.2.2.1) (k2 : Q0 + (p + 1 - s) + 2 + 4 * (2401 - cap) + 4 * (180 - cap2) ≤ S.2.2.2.1)
    (ih : ∀ (S2 : St) (P2 : Nat → Bool) (cd1 cap1 d1 cap3 : Nat) (cs1 ps1 : List Nat) (K1 : KL), CuI S2 F P0 n0 e0 st cl l al P2 cd1 cap1 d1 cap3 cs1 ps1 K1 (dn ++ [slc fb s (p + 1 - s)]) → cap ≤ cap1 → cap2 ≤ cap3 → C0 + (2401 - cap1) + (180 - cap3) ≤ S2.2.2.1 → Q0 + 4 * (2401 - cap1) + 4 * (180 - cap3) ≤ S2.2.2.2.1 → CuR S2 P0 n0 e0 st cl al cs1 K1 ls (C0 + (2401 - cap1) + (180 - cap3)) (Q0 + 4 * (2401 - cap1) + 4 * (180 - cap3)) (l_X1_cut_13 f (some x, some sa, some l, nq (p + 1), nq (p + 1)) S2)) :
    CuR S P0 n0 e0 st cl al cs K ls (C0 + 2 + (2401 - cap) + (180 - cap2)) (Q0 + (p + 1 - s) + 2 + 4 * (2401 - cap) + 4 * (180 - cap2)) (s_X1_cut_44 (l_X1_cut_13 f) (some x) (some sa) (some l) (nq s) (nq p) S) := by
  have hL := hfb.1
  obtain ⟨⟨a1, a2, a3⟩, ⟨b1, b2, b3⟩, ⟨l1, l2, l3, l4⟩, ⟨n1, n2, n3, n4⟩, hsub, hd, h0, hdn⟩ := id hI
  have hst := hs.sub hsub
  have hx' := hsub _ _ hx
  have e44 : oA S (some x) 0 4 = some (some st) := oA_ok (o := some st) hx' hx4
  obtain ⟨P1, hP1⟩ : ∃ P1 : Nat → Bool, P1 = fun y => P y || decide (S.2.1 ≤ y) := ⟨_, rfl⟩
  have p1a : ∀ y, y < S.2.1 → P1 y = P y := fun y hy => by rw [hP1]; show (P y || decide (S.2.1 ≤ y)) = P y; rw [decide_eq_false (by omega), Bool.or_false]
  have p1b : ∀ y, S.2.1 ≤ y → P1 y = true := fun y hy => by rw [hP1]; show (P y || decide (S.2.1 ≤ y)) = true; rw [decide_eq_true hy, Bool.or_true]
  obtain ⟨de, fe, he1, he2⟩ := hE
  have hlen := KOk_len a3 (l := al ++ dn) fun _ => rfl
  have hfl := frs_len (al ++ dn) []
  rw [List.length_append] at hfl
  have hle2 := a1.2.1.le
  have pot2 := gc_pot ps.length cap2 l1.le
  have hcl : cs.length = K.length := a1.2.2.1
  have pot := gc_pot cs.length cap hle2
  have hg2 := gc_2 cs.length cap hle2 (by omega) a2
  have hPF : ∀ y e, F y = some e → P y = false := fun y e hy => by
    obtain ⟨t1, t2⟩ := hF y e hy
    rw [n4 y t1, t2]
  obtain ⟨a, K1, cs1, cd1, cap1, S1, u1, u2, u3, ⟨ka, u4a, u4b, u4c⟩, u5, u6, u7, u8⟩ := k_name (P := P1) (p := s) (m := p + 1 - s) (a1.sub (rs_mono fun y e hy q => by
    rw [p1a y (hd y e hy)]
    exact q)) a3 (fun k hk => by
    have := (a3.cnt hk)
    have hm : ky K k ∈ al ++ dn := List.count_pos_iff.mp (by have t := this.1; have t2 := this.2; rw [t] at t2; exact t2)
    rcases List.mem_append.mp hm with q | q
    · exact hal _ q
    · exact hdn _ q) (by omega) (fun w => by
    show (al ++ dn).count w < 30000
    have : (al ++ dn).count w ≤ (al ++ dn).length := List.count_le_length
    rw [List.length_append] at this
    omega) a2 p1b (fun de' hde' => by
    rw [he1] at hde'
    cases hde'
    have := (hF _ _ he2).1
    rw [p1a _ (by omega)]
    exact hPF _ _ he2) ⟨de, fe, he1, hsub _ _ he2⟩ h0 hst hfb hsc (by omega) hd (by omega) (by omega)
  have hd1 := u8.2.2.2.2.2 hd
  have mm1 := u8.2.2.1
  have mm2 := u8.2.2.2.1
  have mm3 := u8.2.1
  obtain ⟨P2, hP2⟩ : ∃ P2 : Nat → Bool, P2 = fun y => P y || (decide (S.2.1 ≤ y) && decide (y < S1.2.1)) := ⟨_, rfl⟩
  have p2a : ∀ y, y < S.2.1 → P2 y = P y := fun y hy => by rw [hP2]; show (P y || (decide (S.2.1 ≤ y) && decide (y < S1.2.1))) = P y; rw [decide_eq_false (p := S.2.1 ≤ y) (by omega), Bool.false_and, Bool.or_false]
  have p2b : ∀ y, S1.2.1 ≤ y → P2 y = false := fun y hy => by rw [hP2]; show (P y || (decide (S.2.1 ≤ y) && decide (y < S1.2.1))) = false; rw [decide_eq_false (p := y < S1.2.1) (by omega), Bool.and_false, Bool.or_false, b3 y (by omega)]
  have p2c : ∀ y, S.2.1 ≤ y → y < S1.2.1 → P2 y = true := fun y hy hy2 => by rw [hP2]; show (P y || (decide (S.2.1 ≤ y) && decide (y < S1.2.1))) = true; rw [decide_eq_true hy, decide_eq_true hy2, Bool.and_true, Bool.or_true]
  have u2' : iSto (rs P2 S1.1) e0 st cl cd1 cap1 cs1 K1 := u2.sub (rs_mono fun y e hy q => by
    by_cases z : y < S.2.1
    · rw [p2a y z, ← p1a y z]
      exact q
    · exact p2c y (by omega) (hd1 y e hy))
  obtain ⟨mc, hl1⟩ := l1.1
  have hll := hd _ _ hl1
  have hP1l : ¬ P1 l = true := by rw [p1a l hll, b1]; exact Bool.false_ne_true
  have hdd : 0 < cap2 → d < S.2.1 := fun q => hd _ _ (l1.2.2 q).1
  have hP1d : 0 < cap2 → ¬ P1 d = true := fun q => by rw [p1a d (hdd q), b2 q]; exact Bool.false_ne_true
  have hl2 : iLst S1.1 e0 l d ps cap2 := by
    obtain ⟨⟨mc', t1⟩, t2, t3⟩ := l1
    exact ⟨⟨mc', u8.at hd t1 hP1l⟩, t2, fun q => ⟨u8.at hd (t3 q).1 (hP1d q), (t3 q).2⟩⟩
  have sub1 : Sub F S1.1 := fun y e hy => u8.at hd (hsub y e hy) (by rw [p1a y (by have := (hF y e hy).1; omega), hPF y e hy]; exact Bool.false_ne_true)
  have hps : ∀ i, i < dn.length → pAt cs1 K1 ps[i]? (dn.getD i []) := fun i hi => (l4 i hi).mv u5
  have u2u := u2'.sub (rs_sub P2 S1.1)
  obtain ⟨fsa, hfsa⟩ := u2u.chk u4a
  obtain ⟨S2, v1, v2, v3⟩ := la_add (v := a) hl2 ⟨de, fe, he1, sub1 _ _ he2⟩ (by rw [u8.2.2.2.2.1]; exact h0) (fun q z => by
    have z' : de = d := Option.some.inj (he1.symm.trans z)
    have := (hF _ _ he2).1
    have := n2 q
    omega) (fun y hy => by
    obtain ⟨i, hi1, hi2⟩ := List.getElem_of_mem hy
    obtain ⟨k, z, t1, t2, t3, t4⟩ := hps i (by omega)
    rw [List.getElem?_eq_getElem hi1, hi2] at t1
    cases t1
    obtain ⟨fs, hfs⟩ := u2u.chk t2
    exact ⟨14, fs, hfs, by decide⟩) ⟨14, fsa, hfsa, by decide⟩ (by omega) hd1 (by omega) (by omega)
  have hd2 := v3.2.2.2.2.2 hd1
  have nn1 := v3.2.2.1
  have nn2 := v3.2.2.2.1
  have hP2l : P2 l = false := by rw [p2a l hll]; exact b1
  have hP2d : 0 < cap2 → P2 d = false := fun q => by rw [p2a d (hdd q)]; exact b2 q
  have CF : Ch (fun y => P0 y = true ∨ n0 ≤ y) (2 + (cap1 - cap) + gkc ps.length cap2) (p + 1 - s + 2 + 4 * (cap1 - cap) + gks ps.length cap2) S S2 := (u8.mono (B := fun y => P0 y = true ∨ n0 ≤ y) (fun y hy q => by
    by_cases z : y < n0
    · rw [p1a y hy, n4 y z] at q
      exact Or.inl q
    · exact Or.inr (by omega)) (Nat.le_refl _) (Nat.le_refl _)).trans v3 fun y hy q => by
    rcases q with q | q
    · rw [q]
      exact Or.inr n1
    · rw [q.2]
      exact Or.inr (n2 q.1)
  have hwl := slc_len (bs := fb) (p := s) (n := p + 1 - s) (by omega)
  have hI2 : CuI S2 F P0 n0 e0 st cl l al P2 cd1 cap1 (if ps.length < cap2 then d else S1.2.1) (gca ps.length cap2) cs1 (ps ++ [a]) K1 (dn ++ [slc fb s (p + 1 - s)]) := by
    refine ⟨⟨u2'.sub (rs_chs v3 hd1 fun y q => ?_), u7, ?_⟩, ⟨hP2l, fun q => ?_, fun y hy => p2b y (Nat.le_trans v3.2.1 hy)⟩, ⟨v2, pot2.2.2.2 (by omega) l2, by rw [List.length_append, List.length_append, l3]; rfl, fun i hi => ?_⟩, ⟨n1, fun q => ?_, Nat.le_trans n3 CF.2.1, fun y hy => by rw [p2a y (by omega)]; exact n4 y hy⟩, fun y e hy => ?_, hd2, by rw [v3.2.2.2.2.1, u8.2.2.2.2.1]; exact h0, fun v hv => ?_⟩
    · rcases q with q | q
      · rw [q]
        exact hP2l
      · rw [q.2]
        exact hP2d q.1
    · have : (fun v => (al ++ (dn ++ [slc fb s (p + 1 - s)])).count v) = fun v => (al ++ dn).count v + if v = slc fb s (p + 1 - s) then 1 else 0 := by
        funext v
        exact cnt_app_1 al dn _ v
      rw [this]
      exact u3
    · by_cases z : ps.length < cap2
      · rw [if_pos z]
        exact hP2d (by omega)
      · rw [if_neg z]
        exact p2b _ (Nat.le_refl _)
    · rw [List.length_append, List.length_singleton] at hi
      by_cases z : i = dn.length
      · rw [z, ← l3, List.getElem?_append_right (Nat.le_refl _), Nat.sub_self, List.getD_eq_getElem?_getD, l3, List.getElem?_append_right (Nat.le_refl _), Nat.sub_self]
        exact ⟨ka, a, rfl, u4a, u4b, u4c⟩
      · rw [List.getElem?_append_left (by omega), List.getD_eq_getElem?_getD, List.getElem?_append_left (by omega), ← List.getD_eq_getElem?_getD]
        exact hps i (by omega)
    · by_cases z : ps.length < cap2
      · rw [if_pos z]
        exact n2 (by omega)
      · rw [if_neg z]
        omega
    · have hy1 := (hF y e hy).1
      refine v3.at hd1 (sub1 y e hy) fun q => ?_
      rcases q with q | q
      · omega
      · have := n2 q.1
        omega
    · rcases List.mem_append.mp hv with q | q
      · exact hdn v q
      · rw [List.mem_singleton.mp q]
        exact ⟨by omega, slc_by hfb.2 _ _⟩
  have hcap1 : cap1 ≤ 2401 := u7
  have hcap3 := hI2.2.2.1.2.1
  have hcc3 := pot2.2.2.1
  have q1 := pot2.1
  have q2 := pot2.2.1
  obtain ⟨pp, arr, g, P', cd', cap', cs', K', S', w1, w2, w3, w4, w5, w6, w13, w14⟩ := ih S2 P2 cd1 cap1 _ _ cs1 (ps ++ [a]) K1 hI2 u6 hcc3 (by omega) (by omega)
  refine ⟨pp, arr, g, P', cd', cap', cs', K', S', ?_, w2, w3, w4, u5.trans w5, w6, w13, (CF.trans w14 fun _ _ q => q).mono (fun _ _ q => q) (by omega) (by omega)⟩
  have est : isO S (some st) 1 = some () := isO_ok (rs_e a1.1).2
  have esl := hl2.isO
  have esub : nq (p + 1) - nq s = nq (p + 1 - s) := nq_sub (by omega)
  simp (disch := omega) only [s_X1_cut_44, s_X1_cut_71, e44, est, esub, u1, esl, v1, pb1, pb2, nq_lit, nq_add, nq_mul, nq_lt, nq_le, nq_eq, nq_lt0, nq10, nq00, Nat.one_ne_zero, Nat.reduceEqDiff, Nat.not_lt_zero, zb1, zb0, eq_self, reduceIte]
  exact w1
theorem c_loop {F : Nat → Option Ob} {P0 : Nat → Bool} {n0 x sa sb scap st cl l : Nat} {e0 : Option Nat} {fs : List Value} {c : Nat × Nat × Nat} {fb : List Nat} {al : List (List Nat)} (hx : F x = some (.inl (0, fs))) (hx4 : fs[4]? = some (.ref st)) (hx6 : fs[6]? = some (.int (nq c.1)) ∧ fs[7]? = some (.int (nq c.2.1)) ∧ fs[8]? = some (.int (nq c.2.2))) (hc : COk c) (hs : iStr F sa sb scap fb) (hfb : FOk fb) (hsc : scap ≤ 1000) (hE : iE0 F e0) (hF : ∀ y e, F y = some e → y < n0 ∧ P0 y = false) (hal : ∀ v ∈ al, FOk v) (hal2 : al.length ≤ 1440) :
    ∀ (N s p f : Nat) (S : St) (P : Nat → Bool) (cd cap d cap2 : Nat) (cs ps : List Nat) (K : KL) (dn : List (List Nat)), N < f → p + N = fb.length → s ≤ p → p - s < c.2.1 → dn.length ≤ s → CuI S F P0 n0 e0 st cl l al P cd cap d cap2 cs ps K dn → 2 * N + 2 + (2401 - cap) + (180 - cap2) ≤ S.2.2.1 → (fb.length - s) + 2 * N + 121 + 4 * (2401 - cap) + 4 * (180 - cap2) ≤ S.2.2.2.1 →
    CuR S P0 n0 e0 st cl al cs K (dn ++ cutG c fb N s p) (2 * N + 2 + (2401 - cap) + (180 - cap2)) ((fb.length - s) + 2 * N + 121 + 4 * (2401 - cap) + 4 * (180 - cap2)) (l_X1_cut_13 f (some x, some sa, some l, nq s, nq p) S) := by
  have hL := hfb.1
  have hc1 : 1 ≤ c.2.1 := by obtain ⟨c1, c2, c3⟩ := hc; omega
  intro N
  induction N with
  | zero =>
    intro s p f S P cd cap d cap2 cs ps K dn hf hp hsp hrun hdl hI k1 k2
    obtain ⟨f, rfl⟩ := pre_n hf
    have hcg : cutG c fb 0 s p = [] := rfl
    rw [hcg, List.append_nil]
    exact (c_end hx hx4 hx6 hc hs hfb hsc hE hF hal hal2 (by omega) (by omega) (by omega) hI (by omega) (by omega)).mono (by omega) (by omega)
  | succ N ih =>
    intro s p f S P cd cap d cap2 cs ps K dn hf hp hsp hrun hdl hI k1 k2
    obtain ⟨f, rfl⟩ := pre_n hf
    have hsub := hI.2.2.2.2.1
    have hst := hs.sub hsub
    have e1 : oI S (some sa) 3 1 = some (nq fb.length) := oI_ok hst.1 rfl
    have hp' : ¬ fb.length ≤ p := by omega
    have hx' := hsub _ _ hx
    have ex := isO_ok hx'
    rw [cutG_s, if_neg hp']
    have cut : CuR S P0 n0 e0 st cl al cs K (dn ++ (slc fb s (p + 1 - s) :: cutG c fb N (p + 1) (p + 1))) (2 * (N + 1) + 2 + (2401 - cap) + (180 - cap2)) ((fb.length - s) + 2 * (N + 1) + 121 + 4 * (2401 - cap) + 4 * (180 - cap2)) (s_X1_cut_44 (l_X1_cut_13 f) (some x) (some sa) (some l) (nq s) (nq p) S) := by
      refine (c_cut (C0 := 2 * N + 2) (Q0 := (fb.length - (p + 1)) + 2 * N + 121) hx hx4 hx6 hc hs hfb hsc hE hF hal hal2 (by omega) hsp hdl hI (by omega) (by omega) fun S2 P2 cd1 cap1 d1 cap3 cs1 ps1 K1 hI2 g1 g2 g3 g4 => ?_).mono (by omega) (by omega)
      have := ih (p + 1) (p + 1) f S2 P2 cd1 cap1 d1 cap3 cs1 ps1 K1 (dn ++ [slc fb s (p + 1 - s)]) (by omega) (by omega) (Nat.le_refl _) (by omega) (by rw [List.length_append, List.length_singleton]; omega) hI2 g3 g4
      rw [List.append_assoc] at this
      exact this
    have hrl : p + 1 - s ≤ c.2.1 := by omega
    have ee := e_end ⟨fs, hx', hx6.1, hx6.2.1, hx6.2.2⟩ hc hst hfb hsc (by omega) hsp hrl
    have el : nq fb.length - nq 1 = nq (fb.length - 1) := nq_sub (by omega)
    by_cases hlast : p = fb.length - 1
    · have hE : cutE c fb p (p + 1 - s) = true := decide_eq_true (Or.inr (Or.inr hlast))
      rw [hE, if_pos rfl]
      have eg : l_X1_cut_13 (f + 1) (some x, some sa, some l, nq s, nq p) S = s_X1_cut_44 (l_X1_cut_13 f) (some x) (some sa) (some l) (nq s) (nq p) S := by
        rw [l_X1_cut_13_s]
        have hl' : (p = fb.length - 1) = True := eq_true hlast
        simp (disch := omega) only [s_X1_cut_13, e1, hp', el, hl', pb1, pb2, nq_lit, nq_add, nq_mul, nq_lt, nq_le, nq_eq, nq_lt0, nq10, nq00, Nat.one_ne_zero, Nat.reduceEqDiff, Nat.not_lt_zero, zb1, zb0, eq_self, reduceIte]
      rw [eg]
      exact cut
    · by_cases hE' : p + 1 - s = c.2.1 ∨ (c.1 ≤ p + 1 - s ∧ hsh (gd fb) p 4 % c.2.2 = c.2.2 - 1)
      · have hE : cutE c fb p (p + 1 - s) = true := decide_eq_true (by
          rcases hE' with q | q
          · exact Or.inl q
          · exact Or.inr (Or.inl q))
        rw [hE, if_pos rfl]
        rw [decide_eq_true hE', bq_t] at ee
        have eg : l_X1_cut_13 (f + 1) (some x, some sa, some l, nq s, nq p) S = s_X1_cut_44 (l_X1_cut_13 f) (some x) (some sa) (some l) (nq s) (nq p) S := by
          rw [l_X1_cut_13_s]
          simp (disch := omega) only [s_X1_cut_13, e1, hp', el, hlast, ex, ee, pb1, pb2, nq_lit, nq_add, nq_mul, nq_lt, nq_le, nq_eq, nq_lt0, nq10, nq00, Nat.one_ne_zero, Nat.reduceEqDiff, Nat.not_lt_zero, zb1, zb0, eq_self, reduceIte]
        rw [eg]
        exact cut
      · have hE : cutE c fb p (p + 1 - s) = false := decide_eq_false (by
          rintro (q | q | q)
          · exact hE' (Or.inl q)
          · exact hE' (Or.inr q)
          · exact hlast q)
        rw [hE, if_neg Bool.false_ne_true]
        rw [decide_eq_false hE', bq_f] at ee
        have eg : l_X1_cut_13 (f + 1) (some x, some sa, some l, nq s, nq p) S = l_X1_cut_13 f (some x, some sa, some l, nq s, nq (p + 1)) S := by
          rw [l_X1_cut_13_s]
          simp (disch := omega) only [s_X1_cut_13, s_X1_cut_71, e1, hp', el, hlast, ex, ee, pb1, pb2, nq_lit, nq_add, nq_mul, nq_lt, nq_le, nq_eq, nq_lt0, nq10, nq00, Nat.one_ne_zero, Nat.reduceEqDiff, Nat.not_lt_zero, zb1, zb0, eq_self, reduceIte]
        rw [eg]
        have hrn : ¬ p + 1 - s = c.2.1 := fun q => hE' (Or.inl q)
        exact (ih s (p + 1) f S P cd cap d cap2 cs ps K dn (by omega) (by omega) (by omega) (by omega) hdl hI (by omega) (by omega)).mono (by omega) (by omega)
