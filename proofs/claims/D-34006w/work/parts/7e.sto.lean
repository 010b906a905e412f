/-! PURE: chunks in order -/
set_option maxRecDepth 100000
def cmpB : List Nat → List Nat → Int
  | [], ys => -(ys.length : Int)
  | x :: xs, [] => ((x :: xs).length : Int)
  | x :: xs, y :: ys => if x = y then cmpB xs ys else (x : Int) - y
theorem cmpB_nil (xs : List Nat) : cmpB xs [] = xs.length := by
  cases xs with
  | nil => rfl
  | cons x xs => rfl
theorem cmpB_lt : ∀ (xs ys : List Nat), cmpB xs ys < 0 ↔ xs < ys := by
  intro xs
  induction xs with
  | nil =>
    intro ys
    cases ys with
    | nil => exact ⟨fun h => absurd h (by decide), fun h => absurd h (List.not_lt_nil [])⟩
    | cons y ys =>
      refine ⟨fun _ => List.nil_lt_cons y ys, fun _ => ?_⟩
      show -((y :: ys).length : Int) < 0
      rw [List.length_cons]
      omega
  | cons x xs ih =>
    intro ys
    cases ys with
    | nil =>
      refine ⟨fun h => ?_, fun h => absurd h (List.not_lt_nil _)⟩
      have h : ((x :: xs).length : Int) < 0 := h
      omega
    | cons y ys =>
      rw [cmpB, List.cons_lt_cons_iff]
      by_cases c : x = y
      · rw [if_pos c, ih ys]
        exact ⟨fun h => Or.inr ⟨c, h⟩, fun h => h.elim (fun h => by omega) fun h => h.2⟩
      · rw [if_neg c]
        exact ⟨fun h => Or.inl (by omega), fun h => h.elim (fun h => by omega) fun h => absurd h.1 c⟩
theorem cmpB_eq : ∀ (xs ys : List Nat), cmpB xs ys = 0 ↔ xs = ys := by
  intro xs
  induction xs with
  | nil =>
    intro ys
    cases ys with
    | nil => exact ⟨fun _ => rfl, fun _ => rfl⟩
    | cons y ys =>
      refine ⟨fun h => ?_, fun h => (nomatch h)⟩
      have h : -((y :: ys).length : Int) = 0 := h
      rw [List.length_cons] at h
      omega
  | cons x xs ih =>
    intro ys
    cases ys with
    | nil =>
      refine ⟨fun h => ?_, fun h => (nomatch h)⟩
      have h : ((x :: xs).length : Int) = 0 := h
      rw [List.length_cons] at h
      omega
    | cons y ys =>
      rw [cmpB]
      by_cases c : x = y
      · rw [if_pos c, ih ys, c, List.cons.injEq]
        exact ⟨fun h => ⟨rfl, h⟩, fun h => h.2⟩
      · rw [if_neg c]
        exact ⟨fun h => by omega, fun h => absurd (List.cons.inj h).1 c⟩
theorem lt_or_ge {a b : List Nat} (h : ¬ a < b) (k : ¬ b < a) : a = b := List.le_antisymm (List.not_lt.mp k) (List.not_lt.mp h)
theorem nlt_lt {a b c : List Nat} (h : ¬ b < a) (k : b < c) : a < c := by
  by_cases q : a < b
  · exact List.lt_trans q k
  · rw [lt_or_ge q h]
    exact k
/-- a chunk: its object, its bytes, how often it is named -/
def iChk (M : Nat → Option Ob) (c : Nat) (bs : List Nat) (n : Nat) : Prop := ∃ ba f, M c = some (.inl (14, [.ref ba, .int (nq n)])) ∧ M ba = some (.inr (0, bs.length, .inl f)) ∧ ∀ j, j < bs.length → f j = nq (gd bs j)
theorem iChk.sub {F M : Nat → Option Ob} {c n : Nat} {bs : List Nat} (h : iChk F c bs n) (k : Sub F M) : iChk M c bs n := by
  obtain ⟨ba, f, h1, h2, h3⟩ := h
  exact ⟨ba, f, k _ _ h1, k _ _ h2, h3⟩
theorem drop_gd {bs : List Nat} {k : Nat} (h : k < bs.length) : bs.drop k = gd bs k :: bs.drop (k + 1) := by
  rw [List.drop_eq_getElem_cons h]
  congr 1
  have := gd_lt h
  rw [List.getElem?_eq_getElem h] at this
  exact Option.some.inj this
theorem sub_int {a b : Nat} (ha : a < 100000) (hb : b < 100000) : (nq a - nq b).toInt = (a : Int) - b := by
  rw [Int32.toInt_sub, nq_int (by omega), nq_int (by omega)]
  exact Int.bmod_eq_of_le (by omega) (by omega)
theorem k_cmp_l {S : St} {c n sa sb cap p m : Nat} {bs fb : List Nat} (hc : iChk S.1 c bs n) (hb : FOk bs) (hs : iStr S.1 sa sb cap fb) (hf : FOk fb) (hcap : cap ≤ 1000) (hp : p + m ≤ fb.length) : ∀ (N k f : Nat), N < f → k + N = m → k ≤ bs.length → ∃ z, l_X15_compare_3 f (some c, some sa, nq p, nq m, nq k) S = some (z, S) ∧ z.toInt = cmpB (bs.drop k) ((slc fb p m).drop k) := by
  obtain ⟨ba, g, c1, c2, c3⟩ := hc
  obtain ⟨s1, h, s2, s3, s4⟩ := hs
  have hL := hb.1
  have hL2 := hf.1
  have hsl := slc_len hp
  have e1 : oA S (some c) 14 0 = some (some ba) := oA_ok (o := some ba) c1 rfl
  have e2 : lenA S (some ba) 0 = some (nq bs.length) := lenA_ok c2
  have e3 : oA S (some sa) 3 0 = some (some sb) := oA_ok (o := some sb) s1 rfl
  intro N
  induction N with
  | zero =>
    intro k f hf' hk hkb
    obtain ⟨f, rfl⟩ := pre_n hf'
    have hk' : m ≤ k := by omega
    refine ⟨nq bs.length - nq m, ?_, ?_⟩
    · rw [l_X15_compare_3_s]
      simp (disch := omega) only [s_X15_compare_3, s_X15_compare_62, hk', e1, e2, pb1, pb2, nq_lit, nq_add, nq_mul, nq_lt, nq_le, nq_eq, nq_lt0, nq10, nq00, Nat.one_ne_zero, Nat.reduceEqDiff, Nat.not_lt_zero, zb1, zb0, eq_self, reduceIte]
    · rw [List.drop_eq_nil_of_le (as := slc fb p m) (by omega), cmpB_nil, List.length_drop, sub_int (by omega) (by omega)]
      omega
  | succ N ih =>
    intro k f hf' hk hkb
    obtain ⟨f, rfl⟩ := pre_n hf'
    have hk' : ¬ m ≤ k := by omega
    by_cases hbk : bs.length ≤ k
    · refine ⟨nq bs.length - nq m, ?_, ?_⟩
      · rw [l_X15_compare_3_s]
        simp (disch := omega) only [s_X15_compare_3, s_X15_compare_62, hk', hbk, e1, e2, pb1, pb2, nq_lit, nq_add, nq_mul, nq_lt, nq_le, nq_eq, nq_lt0, nq10, nq00, Nat.one_ne_zero, Nat.reduceEqDiff, Nat.not_lt_zero, zb1, zb0, eq_self, reduceIte]
      · rw [List.drop_eq_nil_of_le (as := bs) hbk, cmpB, List.length_drop, sub_int (by omega) (by omega)]
        omega
    · have hkb' : k < bs.length := by omega
      have b1 := gd_by hb.2 k
      have b2 := gd_by hf.2 (p + k)
      have e4 : iL S (some ba) 0 (nq k) = some (nq (gd bs k)) := by rw [iL_ok c2 hkb' (by omega), c3 k hkb']
      have e5 : iL S (some sb) 0 (nq (p + k)) = some (nq (gd fb (p + k))) := by rw [iL_ok s2 (by omega) (by omega), s4 _ (by omega)]
      have hg : gd (slc fb p m) k = gd fb (p + k) := slc_gd (by omega)
      rw [drop_gd hkb', drop_gd (bs := slc fb p m) (by omega), hg]
      rw [cmpB]
      by_cases hx : gd bs k = gd fb (p + k)
      · rw [if_pos hx]
        obtain ⟨z, z1, z2⟩ := ih (k + 1) f (by omega) (by omega) (by omega)
        refine ⟨z, ?_, z2⟩
        rw [l_X15_compare_3_s]
        simp (disch := omega) only [s_X15_compare_3, hk', hbk, e1, e2, e3, e4, e5, hx, pb1, pb2, nq_lit, nq_add, nq_mul, nq_lt, nq_le, nq_eq, nq_lt0, nq10, nq00, Nat.one_ne_zero, Nat.reduceEqDiff, Nat.not_lt_zero, zb1, zb0, eq_self, reduceIte]
        exact z1
      · rw [if_neg hx]
        refine ⟨nq (gd bs k) - nq (gd fb (p + k)), ?_, sub_int (by omega) (by omega)⟩
        rw [l_X15_compare_3_s]
        simp (disch := omega) only [s_X15_compare_3, hk', hbk, e1, e2, e3, e4, e5, hx, pb1, pb2, nq_lit, nq_add, nq_mul, nq_lt, nq_le, nq_eq, nq_lt0, nq10, nq00, Nat.one_ne_zero, Nat.reduceEqDiff, Nat.not_lt_zero, zb1, zb0, eq_self, reduceIte]
theorem k_cmp {S : St} {c n sa sb cap p m : Nat} {bs fb : List Nat} (hc : iChk S.1 c bs n) (hb : FOk bs) (hs : iStr S.1 sa sb cap fb) (hf : FOk fb) (hcap : cap ≤ 1000) (hp : p + m ≤ fb.length) : ∃ z, f_X15_compare (some c) (some sa) (nq p) (nq m) S = some (z, S) ∧ (nq 0 ≤ z ↔ ¬ bs < slc fb p m) ∧ (z = nq 0 ↔ bs = slc fb p m) := by
  have hL := hf.1
  obtain ⟨z, z1, z2⟩ := k_cmp_l hc hb hs hf hcap hp m 0 FU (by unfold FU; omega) (by omega) (Nat.zero_le _)
  rw [List.drop_zero, List.drop_zero] at z2
  refine ⟨z, z1, ?_, ?_⟩
  · rw [← cmpB_lt, ← z2, Int32.le_iff_toInt_le, nq_int (by omega)]
    omega
  · rw [← cmpB_eq, ← z2, ← Int32.toInt_inj, nq_int (by omega)]
    omega
/-- the chunks that are held: their bytes in order, how often each is named -/
abbrev KL : Type := List (List Nat × Nat)
def ky (K : KL) (k : Nat) : List Nat := (K.getD k ([], 0)).1
def KSo (K : KL) : Prop := ∀ i j, i < j → j < K.length → ky K i < ky K j
def iSto (M : Nat → Option Ob) (e0 : Option Nat) (st cl cd cap : Nat) (cs : List Nat) (K : KL) : Prop := M st = some (.inl (1, [.ref cl, .int (nq (K.map fun x => x.1.length).sum)])) ∧ iLst M e0 cl cd cs cap ∧ cs.length = K.length ∧ cs.Nodup ∧ ∀ k, k < K.length → ∃ c, cs[k]? = some c ∧ iChk M c (ky K k) (K.getD k ([], 0)).2
theorem k_search_l {S : St} {e0 : Option Nat} {st cl cd cap sa sb scap p m : Nat} {cs : List Nat} {K : KL} {fb : List Nat} (hI : iSto S.1 e0 st cl cd cap cs K) (hK : KSo K) (hB : ∀ k, k < K.length → FOk (ky K k)) (hcap : cap ≤ 60000) (hs : iStr S.1 sa sb scap fb) (hf : FOk fb) (hsc : scap ≤ 1000) (hp : p + m ≤ fb.length) : ∀ (N f lo hi : Nat), N < f → hi ≤ lo + N → lo ≤ hi → hi ≤ K.length → (∀ k, k < lo → ky K k < slc fb p m) → (∀ k, hi ≤ k → k < K.length → ¬ ky K k < slc fb p m) →
    ∃ r, r ≤ K.length ∧ l_X2_search_14 f (some st, some sa, nq p, nq m, nq lo, nq hi) S = some (nq r, S) ∧ (∀ k, k < r → ky K k < slc fb p m) ∧ (∀ k, r ≤ k → k < K.length → ¬ ky K k < slc fb p m) := by
  obtain ⟨h1, h2, h3, h4, h5⟩ := hI
  have hle := h2.le
  have e1 : oA S (some st) 1 0 = some (some cl) := oA_ok (o := some cl) h1 rfl
  have e2 := h2.isO
  intro N
  induction N with
  | zero =>
    intro f lo hi hf' a1 a2 a3 a4 a5
    obtain ⟨f, rfl⟩ := pre_n hf'
    have hh : hi ≤ lo := by omega
    refine ⟨lo, by omega, ?_, a4, fun k hk => a5 k (by omega)⟩
    rw [l_X2_search_14_s]
    simp (disch := omega) only [s_X2_search_14, hh, pb1, pb2, nq_lit, nq_add, nq_mul, nq_lt, nq_le, nq_eq, nq_lt0, nq10, nq00, Nat.one_ne_zero, Nat.reduceEqDiff, Nat.not_lt_zero, zb1, zb0, eq_self, reduceIte]
  | succ N ih =>
    intro f lo hi hf' a1 a2 a3 a4 a5
    obtain ⟨f, rfl⟩ := pre_n hf'
    by_cases hh : hi ≤ lo
    · refine ⟨lo, by omega, ?_, a4, fun k hk => a5 k (by omega)⟩
      rw [l_X2_search_14_s]
      simp (disch := omega) only [s_X2_search_14, hh, pb1, pb2, nq_lit, nq_add, nq_mul, nq_lt, nq_le, nq_eq, nq_lt0, nq10, nq00, Nat.one_ne_zero, Nat.reduceEqDiff, Nat.not_lt_zero, zb1, zb0, eq_self, reduceIte]
    · obtain ⟨md, hmd⟩ : ∃ md, (lo + hi) / 2 = md := ⟨_, rfl⟩
      have hm1 : lo ≤ md ∧ md < hi := by omega
      obtain ⟨c, c1, c2⟩ := h5 md (by omega)
      have e3 := la_get (i := md) h2 (by omega) (by omega)
      rw [c1] at e3
      obtain ⟨ba, g, c3, c4⟩ := c2
      have e4 := ckO_ok c3
      have e5 := isO_ok c3
      obtain ⟨z, z1, z2, z3⟩ := k_cmp ⟨ba, g, c3, c4⟩ (hB md (by omega)) hs hf hsc hp
      have hz : nz (nq 2) = some () := nz_ok (by omega) (by omega)
      have eg : l_X2_search_14 (f + 1) (some st, some sa, nq p, nq m, nq lo, nq hi) S = if nq 0 ≤ z then l_X2_search_14 f (some st, some sa, nq p, nq m, nq lo, nq md) S else l_X2_search_14 f (some st, some sa, nq p, nq m, nq (md + 1), nq hi) S := by
        rw [l_X2_search_14_s]
        simp (disch := omega) only [s_X2_search_14, s_X2_search_66, hh, hz, e1, e2, nq_div, hmd, e3, e4, e5, z1, pb1, pb2, nq_lit, nq_add, nq_mul, nq_lt, nq_le, nq_eq, nq_lt0, nq10, nq00, Nat.one_ne_zero, Nat.reduceEqDiff, Nat.not_lt_zero, zb1, zb0, eq_self, reduceIte]
      rw [eg]
      by_cases hzz : nq 0 ≤ z
      · rw [if_pos hzz]
        have hn := z2.mp hzz
        exact ih f lo md (by omega) (by omega) (by omega) (by omega) a4 fun k hk hkl q => by
          by_cases hkm : k = md
          · rw [hkm] at q
            exact hn q
          · exact hn (List.lt_trans (hK md k (by omega) hkl) q)
      · rw [if_neg hzz]
        have hn : ky K md < slc fb p m := by
          by_cases q : ky K md < slc fb p m
          · exact q
          · exact absurd (z2.mpr q) hzz
        exact ih f (md + 1) hi (by omega) (by omega) (by omega) a3 (fun k hk => by
          by_cases hkm : k = md
          · rw [hkm]
            exact hn
          · exact List.lt_trans (hK k md (by omega) (by omega)) hn) a5
theorem k_search {S : St} {e0 : Option Nat} {st cl cd cap sa sb scap p m : Nat} {cs : List Nat} {K : KL} {fb : List Nat} (hI : iSto S.1 e0 st cl cd cap cs K) (hK : KSo K) (hB : ∀ k, k < K.length → FOk (ky K k)) (hcap : cap ≤ 60000) (hs : iStr S.1 sa sb scap fb) (hf : FOk fb) (hsc : scap ≤ 1000) (hp : p + m ≤ fb.length) :
    ∃ r, r ≤ K.length ∧ f_X2_search (some st) (some sa) (nq p) (nq m) S = some (nq r, S) ∧ (∀ k, k < r → ky K k < slc fb p m) ∧ (∀ k, r ≤ k → k < K.length → ¬ ky K k < slc fb p m) := by
  obtain ⟨h1, h2, h3, h4, h5⟩ := id hI
  have hle := h2.le
  have e1 : oA S (some st) 1 0 = some (some cl) := oA_ok (o := some cl) h1 rfl
  have e2 := h2.isO
  have e3 := la_size h2
  obtain ⟨r, r1, r2, r3⟩ := k_search_l hI hK hB hcap hs hf hsc hp K.length FU 0 K.length (by unfold FU; omega) (by omega) (Nat.zero_le _) (Nat.le_refl _) (fun k hk => absurd hk (Nat.not_lt_zero k)) (fun k hk hkl => by omega)
  refine ⟨r, r1, ?_, r3⟩
  simp (disch := omega) only [f_X2_search, e1, e2, e3, h3, pb1, pb2, nq_lit, nq_add, nq_mul, nq_lt, nq_le, nq_eq, nq_lt0, nq10, nq00, Nat.one_ne_zero, Nat.reduceEqDiff, Nat.not_lt_zero, zb1, zb0, eq_self, reduceIte]
  exact r2
