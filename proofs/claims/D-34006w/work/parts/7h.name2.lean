/-! PURE: Store.name and Store.forget -/
set_option maxRecDepth 100000
/-- where an old chunk is now -/
def kMv (cs cs' : List Nat) (K K' : KL) : Prop := ∀ k a, cs[k]? = some a → k < K.length → ∃ k', cs'[k']? = some a ∧ k' < K'.length ∧ ky K' k' = ky K k
theorem kMv_set {cs : List Nat} {K : KL} {r n : Nat} (hr : r < K.length) : kMv cs cs K (K.set r (ky K r, n)) := fun k a h hk => by
  refine ⟨k, h, by rw [List.length_set]; exact hk, ?_⟩
  have e1 := congrArg (fun x => x.1) (set_k (ky K r, n) hr k)
  dsimp only at e1
  rw [e1]
  by_cases q : k = r
  · rw [if_pos q, q]
  · rw [if_neg q]
theorem kMv_ins {cs : List Nat} {K : KL} {r c : Nat} (x : List Nat × Nat) (hr : r ≤ K.length) (hl : cs.length = K.length) : kMv cs (cs.take r ++ c :: cs.drop r) K (K.take r ++ x :: K.drop r) := fun k a h hk => by
  have e : ∀ j, ky (K.take r ++ x :: K.drop r) j = if j < r then ky K j else if j = r then x.1 else ky K (j - 1) := fun j => by
    have := congrArg (fun x => x.1) (ins_k x hr j)
    dsimp only at this
    rw [this]
    split
    · rfl
    · split <;> rfl
  by_cases q : k < r
  · exact ⟨k, by rw [ins_get _ (by omega), if_pos q]; exact h, by rw [ins_len K _ hr]; omega, by rw [e, if_pos q]⟩
  · exact ⟨k + 1, by rw [ins_get _ (by omega), if_neg (by omega), if_neg (by omega)]; exact h, by rw [ins_len K _ hr]; omega, by rw [e, if_neg (by omega), if_neg (by omega)]; rfl⟩
theorem k_name {S : St} {P : Nat → Bool} {e0 : Option Nat} {st cl cd cap sa sb scap p m : Nat} {cs : List Nat} {K : KL} {c : List Nat → Nat} {fb : List Nat} (hI : iSto (rs P S.1) e0 st cl cd cap cs K) (hK : KOk K c) (hB : ∀ k, k < K.length → FOk (ky K k)) (hn : K.length ≤ 1600) (hcn : ∀ w, c w < 30000) (hcap : cap ≤ 2401) (hPn : ∀ x, S.2.1 ≤ x → P x = true) (hPe : ∀ de, e0 = some de → P de = false) (hE : iE0 S.1 e0) (h0 : S.2.2.2.2.2 0 = e0) (hs : iStr S.1 sa sb scap fb) (hf : FOk fb) (hsc : scap ≤ 1000) (hp : p + m ≤ fb.length) (hd : Dom S) (k1 : 2 + gkc cs.length cap ≤ S.2.2.1) (k2 : m + 2 + gks cs.length cap ≤ S.2.2.2.1) :
    ∃ a K' cs' cd' cap' S', f_X2_name (some st) (some sa) (nq p) (nq m) S = some (some a, S') ∧ iSto (rs P S'.1) e0 st cl cd' cap' cs' K' ∧ KOk K' (fun v => c v + if v = slc fb p m then 1 else 0) ∧ (∃ k, cs'[k]? = some a ∧ k < K'.length ∧ ky K' k = slc fb p m) ∧ kMv cs cs' K K' ∧ cap ≤ cap' ∧ cap' ≤ 2401 ∧ Ch (fun x => P x = true) (2 + (cap' - cap)) (m + 2 + 4 * (cap' - cap)) S S' := by
  have hIu := hI.sub (rs_sub P S.1)
  obtain ⟨h1, h2, h3, h4, h5⟩ := id hIu
  have hle := h2.le
  obtain ⟨r, r1, r2, r3, r4⟩ := k_search hIu hK.1 hB (by omega) hs hf hsc hp
  have e1 : oA S (some st) 1 0 = some (some cl) := oA_ok (o := some cl) h1 rfl
  have e2 := h2.isO
  have e3 := la_size h2
  have e0' := isO_ok h1
  have pot := gc_pot cs.length cap hle
  have hg2 := gc_2 cs.length cap hle (by omega) hcap
  have new : (r < K.length → ky K r ≠ slc fb p m) → f_X2_name (some st) (some sa) (nq p) (nq m) S = s_X2_name_46 (some st) (some sa) (nq p) (nq m) (nq r) S → ∃ a K' cs' cd' cap' S', f_X2_name (some st) (some sa) (nq p) (nq m) S = some (some a, S') ∧ iSto (rs P S'.1) e0 st cl cd' cap' cs' K' ∧ KOk K' (fun v => c v + if v = slc fb p m then 1 else 0) ∧ (∃ k, cs'[k]? = some a ∧ k < K'.length ∧ ky K' k = slc fb p m) ∧ kMv cs cs' K K' ∧ cap ≤ cap' ∧ cap' ≤ 2401 ∧ Ch (fun x => P x = true) (2 + (cap' - cap)) (m + 2 + 4 * (cap' - cap)) S S' := fun hne eg => by
    obtain ⟨a, cd', S', t1, t2, t3⟩ := k_46 hI r1 hn hcap hPn hPe hE h0 hs hf hsc hp hd k1 k2
    refine ⟨a, _, _, cd', _, S', eg.trans t1, t2, (kOk_ins hK r1 r3 r4 hne).1, ⟨r, ?_, by rw [ins_len K _ r1]; omega, ?_⟩, kMv_ins _ r1 h3, pot.2.2.1, hg2, t3.mono (fun _ _ q => q) (by omega) (by omega)⟩
    · rw [ins_get _ (by omega), if_neg (Nat.lt_irrefl r), if_pos rfl]
    · have := congrArg (fun x => x.1) (ins_k (K := K) (slc fb p m, 1) r1 r)
      dsimp only at this
      rw [if_neg (Nat.lt_irrefl r), if_pos rfl] at this
      exact this
  by_cases hrl : r = K.length
  · refine new (fun q => by omega) ?_
    rw [hrl] at r2 ⊢
    simp (disch := omega) only [f_X2_name, e0', r2, e1, e2, e3, h3, pb1, pb2, nq_lit, nq_add, nq_mul, nq_lt, nq_le, nq_eq, nq_lt0, nq10, nq00, Nat.one_ne_zero, Nat.reduceEqDiff, Nat.not_lt_zero, zb1, zb0, eq_self, reduceIte]
  · obtain ⟨ck, c1, c2⟩ := h5 r (by omega)
    have e4 := la_get (i := r) h2 (by omega) (by omega)
    rw [c1] at e4
    obtain ⟨z, z1, z2, z3⟩ := k_cmp c2 (hB r (by omega)) hs hf hsc hp
    obtain ⟨ba, bf, g1, g2⟩ := c2
    have e5 := ckO_ok g1
    have e6 := isO_ok g1
    have eg : f_X2_name (some st) (some sa) (nq p) (nq m) S = if z = nq 0 then s_X2_name_93 (some st) (nq r) S else s_X2_name_46 (some st) (some sa) (nq p) (nq m) (nq r) S := by
      by_cases hz : z = nq 0
      · simp (disch := omega) only [f_X2_name, e0', r2, e1, e2, e3, h3, hrl, e4, e5, e6, z1, hz, pb1, pb2, nq_lit, nq_add, nq_mul, nq_lt, nq_le, nq_eq, nq_lt0, nq10, nq00, Nat.one_ne_zero, Nat.reduceEqDiff, Nat.not_lt_zero, zb1, zb0, eq_self, reduceIte]
      · simp (disch := omega) only [f_X2_name, e0', r2, e1, e2, e3, h3, hrl, e4, e5, e6, z1, hz, pb1, pb2, nq_lit, nq_add, nq_mul, nq_lt, nq_le, nq_eq, nq_lt0, nq10, nq00, Nat.one_ne_zero, Nat.reduceEqDiff, Nat.not_lt_zero, zb1, zb0, eq_self, reduceIte]
    by_cases hz : z = nq 0
    · rw [if_pos hz] at eg
      have hky := z3.mp hz
      have hcr := hK.cnt (k := r) (by omega)
      have hcn' := hcn (ky K r)
      obtain ⟨a, S', t1, t2, t3, t4⟩ := k_93 (r := r) hI (by omega) (by omega) (by omega) hd
      have hset := kOk_set (r := r) (m := kn K r + 1) hK (by omega) rfl (by omega)
      refine ⟨a, _, cs, cd, cap, S', eg.trans t2, t3, ?_, ⟨r, t1, by rw [List.length_set]; omega, ?_⟩, kMv_set (by omega), Nat.le_refl _, hcap, t4.mono (fun _ _ q => q) (by omega) (by omega)⟩
      · have : (fun v => if v = ky K r then kn K r + 1 else c v) = fun v => c v + if v = slc fb p m then 1 else 0 := by
          funext v
          rw [← hky]
          by_cases q : v = ky K r
          · rw [if_pos q, if_pos q, hcr.1, q]
          · rw [if_neg q, if_neg q]
            rfl
        rw [← this]
        exact hset
      · have e1 := congrArg (fun x => x.1) (set_k (K := K) (r := r) (ky K r, kn K r + 1) (by omega) r)
        dsimp only at e1
        rw [e1, if_pos rfl]
        exact hky
    · rw [if_neg hz] at eg
      exact new (fun _ q => hz (z3.mpr q)) eg
theorem ksum_del {K : KL} {r : Nat} (hr : r < K.length) : ((K.take r ++ K.drop (r + 1)).map fun x => x.1.length).sum + (ky K r).length = (K.map fun x => x.1.length).sum := by
  have : (K.map fun x => x.1.length).sum = ((K.take r ++ K.drop r).map fun x => x.1.length).sum := by rw [List.take_append_drop]
  have hd : K.drop r = (ky K r, kn K r) :: K.drop (r + 1) := by
    rw [List.drop_eq_getElem_cons hr]
    congr 1
    have := k_get hr
    rw [List.getElem?_eq_getElem hr] at this
    exact Option.some.inj this
  rw [this, hd, List.map_append, List.map_append, List.map_cons, List.sum_append, List.sum_append, List.sum_cons]
  dsimp only
  omega
theorem k_forget {S : St} {P : Nat → Bool} {e0 : Option Nat} {st cl cd cap r a : Nat} {cs : List Nat} {K : KL} {c : List Nat → Nat} (hI : iSto (rs P S.1) e0 st cl cd cap cs K) (hK : KOk K c) (hB : ∀ k, k < K.length → FOk (ky K k)) (hn : K.length ≤ 1600) (hcn : ∀ w, c w < 30000) (hcap : cap ≤ 2401) (hr : r < K.length) (ha : cs[r]? = some a) (hd : Dom S) :
    ∃ b K' cs' S', f_X2_forget (some st) (some a) S = some (bq b, S') ∧ iSto (rs P S'.1) e0 st cl cd cap cs' K' ∧ KOk K' (fun v => c v - if v = ky K r then 1 else 0) ∧ K'.length + (if b = true then 1 else 0) = K.length ∧ (∀ k x, cs[k]? = some x → k < K.length → 0 < c (ky K k) - (if ky K k = ky K r then 1 else 0) → ∃ k', cs'[k']? = some x ∧ k' < K'.length ∧ ky K' k' = ky K k) ∧ Ch (fun x => P x = true) 0 0 S S' := by
  have hcr := hK.cnt hr
  have hcn' := hcn (ky K r)
  obtain ⟨S1, p1, i1, c1, hPa, o1, o2⟩ := k_put (n := kn K r - 1) hI hr ha hd
  have hd1 := c1.2.2.2.2.2 hd
  have c1' : Ch (fun x => P x = true) 0 0 S S1 := c1.mono (fun x _ q => by rw [q]; exact hPa) (Nat.le_refl _) (Nat.le_refl _)
  have e16 : (nq (kn K r - 1)).toInt16.toInt32 = nq (kn K r - 1) := nq_16 (by omega)
  have hzb : zb (nq 1) = some () := by decide
  have hzb0 : zb (nq 0) = some () := by decide
  by_cases hz : kn K r - 1 = 0
  · -- gone
    rw [hz] at p1 i1 e16 o2
    obtain ⟨h1, h2, h3, h4, h5⟩ := i1
    have hP1 := (rs_e h1).1
    obtain ⟨hP2, hP3⟩ := h2.P
    have h2u := h2.sub (rs_sub P S1.1)
    have hle := h2.le
    rw [List.length_set] at h3
    obtain ⟨a', t1, ba, bf, g1, g2, g3⟩ := h5 r (by rw [List.length_set]; exact hr)
    have haa : a' = a := Option.some.inj (t1.symm.trans ha)
    subst haa
    have g1u := (rs_e g1).2
    have heo : ∀ x ∈ cs, eOk S1.1 x := fun x hx => by
      obtain ⟨k, hk1, hk2⟩ := List.getElem_of_mem hx
      obtain ⟨ck, t1, bk, fk, t2, t3⟩ := h5 k (by rw [List.length_set]; omega)
      rw [List.getElem?_eq_getElem hk1, hk2] at t1
      cases t1
      exact ⟨14, _, (rs_e t2).2, by decide⟩
    obtain ⟨S2, f2, l2, c2⟩ := la_remove h2u heo g1u (by omega) ha (fun j hj q => nd_ne h4 q ha (by omega) rfl) hd1
    have hd2 := c2.2.2.2.2.2 hd1
    have hc0 : 0 < cap := by omega
    have c2' : Ch (fun x => P x = true) 0 0 S1 S2 := c2.mono (fun x _ q => q.elim (fun q => by rw [q]; exact hP2) fun q => by rw [q]; exact hP3 hc0) (Nat.le_refl _) (Nat.le_refl _)
    obtain ⟨mc, hl1⟩ := h2u.1
    have hdd := (h2u.2.2 hc0).1
    have tr : ∀ x e, S1.1 x = some e → (∀ fs, e ≠ .inl (16, fs)) → (∀ z, e ≠ .inr (3, z)) → S2.1 x = some e := fun x e hx n1 n2 => c2.at hd1 hx fun q => q.elim (obne hx hl1 (n1 _)) (obne hx hdd (n2 _))
    rw [ksum_set 0 hr] at h1
    have hst2 := tr _ _ (rs_e h1).2 (by simp) (by simp)
    have ha2 := tr _ _ g1u (by simp) (by simp)
    have hb2 := tr _ _ (rs_e g2).2 (by simp) (by simp)
    have ekk : ky (K.set r (ky K r, 0)) r = ky K r := by
      have := congrArg (fun x => x.1) (set_k (K := K) (r := r) (ky K r, 0) hr r)
      dsimp only at this
      rw [this, if_pos rfl]
    rw [ekk] at hb2
    have hsd := ksum_del hr
    obtain ⟨S3, d3⟩ : ∃ S3, x_set S2 st (.inl (1, [.ref cl, .int (nq ((K.take r ++ K.drop (r + 1)).map fun x => x.1.length).sum)])) = S3 := ⟨_, rfl⟩
    have p3 : pV S2 (some st) 1 1 (.int (nq ((K.take r ++ K.drop (r + 1)).map fun x => x.1.length).sum)) = some S3 := (pV_ok hst2 (by simp)).trans (congrArg some d3)
    have c3 : Ch (fun x => x = st) 0 0 S2 S3 := by rw [← d3]; exact Ch.set S2 _ hst2
    have w3 : S3.1 st = some (.inl (1, [.ref cl, .int (nq ((K.take r ++ K.drop (r + 1)).map fun x => x.1.length).sum)])) := by rw [← d3]; exact xs_i _ _ _
    have tr3 : ∀ x e, S1.1 x = some e → (∀ fs, e ≠ .inl (16, fs)) → (∀ z, e ≠ .inr (3, z)) → (∀ fs, e ≠ .inl (1, fs)) → S3.1 x = some e := fun x e hx n1 n2 n3 => by
      have := tr x e hx n1 n2
      exact c3.at hd2 this (obne this hst2 (n3 _))
    have ha3 := tr3 _ _ g1u (by simp) (by simp) (by simp)
    refine ⟨true, K.take r ++ K.drop (r + 1), cs.take r ++ cs.drop (r + 1), S3, ?_, ⟨rs_i hP1 w3, ?_, ?_, ?_, fun k hk => ?_⟩, ?_, ?_, fun k x hk hkl hpos => ?_, (c1'.trans c2' fun _ _ q => q).trans c3 fun x _ q => by rw [q]; exact hP1⟩
    · have e2 : oI S1 (some a') 14 1 = some (nq 0) := o2
      have e3 : oA S1 (some st) 1 0 = some (some cl) := oA_ok (o := some cl) (rs_e h1).2 rfl
      have e4 := h2u.isO
      have e5 : oI S2 (some st) 1 1 = some (nq (K.map fun x => x.1.length).sum) := oI_ok hst2 rfl
      have e6 : oA S2 (some a') 14 0 = some (some ba) := oA_ok (o := some ba) ha2 rfl
      have e7 : lenA S2 (some ba) 0 = some (nq (ky K r).length) := lenA_ok hb2
      have e8 : oI S3 (some a') 14 1 = some (nq 0) := by
        have := congrArg (fun x => x.2) (set_k (K := K) (r := r) (ky K r, 0) hr r)
        rw [if_pos rfl] at this
        have this : ((K.set r (ky K r, 0)).getD r ([], 0)).2 = 0 := this
        rw [this] at ha3
        exact oI_ok ha3 rfl
      have e9 : nq (K.map fun x => x.1.length).sum - nq (ky K r).length = nq ((K.take r ++ K.drop (r + 1)).map fun x => x.1.length).sum := by
        rw [nq_sub (by omega)]
        congr 1
        omega
      have e10 : nq (kn K r) - nq 1 = nq 0 := by rw [nq_sub (by omega), hz]
      simp (disch := omega) only [f_X2_forget, s_X2_forget_43, s_X2_forget_55, o1, e10, e16, p1, e2, e3, e4, f2, e5, e6, e7, e9, p3, e8, hzb, bq_t, pb1, pb2, nq_lit, nq_add, nq_mul, nq_lt, nq_le, nq_eq, nq_lt0, nq10, nq00, Nat.one_ne_zero, Nat.reduceEqDiff, Nat.not_lt_zero, zb1, zb0, eq_self, reduceIte]
    · refine iLst_rs ?_ hP2 fun _ => hP3 hc0
      obtain ⟨⟨mc', t1⟩, t2, t3⟩ := l2
      exact ⟨⟨mc', c3.at hd2 t1 (obne t1 hst2 (by simp))⟩, t2, fun q => ⟨c3.at hd2 (t3 q).1 (obne (t3 q).1 hst2 (by simp)), (t3 q).2⟩⟩
    · rw [del_len hr, del_len (by omega), h3]
    · have : (cs.take r ++ cs.drop (r + 1)).Sublist cs := by
        have h := List.Sublist.append (List.Sublist.refl (cs.take r)) (List.drop_sublist_drop_left cs (Nat.le_succ r))
        rwa [List.take_append_drop] at h
      exact this.nodup h4
    · rw [del_len hr] at hk
      have e1 := congrArg (fun x => x.1) (del_k hr k)
      have e2 := congrArg (fun x => x.2) (del_k hr k)
      dsimp only at e1 e2
      have e2 : ((K.take r ++ K.drop (r + 1)).getD k ([], 0)).2 = _ := e2
      rw [e1, e2, del_get (by omega)]
      have old : ∀ j, j < K.length → j ≠ r → ∃ c, cs[j]? = some c ∧ iChk (rs P S3.1) c (ky K j) (kn K j) := fun j hj hjr => by
        obtain ⟨cj, t1, bj, fj, t2, t3, t4⟩ := h5 j (by rw [List.length_set]; exact hj)
        have u1 := congrArg (fun x => x.1) (set_k (K := K) (r := r) (ky K r, 0) hr j)
        have u2 := congrArg (fun x => x.2) (set_k (K := K) (r := r) (ky K r, 0) hr j)
        dsimp only at u1 u2
        have u2 : ((K.set r (ky K r, 0)).getD j ([], 0)).2 = _ := u2
        rw [if_neg hjr] at u1 u2
        rw [u2] at t2
        rw [u1] at t3 t4
        exact ⟨cj, t1, bj, fj, rs_i (rs_e t2).1 (tr3 _ _ (rs_e t2).2 (by simp) (by simp) (by simp)), rs_i (rs_e t3).1 (tr3 _ _ (rs_e t3).2 (by simp) (by simp) (by simp)), t4⟩
      by_cases z : k < r
      · rw [if_pos z, if_pos z]
        exact old k (by omega) (by omega)
      · rw [if_neg z, if_neg z]
        exact old (k + 1) (by omega) (by omega)
    · have : (fun v => if v = ky K r then 0 else c v) = fun v => c v - if v = ky K r then 1 else 0 := by
        funext v
        by_cases q : v = ky K r
        · rw [if_pos q, if_pos q, q]
          omega
        · rw [if_neg q, if_neg q]
          rfl
      rw [← this]
      exact kOk_del hK hr rfl
    · rw [del_len hr, if_pos rfl]
      omega
    · have hkr : k ≠ r := fun q => by
        rw [q, if_pos rfl] at hpos
        omega
      have e : ∀ j, ky (K.take r ++ K.drop (r + 1)) j = if j < r then ky K j else ky K (j + 1) := fun j => by
        have := congrArg (fun x => x.1) (del_k hr j)
        dsimp only at this
        rw [this]
        split <;> rfl
      by_cases z : k < r
      · exact ⟨k, by rw [del_get (by omega), if_pos z]; exact hk, by rw [del_len hr]; omega, by rw [e, if_pos z]⟩
      · exact ⟨k - 1, by rw [del_get (by omega), if_neg (by omega), show k - 1 + 1 = k by omega]; exact hk, by rw [del_len hr]; omega, by rw [e, if_neg (by omega), show k - 1 + 1 = k by omega]⟩
  · refine ⟨false, _, cs, S1, ?_, i1, ?_, ?_, fun k x hk hkl _ => kMv_set hr k x hk hkl, c1'⟩
    · have e10 : nq (kn K r) - nq 1 = nq (kn K r - 1) := nq_sub (by omega)
      simp (disch := omega) only [f_X2_forget, s_X2_forget_43, s_X2_forget_55, o1, e10, e16, p1, o2, hz, hzb0, bq_f, pb1, pb2, nq_lit, nq_add, nq_mul, nq_lt, nq_le, nq_eq, nq_lt0, nq10, nq00, Nat.one_ne_zero, Nat.reduceEqDiff, Nat.not_lt_zero, zb1, zb0, eq_self, reduceIte]
    · have : (fun v => if v = ky K r then kn K r - 1 else c v) = fun v => c v - if v = ky K r then 1 else 0 := by
        funext v
        by_cases q : v = ky K r
        · rw [if_pos q, if_pos q, hcr.1, q]
        · rw [if_neg q, if_neg q]
          rfl
      rw [← this]
      exact kOk_set hK hr rfl (by omega)
    · rw [List.length_set]
      rfl
