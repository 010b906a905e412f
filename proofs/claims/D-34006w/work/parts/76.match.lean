/-! PURE: Delta.match -/
set_option maxRecDepth 100000
theorem nb_eq {L b : Nat} (hb : 1 ≤ b) : nb L b = if L % b = 0 then L / b else L / b + 1 := by
  unfold nb
  have h := Nat.div_add_mod L b
  have hm : L % b < b := Nat.mod_lt _ (by omega)
  generalize hq : L / b = q at h ⊢
  generalize hr : L % b = r at h hm ⊢
  by_cases c : r = 0
  · rw [if_pos c]
    have e : L + b - 1 = b - 1 + b * q := by omega
    rw [e, Nat.add_mul_div_left _ _ (by omega), Nat.div_eq_of_lt (by omega), Nat.zero_add]
  · rw [if_neg c]
    have e : L + b - 1 = (r - 1) + b * (q + 1) := by
      rw [Nat.mul_add, Nat.mul_one]
      omega
    rw [e, Nat.add_mul_div_left _ _ (by omega), Nat.div_eq_of_lt (by omega), Nat.zero_add]
theorem whl_eq {s : Nat × Nat × List Nat} (hb : 1 ≤ s.1) : whl s = s.2.2.length / s.1 := by
  unfold whl
  rw [nb_eq hb]
  by_cases c : s.2.2.length % s.1 = 0
  · rw [if_pos c, if_pos c]
  · rw [if_neg c, if_neg c, Nat.add_sub_cancel]
theorem bln_whole {L b k : Nat} (hb : 1 ≤ b) (h : k < L / b) : bln L b k = b := by
  have h1 : (k + 1) * b ≤ L := (Nat.le_div_iff_mul_le (by omega)).mp h
  rw [Nat.add_mul, Nat.one_mul] at h1
  unfold bln
  rw [if_pos (by omega)]
theorem bln_rest {L b : Nat} (hb : 1 ≤ b) : bln L b (L / b) = L % b := by
  have h := Nat.div_add_mod L b
  have hm : L % b < b := Nat.mod_lt _ (by omega)
  rw [Nat.mul_comm] at h
  unfold bln
  rw [if_neg (by omega)]
  omega
section Fnd
variable {sf ff : Nat → Nat} {sl b m p w : Nat} {bh : Option Nat}
theorem fnd_s (k : Nat) : fnd sf ff sl b m p w bh (k + 1) = if hit sf ff sl b m p w k = true then (if hitS sf ff p w b k = true ∧ ((fnd sf ff sl b m p w bh k).1 = none ∨ some k = bh) then some k else (fnd sf ff sl b m p w bh k).1, true) else fnd sf ff sl b m p w bh k := rfl
theorem fnd_skip {lo : Nat} : ∀ d, (∀ k, lo ≤ k → k < lo + d → ¬ hit sf ff sl b m p w k = true) → fnd sf ff sl b m p w bh (lo + d) = fnd sf ff sl b m p w bh lo := by
  intro d
  induction d with
  | zero => intro _; rfl
  | succ d ih =>
    intro h
    rw [← Nat.add_assoc, fnd_s, if_neg (h _ (by omega) (by omega)), ih fun k h1 h2 => h k h1 (by omega)]
theorem fnd_keep {k1 f : Nat} (h : (fnd sf ff sl b m p w bh k1).1 = some f) (hb : ∀ j, k1 ≤ j → some j ≠ bh) : ∀ d, (fnd sf ff sl b m p w bh (k1 + d)).1 = some f := by
  intro d
  induction d with
  | zero => exact h
  | succ d ih =>
    rw [← Nat.add_assoc, fnd_s]
    split
    · dsimp only
      rw [if_neg]
      · exact ih
      · intro q
        rcases q.2 with q | q
        · rw [ih] at q
          cases q
        · exact hb (k1 + d) (by omega) q
    · exact ih
end Fnd
/-- no alarm, or one -/
def alN (r : Option Nat × Bool) (al : Nat) : Nat := match r with
  | (some _, _) => al
  | (none, x) => if x = true then al + 1 else al
section Mat
variable {S : St} {a sg w sa m b p wi al : Nat} {sb fb : List Nat} {bh : Option Nat} {v0 v2 v3 : Value}
theorem d_m239 (ha : S.1 a = some (.inl (6, [v0, .int (nq al), v2, v3]))) {fo : Option Nat} {x : Bool} (ho : ob fo) : ∃ S', s_X7_match_239 (some a) (oq fo) (bq x) S = some (oq fo, S') ∧ S'.1 a = some (.inl (6, [v0, .int (nq (alN (fo, x) al)), v2, v3])) ∧ Ch (fun z => z = a) 0 0 S S' := by
  have e1 : oI S (some a) 6 1 = some (nq al) := oI_ok ha rfl
  have key : ∀ n, ∃ S', s_X7_match_260 (oq fo) (nq n) (nq al) (some a) S = some (oq fo, S') ∧ S'.1 a = some (.inl (6, [v0, .int (nq (al + n)), v2, v3])) ∧ Ch (fun z => z = a) 0 0 S S' := fun n => by
    refine ⟨x_set S a (.inl (6, [v0, .int (nq (al + n)), v2, v3])), ?_, xs_i _ _ _, Ch.set S _ ha⟩
    have p1 : pV S (some a) 6 1 (.int (nq (al + n))) = some (x_set S a (.inl (6, [v0, .int (nq (al + n)), v2, v3]))) := pV_ok ha (by simp)
    unfold s_X7_match_260
    rw [nq_add, p1, pb1]
  obtain ⟨Sa, ka1, ka2, ka3⟩ := key 0
  obtain ⟨Sb, kb1, kb2, kb3⟩ := key 1
  cases x with
  | false =>
    refine ⟨Sa, ?_, ?_, ka3⟩
    · simp (disch := omega) only [s_X7_match_239, s_X7_match_259, e1, bq_f, pb1, pb2, nq_lit, nq_add, nq_mul, nq_lt, nq_le, nq_eq, nq_lt0, nq10, nq00, Nat.one_ne_zero, Nat.reduceEqDiff, Nat.not_lt_zero, zb1, zb0, eq_self, reduceIte]
      exact ka1
    · have : alN (fo, false) al = al := by cases fo <;> rfl
      rw [this]
      exact ka2
  | true =>
    cases fo with
    | none =>
      refine ⟨Sb, ?_, kb2, kb3⟩
      simp (disch := omega) only [s_X7_match_239, s_X7_match_259, e1, bq_t, show oq none = -(nq 1) from rfl, pb1, pb2, nq_lit, nq_add, nq_mul, nq_lt, nq_le, nq_eq, nq_lt0, nq10, nq00, Nat.one_ne_zero, Nat.reduceEqDiff, Nat.not_lt_zero, zb1, zb0, eq_self, reduceIte]
      exact kb1
    | some k =>
      refine ⟨Sa, ?_, ka2, ka3⟩
      have hk : ¬ nq k = -(nq 1) := fun q => (nq_m1 (by have := ho k rfl; omega)).mp q
      simp (disch := omega) only [s_X7_match_239, s_X7_match_259, e1, bq_t, show oq (some k) = nq k from rfl, hk, pb1, pb2, nq_lit, nq_add, nq_mul, nq_lt, nq_le, nq_eq, nq_lt0, nq10, nq00, Nat.one_ne_zero, Nat.reduceEqDiff, Nat.not_lt_zero, zb1, zb0, eq_self, reduceIte]
      exact ka1
/-- the loop over the blocks -/
theorem d_mat_l (hs : SOk (b, m, sb)) (hfb : FOk fb) (hsg : iSig S.1 sg (b, m, sb)) (hw : iWin S.1 w sa m (gd fb) p wi) {cap sbb : Nat} (hst : iStr S.1 sa sbb cap fb) (hc : cap ≤ 100000) (hin : p + wi ≤ fb.length) (ha : S.1 a = some (.inl (6, [v0, .int (nq al), v2, v3]))) (hbh : ob bh) (iw : Bool) {hi : Nat} (hhi : hi ≤ nb sb.length b) (hib : (if iw = true then whl (b, m, sb) else nb sb.length b) = hi)
    {lo : Nat} (hlo : ∀ k, lo ≤ k → k < hi → bln sb.length b k = wi) (hend : fnd (gd sb) (gd fb) sb.length b m p wi bh (nb sb.length b) = fnd (gd sb) (gd fb) sb.length b m p wi bh hi) : ∀ (N k n : Nat), N < n → k + N = hi → lo ≤ k →
    ∃ S', l_X7_match_139 n (some a, some sg, some w, bq iw, oq bh, oq (fnd (gd sb) (gd fb) sb.length b m p wi bh k).1, bq (fnd (gd sb) (gd fb) sb.length b m p wi bh k).2, nq k) S = some (oq (fnd (gd sb) (gd fb) sb.length b m p wi bh (nb sb.length b)).1, S') ∧
      S'.1 a = some (.inl (6, [v0, .int (nq (alN (fnd (gd sb) (gd fb) sb.length b m p wi bh (nb sb.length b)) al)), v2, v3])) ∧ Ch (fun z => z = a) 0 0 S S' := by
  have bn : nb sb.length b ≤ 120 := nb_le hs.1.1 hs.2.2.1
  have hb1 : 1 ≤ b := hs.1.1
  have hm : 1 ≤ m ∧ m ≤ 4096 := hs.2.1
  have g1 := isO_ok hw
  obtain ⟨so, r1, r2, g, F1, F2, q1, -⟩ := id hsg
  have g2 := isO_ok q1
  have e42 : oI S (some sg) 4 2 = some (nq (nb sb.length b)) := oI_ok q1 rfl
  have ewh : f_X5_whole (some sg) S = some (nq (whl (b, m, sb)), S) := sg_whole hsg hs
  have eww := w_weak hw
  have ews := w_strong hst hc hw hin
  have obk : ∀ k, k ≤ nb sb.length b → ob (fnd (gd sb) (gd fb) sb.length b m p wi bh k).1 := fun k hk j hj => by
    have := fnd_ob (n := nb sb.length b) k hk j hj
    omega
  intro N
  induction N with
  | zero =>
    intro k n hn hk hlk
    obtain ⟨n, rfl⟩ := pre_n hn
    have ek : k = hi := by omega
    subst ek
    obtain ⟨S', k1, k2, k3⟩ := d_m239 (x := (fnd (gd sb) (gd fb) sb.length b m p wi bh k).2) ha (obk k hhi)
    rw [hend]
    refine ⟨S', ?_, k2, k3⟩
    rw [l_X7_match_139_s]
    cases iw with
    | false =>
      have hib : nb sb.length b = k := hib
      have hle : k ≤ k := Nat.le_refl k
      simp (disch := omega) only [s_X7_match_139, s_X7_match_157, bq_f, e42, hib, hle, pb1, pb2, nq_lit, nq_add, nq_mul, nq_lt, nq_le, nq_eq, nq_lt0, nq10, nq00, Nat.one_ne_zero, Nat.reduceEqDiff, Nat.not_lt_zero, zb1, zb0, eq_self, reduceIte]
      exact k1
    | true =>
      have hib : whl (b, m, sb) = k := hib
      have hle : k ≤ k := Nat.le_refl k
      simp (disch := omega) only [s_X7_match_139, s_X7_match_157, bq_t, g2, ewh, hib, hle, pb1, pb2, nq_lit, nq_add, nq_mul, nq_lt, nq_le, nq_eq, nq_lt0, nq10, nq00, Nat.one_ne_zero, Nat.reduceEqDiff, Nat.not_lt_zero, zb1, zb0, eq_self, reduceIte]
      exact k1
  | succ N ih =>
    intro k n hn hk hlk
    obtain ⟨n, rfl⟩ := pre_n hn
    have hk1 : k < hi := by omega
    have hle : ¬ hi ≤ k := by omega
    have hbk := hlo k hlk hk1
    have ih' := ih (k + 1) n (by omega) (by omega) (by omega)
    have ew : f_X5_weak (some sg) (nq k) S = some (nq (wk (gd sb) (k * b) wi m), S) := by
      rw [sg_weak hsg hs (by show k < nb sb.length b; omega)]
      unfold sWk
      dsimp only
      rw [hbk]
    have es : f_X5_strong (some sg) (nq k) S = some (st64 (gd sb) wi (k * b), S) := by
      rw [sg_strong hsg hs (by show k < nb sb.length b; omega)]
      unfold sSt
      dsimp only
      rw [hbk]
    have wb1 := wk_lt (f := gd sb) (k * b) wi hm.1 hm.2
    have wb2 := wk_lt (f := gd fb) p wi hm.1 hm.2
    have hr : l_X7_match_139 (n + 1) (some a, some sg, some w, bq iw, oq bh, oq (fnd (gd sb) (gd fb) sb.length b m p wi bh k).1, bq (fnd (gd sb) (gd fb) sb.length b m p wi bh k).2, nq k) S = s_X7_match_157 (l_X7_match_139 n) (some a) (some sg) (some w) (bq iw) (oq bh) (oq (fnd (gd sb) (gd fb) sb.length b m p wi bh k).1) (bq (fnd (gd sb) (gd fb) sb.length b m p wi bh k).2) (nq k) (nq hi) (nq k) S := by
      rw [l_X7_match_139_s]
      cases iw with
      | false =>
        have hib : nb sb.length b = hi := hib
        simp (disch := omega) only [s_X7_match_139, bq_f, e42, hib, pb1, pb2, nq_lit, nq_add, nq_mul, nq_lt, nq_le, nq_eq, nq_lt0, nq10, nq00, Nat.one_ne_zero, Nat.reduceEqDiff, Nat.not_lt_zero, zb1, zb0, eq_self, reduceIte]
      | true =>
        have hib : whl (b, m, sb) = hi := hib
        simp (disch := omega) only [s_X7_match_139, bq_t, g2, ewh, hib, pb1, pb2, nq_lit, nq_add, nq_mul, nq_lt, nq_le, nq_eq, nq_lt0, nq10, nq00, Nat.one_ne_zero, Nat.reduceEqDiff, Nat.not_lt_zero, zb1, zb0, eq_self, reduceIte]
    rw [hr]
    have key := fnd_s (sf := gd sb) (ff := gd fb) (sl := sb.length) (b := b) (m := m) (p := p) (w := wi) (bh := bh) k
    have hofo := obk k (by omega)
    by_cases c2 : wk (gd sb) (k * b) wi m = wk (gd fb) p wi m
    · have hh : hit (gd sb) (gd fb) sb.length b m p wi k = true := decide_eq_true ⟨hbk, c2⟩
      rw [hh, if_pos rfl] at key
      by_cases c3 : st64 (gd sb) wi (k * b) = st64 (gd fb) wi p
      · have hS : hitS (gd sb) (gd fb) p wi b k = true := decide_eq_true c3
        -- what is found now
        have brk : ∀ f', (fnd (gd sb) (gd fb) sb.length b m p wi bh (k + 1)) = (some f', true) → (∀ j, k + 1 ≤ j → some j ≠ bh) → ob (some f') → ∃ S', s_X7_match_239 (some a) (nq f') (nq 1) S = some (oq (fnd (gd sb) (gd fb) sb.length b m p wi bh (nb sb.length b)).1, S') ∧ S'.1 a = some (.inl (6, [v0, .int (nq (alN (fnd (gd sb) (gd fb) sb.length b m p wi bh (nb sb.length b)) al)), v2, v3])) ∧ Ch (fun z => z = a) 0 0 S S' := fun f' e1 e2 e3 => by
          have e4 := fnd_keep (k1 := k + 1) (f := f') (by rw [e1]) e2 (nb sb.length b - (k + 1))
          rw [show k + 1 + (nb sb.length b - (k + 1)) = nb sb.length b by omega] at e4
          obtain ⟨S', k1, k2, k3⟩ := d_m239 (x := true) ha e3
          refine ⟨S', ?_, ?_, k3⟩
          · rw [e4]
            exact k1
          · have : alN (fnd (gd sb) (gd fb) sb.length b m p wi bh (nb sb.length b)) al = al := by
              generalize fnd (gd sb) (gd fb) sb.length b m p wi bh (nb sb.length b) = F at e4 ⊢
              obtain ⟨F1, F2⟩ := F
              have e4 : F1 = some f' := e4
              subst e4
              rfl
            rw [this]
            exact k2
        have tail : ∀ f', (fnd (gd sb) (gd fb) sb.length b m p wi bh (k + 1)) = (some f', true) → ob (some f') → ∃ S', s_X7_match_216 (l_X7_match_139 n) (some a) (some sg) (some w) (bq iw) (oq bh) (nq 1) (nq k) (nq f') S = some (oq (fnd (gd sb) (gd fb) sb.length b m p wi bh (nb sb.length b)).1, S') ∧ S'.1 a = some (.inl (6, [v0, .int (nq (alN (fnd (gd sb) (gd fb) sb.length b m p wi bh (nb sb.length b)) al)), v2, v3])) ∧ Ch (fun z => z = a) 0 0 S S' := fun f' e1 e3 => by
          cases hbb : bh with
          | none =>
            rw [hbb] at brk e1
            obtain ⟨S', k1, k2⟩ := brk f' e1 (fun j _ q => nomatch q) e3
            refine ⟨S', ?_, k2⟩
            have hlt : -(nq 1) < nq 0 := m1_lt (by omega)
            simp (disch := omega) only [s_X7_match_216, show oq none = -(nq 1) from rfl, hlt, pb1, pb2, nq_lit, nq_add, nq_mul, nq_lt, nq_le, nq_eq, nq_lt0, nq10, nq00, Nat.one_ne_zero, Nat.reduceEqDiff, Nat.not_lt_zero, zb1, zb0, eq_self, reduceIte]
            exact k1
          | some j =>
            have hj := hbh j hbb
            by_cases hkj : k < j
            · rw [e1, hbb] at ih'
              obtain ⟨S', k1, k2⟩ := ih'
              refine ⟨S', ?_, k2⟩
              simp (disch := omega) only [s_X7_match_216, s_X7_match_233, show oq (some j) = nq j from rfl, hkj, pb1, pb2, nq_lit, nq_add, nq_mul, nq_lt, nq_le, nq_eq, nq_lt0, nq10, nq00, Nat.one_ne_zero, Nat.reduceEqDiff, Nat.not_lt_zero, zb1, zb0, eq_self, reduceIte]
              exact k1
            · rw [hbb] at brk e1
              obtain ⟨S', k1, k2⟩ := brk f' e1 (fun j' h1 q => by
                have := Option.some.inj q
                omega) e3
              refine ⟨S', ?_, k2⟩
              simp (disch := omega) only [s_X7_match_216, show oq (some j) = nq j from rfl, hkj, pb1, pb2, nq_lit, nq_add, nq_mul, nq_lt, nq_le, nq_eq, nq_lt0, nq10, nq00, Nat.one_ne_zero, Nat.reduceEqDiff, Nat.not_lt_zero, zb1, zb0, eq_self, reduceIte]
              exact k1
        by_cases c4 : (fnd (gd sb) (gd fb) sb.length b m p wi bh k).1 = none
        · rw [if_pos ⟨hS, Or.inl c4⟩] at key
          have q := (oq_m1 hofo).mpr c4
          obtain ⟨S', k1, k2⟩ := tail k key (fun j hj => by cases hj; omega)
          refine ⟨S', ?_, k2⟩
          simp (disch := omega) only [s_X7_match_157, s_X7_match_209, hle, g1, g2, ew, eww, c2, es, ews, (lg_cmp0 _ _).mpr c3, q, pb1, pb2, nq_lit, nq_add, nq_mul, nq_lt, nq_le, nq_eq, nq_lt0, nq10, nq00, Nat.one_ne_zero, Nat.reduceEqDiff, Nat.not_lt_zero, zb1, zb0, eq_self, reduceIte]
          exact k1
        · have q : ¬ oq (fnd (gd sb) (gd fb) sb.length b m p wi bh k).1 = -(nq 1) := fun q => c4 ((oq_m1 hofo).mp q)
          by_cases c5 : some k = bh
          · rw [if_pos ⟨hS, Or.inr c5⟩] at key
            have q2 : nq k = oq bh := (oq_eq hbh (by omega)).mpr c5
            obtain ⟨S', k1, k2⟩ := tail k key (fun j hj => by cases hj; omega)
            refine ⟨S', ?_, k2⟩
            simp (disch := omega) only [s_X7_match_157, s_X7_match_209, hle, g1, g2, ew, eww, c2, es, ews, (lg_cmp0 _ _).mpr c3, q, eq_true q2, pb1, pb2, nq_lit, nq_add, nq_mul, nq_lt, nq_le, nq_eq, nq_lt0, nq10, nq00, Nat.one_ne_zero, Nat.reduceEqDiff, Nat.not_lt_zero, zb1, zb0, eq_self, reduceIte]
            exact k1
          · rw [if_neg (fun r => r.2.elim c4 c5)] at key
            have q2 : ¬ nq k = oq bh := fun q => c5 ((oq_eq hbh (by omega)).mp q)
            obtain ⟨f', hf'⟩ : ∃ f', (fnd (gd sb) (gd fb) sb.length b m p wi bh k).1 = some f' := Option.ne_none_iff_exists'.mp c4
            rw [hf'] at key q hofo ⊢
            obtain ⟨S', k1, k2⟩ := tail f' key hofo
            refine ⟨S', ?_, k2⟩
            simp (disch := omega) only [s_X7_match_157, s_X7_match_209, hle, g1, g2, ew, eww, c2, es, ews, (lg_cmp0 _ _).mpr c3, q, q2, pb1, pb2, nq_lit, nq_add, nq_mul, nq_lt, nq_le, nq_eq, nq_lt0, nq10, nq00, Nat.one_ne_zero, Nat.reduceEqDiff, Nat.not_lt_zero, zb1, zb0, eq_self, reduceIte]
            exact k1
      · have hS : ¬ hitS (gd sb) (gd fb) p wi b k = true := fun q => c3 (of_decide_eq_true q)
        rw [if_neg (fun r => hS r.1)] at key
        have c3' : ¬ lg_cmp (st64 (gd sb) wi (k * b)) (st64 (gd fb) wi p) = nq 0 := fun q => c3 ((lg_cmp0 _ _).mp q)
        rw [key] at ih'
        obtain ⟨S', k1, k2⟩ := ih'
        refine ⟨S', ?_, k2⟩
        simp (disch := omega) only [s_X7_match_157, s_X7_match_233, hle, g1, g2, ew, eww, c2, es, ews, c3', pb1, pb2, nq_lit, nq_add, nq_mul, nq_lt, nq_le, nq_eq, nq_lt0, nq10, nq00, Nat.one_ne_zero, Nat.reduceEqDiff, Nat.not_lt_zero, zb1, zb0, eq_self, reduceIte]
        exact k1
    · have hh : ¬ hit (gd sb) (gd fb) sb.length b m p wi k = true := fun q => c2 (of_decide_eq_true q).2
      rw [if_neg hh] at key
      rw [key] at ih'
      obtain ⟨S', k1, k2⟩ := ih'
      refine ⟨S', ?_, k2⟩
      simp (disch := omega) only [s_X7_match_157, s_X7_match_233, hle, g1, g2, ew, eww, c2, pb1, pb2, nq_lit, nq_add, nq_mul, nq_lt, nq_le, nq_eq, nq_lt0, nq10, nq00, Nat.one_ne_zero, Nat.reduceEqDiff, Nat.not_lt_zero, zb1, zb0, eq_self, reduceIte]
      exact k1
/-- what the last instruction says of the block behind it -/
def lastOk (M : Nat → Option Ob) (ias : List Nat) (bh : Option Nat) : Prop := (ias = [] → bh = none) ∧ ∀ q, ias[ias.length - 1]? = some q → ∃ (c : Bool) (x y : Value) (lb : Int32), M q = some (.inl (7, [.int (bq c), x, y, .int lb])) ∧ (c = false → bh = none) ∧ (c = true → ∃ j, bh = some (j + 1) ∧ lb = nq j)
theorem wnd_in {fb : List Nat} (h : p < fb.length) : p + wnd b fb.length p ≤ fb.length ∨ b = 0 := by
  unfold wnd
  split <;> omega
theorem d_match {e0 : Option Nat} {l d cap cp sbb st sz : Nat} {ias : List Nat} (hs : SOk (b, m, sb)) (hfb : FOk fb) (hsg : iSig S.1 sg (b, m, sb)) (hst : iStr S.1 sa sbb cp fb) (hc : cp ≤ 100000) (hw : iWin S.1 w sa m (gd fb) st sz) (hin : st + sz ≤ fb.length) (hsz : sz ≤ 7) (hp : p < fb.length)
    (ha : S.1 a = some (.inl (6, [.ref l, .int (nq al), v2, v3]))) (hl : iLst S.1 e0 l d ias cap) (hcl : cap ≤ 60000) (hbh : ob bh) (hla : lastOk S.1 ias bh) (hd : Dom S) :
    ∃ S' st' sz', f_X7_match (some a) (some sg) (some w) (nq p) (nq (fb.length - p)) S = some (oq (fnd (gd sb) (gd fb) sb.length b m p (wnd b fb.length p) bh (nb sb.length b)).1, S') ∧
      S'.1 a = some (.inl (6, [.ref l, .int (nq (alN (fnd (gd sb) (gd fb) sb.length b m p (wnd b fb.length p) bh (nb sb.length b)) al)), v2, v3])) ∧ iWin S'.1 w sa m (gd fb) st' sz' ∧ st' + sz' ≤ fb.length ∧ sz' ≤ 7 ∧
      (∀ k, (fnd (gd sb) (gd fb) sb.length b m p (wnd b fb.length p) bh (nb sb.length b)).1 = some k → sz' = wnd b fb.length p) ∧ Ch (fun z => z = a ∨ z = w) 0 0 S S' := by
  have bn : nb sb.length b ≤ 120 := nb_le hs.1.1 hs.2.2.1
  have hb : 1 ≤ b ∧ b ≤ 7 := hs.1
  have hm : 1 ≤ m ∧ m ≤ 4096 := hs.2.1
  have hL := hfb.1
  have hsL : sb.length ≤ 120 := hs.2.2.1
  obtain ⟨w1, w2, w3⟩ := wnd_ok hb hp
  have hwq := whl_eq (s := (b, m, sb)) hb.1
  have hwq : whl (b, m, sb) = sb.length / b := hwq
  have hnb := nb_eq (L := sb.length) hb.1
  have hmr : sb.length % b < b := Nat.mod_lt _ (by omega)
  have hq120 : sb.length / b ≤ 120 := Nat.le_trans (Nat.div_le_self _ _) hsL
  obtain ⟨so, r1, r2, g, F1, F2, q1, -⟩ := id hsg
  have e40 : oI S (some sg) 4 0 = some (nq b) := oI_ok q1 rfl
  have e43 : oI S (some sg) 4 3 = some (nq (sb.length % b)) := oI_ok q1 rfl
  have naw : a ≠ w := obne ha hw (by simp)
  -- the window comes; the loop
  have main : ∀ (iw : Bool) (lo hi : Nat), (if iw = true then whl (b, m, sb) else nb sb.length b) = hi → (if iw = true then 0 else whl (b, m, sb)) = lo → hi ≤ nb sb.length b → lo ≤ hi → (∀ k, lo ≤ k → k < hi → bln sb.length b k = wnd b fb.length p) → (∀ k, k < lo → bln sb.length b k ≠ wnd b fb.length p) → (∀ k, hi ≤ k → k < nb sb.length b → bln sb.length b k ≠ wnd b fb.length p) →
      ∃ S' st' sz', s_X7_match_48 (some a) (some sg) (some w) (bq iw) (nq (wnd b fb.length p)) (nq p) (some w) S = some (oq (fnd (gd sb) (gd fb) sb.length b m p (wnd b fb.length p) bh (nb sb.length b)).1, S') ∧
        S'.1 a = some (.inl (6, [.ref l, .int (nq (alN (fnd (gd sb) (gd fb) sb.length b m p (wnd b fb.length p) bh (nb sb.length b)) al)), v2, v3])) ∧ iWin S'.1 w sa m (gd fb) st' sz' ∧ st' + sz' ≤ fb.length ∧ sz' ≤ 7 ∧
        (∀ k, (fnd (gd sb) (gd fb) sb.length b m p (wnd b fb.length p) bh (nb sb.length b)).1 = some k → sz' = wnd b fb.length p) ∧ Ch (fun z => z = a ∨ z = w) 0 0 S S' := fun iw lo hi h1 h2 h3 h4 h5 h6 h7 => by
    obtain ⟨S1, k1, k2, k3⟩ := w_come (p := p) (n := wnd b fb.length p) hst hc hfb.2 hm ⟨w1, w2⟩ hsz w3 hin hw hd
    have hd1 := k3.2.2.2.2.2 hd
    have ha1 := k3.at hd ha naw
    have hsg1 : iSig S1.1 sg (b, m, sb) := by
      obtain ⟨so, r1, r2, g, F1, F2, t1, t2, t3, t4, t5, t6, t7⟩ := hsg
      exact ⟨so, r1, r2, g, F1, F2, k3.at hd t1 (obne t1 hw (by simp)), k3.at hd t2 (obne t2 hw (by simp)), t3, t4, k3.at hd t5 (obne t5 hw (by simp)), k3.at hd t6 (obne t6 hw (by simp)), t7⟩
    have hst1 : iStr S1.1 sa sbb cp fb := by
      obtain ⟨t1, t, t2, t3⟩ := hst
      exact ⟨k3.at hd t1 (obne t1 hw (by simp)), t, k3.at hd t2 (obne t2 hw (by simp)), t3⟩
    have hl1 : iLst S1.1 e0 l d ias cap := by
      obtain ⟨⟨mc, t1⟩, t2, t3⟩ := hl
      exact ⟨⟨mc, k3.at hd t1 (obne t1 hw (by simp))⟩, t2, fun c => ⟨k3.at hd (t3 c).1 (obne (t3 c).1 hw (by simp)), (t3 c).2⟩⟩
    have hz0 : fnd (gd sb) (gd fb) sb.length b m p (wnd b fb.length p) bh lo = (none, false) := by
      have := fnd_skip (sf := gd sb) (ff := gd fb) (sl := sb.length) (b := b) (m := m) (p := p) (w := wnd b fb.length p) (bh := bh) (lo := 0) lo (fun k _ hk q => h6 k (by omega) (of_decide_eq_true q).1)
      rw [Nat.zero_add] at this
      rw [this]
      rfl
    have hend : fnd (gd sb) (gd fb) sb.length b m p (wnd b fb.length p) bh (nb sb.length b) = fnd (gd sb) (gd fb) sb.length b m p (wnd b fb.length p) bh hi := by
      have := fnd_skip (sf := gd sb) (ff := gd fb) (sl := sb.length) (b := b) (m := m) (p := p) (w := wnd b fb.length p) (bh := bh) (lo := hi) (nb sb.length b - hi) (fun k hk1 hk2 q => h7 k hk1 (by omega) (of_decide_eq_true q).1)
      rw [show hi + (nb sb.length b - hi) = nb sb.length b by omega] at this
      exact this
    obtain ⟨S', f1, f2, f3⟩ := d_mat_l (v0 := .ref l) (v2 := v2) (v3 := v3) (al := al) hs hfb hsg1 k2 hst1 hc w3 ha1 hbh iw h3 h1 h5 hend (hi - lo) lo FU (by unfold FU; omega) (by omega) (Nat.le_refl _)
    rw [hz0] at f1
    have f1 : l_X7_match_139 FU (some a, some sg, some w, bq iw, oq bh, -(nq 1), nq 0, nq lo) S1 = some (oq (fnd (gd sb) (gd fb) sb.length b m p (wnd b fb.length p) bh (nb sb.length b)).1, S') := f1
    refine ⟨S', p, wnd b fb.length p, ?_, f2, f3.at hd1 k2 (Ne.symm naw), w3, w2, fun _ _ => rfl, ((k3.or f3).mono (fun _ _ q => q.symm) (Nat.le_refl _) (Nat.le_refl _))⟩
    have g1 := isO_ok hw
    have g2 : oA S1 (some a) 6 0 = some (some l) := oA_ok (o := some l) ha1 rfl
    have g3 := hl1.isO
    have hil := hl.le
    have g4 := la_empty hl1 (by omega)
    have ewh : f_X5_whole (some sg) S1 = some (nq (whl (b, m, sb)), S1) := sg_whole hsg1 hs
    obtain ⟨so', r1', r2', g', F1', F2', q1', -⟩ := id hsg1
    have gsg := isO_ok q1'
    have t116 : s_X7_match_116 (some a) (some sg) (some w) (bq iw) (oq bh) S1 = some (oq (fnd (gd sb) (gd fb) sb.length b m p (wnd b fb.length p) bh (nb sb.length b)).1, S') := by
      cases iw with
      | false =>
        have h2 : whl (b, m, sb) = lo := h2
        rw [← h2] at f1
        simp (disch := omega) only [s_X7_match_116, s_X7_match_137, bq_f, gsg, ewh, pb1, pb2, nq_lit, nq_add, nq_mul, nq_lt, nq_le, nq_eq, nq_lt0, nq10, nq00, Nat.one_ne_zero, Nat.reduceEqDiff, Nat.not_lt_zero, zb1, zb0, eq_self, reduceIte]
        exact f1
      | true =>
        have h2 : 0 = lo := h2
        rw [← h2] at f1
        simp (disch := omega) only [s_X7_match_116, s_X7_match_137, bq_t, pb1, pb2, nq_lit, nq_add, nq_mul, nq_lt, nq_le, nq_eq, nq_lt0, nq10, nq00, Nat.one_ne_zero, Nat.reduceEqDiff, Nat.not_lt_zero, zb1, zb0, eq_self, reduceIte]
        exact f1
    by_cases he : ias = []
    · have hbn := hla.1 he
      rw [decide_eq_true he] at g4
      rw [hbn] at t116 ⊢
      simp (disch := omega) only [s_X7_match_48, s_X7_match_90, s_X7_match_115, g1, k1, g2, g3, g4, bq_t, pb1, pb2, nq_lit, nq_add, nq_mul, nq_lt, nq_le, nq_eq, nq_lt0, nq10, nq00, Nat.one_ne_zero, Nat.reduceEqDiff, Nat.not_lt_zero, zb1, zb0, eq_self, reduceIte]
      exact t116
    · rw [decide_eq_false he] at g4
      have hpos : 0 < ias.length := List.length_pos_iff.mpr he
      have gsz := la_size hl1
      have gget := la_get (i := ias.length - 1) hl1 (by omega) (by omega)
      have hx : ias[ias.length - 1]? = some ias[ias.length - 1] := List.getElem?_eq_getElem (by omega)
      obtain ⟨c, x, y, lb, u1, u2, u3⟩ := hla.2 _ hx
      rw [hx] at gget
      have u1' := k3.at hd u1 (obne u1 hw (by simp))
      have gck := ckO_ok u1'
      have g70 : oI S1 (some ias[ias.length - 1]) 7 0 = some (bq c) := oI_ok u1' rfl
      have g73 : oI S1 (some ias[ias.length - 1]) 7 3 = some lb := oI_ok u1' rfl
      have hns : (some ias[ias.length - 1] = none) = False := eq_false (fun q => nomatch q)
      cases c with
      | false =>
        rw [u2 rfl] at t116 ⊢
        simp (disch := omega) only [s_X7_match_48, s_X7_match_90, s_X7_match_115, g1, k1, g2, g3, g4, bq_f, gsz, nq_sub, gget, gck, hns, g70, pb1, pb2, nq_lit, nq_add, nq_mul, nq_lt, nq_le, nq_eq, nq_lt0, nq10, nq00, Nat.one_ne_zero, Nat.reduceEqDiff, Nat.not_lt_zero, zb1, zb0, eq_self, reduceIte]
        exact t116
      | true =>
        obtain ⟨j, v1, v2'⟩ := u3 rfl
        rw [v1] at t116 ⊢
        simp (disch := omega) only [s_X7_match_48, s_X7_match_90, g1, k1, g2, g3, g4, bq_f, bq_t, gsz, nq_sub, gget, gck, hns, g70, g73, v2', pb1, pb2, nq_lit, nq_add, nq_mul, nq_lt, nq_le, nq_eq, nq_lt0, nq10, nq00, Nat.one_ne_zero, Nat.reduceEqDiff, Nat.not_lt_zero, zb1, zb0, eq_self, reduceIte]
        exact t116
  by_cases cb : b ≤ fb.length - p
  · have ew : wnd b fb.length p = b := if_pos cb
    have cb' : ¬ fb.length - p < b := by omega
    obtain ⟨S', st', sz', f1, f2⟩ := main true 0 (whl (b, m, sb)) rfl rfl (by rw [hwq, hnb]; split <;> omega) (Nat.zero_le _) (fun k _ hk => by rw [hwq] at hk; rw [ew]; exact bln_whole hb.1 hk) (fun k hk => absurd hk (Nat.not_lt_zero k)) (fun k hk1 hk2 => by
      rw [hwq] at hk1
      have : k = sb.length / b := by
        rw [hnb] at hk2
        split at hk2 <;> omega
      rw [this, bln_rest hb.1, ew]
      omega)
    rw [ew] at f1 f2 ⊢
    refine ⟨S', st', sz', ?_, f2⟩
    simp (disch := omega) only [f_X7_match, s_X7_match_14, s_X7_match_32, e40, cb', pb1, pb2, nq_lit, nq_add, nq_mul, nq_lt, nq_le, nq_eq, nq_lt0, nq10, nq00, Nat.one_ne_zero, Nat.reduceEqDiff, Nat.not_lt_zero, zb1, zb0, eq_self, reduceIte]
    exact f1
  · have ew : wnd b fb.length p = fb.length - p := if_neg cb
    have cb' : fb.length - p < b := by omega
    by_cases cr : fb.length - p = sb.length % b
    · obtain ⟨S', st', sz', f1, f2⟩ := main false (whl (b, m, sb)) (nb sb.length b) rfl rfl (Nat.le_refl _) (by rw [hwq, hnb]; split <;> omega) (fun k hk1 hk2 => by
        rw [hwq] at hk1
        have : k = sb.length / b := by
          rw [hnb] at hk2
          split at hk2 <;> omega
        rw [this, bln_rest hb.1, ew, cr]) (fun k hk => by
        rw [hwq] at hk
        rw [bln_whole hb.1 hk, ew]
        omega) (fun k hk1 hk2 => by omega)
      rw [ew] at f1 f2 ⊢
      refine ⟨S', st', sz', ?_, f2⟩
      have ceq : nq (fb.length - p) = nq (sb.length % b) := by rw [cr]
      unfold f_X7_match
      rw [e40, pb1, if_pos ((nq_lt (by omega) (by omega)).mpr cb')]
      unfold s_X7_match_14
      rw [if_pos (by decide), e43, pb1, if_pos ceq]
      unfold s_X7_match_32
      rw [if_pos (by decide)]
      exact f1
    · have hz0 : fnd (gd sb) (gd fb) sb.length b m p (wnd b fb.length p) bh (nb sb.length b) = (none, false) := by
        have := fnd_skip (sf := gd sb) (ff := gd fb) (sl := sb.length) (b := b) (m := m) (p := p) (w := wnd b fb.length p) (bh := bh) (lo := 0) (nb sb.length b) (fun k _ hk q => by
          have hkw := (of_decide_eq_true q).1
          rw [ew] at hkw
          by_cases hkq : k < sb.length / b
          · rw [bln_whole hb.1 hkq] at hkw
            omega
          · have : k = sb.length / b := by
              rw [Nat.zero_add, hnb] at hk
              split at hk <;> omega
            rw [this, bln_rest hb.1] at hkw
            omega)
        rw [Nat.zero_add] at this
        rw [this]
        rfl
      rw [hz0]
      refine ⟨S, st, sz, ?_, ha, hw, hin, hsz, fun k hk => (nomatch hk), Ch.refl _ S⟩
      simp (disch := omega) only [f_X7_match, s_X7_match_14, e40, e43, cb', cr, pb1, pb2, nq_lit, nq_add, nq_mul, nq_lt, nq_le, nq_eq, nq_lt0, nq10, nq00, Nat.one_ne_zero, Nat.reduceEqDiff, Nat.not_lt_zero, zb1, zb0, eq_self, reduceIte]
      rfl
end Mat
