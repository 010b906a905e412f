/-! PURE: the heap of a RollSync -/
set_option maxRecDepth 100000
/-- the cells of a kind -/
def mk (S : St) (ρ : Nat → Nat) (k : Nat) : Nat → Option Ob := rs (fun y => decide (ρ y = k)) S.1
theorem mk_i {S : St} {ρ : Nat → Nat} {k y : Nat} {e : Ob} (h : ρ y = k) (g : S.1 y = some e) : mk S ρ k y = some e := rs_i (decide_eq_true h) g
theorem mk_e {S : St} {ρ : Nat → Nat} {k y : Nat} {e : Ob} (h : mk S ρ k y = some e) : ρ y = k ∧ S.1 y = some e := ⟨of_decide_eq_true (rs_e h).1, (rs_e h).2⟩
theorem mk_sub (S : St) (ρ : Nat → Nat) (k : Nat) : Sub (mk S ρ k) S.1 := fun _ _ h => (mk_e h).2
theorem mk_ch {A : Nat → Prop} {c s k : Nat} {S S1 : St} {ρ ρ' : Nat → Nat} (h : Ch A c s S S1) (hd : Dom S) (hr : ∀ y, y < S.2.1 → ρ y = k → ρ' y = k) (hA : ∀ y, A y → ρ y ≠ k) : Sub (mk S ρ k) (mk S1 ρ' k) := fun y e q => by
  obtain ⟨q1, q2⟩ := mk_e q
  exact mk_i (hr y (hd y e q2) q1) (h.at hd q2 fun z => hA y z q1)
def rX (M : Nat → Option Ob) (x fl sg de vl st pp : Nat) (c : Nat × Nat × Nat) : Prop := M x = some (.inl (0, [.ref fl, .ref sg, .ref de, .ref vl, .ref st, .ref pp, .int (nq c.1), .int (nq c.2.1), .int (nq c.2.2)]))
def rF (M : Nat → Option Ob) (e0 : Option Nat) (fl : Nat) (L : List (List Nat)) : Prop := ∃ (fd : Nat) (sl sb : List Nat), iLst M e0 fl fd sl 6 ∧ sl.length = L.length ∧ sb.length = L.length ∧ sl.Nodup ∧ sb.Nodup ∧ ∀ (i : Nat) (bs : List Nat), L[i]? = some bs → ∃ a b, sl[i]? = some a ∧ sb[i]? = some b ∧ iStr M a b 120 bs
def rG (M F : Nat → Option Ob) (sg : Nat) (zs : Nat → Option (Nat × Nat × List Nat)) : Prop := ∃ f, M sg = some (.inr (5, 4, .inr (.inr (.inr (.inr f))))) ∧ ∀ p, p < 4 → (∀ s, zs p = some s → ∃ a, f p = some a ∧ iSig F a s) ∧ (zs p = none → f p = none)
def rD (M F : Nat → Option Ob) (e0 : Option Nat) (de : Nat) (zd : Nat → Option Dl) : Prop := ∃ f, M de = some (.inr (6, 4, .inr (.inr (.inr (.inr f))))) ∧ ∀ p, p < 4 → (∀ s, zd p = some s → ∃ a, f p = some a ∧ iDel F e0 a s) ∧ (zd p = none → f p = none)
def rV (M F : Nat → Option Ob) (e0 : Option Nat) (vl : Nat) (vs : List Vr) : Prop := ∃ vd cap vv, iLst M e0 vl vd vv cap ∧ cap ≤ 28 ∧ vv.length = vs.length ∧ ∀ v y, vs[v]? = some y → ∃ a h, vv[v]? = some a ∧ M a = some (.inl (10, [.int (nq v), .ref h])) ∧ iHeld F e0 vv h y
def rP (M N F : Nat → Option Ob) (e0 : Option Nat) (st pp : Nat) (ps : Nat → Option (List (List Nat))) : Prop := ∃ cl cd cap cs K f, iSto M e0 st cl cd cap cs K ∧ cap ≤ 2401 ∧ KOk K (fun v => (allP ps 12).count v) ∧ N pp = some (.inr (7, 12, .inr (.inr (.inr (.inr f))))) ∧
  ∀ p, p < 12 → (∀ l, ps p = some l → ∃ a arr g, f p = some a ∧ F a = some (.inl (15, [.ref arr])) ∧ F arr = some (.inr (9, l.length, .inr (.inr (.inr (.inr g))))) ∧ ∀ i, i < l.length → pAt cs K (g i) (l.getD i [])) ∧ (ps p = none → f p = none)
def rO (M : Nat → Option Ob) (out : Nat) : Prop := ∃ g, M out = some (.inr (1, 1, .inr (.inl g)))
section Subs
variable {M M' N N' F F' : Nat → Option Ob} {e0 : Option Nat}
theorem rX.sub {x fl sg de vl st pp : Nat} {c : Nat × Nat × Nat} (h : rX M x fl sg de vl st pp c) (k : Sub M M') : rX M' x fl sg de vl st pp c := k _ _ h
theorem rF.sub {fl : Nat} {L : List (List Nat)} (h : rF M e0 fl L) (k : Sub M M') : rF M' e0 fl L := by
  obtain ⟨fd, sl, sb, h1, h2, h3, h4, h5, h6⟩ := h
  refine ⟨fd, sl, sb, h1.sub k, h2, h3, h4, h5, fun i bs hi => ?_⟩
  obtain ⟨a, b, t1, t2, t3⟩ := h6 i bs hi
  exact ⟨a, b, t1, t2, t3.sub k⟩
theorem rG.sub {sg : Nat} {zs : Nat → Option (Nat × Nat × List Nat)} (h : rG M F sg zs) (k : Sub M M') (k' : Sub F F') : rG M' F' sg zs := by
  obtain ⟨f, h1, h2⟩ := h
  refine ⟨f, k _ _ h1, fun p hp => ⟨fun s hs => ?_, (h2 p hp).2⟩⟩
  obtain ⟨a, t1, t2⟩ := (h2 p hp).1 s hs
  exact ⟨a, t1, t2.sub k'⟩
theorem rD.sub {de : Nat} {zd : Nat → Option Dl} (h : rD M F e0 de zd) (k : Sub M M') (k' : Sub F F') : rD M' F' e0 de zd := by
  obtain ⟨f, h1, h2⟩ := h
  refine ⟨f, k _ _ h1, fun p hp => ⟨fun s hs => ?_, (h2 p hp).2⟩⟩
  obtain ⟨a, t1, t2⟩ := (h2 p hp).1 s hs
  exact ⟨a, t1, t2.sub k'⟩
theorem rV.sub {vl : Nat} {vs : List Vr} (h : rV M F e0 vl vs) (k : Sub M M') (k' : Sub F F') : rV M' F' e0 vl vs := by
  obtain ⟨vd, cap, vv, h1, h2, h3, h4⟩ := h
  refine ⟨vd, cap, vv, h1.sub k, h2, h3, fun v y hy => ?_⟩
  obtain ⟨a, hh, t1, t2, t3⟩ := h4 v y hy
  exact ⟨a, hh, t1, k _ _ t2, t3.sub k'⟩
theorem rP.sub {st pp : Nat} {ps : Nat → Option (List (List Nat))} (h : rP M N F e0 st pp ps) (k : Sub M M') (k2 : Sub N N') (k' : Sub F F') : rP M' N' F' e0 st pp ps := by
  obtain ⟨cl, cd, cap, cs, K, f, h1, h2, h3, h4, h5⟩ := h
  refine ⟨cl, cd, cap, cs, K, f, h1.sub k, h2, h3, k2 _ _ h4, fun p hp => ⟨fun l hl => ?_, (h5 p hp).2⟩⟩
  obtain ⟨a, arr, g, t1, t2, t3, t4⟩ := (h5 p hp).1 l hl
  exact ⟨a, arr, g, t1, k' _ _ t2, k' _ _ t3, t4⟩
theorem rO.sub {out : Nat} (h : rO M out) (k : Sub M M') : rO M' out := by
  obtain ⟨g, h1⟩ := h
  exact ⟨g, k _ _ h1⟩
theorem iE0.sub (h : iE0 F e0) (k : Sub F F') : iE0 F' e0 := by
  obtain ⟨d, f, h1, h2⟩ := h
  exact ⟨d, f, h1, k _ _ h2⟩
end Subs
def SR (S : St) (x out : Nat) (A : AA) (ρ : Nat → Nat) (e0 : Option Nat) (fl sg de vl st pp : Nat) : Prop :=
  (rX (mk S ρ 1) x fl sg de vl st pp (zC A) ∧ rF (mk S ρ 2) e0 fl (zF A) ∧ rG (mk S ρ 3) (mk S ρ 0) sg (zS A) ∧ rD (mk S ρ 4) (mk S ρ 0) e0 de (zD A)) ∧
  (rV (mk S ρ 5) (mk S ρ 0) e0 vl (zV A) ∧ rP (mk S ρ 6) (mk S ρ 7) (mk S ρ 0) e0 st pp (zP A) ∧ rO (mk S ρ 8) out) ∧
  (iE0 (mk S ρ 0) e0 ∧ S.2.2.2.2.2 0 = e0 ∧ Dom S ∧ ∀ y, S.2.1 ≤ y → ρ y = 0)
def SRep (S : St) (x out : Nat) (A : AA) : Prop := ∃ ρ e0 fl sg de vl st pp, SR S x out A ρ e0 fl sg de vl st pp
/-- room used; the model and the statics stay -/
def Rm (c s : Nat) (S S' : St) : Prop := S.2.2.1 ≤ S'.2.2.1 + c ∧ S.2.2.2.1 ≤ S'.2.2.2.1 + s ∧ S'.2.2.2.2 = S.2.2.2.2
theorem Ch.rm {A : Nat → Prop} {c s : Nat} {S S' : St} (h : Ch A c s S S') : Rm c s S S' := ⟨h.2.2.1, h.2.2.2.1, h.2.2.2.2.1⟩
theorem Rm.mono {c s c' s' : Nat} {S S' : St} (h : Rm c s S S') (hc : c ≤ c') (hs : s ≤ s') : Rm c' s' S S' := ⟨by have := h.1; omega, by have := h.2.1; omega, h.2.2⟩
theorem Rm.trans {c s c' s' : Nat} {S S1 S2 : St} (h : Rm c s S S1) (k : Rm c' s' S1 S2) : Rm (c + c') (s + s') S S2 := ⟨by have := h.1; have := k.1; omega, by have := h.2.1; have := k.2.1; omega, k.2.2.trans h.2.2⟩
theorem Rm.refl (S : St) : Rm 0 0 S S := ⟨Nat.le_refl _, Nat.le_refl _, rfl⟩
/-- only new things, or none: all stays -/
theorem SR.ch0 {S S' : St} {x out : Nat} {A : AA} {ρ : Nat → Nat} {e0 : Option Nat} {fl sg de vl st pp c s : Nat} (h : SR S x out A ρ e0 fl sg de vl st pp) (k : Ch (fun _ => False) c s S S') : SR S' x out A ρ e0 fl sg de vl st pp := by
  obtain ⟨⟨h1, h2, h3, h4⟩, ⟨h5, h6, h7⟩, h8, h9, h10, h11⟩ := h
  have m : ∀ j, Sub (mk S ρ j) (mk S' ρ j) := fun j => mk_ch k h10 (fun _ _ q => q) (fun _ q => q.elim)
  exact ⟨⟨h1.sub (m 1), h2.sub (m 2), h3.sub (m 3) (m 0), h4.sub (m 4) (m 0)⟩, ⟨h5.sub (m 5) (m 0), h6.sub (m 6) (m 7) (m 0), h7.sub (m 8)⟩, h8.sub (m 0), k.2.2.2.2.1 ▸ h9, k.2.2.2.2.2 h10, fun y hy => h11 y (Nat.le_trans k.2.1 hy)⟩
theorem thr_ch {S : St} (h1 : 1 ≤ S.2.2.1) (h2 : 6 ≤ S.2.2.2.1) : Ch (fun _ => False) 1 6 S (xt S) := Ch.thr _ S h1 h2
/-- the answer of a call -/
def OQ (S : St) (x out : Nat) (an : An) (r : Option (Int32 × St)) : Prop := ∃ S', r = some (nq an.1, S') ∧ SRep S' x out an.2.2 ∧ (an.1 = 0 → jL S' (some out) (nq 0) = some an.2.1) ∧ Rm 9000 110000 S S'
/-- .. of one that gives nothing -/
def OV (S : St) (x out : Nat) (an : An) (r : Option (Int32 × St)) : Prop := ∃ S', r = some (nq an.1, S') ∧ SRep S' x out an.2.2 ∧ Rm 9000 110000 S S'
/-- the value goes into out -/
theorem SR.put {S : St} {x out : Nat} {A : AA} {ρ : Nat → Nat} {e0 : Option Nat} {fl sg de vl st pp : Nat} (h : SR S x out A ρ e0 fl sg de vl st pp) (v : Int64) : ∃ S', jS S (some out) (nq 0) v = some S' ∧ SR S' x out A ρ e0 fl sg de vl st pp ∧ jL S' (some out) (nq 0) = some v ∧ Rm 0 0 S S' := by
  obtain ⟨⟨h1, h2, h3, h4⟩, ⟨h5, h6, ⟨g, h7⟩⟩, h8, h9, h10, h11⟩ := h
  obtain ⟨r8, h7'⟩ := mk_e h7
  obtain ⟨S', d⟩ : ∃ S', x_set S out (.inr (1, 1, .inr (.inl (va_up g 0 v)))) = S' := ⟨_, rfl⟩
  have k : Ch (fun y => y = out) 0 0 S S' := by rw [← d]; exact Ch.set S _ h7'
  have w : S'.1 out = some (.inr (1, 1, .inr (.inl (va_up g 0 v)))) := by rw [← d]; exact xs_i _ _ _
  have m : ∀ j, j ≠ 8 → Sub (mk S ρ j) (mk S' ρ j) := fun j hj => mk_ch k h10 (fun _ _ q => q) (fun y q z => hj (by rw [← z, (show y = out from q), r8]))
  refine ⟨S', (jS_ok h7' (by omega) (by omega)).trans (congrArg some d), ⟨⟨h1.sub (m 1 (by decide)), h2.sub (m 2 (by decide)), h3.sub (m 3 (by decide)) (m 0 (by decide)), h4.sub (m 4 (by decide)) (m 0 (by decide))⟩, ⟨h5.sub (m 5 (by decide)) (m 0 (by decide)), h6.sub (m 6 (by decide)) (m 7 (by decide)) (m 0 (by decide)), ⟨_, mk_i r8 w⟩⟩, h8.sub (m 0 (by decide)), k.2.2.2.2.1 ▸ h9, k.2.2.2.2.2 h10, fun y hy => h11 y (Nat.le_trans k.2.1 hy)⟩, ?_, k.rm⟩
  rw [jL_ok w (by omega) (by omega)]
  unfold va_up
  rw [if_pos rfl]
