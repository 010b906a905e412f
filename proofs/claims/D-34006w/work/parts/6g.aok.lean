/-! PURE: the mathematical state stays sound -/
set_option maxRecDepth 100000
theorem AOk_uF {A : AA} (h : AOk A) {bs : List Nat} (hb : FOk bs) (i : Nat) : AOk (uF A i bs) := by
  obtain ⟨⟨h1, h2⟩, h3⟩ := h
  refine ⟨⟨by show (A.1.set i bs).length ≤ 6; rw [List.length_set]; exact h1, fun x hx => ?_⟩, h3⟩
  rcases List.mem_or_eq_of_mem_set hx with q | q
  · exact h2 x q
  · rw [q]
    exact hb
theorem By_nil : By [] := fun x hx => (nomatch hx)
theorem FOk_nil : FOk [] := ⟨by decide, By_nil⟩
theorem AOk_file {A : AA} (h : AOk A) : AOk (o_file A).2.2 := by
  unfold o_file
  split
  · rename_i hc
    obtain ⟨⟨h1, h2⟩, h3⟩ := h
    refine ⟨⟨?_, fun x hx => ?_⟩, h3⟩
    · show (A.1 ++ [[]]).length ≤ 6
      rw [List.length_append, List.length_singleton]
      omega
    · rcases List.mem_append.mp hx with q | q
      · exact h2 x q
      · rw [List.mem_singleton] at q
        rw [q]
        exact FOk_nil
  · exact h
theorem By_app {a b : List Nat} (h1 : By a) (h2 : By b) : By (a ++ b) := fun x hx => (List.mem_append.mp hx).elim (h1 x) (h2 x)
theorem By_take {a : List Nat} (h : By a) (n : Nat) : By (a.take n) := fun x hx => h x (List.mem_of_mem_take hx)
theorem By_drop {a : List Nat} (h : By a) (n : Nat) : By (a.drop n) := fun x hx => h x (List.mem_of_mem_drop hx)
theorem AOk_add {A : AA} (h : AOk A) (x1 x2 x3 x4 : Int32) : AOk (o_add A x1 x2 x3 x4).2.2 := by
  unfold o_add
  split
  · split
    · split
      · rename_i c1 c2 c3
        refine AOk_uF h ⟨?_, By_app (fl_ok h _).2 fun x hx => ?_⟩ _
        · rw [List.length_append, addB, List.length_map, List.length_range]
          exact c3
        · unfold addB at hx
          obtain ⟨k, -, rfl⟩ := List.mem_map.mp hx
          exact Nat.mod_lt _ (by omega)
      · exact h
    · exact h
  · exact h
theorem AOk_insert {A : AA} (h : AOk A) (x1 x2 x3 : Int32) : AOk (o_insert A x1 x2 x3).2.2 := by
  unfold o_insert
  split
  · split
    · split
      · rename_i c1 c2 c3
        have hb := fl_ok h (ix x1)
        refine AOk_uF h ⟨?_, By_app (By_take hb.2 _) fun x hx => ?_⟩ _
        · rw [List.length_append, List.length_cons, List.length_take, List.length_drop]
          omega
        · rcases List.mem_cons.mp hx with q | q
          · rw [q]
            exact c2.2
          · exact By_drop hb.2 _ x q
      · exact h
    · exact h
  · exact h
theorem AOk_remove {A : AA} (h : AOk A) (x1 x2 x3 : Int32) : AOk (o_remove A x1 x2 x3).2.2 := by
  unfold o_remove
  split
  · split
    · have hb := fl_ok h (ix x1)
      refine AOk_uF h ⟨?_, By_app (By_take hb.2 _) (By_drop hb.2 _)⟩ _
      rw [List.length_append, List.length_take, List.length_drop]
      have := hb.1
      omega
    · exact h
  · exact h
theorem AOk_copy {A : AA} (h : AOk A) (x1 x2 : Int32) : AOk (o_copy A x1 x2).2.2 := by
  unfold o_copy
  split
  · exact AOk_uF h (fl_ok h _) _
  · exact h
theorem AOk_sign {A : AA} (h : AOk A) (x1 x2 x3 x4 : Int32) : AOk (o_sign A x1 x2 x3 x4).2.2 := by
  unfold o_sign
  split
  · split
    · rename_i c1 c2
      obtain ⟨h1, h2, h3⟩ := h
      refine ⟨h1, fun p s hs => ?_, h3⟩
      have hs : va_up A.2.1 (ix x1) (some (ix x3, ix x4, fl A (ix x2))) p = some s := hs
      by_cases q : p = ix x1
      · rw [q, va_up_self] at hs
        cases hs
        obtain ⟨⟨⟨-, c3⟩, c4⟩, ⟨⟨-, c5⟩, c6⟩⟩ := c2
        have c4 : ¬ x3.toNatClampNeg = 0 := c4
        have c6 : ¬ x4.toNatClampNeg = 0 := c6
        exact ⟨⟨by show 1 ≤ x3.toNatClampNeg; omega, by show x3.toNatClampNeg ≤ 7; omega⟩, ⟨by show 1 ≤ x4.toNatClampNeg; omega, by show x4.toNatClampNeg ≤ 4096; omega⟩, fl_ok ⟨h1, h2, h3⟩ _⟩
      · rw [va_up_ne _ _ q] at hs
        exact h2 p s hs
    · exact h
  · exact h
/-! ### a compared delta is sound -/
theorem sum_set : ∀ (is : List In) (k : Nat) (x : In), k < is.length → ((is.set k x).map fun i => i.2.2).sum + (is.getD k i0).2.2 = (is.map fun i => i.2.2).sum + x.2.2 := by
  intro is
  induction is with
  | nil => intro k x h; exact absurd h (Nat.not_lt_zero _)
  | cons a is ih =>
    intro k x h
    cases k with
    | zero =>
      show ((x :: is).map fun i => i.2.2).sum + a.2.2 = ((a :: is).map fun i => i.2.2).sum + x.2.2
      rw [List.map_cons, List.map_cons, List.sum_cons, List.sum_cons]
      omega
    | succ k =>
      have := ih k x (by rw [List.length_cons] at h; omega)
      show ((a :: is.set k x).map fun i => i.2.2).sum + (is.getD k i0).2.2 = ((a :: is).map fun i => i.2.2).sum + x.2.2
      rw [List.map_cons, List.map_cons, List.sum_cons, List.sum_cons]
      omega
def CI (fb : List Nat) (p : Nat) (bh : Option Nat) (al : Nat) (is : List In) : Prop := (is.map fun i => i.2.2).sum = p ∧ (∀ i ∈ is, 1 ≤ i.2.2 ∧ i.2.1 ≤ 120 ∧ (i.1 = false → i.2.1 + i.2.2 ≤ fb.length)) ∧ al ≤ p ∧ (0 < is.length → (lsI is).1 = false → (lsI is).2.1 + (lsI is).2.2 = p) ∧ ∀ j, bh = some j → 0 < is.length ∧ (lsI is).1 = true
theorem lsI_app (is : List In) (i : In) : lsI (is ++ [i]) = i := by
  unfold lsI
  rw [List.length_append, List.length_singleton, Nat.add_sub_cancel, gI_app _ _ _ (by omega), if_pos rfl]
theorem lsI_ext {is : List In} (h : 0 < is.length) (w : Nat) : lsI (ext is w) = ((lsI is).1, (lsI is).2.1, (lsI is).2.2 + w) := by
  unfold lsI
  rw [ext_len]
  unfold ext
  rw [gI_set _ _ (by omega), if_pos rfl]
  rfl
theorem CI_new {fb : List Nat} {p : Nat} {bh bh' : Option Nat} {al al' : Nat} {is : List In} {i : In} (h : CI fb p bh al is) (h1 : 1 ≤ i.2.2) (h2 : i.2.1 ≤ 120) (h3 : i.1 = false → i.2.1 + i.2.2 ≤ fb.length ∧ i.2.1 = p) (ha : al' ≤ p + i.2.2) (hb : ∀ j, bh' = some j → i.1 = true) : CI fb (p + i.2.2) bh' al' (is ++ [i]) := by
  obtain ⟨a1, a2, a3, a4, a5⟩ := h
  refine ⟨?_, fun x hx => ?_, ha, fun _ hl => ?_, fun j hj => ⟨by rw [List.length_append, List.length_singleton]; omega, by rw [lsI_app]; exact hb j hj⟩⟩
  · rw [List.map_append, List.sum_append, a1]
    show p + (i.2.2 + 0) = _
    omega
  · rcases List.mem_append.mp hx with q | q
    · exact a2 x q
    · rw [List.mem_singleton] at q
      rw [q]
      exact ⟨h1, h2, fun r => (h3 r).1⟩
  · rw [lsI_app] at hl ⊢
    rw [(h3 hl).2]
theorem CI_ext {fb : List Nat} {p w : Nat} {bh bh' : Option Nat} {al al' : Nat} {is : List In} (h : CI fb p bh al is) (hn : 0 < is.length) (hw : p + w ≤ fb.length) (ha : al' ≤ p + w) (hb : ∀ j, bh' = some j → (lsI is).1 = true) : CI fb (p + w) bh' al' (ext is w) := by
  obtain ⟨a1, a2, a3, a4, a5⟩ := h
  have hm := a2 _ (gI_mem (is := is) (k := is.length - 1) (by omega))
  have hm : 1 ≤ (lsI is).2.2 ∧ (lsI is).2.1 ≤ 120 ∧ ((lsI is).1 = false → (lsI is).2.1 + (lsI is).2.2 ≤ fb.length) := hm
  refine ⟨?_, fun x hx => ?_, ha, fun _ hl => ?_, fun j hj => ⟨by rw [ext_len]; exact hn, by rw [lsI_ext hn]; exact hb j hj⟩⟩
  · have := sum_set is (is.length - 1) ((lsI is).1, (lsI is).2.1, (lsI is).2.2 + w) (by omega)
    have e : (is.getD (is.length - 1) i0).2.2 = (lsI is).2.2 := rfl
    have e2 : ((is.set (is.length - 1) ((lsI is).1, (lsI is).2.1, (lsI is).2.2 + w)).map fun i => i.2.2) = ((ext is w).map fun i => i.2.2) := rfl
    rw [e, e2, a1] at this
    dsimp only at this
    omega
  · rcases List.mem_or_eq_of_mem_set hx with q | q
    · exact a2 x q
    · rw [q]
      refine ⟨by show 1 ≤ (lsI is).2.2 + w; omega, hm.2.1, fun r => ?_⟩
      have := a4 hn r
      show (lsI is).2.1 + ((lsI is).2.2 + w) ≤ fb.length
      omega
  · rw [lsI_ext hn] at hl ⊢
    have := a4 hn hl
    show (lsI is).2.1 + ((lsI is).2.2 + w) = p + w
    omega
theorem cmp_ok {b m : Nat} {sb fb : List Nat} (hb : 1 ≤ b ∧ b ≤ 7) (hsb : sb.length ≤ 120) (hfb : fb.length ≤ 120) : ∀ (N p : Nat) (bh : Option Nat) (al : Nat) (is : List In), p ≤ fb.length → CI fb p bh al is → ∃ q bh', q ≤ fb.length ∧ CI fb q bh' (cmpG b m sb fb N p bh al is).1 (cmpG b m sb fb N p bh al is).2 := by
  intro N
  induction N with
  | zero => intro p bh al is hp h; exact ⟨p, bh, hp, h⟩
  | succ N ih =>
    intro p bh al is hp h
    rw [cmpG_s]
    by_cases c : fb.length ≤ p
    · rw [if_pos c]
      exact ⟨p, bh, hp, h⟩
    · rw [if_neg c]
      obtain ⟨w1, w2, w3⟩ := wnd_ok hb (show p < fb.length by omega)
      have hfo := fnd_ob (sf := gd sb) (ff := gd fb) (sl := sb.length) (b := b) (m := m) (p := p) (w := wnd b fb.length p) (bh := bh) (n := nb sb.length b) (nb sb.length b) (Nat.le_refl _)
      generalize fnd (gd sb) (gd fb) sb.length b m p (wnd b fb.length p) bh (nb sb.length b) = F at hfo ⊢
      obtain ⟨fo, xx⟩ := F
      cases fo with
      | none =>
        dsimp only
        refine ih (p + 1) none _ _ (by omega) ?_
        have hal : (if xx = true then al + 1 else al) ≤ p + 1 := by
          have := h.2.2.1
          split <;> omega
        by_cases hl : lit is = true
        · rw [if_pos hl]
          have hn : 0 < is.length := by
            unfold lit at hl
            rw [Bool.and_eq_true] at hl
            exact of_decide_eq_true hl.1
          exact CI_ext h hn (by omega) hal (fun j hj => nomatch hj)
        · rw [if_neg hl]
          exact CI_new (i := (false, p, 1)) h (Nat.le_refl _) (by show p ≤ 120; omega) (fun _ => ⟨by show p + 1 ≤ fb.length; omega, rfl⟩) hal (fun j hj => nomatch hj)
      | some k =>
        dsimp only at hfo ⊢
        have hk := hfo k rfl
        have hkb := nb_lt hb.1 hk
        refine ih (p + wnd b fb.length p) (some (k + 1)) _ _ (by omega) ?_
        by_cases q : some k = bh
        · rw [if_pos q]
          obtain ⟨g1, g2⟩ := h.2.2.2.2 k q.symm
          exact CI_ext h g1 w3 (by have := h.2.2.1; omega) (fun _ _ => g2)
        · rw [if_neg q]
          exact CI_new (i := (true, k * b, wnd b fb.length p)) h w1 (by show k * b ≤ 120; omega) (fun r => nomatch r) (by have := h.2.2.1; show al ≤ p + wnd b fb.length p; omega) (fun _ _ => rfl)
theorem cmpD_ok {b m : Nat} {sb fb : List Nat} (hb : 1 ≤ b ∧ b ≤ 7) (hsb : FOk sb) (hfb : FOk fb) : DOk (cmpD b m sb fb) := by
  obtain ⟨q, bh', hq, h1, h2, h3, -, -⟩ := cmp_ok (m := m) hb hsb.1 hfb.1 fb.length 0 none 0 [] (Nat.zero_le _) ⟨rfl, fun i hi => (nomatch hi), Nat.le_refl _, fun h => absurd h (Nat.lt_irrefl _), fun j hj => (nomatch hj)⟩
  have := hfb.1
  exact ⟨by show ((cmpG b m sb fb fb.length 0 none 0 []).2.map fun i => i.2.2).sum ≤ 120; omega, h2, hfb, by show (cmpG b m sb fb fb.length 0 none 0 []).1 ≤ 120; omega⟩
theorem AOk_compare {A : AA} (h : AOk A) (x1 x2 x3 : Int32) : AOk (o_compare A x1 x2 x3).2.2 := by
  unfold o_compare
  split
  · cases e : zS A (ix x2) with
    | none => exact h
    | some s =>
      obtain ⟨s1, s2, s3⟩ := zS_ok h e
      obtain ⟨h1, h2, h3, h4⟩ := h
      refine ⟨h1, h2, fun p D hD => ?_, h4⟩
      have hD : va_up A.2.2.1 (ix x1) (some (cmpD s.1 s.2.1 s.2.2 (fl A (ix x3)))) p = some D := hD
      by_cases q : p = ix x1
      · rw [q, va_up_self] at hD
        cases hD
        exact cmpD_ok s1 s3 (fl_ok ⟨h1, h2, h3, h4⟩ _)
      · rw [va_up_ne _ _ q] at hD
        exact h3 p D hD
  · exact h
theorem AOk_apply {A : AA} (h : AOk A) (x1 x2 x3 : Int32) : AOk (o_apply A x1 x2 x3).2.2 := by
  unfold o_apply
  split
  · cases e : zD A (ix x1) with
    | none => exact h
    | some D =>
      dsimp only
      split
      · exact h
      · exact AOk_uF h (app_ok (zD_ok h e) (fl_ok h _)) _
  · exact h
theorem AOk_uV {A : AA} (h : AOk A) {vs : List Vr} (hv : VOk vs) : AOk (uV A vs) := by
  obtain ⟨h1, h2, h3, h4, h5⟩ := h
  exact ⟨h1, h2, h3, hv, h5⟩
theorem VOk_app {vs : List Vr} (h : VOk vs) (hl : vs.length < 20) {x : Vr} (h1 : ∀ bs, x = .inr (.inl bs) → FOk bs) (h2 : ∀ j D, x = .inr (.inr (j, D)) → j < vs.length ∧ DOk D) : VOk (vs ++ [x]) := by
  obtain ⟨a1, a2, a3⟩ := h
  refine ⟨by rw [List.length_append, List.length_singleton]; omega, fun v bs e => ?_, fun v j D e => ?_⟩
  · rw [gV_app] at e
    split at e
    · exact h1 bs (Option.some.inj e)
    · exact a2 v bs e
  · rw [gV_app] at e
    split at e
    · rename_i q
      rw [q]
      exact h2 j D (Option.some.inj e)
    · exact a3 v j D e
theorem VOk_set {vs : List Vr} (h : VOk vs) {x : Vr} (h1 : ∀ bs, x = .inr (.inl bs) → FOk bs) (h2 : ∀ j D, ¬ x = .inr (.inr (j, D))) {v : Nat} (hv : v < vs.length) : VOk (vs.set v x) := by
  obtain ⟨a1, a2, a3⟩ := h
  refine ⟨by rw [List.length_set]; exact a1, fun w bs e => ?_, fun w j D e => ?_⟩
  · rw [gV_set _ _ hv] at e
    split at e
    · exact h1 bs (Option.some.inj e)
    · exact a2 w bs e
  · rw [gV_set _ _ hv] at e
    split at e
    · exact absurd (Option.some.inj e) (h2 j D)
    · exact a3 w j D e
theorem AOk_keep {A : AA} (h : AOk A) (x1 : Int32) : AOk (o_keep A x1).2.2 := by
  unfold o_keep
  split
  · split
    · rename_i c1 c2
      exact AOk_uV h (VOk_app h.2.2.2.1 c2 (fun bs e => by cases e; exact fl_ok h _) (fun j D e => by cases e))
    · exact h
  · exact h
theorem AOk_keepDelta {A : AA} (h : AOk A) (x1 x2 x3 : Int32) : AOk (o_keepDelta A x1 x2 x3).2.2 := by
  unfold o_keepDelta
  split
  · split
    · split
      · rename_i c1 c2 c3
        cases e : mkV (zV A) (ix x2) with
        | inl y => exact h
        | inr bs =>
          dsimp only
          have hv : ix x2 < (zV A).length := c1.2.2
          have hbs := mkV_ok h.2.2.2.1 (ix x2 + 1) (ix x2) (by omega) hv bs e
          obtain ⟨⟨-, d1⟩, d2⟩ := c2
          have d3 : 1 ≤ ix x3 ∧ ix x3 ≤ 7 := by
            have d2 : ¬ x3.toNatClampNeg = 0 := d2
            show 1 ≤ x3.toNatClampNeg ∧ x3.toNatClampNeg ≤ 7
            omega
          exact AOk_uV h (VOk_app h.2.2.2.1 c3 (fun bs e => by cases e) (fun j D e => by cases e; exact ⟨hv, cmpD_ok d3 hbs (fl_ok h _)⟩))
      · exact h
    · exact h
  · exact h
theorem AOk_lose {A : AA} (h : AOk A) (x1 : Int32) : AOk (o_lose A x1).2.2 := by
  unfold o_lose
  split
  · rename_i c1
    exact AOk_uV h (VOk_set h.2.2.2.1 (fun bs e => by cases e) (fun j D e => by cases e) c1.2)
  · exact h
theorem AOk_replace {A : AA} (h : AOk A) (x1 x2 : Int32) : AOk (o_replace A x1 x2).2.2 := by
  unfold o_replace
  split
  · rename_i c1
    exact AOk_uV h (VOk_set h.2.2.2.1 (fun bs e => by cases e; exact fl_ok h _) (fun j D e => by cases e) c1.1.2)
  · exact h
theorem AOk_rebuild {A : AA} (h : AOk A) (x1 x2 : Int32) : AOk (o_rebuild A x1 x2).2.2 := by
  unfold o_rebuild
  split
  · rename_i c1
    cases e : mkV (zV A) (ix x1) with
    | inl y => exact h
    | inr bs =>
      dsimp only
      exact AOk_uF h (mkV_ok h.2.2.2.1 (ix x1 + 1) (ix x1) (by omega) c1.1.2 bs e) _
  · exact h
theorem AOk_cuts {A : AA} (h : AOk A) (x1 x2 x3 : Int32) : AOk (o_cuts A x1 x2 x3).2.2 := by
  unfold o_cuts
  split
  · rename_i c
    obtain ⟨⟨⟨-, c1⟩, c2⟩, ⟨⟨-, c3⟩, c4⟩, ⟨⟨-, c5⟩, c6⟩⟩ := c
    have c2 : ¬ x1.toNatClampNeg = 0 := c2
    have c4 : x1.toNatClampNeg ≤ x2.toNatClampNeg := c4
    have c6 : ¬ x3.toNatClampNeg = 0 := c6
    obtain ⟨h1, h2, h3, h4, h5, h6⟩ := h
    refine ⟨h1, h2, h3, h4, h5, ⟨?_, ?_⟩, ⟨?_, ?_⟩, ?_, ?_⟩
    · show 1 ≤ x1.toNatClampNeg
      omega
    · show x1.toNatClampNeg ≤ 16
      omega
    · show x1.toNatClampNeg ≤ x2.toNatClampNeg
      omega
    · show x2.toNatClampNeg ≤ 40
      omega
    · show 1 ≤ x3.toNatClampNeg
      omega
    · show x3.toNatClampNeg ≤ 64
      omega
  · exact h
theorem cut_ne {c : Nat × Nat × Nat} {fb : List Nat} : ∀ (N s p : Nat), p + N ≤ fb.length → s ≤ p → ∀ x ∈ cutG c fb N s p, x ≠ [] := by
  intro N
  induction N with
  | zero => intro s p hp hs x hx; cases hx
  | succ N ih =>
    intro s p hp hs x hx
    rw [cutG_s, if_neg (by omega)] at hx
    split at hx
    · rcases List.mem_cons.mp hx with q | q
      · rw [q]
        intro r
        have := slc_len (bs := fb) (p := s) (n := p + 1 - s) (by omega)
        rw [r] at this
        simp only [List.length_nil] at this
        omega
      · exact ih (p + 1) (p + 1) (by omega) (Nat.le_refl _) x q
    · exact ih s (p + 1) (by omega) (by omega) x hx
theorem cutA_ok (c : Nat × Nat × Nat) {fb : List Nat} (h : FOk fb) : POk (cutA c fb) := ⟨cut_ne fb.length 0 0 (by omega) (Nat.le_refl _), by rw [cutA_flat]; exact h⟩
theorem AOk_uP {A : AA} (h : AOk A) {ps : Nat → Option (List (List Nat))} (hp : ∀ p l, ps p = some l → POk l) : AOk (uP A ps) := by
  obtain ⟨h1, h2, h3, h4, h5, h6⟩ := h
  exact ⟨h1, h2, h3, h4, hp, h6⟩
theorem AOk_store {A : AA} (h : AOk A) (x1 : Int32) : AOk (o_store A x1).2.2 := by
  unfold o_store
  split
  · split
    · refine AOk_uP h fun p l e => ?_
      by_cases q : p = fre (zP A) 12 0
      · rw [q, va_up_self] at e
        cases e
        exact cutA_ok _ (fl_ok h _)
      · rw [va_up_ne _ _ q] at e
        exact h.2.2.2.2.1 p l e
    · exact h
  · exact h
theorem AOk_release {A : AA} (h : AOk A) (x1 : Int32) : AOk (o_release A x1).2.2 := by
  unfold o_release
  split
  · refine AOk_uP h fun p l e => ?_
    unfold wth at e
    by_cases q : p = ix x1
    · rw [q, va_up_self] at e
      cases e
    · rw [va_up_ne _ _ q] at e
      exact h.2.2.2.2.1 p l e
  · exact h
theorem AOk_fetch {A : AA} (h : AOk A) (x1 x2 : Int32) : AOk (o_fetch A x1 x2).2.2 := by
  unfold o_fetch
  split
  · exact AOk_uF h (zP_ok h _).2 _
  · exact h
theorem AOk_0 : AOk A0 := by
  refine ⟨⟨by decide, fun x hx => (nomatch hx)⟩, fun p s e => (nomatch e), fun p D e => (nomatch e), ⟨by decide, fun v bs e => ?_, fun v j D e => ?_⟩, fun p l e => (nomatch e), ?_⟩
  · have : ([] : List Vr)[v]? = some (.inr (.inl bs)) := e
    rw [List.getElem?_nil] at this
    cases this
  · have : ([] : List Vr)[v]? = some (.inr (.inr (j, D))) := e
    rw [List.getElem?_nil] at this
    cases this
  · exact ⟨⟨by decide, by decide⟩, ⟨by decide, by decide⟩, ⟨by decide, by decide⟩⟩
