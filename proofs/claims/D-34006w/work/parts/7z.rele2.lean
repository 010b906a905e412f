/-! PURE: release -/
set_option maxRecDepth 100000
theorem frs_filter (A : List (List Nat)) : ∀ (l s : List (List Nat)), frs (A ++ s) l = (frs s l).filter fun c => decide (A.count c = 0) := by
  intro l
  induction l with
  | nil => intro s; rfl
  | cons x t ih =>
    intro s
    rw [frs, frs, List.append_assoc]
    by_cases h : x ∈ s
    · rw [if_pos (List.mem_append_right _ h), if_pos h, ih]
    · rw [if_neg h]
      by_cases h2 : x ∈ A
      · rw [if_pos (List.mem_append_left _ h2), List.filter_cons, if_neg, ih]
        intro q
        exact List.count_eq_zero.mp (of_decide_eq_true q) h2
      · rw [if_neg (fun q => (List.mem_append.mp q).elim h2 h), List.filter_cons, if_pos (decide_eq_true (List.count_eq_zero.mpr h2)), ih]
theorem gne_len (ps : Nat → Option (List (List Nat))) (p : Nat) : (frs [] (allP (wth ps p) 12 ++ prt ps p)).length = (frs [] (allP (wth ps p) 12)).length + gne ps p := by
  have := frs_filter (allP (wth ps p) 12) (prt ps p) []
  rw [frs_app, List.length_append]
  congr 1
  rw [List.nil_append]
  rw [List.append_nil] at this
  rw [this]
  rfl
theorem allP_wth {ps : Nat → Option (List (List Nat))} {p : Nat} (hp : p < 12) (v : List Nat) : (allP ps 12).count v = (allP (wth ps p) 12 ++ prt ps p).count v := by
  have hn : wth ps p p = none := by unfold wth va_up; rw [if_pos rfl]
  cases hz : ps p with
  | none =>
    have : wth ps p = ps := by
      funext q
      unfold wth va_up
      by_cases c : q = p
      · rw [if_pos c, c, hz]
      · rw [if_neg c]
    have h2 : prt ps p = [] := by unfold prt; rw [hz]; rfl
    rw [this, h2, List.append_nil]
  | some l =>
    have e : va_up (wth ps p) p (some l) = ps := by
      funext q
      unfold wth va_up
      by_cases c : q = p
      · rw [if_pos c, c, hz]
      · rw [if_neg c, if_neg c]
    have h2 : prt ps p = l := by unfold prt; rw [hz]; rfl
    have := allP_up (l := l) hn v 12
    rw [e, if_pos hp] at this
    rw [this, List.count_append, h2]
