/-! PURE: the reference's calls about deltas -/
set_option maxRecDepth 100000
theorem DOk_len {D : Dl} (h : DOk D) : D.2.1.length ≤ 120 := by
  obtain ⟨h1, h2, -⟩ := h
  have : ∀ is : List In, (∀ i ∈ is, 1 ≤ i.2.2) → is.length ≤ (is.map fun i => i.2.2).sum := by
    intro is
    induction is with
    | nil => intro _; exact Nat.le_refl _
    | cons i is ih =>
      intro hi
      have a1 := hi i List.mem_cons_self
      have a2 := ih fun j hj => hi j (List.mem_cons_of_mem _ hj)
      rw [List.map_cons, List.sum_cons, List.length_cons]
      omega
  have := this D.2.1 fun i hi => (h2 i hi).1
  omega
theorem gI_mem {is : List In} {k : Nat} (h : k < is.length) : is.getD k i0 ∈ is := by
  rw [List.getD_eq_getElem?_getD, List.getElem?_eq_getElem h]
  exact List.getElem_mem h
theorem DOk_many {D : Dl} (h : DOk D) {i : In} (hi : i ∈ D.2.1) : i.2.2 ≤ 120 := by
  obtain ⟨h1, -⟩ := h
  have : ∀ is : List In, i ∈ is → i.2.2 ≤ (is.map fun i => i.2.2).sum := by
    intro is
    induction is with
    | nil => intro q; cases q
    | cons j is ih =>
      intro q
      rw [List.map_cons, List.sum_cons]
      rcases List.mem_cons.mp q with q | q
      · rw [q]
        omega
      · have := ih q
        omega
  have := this _ hi
  omega
theorem MDl_is {σ : Sg} {d : Nat} {D : Dl} (h : MDl σ d D) : MIs σ d D.2.1 := ⟨h.2.1, h.2.2.2.1⟩
theorem zD_ok {A : AA} (hA : AOk A) {p : Nat} {D : Dl} (h : zD A p = some D) : DOk D := hA.2.2.1 p D h
theorem zV_del {A : AA} (hA : AOk A) {v j : Nat} {D : Dl} (h : (zV A)[v]? = some (.inr (.inr (j, D)))) : j < v ∧ DOk D := hA.2.2.2.1.2.2 v j D h
theorem zV_wh {A : AA} (hA : AOk A) {v : Nat} {bs : List Nat} (h : (zV A)[v]? = some (.inr (.inl bs))) : FOk bs := hA.2.2.2.1.2.1 v bs h
/-- versions, when a delta of another number is written -/
theorem MVr_del {A : AA} {σ σ' : Sg} {d : Nat} (hA : AOk A) (h : MVr σ (zV A)) (k : Sx σ σ' [22, 23, 24, 26, 35] [3, 4, 5, 6, 7, 8, 9, 10, 11, 12, 13, 14, 15, 21, 25, 27]) (kD : DO σ σ' d) (hd : ∀ v, v < (zV A).length → 4 + v ≠ d) : MVr σ' (zV A) := by
  refine ⟨by rw [k.1 16 (by decide)]; exact h.1, fun v hv => ?_⟩
  obtain ⟨q1, q2, q3⟩ := h.2 v hv
  refine ⟨fun u e => ?_, fun bs e => (q2 bs e).same k (by decide) (by decide) (by decide), fun j D e => ?_⟩
  · rw [k.2.1 17 (by decide)]
    exact q1 u e
  · obtain ⟨r1, r2, r3⟩ := q3 j D e
    rw [k.2.1 17 (by decide), k.2.1 18 (by decide)]
    have hl : v < (zV A).length := (List.getElem?_eq_some_iff.mp e).1
    exact ⟨r1, r2, MDl_other r3 kD (hd v hl) (DOk_len (zV_del hA e).2) (zV_del hA e).2.2.2.1.1⟩
theorem MRep_del {A : AA} {σ σ' : Sg} {p : Nat} {D : Dl} (hA : AOk A) (h : MRep A σ) (hp : p < 4) (k : Sx σ σ' [22, 23, 24, 26, 35] [9, 10, 11, 12, 13, 14, 15, 21, 25, 27]) (h1 : MDl σ' p D) (h2 : DO σ σ' p) : MRep (uD A p D) σ' := by
  obtain ⟨g1, g2, g3, g4, g5, g6⟩ := h
  refine ⟨g1.same k (by decide) (by decide) (by decide), g2.same k (by decide) (by decide) (by decide) (by decide) (by decide) (by decide), fun p' hp' => ?_, MVr_del (A := A) hA g4 (k.mono (by decide) (by decide)) h2 (fun v _ => by omega),
    g5.same k (by decide) (by decide) (by decide) (by decide), g6.same k (by decide) (by decide) (by decide)⟩
  show (va_up A.2.2.1 p (some D) p' = none → _) ∧ ∀ s', va_up A.2.2.1 p (some D) p' = some s' → _
  by_cases q : p' = p
  · rw [q, va_up_self]
    exact ⟨fun e => (nomatch e), fun s' e => by cases e; exact h1⟩
  · rw [va_up_ne _ _ q]
    obtain ⟨t1, t2⟩ := g3 p' hp'
    refine ⟨fun e => ?_, fun s' e => MDl_other (t2 s' e) h2 q (DOk_len (zD_ok hA e)) (zD_ok hA e).2.2.1.1⟩
    rw [h2.1 p' q 9 (by decide), h2.1 p' q 10 (by decide), h2.1 p' q 11 (by decide)]
    exact t1 e
theorem m_compare {A : AA} {σ : Sg} (hA : AOk A) (h : MRep A σ) (x1 x2 x3 : Int32) : okm (f_X3_compare x1 x2 x3 σ) (MO LI (o_compare A x1 x2 x3)) := by
  have h0 := h.1.1
  have hn := hA.1.1
  unfold o_compare
  have hx1 : okm (some ((nq 0 : Int32), mP σ 35 (nq 1))) (MO LI (no 1 A)) := okm_some (MO_bad h (by decide))
  by_cases c1 : okI x1 4
  · by_cases c2 : okI x2 4
    · by_cases c3 : okI x3 A.1.length
      · rw [if_pos ⟨c1, c2, c3⟩]
        obtain ⟨d, hd, hd2, rfl⟩ := okI_get c1
        obtain ⟨p, hp, hp2, rfl⟩ := okI_get c2
        obtain ⟨f, hf, hf2, rfl⟩ := okI_get c3
        simp only [ix, ixq hd2, ixq hp2, ixq hf2]
        obtain ⟨q1, q2⟩ := h.2.1 p hp
        cases e : zS A p with
        | none =>
          dsimp only
          simp (disch := omega) only [f_X3_compare, s_X3_compare_27, s_X3_compare_50, s_X3_compare_51, m_isPlace_t c1, m_isPlace_t c2, m_isFile_t h0 (by omega) c3, (q1 e).1, Nat.le_refl, mR_1, mW_1, mR_2, mW_2, mR_3, mW_3, mR_4, mW_4, mR_5, mW_5, mR_6, mW_6, mR_7, mW_7, mR_9, mW_9, mR_10, mW_10, mR_11, mW_11, mR_12, mW_12, mR_13, mW_13, mR_14, mW_14, mR_15, mW_15, mR_17, mW_17, mR_18, mW_18, mR_19, mW_19, mR_20, mW_20, mR_21, mW_21, mR_25, mW_25, mR_27, mW_27, mR_31, mW_31, mR_32, mW_32, mR_33, mW_33, mR_34, mW_34, mRL_8, mWL_8, pb1, pb2, nq_lit, nq_add, nq_mul, nq_lt, nq_le, nq_eq, nq_lt0, nq10, nq00, Nat.one_ne_zero, Nat.reduceEqDiff, Nat.not_lt_zero, nq20, nq30, zb1, zb0, eq_self, mP_i, mP_o, mP_2', wr_1, wr_ne, wr_i, reduceIte, m_may1, m_may0, m_both1, m_both2, m_both0, m_all1, m_all3, m_all2, m_all0]
          exact okm_some (MO_bad h (by decide))
        | some s =>
          obtain ⟨b, m, sb⟩ := s
          dsimp only
          obtain ⟨s1, s2, s3⟩ := zS_ok hA e
          have s1 : 1 ≤ b ∧ b ≤ 7 := s1
          have hS := q2 _ e
          have m1 : σ.2.1 3 p = nq b := hS.1
          have hb0 : ¬ b ≤ 0 := by omega
          simp (disch := omega) only [f_X3_compare, s_X3_compare_27, s_X3_compare_51, m_isPlace_t c1, m_isPlace_t c2, m_isFile_t h0 (by omega) c3, m1, hb0, mR_1, mW_1, mR_2, mW_2, mR_3, mW_3, mR_4, mW_4, mR_5, mW_5, mR_6, mW_6, mR_7, mW_7, mR_9, mW_9, mR_10, mW_10, mR_11, mW_11, mR_12, mW_12, mR_13, mW_13, mR_14, mW_14, mR_15, mW_15, mR_17, mW_17, mR_18, mW_18, mR_19, mW_19, mR_20, mW_20, mR_21, mW_21, mR_25, mW_25, mR_27, mW_27, mR_31, mW_31, mR_32, mW_32, mR_33, mW_33, mR_34, mW_34, mRL_8, mWL_8, pb1, pb2, nq_lit, nq_add, nq_mul, nq_lt, nq_le, nq_eq, nq_lt0, nq10, nq00, Nat.one_ne_zero, Nat.reduceEqDiff, Nat.not_lt_zero, nq20, nq30, zb1, zb0, eq_self, mP_i, mP_o, mP_2', wr_1, wr_ne, wr_i, reduceIte, m_may1, m_may0, m_both1, m_both2, m_both0, m_all1, m_all3, m_all2, m_all0]
          refine okm_bd2 (okm_mono (m_compares (σ := mP σ 35 (nq 0)) (d := d) (sp := p) (f := f) (by omega) (by omega) (by omega) s1 s2 s3 (fl_ok hA f) hS (h.1.2 f (by omega)).1 (h.1.2 f (by omega)).2) fun r hr => ?_)
          obtain ⟨r1, r2, r3⟩ := hr

          have hh := h.thr (nq 0)
          refine okm_some ⟨MRep_del hA hh hd (r3.mono (by decide) (by decide)) r1 r2, ?_, fun _ => ?_⟩
          · rw [r3.1 35 (by decide), mP_i]
          · show LI (r.2.2.1 10 d) = _
            rw [r1.2.1]
            rfl
      · rw [if_neg (fun q => c3 q.2.2)]
        simp (disch := omega) only [f_X3_compare, s_X3_compare_26, s_X3_compare_27, s_X3_compare_50, s_X3_compare_51, m_isPlace_t c1, m_isPlace_t c2, m_isFile_f h0 (by omega) c3, pb1, pb2, nq_lit, nq_add, nq_mul, nq_lt, nq_le, nq_eq, nq_lt0, nq10, nq00, Nat.one_ne_zero, Nat.reduceEqDiff, Nat.not_lt_zero, nq20, nq30, zb1, zb0, eq_self, mP_i, mP_o, mP_2', wr_1, wr_ne, wr_i, reduceIte, m_may1, m_may0, m_both1, m_both2, m_both0, m_all1, m_all3, m_all2, m_all0]
        exact hx1
    · rw [if_neg (fun q => c2 q.2.1)]
      simp (disch := omega) only [f_X3_compare, s_X3_compare_26, s_X3_compare_27, s_X3_compare_50, s_X3_compare_51, m_isPlace_t c1, m_isPlace_f c2, pb1, pb2, nq_lit, nq_add, nq_mul, nq_lt, nq_le, nq_eq, nq_lt0, nq10, nq00, Nat.one_ne_zero, Nat.reduceEqDiff, Nat.not_lt_zero, nq20, nq30, zb1, zb0, eq_self, mP_i, mP_o, mP_2', wr_1, wr_ne, wr_i, reduceIte, m_may1, m_may0, m_both1, m_both2, m_both0, m_all1, m_all3, m_all2, m_all0]
      exact hx1
  · rw [if_neg (fun q => c1 q.1)]
    simp (disch := omega) only [f_X3_compare, s_X3_compare_26, s_X3_compare_27, s_X3_compare_50, s_X3_compare_51, m_isPlace_f c1, pb1, pb2, nq_lit, nq_add, nq_mul, nq_lt, nq_le, nq_eq, nq_lt0, nq10, nq00, Nat.one_ne_zero, Nat.reduceEqDiff, Nat.not_lt_zero, nq20, nq30, zb1, zb0, eq_self, mP_i, mP_o, mP_2', wr_1, wr_ne, wr_i, reduceIte, m_may1, m_may0, m_both1, m_both2, m_both0, m_all1, m_all3, m_all2, m_all0]
    exact hx1
theorem m_ins {A : AA} {σ : Sg} (hA : AOk A) (h : MRep A σ) {p : Nat} (hp : p < 4) : MIs σ p (ins A p) ∧ (ins A p).length ≤ 120 := by
  obtain ⟨q1, q2⟩ := h.2.2.1 p hp
  unfold ins
  cases e : zD A p with
  | none => exact ⟨⟨(q1 e).2.1, fun k hk => absurd hk (Nat.not_lt_zero k)⟩, Nat.zero_le _⟩
  | some D => exact ⟨MDl_is (q2 D e), DOk_len (zD_ok hA e)⟩
theorem m_instructions {A : AA} {σ : Sg} (hA : AOk A) (h : MRep A σ) (x1 : Int32) : okm (f_X3_instructions x1 σ) (MO LI (o_instructions A x1)) := by
  unfold o_instructions
  by_cases c1 : okI x1 4
  · rw [if_pos c1]
    obtain ⟨p, hp, hp2, rfl⟩ := okI_get c1
    simp only [ix, ixq hp2]
    obtain ⟨g1, g2⟩ := m_ins hA h hp
    simp (disch := omega) only [f_X3_instructions, s_X3_instructions_21, m_isPlace_t c1, g1.1, mR_1, mW_1, mR_2, mW_2, mR_3, mW_3, mR_4, mW_4, mR_5, mW_5, mR_6, mW_6, mR_7, mW_7, mR_9, mW_9, mR_10, mW_10, mR_11, mW_11, mR_12, mW_12, mR_13, mW_13, mR_14, mW_14, mR_15, mW_15, mR_17, mW_17, mR_18, mW_18, mR_19, mW_19, mR_20, mW_20, mR_21, mW_21, mR_25, mW_25, mR_27, mW_27, mR_31, mW_31, mR_32, mW_32, mR_33, mW_33, mR_34, mW_34, mRL_8, mWL_8, pb1, pb2, nq_lit, nq_add, nq_mul, nq_lt, nq_le, nq_eq, nq_lt0, nq10, nq00, Nat.one_ne_zero, Nat.reduceEqDiff, Nat.not_lt_zero, nq20, nq30, zb1, zb0, eq_self, mP_i, mP_o, mP_2', wr_1, wr_ne, wr_i, reduceIte, m_may1, m_may0, m_both1, m_both2, m_both0, m_all1, m_all3, m_all2, m_all0]
    exact okm_some (MO_ok h rfl)
  · rw [if_neg c1]
    simp (disch := omega) only [f_X3_instructions, s_X3_instructions_21, m_isPlace_f c1, pb1, pb2, nq_lit, nq_add, nq_mul, nq_lt, nq_le, nq_eq, nq_lt0, nq10, nq00, Nat.one_ne_zero, Nat.reduceEqDiff, Nat.not_lt_zero, nq20, nq30, zb1, zb0, eq_self, mP_i, mP_o, mP_2', wr_1, wr_ne, wr_i, reduceIte, m_may1, m_may0, m_both1, m_both2, m_both0, m_all1, m_all3, m_all2, m_all0]
    exact okm_some (MO_bad h (by decide))
theorem m_alarms {A : AA} {σ : Sg} (hA : AOk A) (h : MRep A σ) (x1 : Int32) : okm (f_X3_alarms x1 σ) (MO LI (o_alarms A x1)) := by
  unfold o_alarms
  by_cases c1 : okI x1 4
  · rw [if_pos c1]
    obtain ⟨p, hp, hp2, rfl⟩ := okI_get c1
    simp only [ix, ixq hp2]
    have g1 : σ.2.1 11 p = nq (alm A p) := by
      obtain ⟨q1, q2⟩ := h.2.2.1 p hp
      unfold alm
      cases e : zD A p with
      | none => exact (q1 e).2.2
      | some D => exact (q2 D e).2.2.1
    simp (disch := omega) only [f_X3_alarms, s_X3_alarms_21, m_isPlace_t c1, g1, mR_1, mW_1, mR_2, mW_2, mR_3, mW_3, mR_4, mW_4, mR_5, mW_5, mR_6, mW_6, mR_7, mW_7, mR_9, mW_9, mR_10, mW_10, mR_11, mW_11, mR_12, mW_12, mR_13, mW_13, mR_14, mW_14, mR_15, mW_15, mR_17, mW_17, mR_18, mW_18, mR_19, mW_19, mR_20, mW_20, mR_21, mW_21, mR_25, mW_25, mR_27, mW_27, mR_31, mW_31, mR_32, mW_32, mR_33, mW_33, mR_34, mW_34, mRL_8, mWL_8, pb1, pb2, nq_lit, nq_add, nq_mul, nq_lt, nq_le, nq_eq, nq_lt0, nq10, nq00, Nat.one_ne_zero, Nat.reduceEqDiff, Nat.not_lt_zero, nq20, nq30, zb1, zb0, eq_self, mP_i, mP_o, mP_2', wr_1, wr_ne, wr_i, reduceIte, m_may1, m_may0, m_both1, m_both2, m_both0, m_all1, m_all3, m_all2, m_all0]
    exact okm_some (MO_ok h rfl)
  · rw [if_neg c1]
    simp (disch := omega) only [f_X3_alarms, s_X3_alarms_21, m_isPlace_f c1, pb1, pb2, nq_lit, nq_add, nq_mul, nq_lt, nq_le, nq_eq, nq_lt0, nq10, nq00, Nat.one_ne_zero, Nat.reduceEqDiff, Nat.not_lt_zero, nq20, nq30, zb1, zb0, eq_self, mP_i, mP_o, mP_2', wr_1, wr_ne, wr_i, reduceIte, m_may1, m_may0, m_both1, m_both2, m_both0, m_all1, m_all3, m_all2, m_all0]
    exact okm_some (MO_bad h (by decide))
theorem m_isInstruction {A : AA} {σ : Sg} (hA : AOk A) (h : MRep A σ) (x1 x2 : Int32) : f_X3_isInstruction x1 x2 σ = some (if okI x1 4 ∧ okI x2 (ins A (ix x1)).length then nq 1 else nq 0, σ) := by
  by_cases c1 : okI x1 4
  · obtain ⟨p, hp, hp2, rfl⟩ := okI_get c1
    simp only [ix, ixq hp2]
    obtain ⟨g1, g2⟩ := m_ins hA h hp
    by_cases c2 : okI x2 (ins A p).length
    · rw [if_pos ⟨c1, c2⟩]
      obtain ⟨d1, d2⟩ := (okI_iff (by omega)).mp c2
      simp (disch := omega) only [f_X3_isInstruction, s_X3_isInstruction_26, m_isPlace_t c1, g1.1, d1, d2, mR_1, mW_1, mR_2, mW_2, mR_3, mW_3, mR_4, mW_4, mR_5, mW_5, mR_6, mW_6, mR_7, mW_7, mR_9, mW_9, mR_10, mW_10, mR_11, mW_11, mR_12, mW_12, mR_13, mW_13, mR_14, mW_14, mR_15, mW_15, mR_17, mW_17, mR_18, mW_18, mR_19, mW_19, mR_20, mW_20, mR_21, mW_21, mR_25, mW_25, mR_27, mW_27, mR_31, mW_31, mR_32, mW_32, mR_33, mW_33, mR_34, mW_34, mRL_8, mWL_8, pb1, pb2, nq_lit, nq_add, nq_mul, nq_lt, nq_le, nq_eq, nq_lt0, nq10, nq00, Nat.one_ne_zero, Nat.reduceEqDiff, Nat.not_lt_zero, nq20, nq30, zb1, zb0, eq_self, mP_i, mP_o, mP_2', wr_1, wr_ne, wr_i, reduceIte, m_may1, m_may0, m_both1, m_both2, m_both0, m_all1, m_all3, m_all2, m_all0]
    · rw [if_neg (fun q => c2 q.2)]
      by_cases d1 : x2 < nq 0
      · simp (disch := omega) only [f_X3_isInstruction, s_X3_isInstruction_25, s_X3_isInstruction_26, m_isPlace_t c1, g1.1, d1, mR_1, mW_1, mR_2, mW_2, mR_3, mW_3, mR_4, mW_4, mR_5, mW_5, mR_6, mW_6, mR_7, mW_7, mR_9, mW_9, mR_10, mW_10, mR_11, mW_11, mR_12, mW_12, mR_13, mW_13, mR_14, mW_14, mR_15, mW_15, mR_17, mW_17, mR_18, mW_18, mR_19, mW_19, mR_20, mW_20, mR_21, mW_21, mR_25, mW_25, mR_27, mW_27, mR_31, mW_31, mR_32, mW_32, mR_33, mW_33, mR_34, mW_34, mRL_8, mWL_8, pb1, pb2, nq_lit, nq_add, nq_mul, nq_lt, nq_le, nq_eq, nq_lt0, nq10, nq00, Nat.one_ne_zero, Nat.reduceEqDiff, Nat.not_lt_zero, nq20, nq30, zb1, zb0, eq_self, mP_i, mP_o, mP_2', wr_1, wr_ne, wr_i, reduceIte, m_may1, m_may0, m_both1, m_both2, m_both0, m_all1, m_all3, m_all2, m_all0]
      · by_cases d2 : nq (ins A p).length ≤ x2
        · simp (disch := omega) only [f_X3_isInstruction, s_X3_isInstruction_25, s_X3_isInstruction_26, m_isPlace_t c1, g1.1, d1, d2, mR_1, mW_1, mR_2, mW_2, mR_3, mW_3, mR_4, mW_4, mR_5, mW_5, mR_6, mW_6, mR_7, mW_7, mR_9, mW_9, mR_10, mW_10, mR_11, mW_11, mR_12, mW_12, mR_13, mW_13, mR_14, mW_14, mR_15, mW_15, mR_17, mW_17, mR_18, mW_18, mR_19, mW_19, mR_20, mW_20, mR_21, mW_21, mR_25, mW_25, mR_27, mW_27, mR_31, mW_31, mR_32, mW_32, mR_33, mW_33, mR_34, mW_34, mRL_8, mWL_8, pb1, pb2, nq_lit, nq_add, nq_mul, nq_lt, nq_le, nq_eq, nq_lt0, nq10, nq00, Nat.one_ne_zero, Nat.reduceEqDiff, Nat.not_lt_zero, nq20, nq30, zb1, zb0, eq_self, mP_i, mP_o, mP_2', wr_1, wr_ne, wr_i, reduceIte, m_may1, m_may0, m_both1, m_both2, m_both0, m_all1, m_all3, m_all2, m_all0]
        · exact absurd ((okI_iff (by omega)).mpr ⟨d1, d2⟩) c2
  · rw [if_neg (fun q => c1 q.1)]
    simp (disch := omega) only [f_X3_isInstruction, s_X3_isInstruction_25, s_X3_isInstruction_26, m_isPlace_f c1, pb1, pb2, nq_lit, nq_add, nq_mul, nq_lt, nq_le, nq_eq, nq_lt0, nq10, nq00, Nat.one_ne_zero, Nat.reduceEqDiff, Nat.not_lt_zero, nq20, nq30, zb1, zb0, eq_self, mP_i, mP_o, mP_2', wr_1, wr_ne, wr_i, reduceIte, m_may1, m_may0, m_both1, m_both2, m_both0, m_all1, m_all3, m_all2, m_all0]
theorem m_startOf {A : AA} {σ : Sg} (hA : AOk A) (h : MRep A σ) (x1 x2 : Int32) : okm (f_X3_startOf x1 x2 σ) (MO LI (o_startOf A x1 x2)) := by
  unfold o_startOf
  have e := m_isInstruction hA h x1 x2
  by_cases c : okI x1 4 ∧ okI x2 (ins A (ix x1)).length
  · rw [if_pos c] at e ⊢
    obtain ⟨c1, c2⟩ := c
    obtain ⟨p, hp, hp2, rfl⟩ := okI_get c1
    simp only [ix, ixq hp2] at c2 ⊢
    obtain ⟨k, hk, hk2, rfl⟩ := okI_get c2
    simp only [ixq hk2]
    obtain ⟨g1, g2⟩ := m_ins hA h hp
    simp (disch := omega) only [f_X3_startOf, s_X3_startOf_28, e, (g1.2 k hk).2.1, mR_1, mW_1, mR_2, mW_2, mR_3, mW_3, mR_4, mW_4, mR_5, mW_5, mR_6, mW_6, mR_7, mW_7, mR_9, mW_9, mR_10, mW_10, mR_11, mW_11, mR_12, mW_12, mR_13, mW_13, mR_14, mW_14, mR_15, mW_15, mR_17, mW_17, mR_18, mW_18, mR_19, mW_19, mR_20, mW_20, mR_21, mW_21, mR_25, mW_25, mR_27, mW_27, mR_31, mW_31, mR_32, mW_32, mR_33, mW_33, mR_34, mW_34, mRL_8, mWL_8, pb1, pb2, nq_lit, nq_add, nq_mul, nq_lt, nq_le, nq_eq, nq_lt0, nq10, nq00, Nat.one_ne_zero, Nat.reduceEqDiff, Nat.not_lt_zero, nq20, nq30, zb1, zb0, eq_self, mP_i, mP_o, mP_2', wr_1, wr_ne, wr_i, reduceIte, m_may1, m_may0, m_both1, m_both2, m_both0, m_all1, m_all3, m_all2, m_all0]
    exact okm_some (MO_ok h rfl)
  · rw [if_neg c] at e ⊢
    simp (disch := omega) only [f_X3_startOf, s_X3_startOf_28, e, pb1, pb2, nq_lit, nq_add, nq_mul, nq_lt, nq_le, nq_eq, nq_lt0, nq10, nq00, Nat.one_ne_zero, Nat.reduceEqDiff, Nat.not_lt_zero, nq20, nq30, zb1, zb0, eq_self, mP_i, mP_o, mP_2', wr_1, wr_ne, wr_i, reduceIte, m_may1, m_may0, m_both1, m_both2, m_both0, m_all1, m_all3, m_all2, m_all0]
    exact okm_some (MO_bad h (by decide))
theorem m_bytesOf {A : AA} {σ : Sg} (hA : AOk A) (h : MRep A σ) (x1 x2 : Int32) : okm (f_X3_bytesOf x1 x2 σ) (MO LI (o_bytesOf A x1 x2)) := by
  unfold o_bytesOf
  have e := m_isInstruction hA h x1 x2
  by_cases c : okI x1 4 ∧ okI x2 (ins A (ix x1)).length
  · rw [if_pos c] at e ⊢
    obtain ⟨c1, c2⟩ := c
    obtain ⟨p, hp, hp2, rfl⟩ := okI_get c1
    simp only [ix, ixq hp2] at c2 ⊢
    obtain ⟨k, hk, hk2, rfl⟩ := okI_get c2
    simp only [ixq hk2]
    obtain ⟨g1, g2⟩ := m_ins hA h hp
    simp (disch := omega) only [f_X3_bytesOf, s_X3_bytesOf_28, e, (g1.2 k hk).2.2, mR_1, mW_1, mR_2, mW_2, mR_3, mW_3, mR_4, mW_4, mR_5, mW_5, mR_6, mW_6, mR_7, mW_7, mR_9, mW_9, mR_10, mW_10, mR_11, mW_11, mR_12, mW_12, mR_13, mW_13, mR_14, mW_14, mR_15, mW_15, mR_17, mW_17, mR_18, mW_18, mR_19, mW_19, mR_20, mW_20, mR_21, mW_21, mR_25, mW_25, mR_27, mW_27, mR_31, mW_31, mR_32, mW_32, mR_33, mW_33, mR_34, mW_34, mRL_8, mWL_8, pb1, pb2, nq_lit, nq_add, nq_mul, nq_lt, nq_le, nq_eq, nq_lt0, nq10, nq00, Nat.one_ne_zero, Nat.reduceEqDiff, Nat.not_lt_zero, nq20, nq30, zb1, zb0, eq_self, mP_i, mP_o, mP_2', wr_1, wr_ne, wr_i, reduceIte, m_may1, m_may0, m_both1, m_both2, m_both0, m_all1, m_all3, m_all2, m_all0]
    exact okm_some (MO_ok h rfl)
  · rw [if_neg c] at e ⊢
    simp (disch := omega) only [f_X3_bytesOf, s_X3_bytesOf_28, e, pb1, pb2, nq_lit, nq_add, nq_mul, nq_lt, nq_le, nq_eq, nq_lt0, nq10, nq00, Nat.one_ne_zero, Nat.reduceEqDiff, Nat.not_lt_zero, nq20, nq30, zb1, zb0, eq_self, mP_i, mP_o, mP_2', wr_1, wr_ne, wr_i, reduceIte, m_may1, m_may0, m_both1, m_both2, m_both0, m_all1, m_all3, m_all2, m_all0]
    exact okm_some (MO_bad h (by decide))
theorem m_isCopy {A : AA} {σ : Sg} (hA : AOk A) (h : MRep A σ) (x1 x2 : Int32) : okm (f_X3_isCopy x1 x2 σ) (MO LB (o_isCopy A x1 x2)) := by
  unfold o_isCopy
  have e := m_isInstruction hA h x1 x2
  by_cases c : okI x1 4 ∧ okI x2 (ins A (ix x1)).length
  · rw [if_pos c] at e ⊢
    obtain ⟨c1, c2⟩ := c
    obtain ⟨p, hp, hp2, rfl⟩ := okI_get c1
    simp only [ix, ixq hp2] at c2 ⊢
    obtain ⟨k, hk, hk2, rfl⟩ := okI_get c2
    simp only [ixq hk2]
    obtain ⟨g1, g2⟩ := m_ins hA h hp
    simp (disch := omega) only [f_X3_isCopy, s_X3_isCopy_31, s_X3_isCopy_32, e, (g1.2 k hk).1, mR_1, mW_1, mR_2, mW_2, mR_3, mW_3, mR_4, mW_4, mR_5, mW_5, mR_6, mW_6, mR_7, mW_7, mR_9, mW_9, mR_10, mW_10, mR_11, mW_11, mR_12, mW_12, mR_13, mW_13, mR_14, mW_14, mR_15, mW_15, mR_17, mW_17, mR_18, mW_18, mR_19, mW_19, mR_20, mW_20, mR_21, mW_21, mR_25, mW_25, mR_27, mW_27, mR_31, mW_31, mR_32, mW_32, mR_33, mW_33, mR_34, mW_34, mRL_8, mWL_8, pb1, pb2, nq_lit, nq_add, nq_mul, nq_lt, nq_le, nq_eq, nq_lt0, nq10, nq00, Nat.one_ne_zero, Nat.reduceEqDiff, Nat.not_lt_zero, nq20, nq30, zb1, zb0, eq_self, mP_i, mP_o, mP_2', wr_1, wr_ne, wr_i, reduceIte, m_may1, m_may0, m_both1, m_both2, m_both0, m_all1, m_all3, m_all2, m_all0]
    cases ((ins A p).getD k i0).1 with
    | true =>
      simp (disch := omega) only [bq_t, pb1, pb2, nq_lit, nq_add, nq_mul, nq_lt, nq_le, nq_eq, nq_lt0, nq10, nq00, Nat.one_ne_zero, Nat.reduceEqDiff, Nat.not_lt_zero, nq20, nq30, zb1, zb0, eq_self, mP_i, mP_o, mP_2', wr_1, wr_ne, wr_i, reduceIte, m_may1, m_may0, m_both1, m_both2, m_both0, m_all1, m_all3, m_all2, m_all0]
      exact okm_some (MO_ok h rfl)
    | false =>
      simp (disch := omega) only [bq_f, pb1, pb2, nq_lit, nq_add, nq_mul, nq_lt, nq_le, nq_eq, nq_lt0, nq10, nq00, Nat.one_ne_zero, Nat.reduceEqDiff, Nat.not_lt_zero, nq20, nq30, zb1, zb0, eq_self, mP_i, mP_o, mP_2', wr_1, wr_ne, wr_i, reduceIte, m_may1, m_may0, m_both1, m_both2, m_both0, m_all1, m_all3, m_all2, m_all0]
      exact okm_some (MO_ok h rfl)
  · rw [if_neg c] at e ⊢
    simp (disch := omega) only [f_X3_isCopy, s_X3_isCopy_31, s_X3_isCopy_32, e, pb1, pb2, nq_lit, nq_add, nq_mul, nq_lt, nq_le, nq_eq, nq_lt0, nq10, nq00, Nat.one_ne_zero, Nat.reduceEqDiff, Nat.not_lt_zero, nq20, nq30, zb1, zb0, eq_self, mP_i, mP_o, mP_2', wr_1, wr_ne, wr_i, reduceIte, m_may1, m_may0, m_both1, m_both2, m_both0, m_all1, m_all3, m_all2, m_all0]
    exact okm_some (MO_bad h (by decide))
theorem drop_I {is : List In} {k : Nat} (h : k < is.length) : is.drop k = is.getD k i0 :: is.drop (k + 1) := by
  rw [List.drop_eq_getElem_cons h, List.getD_eq_getElem?_getD, List.getElem?_eq_getElem h]
  rfl
theorem m_costOf_l {σ : Sg} {d : Nat} {is : List In} (hd : d < 24) (hI : MIs σ d is) (hL : is.length ≤ 120) : ∀ (N k n c : Nat), N < n → k + N = is.length →
    l_X3_costOf_7 n (nq d, nq c, nq (120 * d + k)) σ = some (nq (c + cst (is.drop k)), σ) := by
  intro N
  induction N with
  | zero =>
    intro k n c hn hk
    obtain ⟨n, rfl⟩ := pre_n hn
    have hk' : 120 * d + is.length ≤ 120 * d + k := by omega
    rw [l_X3_costOf_7_s]
    simp (disch := omega) only [s_X3_costOf_7, hI.1, hk', mR_1, mW_1, mR_2, mW_2, mR_3, mW_3, mR_4, mW_4, mR_5, mW_5, mR_6, mW_6, mR_7, mW_7, mR_9, mW_9, mR_10, mW_10, mR_11, mW_11, mR_12, mW_12, mR_13, mW_13, mR_14, mW_14, mR_15, mW_15, mR_17, mW_17, mR_18, mW_18, mR_19, mW_19, mR_20, mW_20, mR_21, mW_21, mR_25, mW_25, mR_27, mW_27, mR_31, mW_31, mR_32, mW_32, mR_33, mW_33, mR_34, mW_34, mRL_8, mWL_8, pb1, pb2, nq_lit, nq_add, nq_mul, nq_lt, nq_le, nq_eq, nq_lt0, nq10, nq00, Nat.one_ne_zero, Nat.reduceEqDiff, Nat.not_lt_zero, nq20, nq30, zb1, zb0, eq_self, mP_i, mP_o, mP_2', wr_1, wr_ne, wr_i, reduceIte, m_may1, m_may0, m_both1, m_both2, m_both0, m_all1, m_all3, m_all2, m_all0]
    rw [List.drop_eq_nil_of_le (by omega)]
    rfl
  | succ N ih =>
    intro k n c hn hk
    obtain ⟨n, rfl⟩ := pre_n hn
    have hk' : ¬ 120 * d + is.length ≤ 120 * d + k := by omega
    obtain ⟨g1, g2, g3⟩ := hI.2 k (by omega)
    rw [l_X3_costOf_7_s, drop_I (by omega)]
    by_cases hc : (is.getD k i0).1 = true
    · simp (disch := omega) only [s_X3_costOf_7, s_X3_costOf_44, hI.1, hk', g1, g3, hc, bq_t, mR_1, mW_1, mR_2, mW_2, mR_3, mW_3, mR_4, mW_4, mR_5, mW_5, mR_6, mW_6, mR_7, mW_7, mR_9, mW_9, mR_10, mW_10, mR_11, mW_11, mR_12, mW_12, mR_13, mW_13, mR_14, mW_14, mR_15, mW_15, mR_17, mW_17, mR_18, mW_18, mR_19, mW_19, mR_20, mW_20, mR_21, mW_21, mR_25, mW_25, mR_27, mW_27, mR_31, mW_31, mR_32, mW_32, mR_33, mW_33, mR_34, mW_34, mRL_8, mWL_8, pb1, pb2, nq_lit, nq_add, nq_mul, nq_lt, nq_le, nq_eq, nq_lt0, nq10, nq00, Nat.one_ne_zero, Nat.reduceEqDiff, Nat.not_lt_zero, nq20, nq30, zb1, zb0, eq_self, mP_i, mP_o, mP_2', wr_1, wr_ne, wr_i, reduceIte, m_may1, m_may0, m_both1, m_both2, m_both0, m_all1, m_all3, m_all2, m_all0]
      rw [Nat.add_assoc, ih (k + 1) n (c + 3) (by omega) (by omega), Nat.add_assoc]
      congr 4
      show _ = ((if (is.getD k i0).1 = true then 3 else 1 + (is.getD k i0).2.2) + cst (is.drop (k + 1)))
      rw [if_pos hc]
    · simp (disch := omega) only [s_X3_costOf_7, s_X3_costOf_44, hI.1, hk', g1, g3, bq_0 _ hc, mR_1, mW_1, mR_2, mW_2, mR_3, mW_3, mR_4, mW_4, mR_5, mW_5, mR_6, mW_6, mR_7, mW_7, mR_9, mW_9, mR_10, mW_10, mR_11, mW_11, mR_12, mW_12, mR_13, mW_13, mR_14, mW_14, mR_15, mW_15, mR_17, mW_17, mR_18, mW_18, mR_19, mW_19, mR_20, mW_20, mR_21, mW_21, mR_25, mW_25, mR_27, mW_27, mR_31, mW_31, mR_32, mW_32, mR_33, mW_33, mR_34, mW_34, mRL_8, mWL_8, pb1, pb2, nq_lit, nq_add, nq_mul, nq_lt, nq_le, nq_eq, nq_lt0, nq10, nq00, Nat.one_ne_zero, Nat.reduceEqDiff, Nat.not_lt_zero, nq20, nq30, zb1, zb0, eq_self, mP_i, mP_o, mP_2', wr_1, wr_ne, wr_i, reduceIte, m_may1, m_may0, m_both1, m_both2, m_both0, m_all1, m_all3, m_all2, m_all0]
      rw [Nat.add_assoc (120 * d), ih (k + 1) n _ (by omega) (by omega), Nat.add_assoc c]
      congr 4
      show _ = ((if (is.getD k i0).1 = true then 3 else 1 + (is.getD k i0).2.2) + cst (is.drop (k + 1)))
      rw [if_neg hc]
theorem m_costOf {σ : Sg} {d : Nat} {is : List In} (hd : d < 24) (hI : MIs σ d is) (hL : is.length ≤ 120) : f_X3_costOf (nq d) σ = some (nq (cst is), σ) := by
  have := m_costOf_l hd hI hL is.length 0 FU 0 (by unfold FU; omega) (by omega)
  rw [List.drop_zero, Nat.zero_add, Nat.add_zero] at this
  simp only [f_X3_costOf, nq_lit, nq_mul]
  exact this
theorem m_cost {A : AA} {σ : Sg} (hA : AOk A) (h : MRep A σ) (x1 : Int32) : okm (f_X3_cost x1 σ) (MO LI (o_cost A x1)) := by
  unfold o_cost
  by_cases c1 : okI x1 4
  · rw [if_pos c1]
    obtain ⟨p, hp, hp2, rfl⟩ := okI_get c1
    simp only [ix, ixq hp2]
    obtain ⟨g1, g2⟩ := m_ins hA h hp
    have e := m_costOf (σ := mP σ 35 (nq 0)) (d := p) (by omega) g1 g2
    simp (disch := omega) only [f_X3_cost, s_X3_cost_20, m_isPlace_t c1, e, pb1, pb2, nq_lit, nq_add, nq_mul, nq_lt, nq_le, nq_eq, nq_lt0, nq10, nq00, Nat.one_ne_zero, Nat.reduceEqDiff, Nat.not_lt_zero, nq20, nq30, zb1, zb0, eq_self, mP_i, mP_o, mP_2', wr_1, wr_ne, wr_i, reduceIte, m_may1, m_may0, m_both1, m_both2, m_both0, m_all1, m_all3, m_all2, m_all0]
    exact okm_some (MO_ok h rfl)
  · rw [if_neg c1]
    simp (disch := omega) only [f_X3_cost, s_X3_cost_20, m_isPlace_f c1, pb1, pb2, nq_lit, nq_add, nq_mul, nq_lt, nq_le, nq_eq, nq_lt0, nq10, nq00, Nat.one_ne_zero, Nat.reduceEqDiff, Nat.not_lt_zero, nq20, nq30, zb1, zb0, eq_self, mP_i, mP_o, mP_2', wr_1, wr_ne, wr_i, reduceIte, m_may1, m_may0, m_both1, m_both2, m_both0, m_all1, m_all3, m_all2, m_all0]
    exact okm_some (MO_bad h (by decide))
