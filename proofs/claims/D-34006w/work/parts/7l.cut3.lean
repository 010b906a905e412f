/-! PURE: RollSync.cut -/
set_option maxRecDepth 100000
theorem x_cut {F : Nat → Option Ob} {P0 : Nat → Bool} {S : St} {x sa sb scap st cl cd cap : Nat} {e0 : Option Nat} {fs : List Value} {c : Nat × Nat × Nat} {fb : List Nat} {al : List (List Nat)} {cs : List Nat} {K : KL} (hx : F x = some (.inl (0, fs))) (hx4 : fs[4]? = some (.ref st)) (hx6 : fs[6]? = some (.int (nq c.1)) ∧ fs[7]? = some (.int (nq c.2.1)) ∧ fs[8]? = some (.int (nq c.2.2))) (hc : COk c) (hs : iStr F sa sb scap fb) (hfb : FOk fb) (hsc : scap ≤ 1000) (hE : iE0 F e0) (hF : ∀ y e, F y = some e → P0 y = false) (hal : ∀ v ∈ al, FOk v) (hal2 : al.length ≤ 1440)
    (hI : iSto (rs P0 S.1) e0 st cl cd cap cs K) (hcap : cap ≤ 2401) (hK : KOk K (fun v => al.count v)) (hP : ∀ y, S.2.1 ≤ y → P0 y = false) (hsub : Sub F S.1) (hd : Dom S) (h0 : S.2.2.2.2.2 0 = e0) (k1 : 3000 ≤ S.2.2.1) (k2 : 11000 ≤ S.2.2.2.1) : CuR S P0 S.2.1 e0 st cl al cs K (cutA c fb) 3000 11000 (f_X1_cut (some x) (some sa) S) := by
  have hL := hfb.1
  have hF' : ∀ y e, F y = some e → y < S.2.1 ∧ P0 y = false := fun y e hy => ⟨hd y e (hsub y e hy), hF y e hy⟩
  obtain ⟨de, fe, he1, he2⟩ := id hE
  obtain ⟨S1, d1⟩ : ∃ S1, x_new S 3 (.inl (16, [.int (nq 0), .null, .int (nq 0)])) = S1 := ⟨_, rfl⟩
  have q1 : nO S 16 3 [.int (nq 0), .null, .int (nq 0)] = some (some S.2.1, S1) := (nO_ok (by omega) (by omega)).trans (by rw [d1])
  have c1 : Ch (fun _ => False) 1 3 S S1 := by rw [← d1]; exact Ch.new _ S _ (by omega) (by omega)
  have l1 : S1.1 S.2.1 = some (.inl (16, [.int (nq 0), .null, .int (nq 0)])) := by rw [← d1]; exact xn_i _ _ _
  have hd1 := c1.2.2.2.2.2 hd
  have st1 : S1.2.2.2.2.2 0 = some de := by rw [c1.2.2.2.2.1, h0, he1]
  obtain ⟨S2, f2, l2, c2⟩ := la_init2 l1 st1
  have hd2 := c2.2.2.2.2.2 hd1
  have C2 : Ch (fun _ => False) 1 3 S S2 := (c1.trans (c2.mono (B := fun y => y = S.2.1) (fun _ _ q => q) (Nat.le_refl _) (Nat.le_refl _)) fun y hy q => absurd q (Nat.ne_of_lt hy)).mono (fun _ _ q => q) (by omega) (by omega)
  have m1 := C2.2.2.1
  have m2 := C2.2.2.2.1
  have hCu : CuI S2 F P0 S.2.1 e0 st cl S.2.1 al P0 cd cap de 0 cs [] K [] := by
    refine ⟨⟨hI.sub (rs_chs C2 hd fun _ q => q.elim), hcap, ?_⟩, ⟨hP _ (Nat.le_refl _), fun q => absurd q (Nat.lt_irrefl 0), fun y hy => hP y (Nat.le_trans C2.2.1 hy)⟩, ⟨he1 ▸ l2, Nat.zero_le _, rfl, fun i hi => absurd hi (Nat.not_lt_zero i)⟩, ⟨Nat.le_refl _, fun q => absurd q (Nat.lt_irrefl 0), C2.2.1, fun _ _ => rfl⟩, fun y e hy => C2.at hd (hsub y e hy) (fun q => q), hd2, by rw [C2.2.2.2.2.1]; exact h0, fun v hv => (nomatch hv)⟩
    rw [List.append_nil]
    exact hK
  have hgt : 0 - 0 < c.2.1 := by obtain ⟨c1, c2, c3⟩ := hc; omega
  obtain ⟨pp, arr, g, P', cd', cap', cs', K', S', w1, w2, w3, w4, w5, w6, w13, w14⟩ := c_loop hx hx4 hx6 hc hs hfb hsc hE hF' hal hal2 fb.length 0 0 FU S2 P0 cd cap de 0 cs [] K [] (by unfold FU; omega) (by omega) (Nat.le_refl _) hgt (Nat.le_refl _) hCu (by omega) (by omega)
  refine ⟨pp, arr, g, P', cd', cap', cs', K', S', ?_, w2, w3, w4, w5, w6, w13, ((C2.mono (B := fun y => P0 y = true ∨ S.2.1 ≤ y) (fun _ _ q => q.elim) (Nat.le_refl _) (Nat.le_refl _)).trans w14 fun _ _ q => q).mono (fun _ _ q => q) (by omega) (by omega)⟩
  simp (disch := omega) only [f_X1_cut, q1, f2, pb1, pb2, nq_lit, nq_add, nq_mul, nq_lt, nq_le, nq_eq, nq_lt0, nq10, nq00, Nat.one_ne_zero, Nat.reduceEqDiff, Nat.not_lt_zero, zb1, zb0, eq_self, reduceIte]
  exact w1
