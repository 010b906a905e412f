/-! PURE: the reference's data hold the mathematical state -/
set_option maxRecDepth 100000
def wr (σ : Sg) (k i : Nat) (v : Int32) : Sg := (σ.1, va_up σ.2.1 k (va_up (σ.2.1 k) i v), σ.2.2)
def wrL (σ : Sg) (k i : Nat) (v : Int64) : Sg := (σ.1, σ.2.1, va_up σ.2.2 k (va_up (σ.2.2 k) i v))
theorem mR_ok {σ : Sg} {k i : Nat} (h : i < r_mN k) (hi : i < 2147483648) : mR σ k (nq i) = some (σ.2.1 k i) := by
  unfold mR
  rw [nq_idx hi, if_pos]
  intro q
  rcases q with q | q
  · exact (nq_lt0 hi).mp q
  · omega
theorem mRL_ok {σ : Sg} {k i : Nat} (h : i < r_mN k) (hi : i < 2147483648) : mRL σ k (nq i) = some (σ.2.2 k i) := by
  unfold mRL
  rw [nq_idx hi, if_pos]
  intro q
  rcases q with q | q
  · exact (nq_lt0 hi).mp q
  · omega
theorem mW_ok {σ : Sg} {k i : Nat} {v : Int32} (h : i < r_mN k) (hi : i < 2147483648) : mW σ k (nq i) v = some (wr σ k i v) := by
  unfold mW wr
  rw [nq_idx hi, if_pos]
  intro q
  rcases q with q | q
  · exact (nq_lt0 hi).mp q
  · omega
theorem mWL_ok {σ : Sg} {k i : Nat} {v : Int64} (h : i < r_mN k) (hi : i < 2147483648) : mWL σ k (nq i) v = some (wrL σ k i v) := by
  unfold mWL wrL
  rw [nq_idx hi, if_pos]
  intro q
  rcases q with q | q
  · exact (nq_lt0 hi).mp q
  · omega
theorem mR_1 {σ : Sg} {i : Nat} (h : i < 6) : mR σ 1 (nq i) = some (σ.2.1 1 i) := mR_ok (k := 1) h (by omega)
theorem mW_1 {σ : Sg} {i : Nat} {v : Int32} (h : i < 6) : mW σ 1 (nq i) v = some (wr σ 1 i v) := mW_ok (k := 1) h (by omega)
theorem mR_2 {σ : Sg} {i : Nat} (h : i < 720) : mR σ 2 (nq i) = some (σ.2.1 2 i) := mR_ok (k := 2) h (by omega)
theorem mW_2 {σ : Sg} {i : Nat} {v : Int32} (h : i < 720) : mW σ 2 (nq i) v = some (wr σ 2 i v) := mW_ok (k := 2) h (by omega)
theorem mR_3 {σ : Sg} {i : Nat} (h : i < 5) : mR σ 3 (nq i) = some (σ.2.1 3 i) := mR_ok (k := 3) h (by omega)
theorem mW_3 {σ : Sg} {i : Nat} {v : Int32} (h : i < 5) : mW σ 3 (nq i) v = some (wr σ 3 i v) := mW_ok (k := 3) h (by omega)
theorem mR_4 {σ : Sg} {i : Nat} (h : i < 5) : mR σ 4 (nq i) = some (σ.2.1 4 i) := mR_ok (k := 4) h (by omega)
theorem mW_4 {σ : Sg} {i : Nat} {v : Int32} (h : i < 5) : mW σ 4 (nq i) v = some (wr σ 4 i v) := mW_ok (k := 4) h (by omega)
theorem mR_5 {σ : Sg} {i : Nat} (h : i < 5) : mR σ 5 (nq i) = some (σ.2.1 5 i) := mR_ok (k := 5) h (by omega)
theorem mW_5 {σ : Sg} {i : Nat} {v : Int32} (h : i < 5) : mW σ 5 (nq i) v = some (wr σ 5 i v) := mW_ok (k := 5) h (by omega)
theorem mR_6 {σ : Sg} {i : Nat} (h : i < 5) : mR σ 6 (nq i) = some (σ.2.1 6 i) := mR_ok (k := 6) h (by omega)
theorem mW_6 {σ : Sg} {i : Nat} {v : Int32} (h : i < 5) : mW σ 6 (nq i) v = some (wr σ 6 i v) := mW_ok (k := 6) h (by omega)
theorem mR_7 {σ : Sg} {i : Nat} (h : i < 600) : mR σ 7 (nq i) = some (σ.2.1 7 i) := mR_ok (k := 7) h (by omega)
theorem mW_7 {σ : Sg} {i : Nat} {v : Int32} (h : i < 600) : mW σ 7 (nq i) v = some (wr σ 7 i v) := mW_ok (k := 7) h (by omega)
theorem mR_9 {σ : Sg} {i : Nat} (h : i < 24) : mR σ 9 (nq i) = some (σ.2.1 9 i) := mR_ok (k := 9) h (by omega)
theorem mW_9 {σ : Sg} {i : Nat} {v : Int32} (h : i < 24) : mW σ 9 (nq i) v = some (wr σ 9 i v) := mW_ok (k := 9) h (by omega)
theorem mR_10 {σ : Sg} {i : Nat} (h : i < 24) : mR σ 10 (nq i) = some (σ.2.1 10 i) := mR_ok (k := 10) h (by omega)
theorem mW_10 {σ : Sg} {i : Nat} {v : Int32} (h : i < 24) : mW σ 10 (nq i) v = some (wr σ 10 i v) := mW_ok (k := 10) h (by omega)
theorem mR_11 {σ : Sg} {i : Nat} (h : i < 24) : mR σ 11 (nq i) = some (σ.2.1 11 i) := mR_ok (k := 11) h (by omega)
theorem mW_11 {σ : Sg} {i : Nat} {v : Int32} (h : i < 24) : mW σ 11 (nq i) v = some (wr σ 11 i v) := mW_ok (k := 11) h (by omega)
theorem mR_12 {σ : Sg} {i : Nat} (h : i < 2880) : mR σ 12 (nq i) = some (σ.2.1 12 i) := mR_ok (k := 12) h (by omega)
theorem mW_12 {σ : Sg} {i : Nat} {v : Int32} (h : i < 2880) : mW σ 12 (nq i) v = some (wr σ 12 i v) := mW_ok (k := 12) h (by omega)
theorem mR_13 {σ : Sg} {i : Nat} (h : i < 2880) : mR σ 13 (nq i) = some (σ.2.1 13 i) := mR_ok (k := 13) h (by omega)
theorem mW_13 {σ : Sg} {i : Nat} {v : Int32} (h : i < 2880) : mW σ 13 (nq i) v = some (wr σ 13 i v) := mW_ok (k := 13) h (by omega)
theorem mR_14 {σ : Sg} {i : Nat} (h : i < 2880) : mR σ 14 (nq i) = some (σ.2.1 14 i) := mR_ok (k := 14) h (by omega)
theorem mW_14 {σ : Sg} {i : Nat} {v : Int32} (h : i < 2880) : mW σ 14 (nq i) v = some (wr σ 14 i v) := mW_ok (k := 14) h (by omega)
theorem mR_15 {σ : Sg} {i : Nat} (h : i < 2880) : mR σ 15 (nq i) = some (σ.2.1 15 i) := mR_ok (k := 15) h (by omega)
theorem mW_15 {σ : Sg} {i : Nat} {v : Int32} (h : i < 2880) : mW σ 15 (nq i) v = some (wr σ 15 i v) := mW_ok (k := 15) h (by omega)
theorem mR_17 {σ : Sg} {i : Nat} (h : i < 20) : mR σ 17 (nq i) = some (σ.2.1 17 i) := mR_ok (k := 17) h (by omega)
theorem mW_17 {σ : Sg} {i : Nat} {v : Int32} (h : i < 20) : mW σ 17 (nq i) v = some (wr σ 17 i v) := mW_ok (k := 17) h (by omega)
theorem mR_18 {σ : Sg} {i : Nat} (h : i < 20) : mR σ 18 (nq i) = some (σ.2.1 18 i) := mR_ok (k := 18) h (by omega)
theorem mW_18 {σ : Sg} {i : Nat} {v : Int32} (h : i < 20) : mW σ 18 (nq i) v = some (wr σ 18 i v) := mW_ok (k := 18) h (by omega)
theorem mR_19 {σ : Sg} {i : Nat} (h : i < 20) : mR σ 19 (nq i) = some (σ.2.1 19 i) := mR_ok (k := 19) h (by omega)
theorem mW_19 {σ : Sg} {i : Nat} {v : Int32} (h : i < 20) : mW σ 19 (nq i) v = some (wr σ 19 i v) := mW_ok (k := 19) h (by omega)
theorem mR_20 {σ : Sg} {i : Nat} (h : i < 2400) : mR σ 20 (nq i) = some (σ.2.1 20 i) := mR_ok (k := 20) h (by omega)
theorem mW_20 {σ : Sg} {i : Nat} {v : Int32} (h : i < 2400) : mW σ 20 (nq i) v = some (wr σ 20 i v) := mW_ok (k := 20) h (by omega)
theorem mR_21 {σ : Sg} {i : Nat} (h : i < 20) : mR σ 21 (nq i) = some (σ.2.1 21 i) := mR_ok (k := 21) h (by omega)
theorem mW_21 {σ : Sg} {i : Nat} {v : Int32} (h : i < 20) : mW σ 21 (nq i) v = some (wr σ 21 i v) := mW_ok (k := 21) h (by omega)
theorem mR_25 {σ : Sg} {i : Nat} (h : i < 120) : mR σ 25 (nq i) = some (σ.2.1 25 i) := mR_ok (k := 25) h (by omega)
theorem mW_25 {σ : Sg} {i : Nat} {v : Int32} (h : i < 120) : mW σ 25 (nq i) v = some (wr σ 25 i v) := mW_ok (k := 25) h (by omega)
theorem mR_27 {σ : Sg} {i : Nat} (h : i < 120) : mR σ 27 (nq i) = some (σ.2.1 27 i) := mR_ok (k := 27) h (by omega)
theorem mW_27 {σ : Sg} {i : Nat} {v : Int32} (h : i < 120) : mW σ 27 (nq i) v = some (wr σ 27 i v) := mW_ok (k := 27) h (by omega)
theorem mR_31 {σ : Sg} {i : Nat} (h : i < 12) : mR σ 31 (nq i) = some (σ.2.1 31 i) := mR_ok (k := 31) h (by omega)
theorem mW_31 {σ : Sg} {i : Nat} {v : Int32} (h : i < 12) : mW σ 31 (nq i) v = some (wr σ 31 i v) := mW_ok (k := 31) h (by omega)
theorem mR_32 {σ : Sg} {i : Nat} (h : i < 12) : mR σ 32 (nq i) = some (σ.2.1 32 i) := mR_ok (k := 32) h (by omega)
theorem mW_32 {σ : Sg} {i : Nat} {v : Int32} (h : i < 12) : mW σ 32 (nq i) v = some (wr σ 32 i v) := mW_ok (k := 32) h (by omega)
theorem mR_33 {σ : Sg} {i : Nat} (h : i < 1440) : mR σ 33 (nq i) = some (σ.2.1 33 i) := mR_ok (k := 33) h (by omega)
theorem mW_33 {σ : Sg} {i : Nat} {v : Int32} (h : i < 1440) : mW σ 33 (nq i) v = some (wr σ 33 i v) := mW_ok (k := 33) h (by omega)
theorem mR_34 {σ : Sg} {i : Nat} (h : i < 1440) : mR σ 34 (nq i) = some (σ.2.1 34 i) := mR_ok (k := 34) h (by omega)
theorem mW_34 {σ : Sg} {i : Nat} {v : Int32} (h : i < 1440) : mW σ 34 (nq i) v = some (wr σ 34 i v) := mW_ok (k := 34) h (by omega)
theorem mRL_8 {σ : Sg} {i : Nat} (h : i < 600) : mRL σ 8 (nq i) = some (σ.2.2 8 i) := mRL_ok (k := 8) h (by omega)
theorem mWL_8 {σ : Sg} {i : Nat} {v : Int64} (h : i < 600) : mWL σ 8 (nq i) v = some (wrL σ 8 i v) := mWL_ok (k := 8) h (by omega)
theorem wr_1 (σ : Sg) (k i : Nat) (v : Int32) : (wr σ k i v).1 = σ.1 := rfl
theorem wr_3 (σ : Sg) (k i : Nat) (v : Int32) : (wr σ k i v).2.2 = σ.2.2 := rfl
theorem wr_ne (σ : Sg) {k k' : Nat} (i : Nat) (v : Int32) (h : k' ≠ k) : (wr σ k i v).2.1 k' = σ.2.1 k' := by simp [wr, va_up, h]
theorem wr_at (σ : Sg) (k i : Nat) (v : Int32) (j : Nat) : (wr σ k i v).2.1 k j = if j = i then v else σ.2.1 k j := by simp [wr, va_up]
theorem wr_i (σ : Sg) (k i : Nat) (v : Int32) : (wr σ k i v).2.1 k i = v := by simp [wr, va_up]
theorem wr_o (σ : Sg) {k i j : Nat} (v : Int32) (h : j ≠ i) : (wr σ k i v).2.1 k j = σ.2.1 k j := by simp [wr, va_up, h]
theorem wrL_1 (σ : Sg) (k i : Nat) (v : Int64) : (wrL σ k i v).1 = σ.1 := rfl
theorem wrL_2 (σ : Sg) (k i : Nat) (v : Int64) : (wrL σ k i v).2.1 = σ.2.1 := rfl
theorem wrL_at (σ : Sg) (k i : Nat) (v : Int64) (j : Nat) : (wrL σ k i v).2.2 k j = if j = i then v else σ.2.2 k j := by simp [wrL, va_up]
theorem mP_2' (σ : Sg) (k : Nat) (v : Int32) : (mP σ k v).2 = σ.2 := rfl
theorem mP_i (σ : Sg) (k : Nat) (v : Int32) : (mP σ k v).1 k = v := by simp [mP, va_up]
theorem mP_o (σ : Sg) {k k' : Nat} (v : Int32) (h : k' ≠ k) : (mP σ k v).1 k' = σ.1 k' := by simp [mP, va_up, h]
/-- all is the same but some numbers and arrays -/
def Sx (σ σ' : Sg) (I J : List Nat) : Prop := (∀ k, k ∉ I → σ'.1 k = σ.1 k) ∧ (∀ k, k ∉ J → σ'.2.1 k = σ.2.1 k) ∧ (8 ∉ J → σ'.2.2 = σ.2.2)
theorem Sx.refl (σ : Sg) (I J : List Nat) : Sx σ σ I J := ⟨fun _ _ => rfl, fun _ _ => rfl, fun _ => rfl⟩
theorem Sx.trans {σ σ1 σ2 : Sg} {I J : List Nat} (h : Sx σ σ1 I J) (h1 : Sx σ1 σ2 I J) : Sx σ σ2 I J :=
  ⟨fun k hk => (h1.1 k hk).trans (h.1 k hk), fun k hk => (h1.2.1 k hk).trans (h.2.1 k hk), fun hk => (h1.2.2 hk).trans (h.2.2 hk)⟩
theorem Sx.mono {σ σ1 : Sg} {I J I' J' : List Nat} (h : Sx σ σ1 I J) (hI : ∀ k ∈ I, k ∈ I') (hJ : ∀ k ∈ J, k ∈ J') : Sx σ σ1 I' J' :=
  ⟨fun k hk => h.1 k fun q => hk (hI k q), fun k hk => h.2.1 k fun q => hk (hJ k q), fun hk => h.2.2 fun q => hk (hJ 8 q)⟩
theorem Sx.wr {σ σ1 : Sg} {I J : List Nat} {k i : Nat} {v : Int32} (h : Sx σ σ1 I J) (hk : k ∈ J) : Sx σ (wr σ1 k i v) I J :=
  ⟨h.1, fun k' hk' => (wr_ne σ1 (k := k) (k' := k') i v (fun q => hk' (by rw [q]; exact hk))).trans (h.2.1 k' hk'), h.2.2⟩
theorem Sx.wrL {σ σ1 : Sg} {I J : List Nat} {k i : Nat} {v : Int64} (h : Sx σ σ1 I J) (hk : 8 ∈ J) : Sx σ (wrL σ1 k i v) I J :=
  ⟨h.1, h.2.1, fun q => absurd hk q⟩
theorem Sx.mP {σ σ1 : Sg} {I J : List Nat} {k : Nat} {v : Int32} (h : Sx σ σ1 I J) (hk : k ∈ I) : Sx σ (mP σ1 k v) I J :=
  ⟨fun k' hk' => (mP_o σ1 (k := k) (k' := k') v (fun q => hk' (by rw [q]; exact hk))).trans (h.1 k' hk'), h.2.1, h.2.2⟩
/-! ### what the data hold -/
def MFl (σ : Sg) (fs : List (List Nat)) : Prop := σ.1 0 = nq fs.length ∧ ∀ i, i < 6 → σ.2.1 1 i = nq (fs.getD i []).length ∧ ∀ j, j < (fs.getD i []).length → σ.2.1 2 (120 * i + j) = nq (gd (fs.getD i []) j)
def MSg (σ : Sg) (p : Nat) (s : Nat × Nat × List Nat) : Prop := σ.2.1 3 p = nq s.1 ∧ σ.2.1 4 p = nq s.2.1 ∧ σ.2.1 5 p = nq s.2.2.length ∧ σ.2.1 6 p = nq (nb s.2.2.length s.1) ∧ ∀ k, k < nb s.2.2.length s.1 → σ.2.1 7 (120 * p + k) = nq (sWk s k) ∧ σ.2.2 8 (120 * p + k) = sSt s k
def MSs (σ : Sg) (S : Nat → Option (Nat × Nat × List Nat)) : Prop := ∀ p, p < 4 → (S p = none → σ.2.1 3 p = nq 0 ∧ σ.2.1 6 p = nq 0) ∧ ∀ s, S p = some s → MSg σ p s
def MDl (σ : Sg) (p : Nat) (D : Dl) : Prop := σ.2.1 9 p = nq 1 ∧ σ.2.1 10 p = nq D.2.1.length ∧ σ.2.1 11 p = nq D.1 ∧ (∀ k, k < D.2.1.length → σ.2.1 12 (120 * p + k) = bq (D.2.1.getD k i0).1 ∧ σ.2.1 13 (120 * p + k) = nq (D.2.1.getD k i0).2.1 ∧ σ.2.1 14 (120 * p + k) = nq (D.2.1.getD k i0).2.2) ∧ ∀ j, j < D.2.2.length → σ.2.1 15 (120 * p + j) = nq (gd D.2.2 j)
def MDs (σ : Sg) (S : Nat → Option Dl) : Prop := ∀ p, p < 4 → (S p = none → σ.2.1 9 p = nq 0 ∧ σ.2.1 10 p = nq 0 ∧ σ.2.1 11 p = nq 0) ∧ ∀ D, S p = some D → MDl σ p D
def MWh (σ : Sg) (v : Nat) (bs : List Nat) : Prop := σ.2.1 17 v = nq 1 ∧ σ.2.1 19 v = nq bs.length ∧ ∀ j, j < bs.length → σ.2.1 20 (120 * v + j) = nq (gd bs j)
def MVr (σ : Sg) (vs : List Vr) : Prop := σ.1 16 = nq vs.length ∧ ∀ v, v < 20 → (∀ u, vs[v]? = some (.inl u) → σ.2.1 17 v = nq 0) ∧ (∀ bs, vs[v]? = some (.inr (.inl bs)) → MWh σ v bs) ∧ ∀ j D, vs[v]? = some (.inr (.inr (j, D))) → σ.2.1 17 v = nq 2 ∧ σ.2.1 18 v = nq j ∧ MDl σ (4 + v) D
def MPa (σ : Sg) (p : Nat) (l : List (List Nat)) : Prop := σ.2.1 31 p = nq 1 ∧ σ.2.1 32 p = nq l.length ∧ (∀ k, k < l.length → σ.2.1 33 (120 * p + k) = nq (l.getD k []).length) ∧ ∀ j, j < l.flatten.length → σ.2.1 34 (120 * p + j) = nq (gd l.flatten j)
def MPp (σ : Sg) (ps : Nat → Option (List (List Nat))) : Prop := ∀ p, p < 12 → (ps p = none → σ.2.1 31 p = nq 0) ∧ ∀ l, ps p = some l → MPa σ p l
def MCt (σ : Sg) (c : Nat × Nat × Nat) : Prop := σ.1 28 = nq c.1 ∧ σ.1 29 = nq c.2.1 ∧ σ.1 30 = nq c.2.2
def MRep (A : AA) (σ : Sg) : Prop := MFl σ A.1 ∧ MSs σ (zS A) ∧ MDs σ (zD A) ∧ MVr σ (zV A) ∧ MPp σ (zP A) ∧ MCt σ (zC A)
theorem MFl.same {σ σ' : Sg} {fs : List (List Nat)} {I J : List Nat} (h : MFl σ fs) (k : Sx σ σ' I J) (hI : 0 ∉ I) (h1 : 1 ∉ J) (h2 : 2 ∉ J) : MFl σ' fs := by
  unfold MFl
  rw [k.1 0 hI, k.2.1 1 h1, k.2.1 2 h2]
  exact h
theorem MSg.same {σ σ' : Sg} {p : Nat} {s : Nat × Nat × List Nat} {I J : List Nat} (h : MSg σ p s) (k : Sx σ σ' I J) (h1 : 3 ∉ J) (h2 : 4 ∉ J) (h3 : 5 ∉ J) (h4 : 6 ∉ J) (h5 : 7 ∉ J) (h6 : 8 ∉ J) : MSg σ' p s := by
  unfold MSg
  rw [k.2.1 3 h1, k.2.1 4 h2, k.2.1 5 h3, k.2.1 6 h4, k.2.1 7 h5, k.2.2 h6]
  exact h
theorem MSs.same {σ σ' : Sg} {S : Nat → Option (Nat × Nat × List Nat)} {I J : List Nat} (h : MSs σ S) (k : Sx σ σ' I J) (h1 : 3 ∉ J) (h2 : 4 ∉ J) (h3 : 5 ∉ J) (h4 : 6 ∉ J) (h5 : 7 ∉ J) (h6 : 8 ∉ J) : MSs σ' S := by
  intro p hp
  obtain ⟨q1, q2⟩ := h p hp
  refine ⟨fun e => ?_, fun s e => (q2 s e).same k h1 h2 h3 h4 h5 h6⟩
  rw [k.2.1 3 h1, k.2.1 6 h4]
  exact q1 e
theorem MDl.same {σ σ' : Sg} {p : Nat} {D : Dl} {I J : List Nat} (h : MDl σ p D) (k : Sx σ σ' I J) (h1 : 9 ∉ J) (h2 : 10 ∉ J) (h3 : 11 ∉ J) (h4 : 12 ∉ J) (h5 : 13 ∉ J) (h6 : 14 ∉ J) (h7 : 15 ∉ J) : MDl σ' p D := by
  unfold MDl
  rw [k.2.1 9 h1, k.2.1 10 h2, k.2.1 11 h3, k.2.1 12 h4, k.2.1 13 h5, k.2.1 14 h6, k.2.1 15 h7]
  exact h
theorem MDs.same {σ σ' : Sg} {S : Nat → Option Dl} {I J : List Nat} (h : MDs σ S) (k : Sx σ σ' I J) (h1 : 9 ∉ J) (h2 : 10 ∉ J) (h3 : 11 ∉ J) (h4 : 12 ∉ J) (h5 : 13 ∉ J) (h6 : 14 ∉ J) (h7 : 15 ∉ J) : MDs σ' S := by
  intro p hp
  obtain ⟨q1, q2⟩ := h p hp
  refine ⟨fun e => ?_, fun s e => (q2 s e).same k h1 h2 h3 h4 h5 h6 h7⟩
  rw [k.2.1 9 h1, k.2.1 10 h2, k.2.1 11 h3]
  exact q1 e
theorem MWh.same {σ σ' : Sg} {v : Nat} {bs : List Nat} {I J : List Nat} (h : MWh σ v bs) (k : Sx σ σ' I J) (h1 : 17 ∉ J) (h2 : 19 ∉ J) (h3 : 20 ∉ J) : MWh σ' v bs := by
  unfold MWh
  rw [k.2.1 17 h1, k.2.1 19 h2, k.2.1 20 h3]
  exact h
theorem MVr.same {σ σ' : Sg} {vs : List Vr} {I J : List Nat} (h : MVr σ vs) (k : Sx σ σ' I J) (hI : 16 ∉ I) (h1 : 17 ∉ J) (h2 : 18 ∉ J) (h3 : 19 ∉ J) (h4 : 20 ∉ J) (g1 : 9 ∉ J) (g2 : 10 ∉ J) (g3 : 11 ∉ J) (g4 : 12 ∉ J) (g5 : 13 ∉ J) (g6 : 14 ∉ J) (g7 : 15 ∉ J) : MVr σ' vs := by
  refine ⟨by rw [k.1 16 hI]; exact h.1, fun v hv => ?_⟩
  obtain ⟨q1, q2, q3⟩ := h.2 v hv
  refine ⟨fun u e => ?_, fun bs e => (q2 bs e).same k h1 h3 h4, fun j D e => ?_⟩
  · rw [k.2.1 17 h1]
    exact q1 u e
  · obtain ⟨r1, r2, r3⟩ := q3 j D e
    rw [k.2.1 17 h1, k.2.1 18 h2]
    exact ⟨r1, r2, r3.same k g1 g2 g3 g4 g5 g6 g7⟩
theorem MPa.same {σ σ' : Sg} {p : Nat} {l : List (List Nat)} {I J : List Nat} (h : MPa σ p l) (k : Sx σ σ' I J) (h1 : 31 ∉ J) (h2 : 32 ∉ J) (h3 : 33 ∉ J) (h4 : 34 ∉ J) : MPa σ' p l := by
  unfold MPa
  rw [k.2.1 31 h1, k.2.1 32 h2, k.2.1 33 h3, k.2.1 34 h4]
  exact h
theorem MPp.same {σ σ' : Sg} {ps : Nat → Option (List (List Nat))} {I J : List Nat} (h : MPp σ ps) (k : Sx σ σ' I J) (h1 : 31 ∉ J) (h2 : 32 ∉ J) (h3 : 33 ∉ J) (h4 : 34 ∉ J) : MPp σ' ps := by
  intro p hp
  obtain ⟨q1, q2⟩ := h p hp
  refine ⟨fun e => ?_, fun l e => (q2 l e).same k h1 h2 h3 h4⟩
  rw [k.2.1 31 h1]
  exact q1 e
theorem MCt.same {σ σ' : Sg} {c : Nat × Nat × Nat} {I J : List Nat} (h : MCt σ c) (k : Sx σ σ' I J) (h1 : 28 ∉ I) (h2 : 29 ∉ I) (h3 : 30 ∉ I) : MCt σ' c := by
  unfold MCt
  rw [k.1 28 h1, k.1 29 h2, k.1 30 h3]
  exact h
/-- what no call's answer rests on -/
theorem MRep.aux {A : AA} {σ σ' : Sg} (h : MRep A σ) (k : Sx σ σ' [22, 23, 24, 26, 35] [21, 25, 27]) : MRep A σ' := by
  obtain ⟨h1, h2, h3, h4, h5, h6⟩ := h
  exact ⟨h1.same k (by decide) (by decide) (by decide), h2.same k (by decide) (by decide) (by decide) (by decide) (by decide) (by decide),
    h3.same k (by decide) (by decide) (by decide) (by decide) (by decide) (by decide) (by decide),
    h4.same k (by decide) (by decide) (by decide) (by decide) (by decide) (by decide) (by decide) (by decide) (by decide) (by decide) (by decide) (by decide),
    h5.same k (by decide) (by decide) (by decide) (by decide), h6.same k (by decide) (by decide) (by decide)⟩
theorem MRep.files {A : AA} {σ σ' : Sg} {fs : List (List Nat)} (h : MRep A σ) (k : Sx σ σ' [0, 22, 23, 24, 26, 35] [1, 2, 21, 25, 27]) (hf : MFl σ' fs) : MRep (fs, A.2) σ' := by
  obtain ⟨h1, h2, h3, h4, h5, h6⟩ := h
  exact ⟨hf, h2.same k (by decide) (by decide) (by decide) (by decide) (by decide) (by decide),
    h3.same k (by decide) (by decide) (by decide) (by decide) (by decide) (by decide) (by decide),
    h4.same k (by decide) (by decide) (by decide) (by decide) (by decide) (by decide) (by decide) (by decide) (by decide) (by decide) (by decide) (by decide),
    h5.same k (by decide) (by decide) (by decide) (by decide), h6.same k (by decide) (by decide) (by decide)⟩
theorem MRep.thr {A : AA} {σ : Sg} (h : MRep A σ) (v : Int32) : MRep A (mP σ 35 v) := h.aux ((Sx.refl σ _ _).mP (by decide))
/-- the answer of a call of the reference: the state behind it, what it throws, its value -/
def MO {T : Type} (L : T → Int64) (o : An) (r : T × Sg) : Prop := MRep o.2.2 r.2 ∧ r.2.1 35 = nq o.1 ∧ (o.1 = 0 → L r.1 = o.2.1)
def LI (v : Int32) : Int64 := v.toInt64
def LB (v : Int32) : Int64 := if v = 0 then 0 else 1
def LJ (v : Int64) : Int64 := v
def LU (_ : Unit) : Int64 := (nq 0).toInt64
/-! ### the checks -/
theorem m_may1 (σ : Sg) : f_X3_may (nq 1) σ = some (nq 1, mP σ 35 (nq 0)) := by
  simp only [f_X3_may, s_X3_may_10, nq_lit, nq10, if_false, pb1, zb1]
theorem m_may0 (σ : Sg) : f_X3_may (nq 0) σ = some (nq 0, mP σ 35 (nq 1)) := by
  simp only [f_X3_may, s_X3_may_10, nq_lit, if_true, pb1, zb0]
theorem m_both1 (σ : Sg) : f_X3_mayBoth (nq 1) (nq 1) σ = some (nq 1, mP σ 35 (nq 0)) := by
  simp only [f_X3_mayBoth, s_X3_mayBoth_18, s_X3_mayBoth_33, nq_lit, nq10, if_false, if_true, pb1, mP_i, zb1]
theorem nq20 : (nq 2 = nq 0) = False := by
  apply eq_false
  decide
theorem nq30 : (nq 3 = nq 0) = False := by
  apply eq_false
  decide
theorem m_both2 (σ : Sg) : f_X3_mayBoth (nq 1) (nq 0) σ = some (nq 0, mP σ 35 (nq 2)) := by
  simp only [f_X3_mayBoth, s_X3_mayBoth_18, s_X3_mayBoth_33, nq_lit, nq10, nq20, if_false, if_true, pb1, mP_i, zb0]
theorem m_both0 (x : Int32) (σ : Sg) : f_X3_mayBoth (nq 0) x σ = some (nq 0, mP σ 35 (nq 1)) := by
  simp only [f_X3_mayBoth, s_X3_mayBoth_18, s_X3_mayBoth_33, nq_lit, nq10, if_false, if_true, pb1, mP_i, zb0]
theorem m_all1 (σ : Sg) : f_X3_mayAll (nq 1) (nq 1) (nq 1) σ = some (nq 1, mP σ 35 (nq 0)) := by
  simp only [f_X3_mayAll, s_X3_mayAll_26, s_X3_mayAll_41, nq_lit, nq10, if_false, if_true, pb1, mP_i, zb1]
theorem m_all3 (σ : Sg) : f_X3_mayAll (nq 1) (nq 1) (nq 0) σ = some (nq 0, mP σ 35 (nq 3)) := by
  simp only [f_X3_mayAll, s_X3_mayAll_26, s_X3_mayAll_41, nq_lit, nq10, nq30, if_false, if_true, pb1, mP_i, zb0]
theorem m_all2 (x : Int32) (σ : Sg) : f_X3_mayAll (nq 1) (nq 0) x σ = some (nq 0, mP σ 35 (nq 2)) := by
  simp only [f_X3_mayAll, s_X3_mayAll_26, s_X3_mayAll_41, nq_lit, nq10, nq20, if_false, if_true, pb1, mP_i, zb0]
theorem m_all0 (x z : Int32) (σ : Sg) : f_X3_mayAll (nq 0) x z σ = some (nq 0, mP σ 35 (nq 1)) := by
  simp only [f_X3_mayAll, s_X3_mayAll_26, s_X3_mayAll_41, nq_lit, nq10, if_false, if_true, pb1, mP_i, zb0]
theorem m_thrown (σ : Sg) : f_X3_thrown σ = some (σ.1 35, σ) := rfl
theorem m_isFile_t {σ : Sg} {n : Nat} (hs : σ.1 0 = nq n) (hn : n < 2147483648) {x : Int32} (h : okI x n) : f_X3_isFile x σ = some (nq 1, σ) := by
  obtain ⟨h1, h2⟩ := (okI_iff hn).mp h
  simp only [f_X3_isFile, s_X3_isFile_17, nq_lit, hs, if_neg h1, if_neg h2, pb1, zb1]
theorem m_isFile_f {σ : Sg} {n : Nat} (hs : σ.1 0 = nq n) (hn : n < 2147483648) {x : Int32} (h : ¬ okI x n) : f_X3_isFile x σ = some (nq 0, σ) := by
  by_cases h1 : x < nq 0
  · simp only [f_X3_isFile, s_X3_isFile_17, s_X3_isFile_16, nq_lit, hs, if_pos h1, pb1, zb0]
  · by_cases h2 : nq n ≤ x
    · simp only [f_X3_isFile, s_X3_isFile_17, s_X3_isFile_16, nq_lit, hs, if_neg h1, if_pos h2, pb1, zb0]
    · exact absurd ((okI_iff hn).mpr ⟨h1, h2⟩) h
theorem m_isVersion_t {σ : Sg} {n : Nat} (hs : σ.1 16 = nq n) (hn : n < 2147483648) {x : Int32} (h : okI x n) : f_X3_isVersion x σ = some (nq 1, σ) := by
  obtain ⟨h1, h2⟩ := (okI_iff hn).mp h
  simp only [f_X3_isVersion, s_X3_isVersion_17, nq_lit, hs, if_neg h1, if_neg h2, pb1, zb1]
theorem m_isVersion_f {σ : Sg} {n : Nat} (hs : σ.1 16 = nq n) (hn : n < 2147483648) {x : Int32} (h : ¬ okI x n) : f_X3_isVersion x σ = some (nq 0, σ) := by
  by_cases h1 : x < nq 0
  · simp only [f_X3_isVersion, s_X3_isVersion_17, s_X3_isVersion_16, nq_lit, hs, if_pos h1, pb1, zb0]
  · by_cases h2 : nq n ≤ x
    · simp only [f_X3_isVersion, s_X3_isVersion_17, s_X3_isVersion_16, nq_lit, hs, if_neg h1, if_pos h2, pb1, zb0]
    · exact absurd ((okI_iff hn).mpr ⟨h1, h2⟩) h
theorem m_isPlace_t {σ : Sg} {x : Int32} (h : okI x 4) : f_X3_isPlace x σ = some (nq 1, σ) := by
  obtain ⟨h1, h2⟩ := (okI_iff (by omega)).mp h
  simp only [f_X3_isPlace, s_X3_isPlace_14, nq_lit, if_neg h1, if_neg h2, pb1, zb1]
theorem m_isPlace_f {σ : Sg} {x : Int32} (h : ¬ okI x 4) : f_X3_isPlace x σ = some (nq 0, σ) := by
  by_cases h1 : x < nq 0
  · simp only [f_X3_isPlace, s_X3_isPlace_14, s_X3_isPlace_13, nq_lit, if_pos h1, pb1, zb0]
  · by_cases h2 : nq 4 ≤ x
    · simp only [f_X3_isPlace, s_X3_isPlace_14, s_X3_isPlace_13, nq_lit, if_neg h1, if_pos h2, pb1, zb0]
    · exact absurd ((okI_iff (by omega)).mpr ⟨h1, h2⟩) h
theorem m_isByte_t {σ : Sg} {x : Int32} (h : okI x 256) : f_X3_isByte x σ = some (nq 1, σ) := by
  obtain ⟨h1, h2⟩ := (okI_iff (by omega)).mp h
  simp only [f_X3_isByte, s_X3_isByte_16, nq_lit, if_neg h1, if_neg h2, pb1, zb1]
theorem m_isByte_f {σ : Sg} {x : Int32} (h : ¬ okI x 256) : f_X3_isByte x σ = some (nq 0, σ) := by
  by_cases h1 : x < nq 0
  · simp only [f_X3_isByte, s_X3_isByte_16, s_X3_isByte_15, nq_lit, if_pos h1, pb1, zb0]
  · by_cases h2 : nq 256 ≤ x
    · simp only [f_X3_isByte, s_X3_isByte_16, s_X3_isByte_15, nq_lit, if_neg h1, if_pos h2, pb1, zb0]
    · exact absurd ((okI_iff (by omega)).mpr ⟨h1, h2⟩) h
