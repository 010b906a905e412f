/-! PURE: the printed functions (moved out of the walk by tools/split.py) -/
set_option maxRecDepth 100000
def f_J0_init (a0 : Option Nat) (S0 : St) : Option (Unit × St) :=
  bd1 a0 fun q1 =>
  some ((), S0)
def f_J1_init (a0 : Option Nat) (S0 : St) : Option (Unit × St) :=
  bd1 a0 fun q1 =>
  bd2 (f_J0_init a0 S0) fun v3 S4 =>
  bd1 (pV S4 a0 16 0 (.int 0)) fun S6 =>
  some ((), S6)
def s_J14_checkIndex_9  (a2 : Option Nat) (S0 : St) : Option (Int32 × St) :=
  none
def f_J14_checkIndex (x0 : Int32) (x1 : Int32) (a2 : Option Nat) (S0 : St) : Option (Int32 × St) :=
  if x0 < 0 then
    s_J14_checkIndex_9 a2 S0
  else
    if x0 < x1 then
      some (x0, S0)
    else
      s_J14_checkIndex_9 a2 S0
def f_J20_checkIndex (x0 : Int32) (x1 : Int32) (S0 : St) : Option (Int32 × St) :=
  bd2 (f_J14_checkIndex x0 x1 none S0) fun v1 S2 =>
  some (v1, S2)
def f_J2_size (a0 : Option Nat) (S0 : St) : Option (Int32 × St) :=
  bd1 (oI S0 a0 16 2) fun v2 =>
  some (v2, S0)
def s_J2_isEmpty_12  (t0 : Int32) (S0 : St) : Option (Int32 × St) :=
  bd1 (zb t0) fun _ =>
  some (t0, S0)
def f_J2_isEmpty (a0 : Option Nat) (S0 : St) : Option (Int32 × St) :=
  bd1 (oI S0 a0 16 2) fun v2 =>
  if v2 = 0 then
    s_J2_isEmpty_12 1 S0
  else
    s_J2_isEmpty_12 0 S0
def f_J2_elementData (a0 : Option Nat) (x1 : Int32) (S0 : St) : Option (Option Nat × St) :=
  bd1 (oA S0 a0 16 1) fun v2 =>
  bd1 (aL S0 v2 3 x1) fun v4 =>
  some (v4, S0)
def f_J2_get (a0 : Option Nat) (x1 : Int32) (S0 : St) : Option (Option Nat × St) :=
  bd1 (oI S0 a0 16 2) fun v2 =>
  bd2 (f_J20_checkIndex x1 v2 S0) fun v3 S4 =>
  bd1 (isO S4 a0 16) fun _ =>
  bd2 (f_J2_elementData a0 x1 S4) fun v7 S8 =>
  some (v7, S8)
def f_J2_init (a0 : Option Nat) (x1 : Int32) (S0 : St) : Option (Unit × St) :=
  bd1 a0 fun q1 =>
  bd2 (f_J1_init a0 S0) fun v3 S4 =>
  if x1 ≤ 0 then
    none
  else
    bd2 (nA S4 3 x1 (.inr (.inr (.inr (.inr fun _ => none))))) fun v6 S7 =>
    bd1 (pV S7 a0 16 1 (va_rf v6)) fun S9 =>
    some ((), S9)
def f_J2_init_2 (a0 : Option Nat) (S0 : St) : Option (Unit × St) :=
  bd1 a0 fun q1 =>
  bd2 (f_J1_init a0 S0) fun v3 S4 =>
  bd1 (pV S4 a0 16 1 (va_rf (S4.2.2.2.2.2 0))) fun S6 =>
  some ((), S6)
def s_J2_fastRemove_34  (a0 : Option Nat) (a1 : Option Nat) (x3 : Int32) (S0 : St) : Option (Unit × St) :=
  bd1 (pV S0 a0 16 2 (.int x3)) fun S7 =>
  bd1 (aS S7 a1 3 x3 none) fun S10 =>
  some ((), S10)
def f_J2_fastRemove (a0 : Option Nat) (a1 : Option Nat) (x2 : Int32) (S0 : St) : Option (Unit × St) :=
  bd1 (oI S0 a0 16 0) fun v2 =>
  bd1 (pV S0 a0 16 0 (.int (v2 + 1))) fun S3 =>
  bd1 (oI S3 a0 16 2) fun v6 =>
  if (v6 - 1) ≤ x2 then
    s_J2_fastRemove_34 a0 a1 (v6 - 1) S3
  else
    bd1 (cpA S3 a1 (x2 + 1) a1 x2 ((v6 - 1) - x2)) fun S11 =>
    s_J2_fastRemove_34 a0 a1 (v6 - 1) S11
def s_J2_rangeCheckForAdd_12   (S0 : St) : Option (Unit × St) :=
  none
def f_J2_rangeCheckForAdd (a0 : Option Nat) (x1 : Int32) (S0 : St) : Option (Unit × St) :=
  bd1 (oI S0 a0 16 2) fun v2 =>
  if v2 < x1 then
    s_J2_rangeCheckForAdd_12  S0
  else
    if 0 ≤ x1 then
      some ((), S0)
    else
      s_J2_rangeCheckForAdd_12  S0
def s_J12_max_10  (t0 : Int32) (S0 : St) : Option (Int32 × St) :=
  some (t0, S0)
def f_J12_max (x0 : Int32) (x1 : Int32) (S0 : St) : Option (Int32 × St) :=
  if x0 < x1 then
    s_J12_max_10 x1 S0
  else
    s_J12_max_10 x0 S0
def s_J12_min_10  (t0 : Int32) (S0 : St) : Option (Int32 × St) :=
  some (t0, S0)
def f_J12_min (x0 : Int32) (x1 : Int32) (S0 : St) : Option (Int32 × St) :=
  if x1 < x0 then
    s_J12_min_10 x1 S0
  else
    s_J12_min_10 x0 S0
def s_J12_floorMod_18  (x2 : Int32) (S0 : St) : Option (Int32 × St) :=
  some (x2, S0)
def f_J12_floorMod (x0 : Int32) (x1 : Int32) (S0 : St) : Option (Int32 × St) :=
  bd1 (nz x1) fun _ =>
  if 0 ≤ (x0 ^^^ x1) then
    s_J12_floorMod_18 (x0 - x0 / x1 * x1) S0
  else
    if (x0 - x0 / x1 * x1) = 0 then
      s_J12_floorMod_18 (x0 - x0 / x1 * x1) S0
    else
      some ((x0 - x0 / x1 * x1) + x1, S0)
def s_J11_newLength_21  (x0 : Int32) (S0 : St) : Option (Int32 × St) :=
  none
def f_J11_newLength (x0 : Int32) (x1 : Int32) (x2 : Int32) (S0 : St) : Option (Int32 × St) :=
  bd2 (f_J12_max x1 x2 S0) fun v1 S2 =>
  if (x0 + v1) ≤ 0 then
    s_J11_newLength_21 x0 S2
  else
    if 2147483639 < (x0 + v1) then
      s_J11_newLength_21 x0 S2
    else
      some (x0 + v1, S2)
def f_J13_copyOf_3 (a0 : Option Nat) (x1 : Int32) (a2 : Option Nat) (S0 : St) : Option (Option Nat × St) :=
  if a2 = (S0.2.2.2.2.2 4) then
    bd2 (nA S0 3 x1 (.inr (.inr (.inr (.inr fun _ => none))))) fun v1 S2 =>
    bd1 (lenA S2 a0 3) fun v5 =>
    bd2 (f_J12_min v5 x1 S2) fun v6 S7 =>
    bd1 (cpA S7 a0 0 v1 0 v6) fun S9 =>
    some (v1, S9)
  else
    none
def s_J21_equals_10  (t0 : Int32) (S0 : St) : Option (Int32 × St) :=
  bd1 (zb t0) fun _ =>
  some (t0, S0)
def f_J21_equals (a0 : Option Nat) (a1 : Option Nat) (S0 : St) : Option (Int32 × St) :=
  if a0 = a1 then
    s_J21_equals_10 1 S0
  else
    s_J21_equals_10 0 S0
def s_J2_remove_39 (rc39 : Option Nat × Option Nat × Option Nat × Int32 × Int32 → St → Option (Int32 × St)) (a0 : Option Nat) (a1 : Option Nat) (a2 : Option Nat) (x3 : Int32) (x4 : Int32) (S0 : St) : Option (Int32 × St) :=
  if x3 ≤ x4 then
    bd1 (zb 0) fun _ =>
    some (0, S0)
  else
    bd1 (aL S0 a2 3 x4) fun v7 =>
    bd1 (isO S0 a1 14) fun _ =>
    bd2 (f_J21_equals a1 v7 S0) fun v9 S10 =>
    if v9 = 0 then
      rc39 (a0, a1, a2, x3, (x4 + 1)) S10
    else
      bd1 (isO S10 a0 16) fun _ =>
      bd2 (f_J2_fastRemove a0 a2 x4 S10) fun v13 S14 =>
      bd1 (zb 1) fun _ =>
      some (1, S14)
def l_J2_remove_39   : Nat → Option Nat × Option Nat × Option Nat × Int32 × Int32 → St → Option (Int32 × St) :=
  lp fun rc39 v S0 => s_J2_remove_39   rc39 v.1 v.2.1 v.2.2.1 v.2.2.2.1 v.2.2.2.2 S0
def f_J2_remove (a0 : Option Nat) (a1 : Option Nat) (S0 : St) : Option (Int32 × St) :=
  bd1 (oA S0 a0 16 1) fun v2 =>
  bd1 (oI S0 a0 16 2) fun v4 =>
  if a1 = none then
    none
  else
    l_J2_remove_39 FU (a0, a1, v2, v4, 0) S0
def f_J13_copyOf_2 (a0 : Option Nat) (x1 : Int32) (S0 : St) : Option (Option Nat × St) :=
  bd1 (lenA S0 a0 3) fun _ =>
  bd2 (f_J13_copyOf_3 a0 x1 (S0.2.2.2.2.2 4) S0) fun v2 S3 =>
  some (v2, S3)
def s_J2_grow_2_20  (a0 : Option Nat) (x1 : Int32) (x2 : Int32) (S0 : St) : Option (Option Nat × St) :=
  bd2 (f_J11_newLength x2 (x1 - x2) (x2 >>> (1 &&& 31)) S0) fun v5 S6 =>
  bd1 (oA S6 a0 16 1) fun v9 =>
  bd2 (f_J13_copyOf_2 v9 v5 S6) fun v10 S11 =>
  bd1 (pV S11 a0 16 1 (va_rf v10)) fun S13 =>
  some (v10, S13)
def f_J2_grow_2 (a0 : Option Nat) (x1 : Int32) (S0 : St) : Option (Option Nat × St) :=
  bd1 (oA S0 a0 16 1) fun v2 =>
  bd1 (lenA S0 v2 3) fun v4 =>
  if 0 < v4 then
    s_J2_grow_2_20 a0 x1 v4 S0
  else
    bd1 (oA S0 a0 16 1) fun v16 =>
    if v16 = (S0.2.2.2.2.2 0) then
      bd2 (f_J12_max 10 x1 S0) fun v17 S18 =>
      bd2 (nA S18 3 v17 (.inr (.inr (.inr (.inr fun _ => none))))) fun v20 S21 =>
      bd1 (pV S21 a0 16 1 (va_rf v20)) fun S23 =>
      some (v20, S23)
    else
      s_J2_grow_2_20 a0 x1 v4 S0
def f_J2_grow (a0 : Option Nat) (S0 : St) : Option (Option Nat × St) :=
  bd1 (oI S0 a0 16 2) fun v2 =>
  bd1 (isO S0 a0 16) fun _ =>
  bd2 (f_J2_grow_2 a0 (v2 + 1) S0) fun v4 S5 =>
  some (v4, S5)
def s_J2_add_2_11  (a0 : Option Nat) (a1 : Option Nat) (a2 : Option Nat) (x3 : Int32) (S0 : St) : Option (Unit × St) :=
  bd1 (aS S0 a2 3 x3 a1) fun S4 =>
  bd1 (pV S4 a0 16 2 (.int (x3 + 1))) fun S5 =>
  some ((), S5)
def f_J2_add_2 (a0 : Option Nat) (a1 : Option Nat) (a2 : Option Nat) (x3 : Int32) (S0 : St) : Option (Unit × St) :=
  bd1 (lenA S0 a2 3) fun v2 =>
  if x3 = v2 then
    bd1 (isO S0 a0 16) fun _ =>
    bd2 (f_J2_grow a0 S0) fun v8 S9 =>
    s_J2_add_2_11 a0 a1 v8 x3 S9
  else
    s_J2_add_2_11 a0 a1 a2 x3 S0
def s_J2_add_3_38  (a0 : Option Nat) (x1 : Int32) (a2 : Option Nat) (x3 : Int32) (a4 : Option Nat) (S0 : St) : Option (Unit × St) :=
  bd1 (cpA S0 a4 x1 a4 (x1 + 1) (x3 - x1)) fun S15 =>
  bd1 (aS S15 a4 3 x1 a2) fun S18 =>
  bd1 (pV S18 a0 16 2 (.int (x3 + 1))) fun S19 =>
  some ((), S19)
def f_J2_add_3 (a0 : Option Nat) (x1 : Int32) (a2 : Option Nat) (S0 : St) : Option (Unit × St) :=
  bd1 (isO S0 a0 16) fun _ =>
  bd2 (f_J2_rangeCheckForAdd a0 x1 S0) fun v2 S3 =>
  bd1 (oI S3 a0 16 0) fun v6 =>
  bd1 (pV S3 a0 16 0 (.int (v6 + 1))) fun S7 =>
  bd1 (oI S7 a0 16 2) fun v10 =>
  bd1 (oA S7 a0 16 1) fun v12 =>
  bd1 (lenA S7 v12 3) fun v14 =>
  if v10 = v14 then
    bd1 (isO S7 a0 16) fun _ =>
    bd2 (f_J2_grow a0 S7) fun v22 S23 =>
    s_J2_add_3_38 a0 x1 a2 v10 v22 S23
  else
    s_J2_add_3_38 a0 x1 a2 v10 v12 S7
def f_J2_add (a0 : Option Nat) (a1 : Option Nat) (S0 : St) : Option (Int32 × St) :=
  bd1 (oI S0 a0 16 0) fun v2 =>
  bd1 (pV S0 a0 16 0 (.int (v2 + 1))) fun S3 =>
  bd1 (oA S3 a0 16 1) fun v6 =>
  bd1 (oI S3 a0 16 2) fun v8 =>
  bd1 (isO S3 a0 16) fun _ =>
  bd2 (f_J2_add_2 a0 a1 v6 v8 S3) fun v10 S11 =>
  bd1 (zb 1) fun _ =>
  some (1, S11)
def f_X10_rebuilt (a0 : Option Nat) (x1 : Int32) (S0 : St) : Option (Option Nat × St) :=
  bd1 (oA S0 a0 9 0) fun v2 =>
  some (v2, S0)
def f_X10_size (a0 : Option Nat) (S0 : St) : Option (Int32 × St) :=
  bd1 (oA S0 a0 9 0) fun v2 =>
  bd1 (oI S0 v2 3 1) fun v4 =>
  some (v4, S0)
def s_X15_compare_62  (a0 : Option Nat) (x3 : Int32) (S0 : St) : Option (Int32 × St) :=
  bd1 (oA S0 a0 14 0) fun v2 =>
  bd1 (lenA S0 v2 0) fun v4 =>
  some (v4 - x3, S0)
def s_X15_compare_3 (rc3 : Option Nat × Option Nat × Int32 × Int32 × Int32 → St → Option (Int32 × St)) (a0 : Option Nat) (a1 : Option Nat) (x2 : Int32) (x3 : Int32) (x4 : Int32) (S0 : St) : Option (Int32 × St) :=
  if x3 ≤ x4 then
    s_X15_compare_62 a0 x3 S0
  else
    bd1 (oA S0 a0 14 0) fun v6 =>
    bd1 (lenA S0 v6 0) fun v8 =>
    if v8 ≤ x4 then
      s_X15_compare_62 a0 x3 S0
    else
      bd1 (oA S0 a0 14 0) fun v10 =>
      bd1 (iL S0 v10 0 x4) fun v12 =>
      bd1 (oA S0 a1 3 0) fun v14 =>
      bd1 (iL S0 v14 0 (x2 + x4)) fun v16 =>
      if v12 = v16 then
        rc3 (a0, a1, x2, x3, (x4 + 1)) S0
      else
        bd1 (oA S0 a0 14 0) fun v18 =>
        bd1 (iL S0 v18 0 x4) fun v20 =>
        bd1 (oA S0 a1 3 0) fun v22 =>
        bd1 (iL S0 v22 0 (x2 + x4)) fun v24 =>
        some (v20 - v24, S0)
def l_X15_compare_3   : Nat → Option Nat × Option Nat × Int32 × Int32 × Int32 → St → Option (Int32 × St) :=
  lp fun rc3 v S0 => s_X15_compare_3   rc3 v.1 v.2.1 v.2.2.1 v.2.2.2.1 v.2.2.2.2 S0
def f_X15_compare (a0 : Option Nat) (a1 : Option Nat) (x2 : Int32) (x3 : Int32) (S0 : St) : Option (Int32 × St) :=
  l_X15_compare_3 FU (a0, a1, x2, x3, 0) S0
def f_X15_init (a0 : Option Nat) (a1 : Option Nat) (S0 : St) : Option (Unit × St) :=
  bd1 a0 fun q1 =>
  bd1 (pV S0 a0 14 0 (va_rf a1)) fun S3 =>
  some ((), S3)
def s_X16_init_19 (rc19 : Option Nat × Option Nat × Int32 → St → Option (Unit × St)) (a0 : Option Nat) (a1 : Option Nat) (x2 : Int32) (S0 : St) : Option (Unit × St) :=
  bd1 (oA S0 a0 15 0) fun v13 =>
  bd1 (lenA S0 v13 9) fun v15 =>
  if v15 ≤ x2 then
    some ((), S0)
  else
    bd1 (oA S0 a0 15 0) fun v17 =>
    bd1 (isO S0 a1 16) fun _ =>
    bd2 (f_J2_get a1 x2 S0) fun v19 S20 =>
    bd1 (ckO S20 v19 14) fun _ =>
    bd1 (aS S20 v17 9 x2 v19) fun S24 =>
    rc19 (a0, a1, (x2 + 1)) S24
def l_X16_init_19   : Nat → Option Nat × Option Nat × Int32 → St → Option (Unit × St) :=
  lp fun rc19 v S0 => s_X16_init_19   rc19 v.1 v.2.1 v.2.2 S0
def f_X16_init (a0 : Option Nat) (a1 : Option Nat) (S0 : St) : Option (Unit × St) :=
  bd1 a0 fun q1 =>
  bd1 (isO S0 a1 16) fun _ =>
  bd2 (f_J2_size a1 S0) fun v4 S5 =>
  bd2 (nA S5 9 v4 (.inr (.inr (.inr (.inr fun _ => none))))) fun v7 S8 =>
  bd1 (pV S8 a0 15 0 (va_rf v7)) fun S10 =>
  l_X16_init_19 FU (a0, a1, 0) S10
def f_X2_init (a0 : Option Nat) (S0 : St) : Option (Unit × St) :=
  bd1 a0 fun q1 =>
  bd2 (nO S0 16 3 [.int 0, .null, .int 0]) fun v3 S4 =>
  bd1 v3 fun q6 =>
  bd2 (f_J2_init_2 v3 S4) fun v8 S9 =>
  bd1 (pV S9 a0 1 0 (va_rf v3)) fun S11 =>
  some ((), S11)
def s_X2_search_66 (rc14 : Option Nat × Option Nat × Int32 × Int32 × Int32 × Int32 → St → Option (Int32 × St)) (a0 : Option Nat) (a1 : Option Nat) (x2 : Int32) (x3 : Int32) (x4 : Int32) (x5 : Int32) (S0 : St) : Option (Int32 × St) :=
  rc14 (a0, a1, x2, x3, x4, x5) S0
def s_X2_search_14 (rc14 : Option Nat × Option Nat × Int32 × Int32 × Int32 × Int32 → St → Option (Int32 × St)) (a0 : Option Nat) (a1 : Option Nat) (x2 : Int32) (x3 : Int32) (x4 : Int32) (x5 : Int32) (S0 : St) : Option (Int32 × St) :=
  if x5 ≤ x4 then
    some (x4, S0)
  else
    bd1 (nz 2) fun _ =>
    bd1 (oA S0 a0 1 0) fun v9 =>
    bd1 (isO S0 v9 16) fun _ =>
    bd2 (f_J2_get v9 ((x4 + x5) / 2) S0) fun v11 S12 =>
    bd1 (ckO S12 v11 14) fun _ =>
    bd1 (isO S12 v11 14) fun _ =>
    bd2 (f_X15_compare v11 a1 x2 x3 S12) fun v16 S17 =>
    if 0 ≤ v16 then
      s_X2_search_66 rc14 a0 a1 x2 x3 x4 ((x4 + x5) / 2) S17
    else
      s_X2_search_66 rc14 a0 a1 x2 x3 (((x4 + x5) / 2) + 1) x5 S17
def l_X2_search_14   : Nat → Option Nat × Option Nat × Int32 × Int32 × Int32 × Int32 → St → Option (Int32 × St) :=
  lp fun rc14 v S0 => s_X2_search_14   rc14 v.1 v.2.1 v.2.2.1 v.2.2.2.1 v.2.2.2.2.1 v.2.2.2.2.2 S0
def f_X2_search (a0 : Option Nat) (a1 : Option Nat) (x2 : Int32) (x3 : Int32) (S0 : St) : Option (Int32 × St) :=
  bd1 (oA S0 a0 1 0) fun v2 =>
  bd1 (isO S0 v2 16) fun _ =>
  bd2 (f_J2_size v2 S0) fun v4 S5 =>
  l_X2_search_14 FU (a0, a1, x2, x3, 0, v4) S5
def s_X2_forget_55  (t0 : Int32) (S0 : St) : Option (Int32 × St) :=
  bd1 (zb t0) fun _ =>
  some (t0, S0)
def s_X2_forget_43  (a1 : Option Nat) (S0 : St) : Option (Int32 × St) :=
  bd1 (oI S0 a1 14 1) fun v8 =>
  if v8 = 0 then
    s_X2_forget_55 1 S0
  else
    s_X2_forget_55 0 S0
def f_X2_forget (a0 : Option Nat) (a1 : Option Nat) (S0 : St) : Option (Int32 × St) :=
  bd1 (oI S0 a1 14 1) fun v2 =>
  bd1 (pV S0 a1 14 1 (.int ((v2 - 1).toInt16.toInt32))) fun S3 =>
  bd1 (oI S3 a1 14 1) fun v6 =>
  if v6 = 0 then
    bd1 (oA S3 a0 1 0) fun v11 =>
    bd1 (isO S3 v11 16) fun _ =>
    bd2 (f_J2_remove v11 a1 S3) fun v13 S14 =>
    bd1 (oI S14 a0 1 1) fun v17 =>
    bd1 (oA S14 a1 14 0) fun v19 =>
    bd1 (lenA S14 v19 0) fun v21 =>
    bd1 (pV S14 a0 1 1 (.int (v17 - v21))) fun S22 =>
    s_X2_forget_43 a1 S22
  else
    s_X2_forget_43 a1 S3
def f_X4_init_2 (a0 : Option Nat) (x1 : Int32) (S0 : St) : Option (Unit × St) :=
  bd1 a0 fun q1 =>
  bd2 (nA S0 0 x1 (.inl fun _ => 0)) fun v3 S4 =>
  bd1 (pV S4 a0 3 0 (va_rf v3)) fun S6 =>
  some ((), S6)
def f_X4_add (a0 : Option Nat) (x1 : Int32) (S0 : St) : Option (Unit × St) :=
  bd1 (oA S0 a0 3 0) fun v2 =>
  bd1 (oI S0 a0 3 1) fun v4 =>
  bd1 (iS S0 v2 0 v4 x1) fun S6 =>
  bd1 (oI S6 a0 3 1) fun v8 =>
  bd1 (pV S6 a0 3 1 (.int (v8 + 1))) fun S9 =>
  some ((), S9)
def f_X4_become (a0 : Option Nat) (a1 : Option Nat) (S0 : St) : Option (Unit × St) :=
  bd1 (oA S0 a1 3 0) fun v2 =>
  bd1 (oA S0 a0 3 0) fun v4 =>
  bd1 (oI S0 a1 3 1) fun v6 =>
  bd1 (cpI S0 v2 0 v4 0 v6) fun S7 =>
  bd1 (oI S7 a1 3 1) fun v10 =>
  bd1 (pV S7 a0 3 1 (.int v10)) fun S11 =>
  some ((), S11)
def s_X4_isSame_63  (t0 : Int32) (S0 : St) : Option (Int32 × St) :=
  bd1 (zb t0) fun _ =>
  some (t0, S0)
def s_X4_isSame_50  (a0 : Option Nat) (x2 : Int32) (S0 : St) : Option (Int32 × St) :=
  bd1 (oI S0 a0 3 1) fun v6 =>
  if x2 = v6 then
    s_X4_isSame_63 1 S0
  else
    s_X4_isSame_63 0 S0
def s_X4_isSame_17 (rc17 : Option Nat × Option Nat × Int32 → St → Option (Int32 × St)) (a0 : Option Nat) (a1 : Option Nat) (x2 : Int32) (S0 : St) : Option (Int32 × St) :=
  if x2 < 0 then
    s_X4_isSame_50 a0 x2 S0
  else
    bd1 (oI S0 a0 3 1) fun v9 =>
    if v9 ≤ x2 then
      s_X4_isSame_50 a0 x2 S0
    else
      bd1 (oA S0 a0 3 0) fun v11 =>
      bd1 (iL S0 v11 0 x2) fun v13 =>
      bd1 (oA S0 a1 3 0) fun v15 =>
      bd1 (iL S0 v15 0 x2) fun v17 =>
      if v13 = v17 then
        rc17 (a0, a1, (x2 + 1)) S0
      else
        s_X4_isSame_50 a0 x2 S0
def l_X4_isSame_17   : Nat → Option Nat × Option Nat × Int32 → St → Option (Int32 × St) :=
  lp fun rc17 v S0 => s_X4_isSame_17   rc17 v.1 v.2.1 v.2.2 S0
def s_X4_isSame_16  (a0 : Option Nat) (a1 : Option Nat) (t0 : Int32) (S0 : St) : Option (Int32 × St) :=
  l_X4_isSame_17 FU (a0, a1, t0) S0
def f_X4_isSame (a0 : Option Nat) (a1 : Option Nat) (S0 : St) : Option (Int32 × St) :=
  bd1 (oI S0 a0 3 1) fun v2 =>
  bd1 (oI S0 a1 3 1) fun v4 =>
  if v2 = v4 then
    s_X4_isSame_16 a0 a1 0 S0
  else
    s_X4_isSame_16 a0 a1 ((-1)) S0
def s_X4_add_2_2 (rc2 : Option Nat × Option Nat × Int32 → St → Option (Unit × St)) (a0 : Option Nat) (a1 : Option Nat) (x2 : Int32) (S0 : St) : Option (Unit × St) :=
  bd1 (lenA S0 a1 0) fun v2 =>
  if v2 ≤ x2 then
    some ((), S0)
  else
    bd1 (iL S0 a1 0 x2) fun v4 =>
    bd1 (isO S0 a0 3) fun _ =>
    bd2 (f_X4_add a0 v4 S0) fun v6 S7 =>
    rc2 (a0, a1, (x2 + 1)) S7
def l_X4_add_2_2   : Nat → Option Nat × Option Nat × Int32 → St → Option (Unit × St) :=
  lp fun rc2 v S0 => s_X4_add_2_2   rc2 v.1 v.2.1 v.2.2 S0
def f_X4_add_2 (a0 : Option Nat) (a1 : Option Nat) (S0 : St) : Option (Unit × St) :=
  l_X4_add_2_2 FU (a0, a1, 0) S0
def f_X4_copy (a0 : Option Nat) (S0 : St) : Option (Option Nat × St) :=
  bd2 (nO S0 3 2 [.null, .int 0]) fun v1 S2 =>
  bd1 (oI S2 a0 3 1) fun v5 =>
  bd1 v1 fun q6 =>
  bd2 (f_X4_init_2 v1 v5 S2) fun v8 S9 =>
  bd1 (isO S9 v1 3) fun _ =>
  bd2 (f_X4_become v1 a0 S9) fun v12 S13 =>
  some (v1, S13)
def f_X6_init (a0 : Option Nat) (a1 : Option Nat) (x2 : Int32) (S0 : St) : Option (Unit × St) :=
  bd1 a0 fun q1 =>
  bd1 (pV S0 a0 5 0 (va_rf a1)) fun S3 =>
  bd1 (pV S3 a0 5 1 (.int x2)) fun S5 =>
  some ((), S5)
def s_X6_come_166  (a0 : Option Nat) (x1 : Int32) (x2 : Int32) (S0 : St) : Option (Unit × St) :=
  bd1 (pV S0 a0 5 2 (.int x1)) fun S7 =>
  bd1 (pV S7 a0 5 3 (.int x2)) fun S9 =>
  some ((), S9)
def s_X6_come_101 (rc101 : Option Nat × Int32 × Int32 × Int32 → St → Option (Unit × St)) (a0 : Option Nat) (x1 : Int32) (x2 : Int32) (x3 : Int32) (S0 : St) : Option (Unit × St) :=
  if x2 ≤ x3 then
    s_X6_come_166 a0 x1 x2 S0
  else
    bd1 (oI S0 a0 5 4) fun v12 =>
    bd1 (oA S0 a0 5 0) fun v14 =>
    bd1 (oA S0 v14 3 0) fun v16 =>
    bd1 (iL S0 v16 0 (x1 + x3)) fun v18 =>
    bd1 (oI S0 a0 5 1) fun v20 =>
    bd1 (nz v20) fun _ =>
    bd1 (pV S0 a0 5 4 (.int ((v12 + v18) - (v12 + v18) / v20 * v20))) fun S22 =>
    bd1 (oI S22 a0 5 5) fun v25 =>
    bd1 (oA S22 a0 5 0) fun v27 =>
    bd1 (oA S22 v27 3 0) fun v29 =>
    bd1 (iL S22 v29 0 (x1 + x3)) fun v31 =>
    bd1 (oI S22 a0 5 1) fun v33 =>
    bd1 (nz v33) fun _ =>
    bd1 (pV S22 a0 5 5 (.int ((v25 + ((x2 - x3) * v31)) - (v25 + ((x2 - x3) * v31)) / v33 * v33))) fun S35 =>
    rc101 (a0, x1, x2, (x3 + 1)) S35
def l_X6_come_101   : Nat → Option Nat × Int32 × Int32 × Int32 → St → Option (Unit × St) :=
  lp fun rc101 v S0 => s_X6_come_101   rc101 v.1 v.2.1 v.2.2.1 v.2.2.2 S0
def s_X6_come_89  (a0 : Option Nat) (x1 : Int32) (x2 : Int32) (S0 : St) : Option (Unit × St) :=
  bd1 (pV S0 a0 5 4 (.int 0)) fun S3 =>
  bd1 (pV S3 a0 5 5 (.int 0)) fun S5 =>
  l_X6_come_101 FU (a0, x1, x2, 0) S5
def f_X6_come (a0 : Option Nat) (x1 : Int32) (x2 : Int32) (S0 : St) : Option (Unit × St) :=
  bd1 (oI S0 a0 5 2) fun v2 =>
  if x1 = (v2 + 1) then
    bd1 (oI S0 a0 5 3) fun v38 =>
    if x2 = v38 then
      bd1 (oA S0 a0 5 0) fun v40 =>
      bd1 (oA S0 v40 3 0) fun v42 =>
      bd1 (oI S0 a0 5 2) fun v44 =>
      bd1 (iL S0 v42 0 v44) fun v46 =>
      bd1 (oI S0 a0 5 4) fun v48 =>
      bd1 (oA S0 a0 5 0) fun v50 =>
      bd1 (oA S0 v50 3 0) fun v52 =>
      bd1 (iL S0 v52 0 ((x1 + x2) - 1)) fun v54 =>
      bd1 (oI S0 a0 5 1) fun v56 =>
      bd2 (f_J12_floorMod ((v48 - v46) + v54) v56 S0) fun v57 S58 =>
      bd1 (pV S58 a0 5 4 (.int v57)) fun S60 =>
      bd1 (oI S60 a0 5 5) fun v63 =>
      bd1 (oI S60 a0 5 4) fun v65 =>
      bd1 (oI S60 a0 5 1) fun v67 =>
      bd2 (f_J12_floorMod ((v63 - (x2 * v46)) + v65) v67 S60) fun v68 S69 =>
      bd1 (pV S69 a0 5 5 (.int v68)) fun S71 =>
      s_X6_come_166 a0 x1 x2 S71
    else
      s_X6_come_89 a0 x1 x2 S0
  else
    s_X6_come_89 a0 x1 x2 S0
def f_X6_weak (a0 : Option Nat) (S0 : St) : Option (Int32 × St) :=
  bd1 (oI S0 a0 5 5) fun v2 =>
  bd1 (oI S0 a0 5 1) fun v4 =>
  bd1 (oI S0 a0 5 4) fun v6 =>
  some ((v2 * v4) + v6, S0)
def s_X6_strong_14 (rc14 : Option Nat × Int64 × Int32 → St → Option (Int64 × St)) (a0 : Option Nat) (j1 : Int64) (x3 : Int32) (S0 : St) : Option (Int64 × St) :=
  bd1 (oI S0 a0 5 2) fun v6 =>
  if x3 < v6 then
    some (j1, S0)
  else
    bd1 (oA S0 a0 5 0) fun v8 =>
    bd1 (oA S0 v8 3 0) fun v10 =>
    bd1 (iL S0 v10 0 x3) fun v12 =>
    rc14 (a0, (((257 * j1) + v12.toInt64) + 1), (x3 + (-1))) S0
def l_X6_strong_14   : Nat → Option Nat × Int64 × Int32 → St → Option (Int64 × St) :=
  lp fun rc14 v S0 => s_X6_strong_14   rc14 v.1 v.2.1 v.2.2 S0
def f_X6_strong (a0 : Option Nat) (S0 : St) : Option (Int64 × St) :=
  bd1 (oI S0 a0 5 2) fun v2 =>
  bd1 (oI S0 a0 5 3) fun v4 =>
  l_X6_strong_14 FU (a0, 0, ((v2 + v4) - 1)) S0
def f_X8_init (a0 : Option Nat) (x1 : Int32) (x2 : Int32) (S0 : St) : Option (Unit × St) :=
  bd1 a0 fun q1 =>
  bd1 (zb x1) fun _ =>
  bd1 (pV S0 a0 7 0 (.int x1)) fun S3 =>
  bd1 (pV S3 a0 7 1 (.int x2)) fun S6 =>
  bd1 (pV S6 a0 7 3 (.int ((-1)))) fun S8 =>
  some ((), S8)
def f_X10_init (a0 : Option Nat) (a1 : Option Nat) (S0 : St) : Option (Unit × St) :=
  bd1 a0 fun q1 =>
  bd1 (isO S0 a1 3) fun _ =>
  bd2 (f_X4_copy a1 S0) fun v4 S5 =>
  bd1 (pV S5 a0 9 0 (va_rf v4)) fun S7 =>
  some ((), S7)
def s_X2_name_93  (a0 : Option Nat) (x4 : Int32) (S0 : St) : Option (Option Nat × St) :=
  bd1 (oA S0 a0 1 0) fun v37 =>
  bd1 (isO S0 v37 16) fun _ =>
  bd2 (f_J2_get v37 x4 S0) fun v39 S40 =>
  bd1 (ckO S40 v39 14) fun _ =>
  bd1 (oI S40 v39 14 1) fun v44 =>
  bd1 (pV S40 v39 14 1 (.int ((v44 + 1).toInt16.toInt32))) fun S45 =>
  some (v39, S45)
def s_X2_name_46  (a0 : Option Nat) (a1 : Option Nat) (x2 : Int32) (x3 : Int32) (x4 : Int32) (S0 : St) : Option (Option Nat × St) :=
  bd2 (nA S0 0 x3 (.inl fun _ => 0)) fun v11 S12 =>
  bd1 (oA S12 a1 3 0) fun v15 =>
  bd1 (cpI S12 v15 x2 v11 0 x3) fun S16 =>
  bd1 (oA S16 a0 1 0) fun v19 =>
  bd2 (nO S16 14 2 [.null, .int 0]) fun v20 S21 =>
  bd1 v20 fun q23 =>
  bd2 (f_X15_init v20 v11 S21) fun v25 S26 =>
  bd1 (isO S26 v19 16) fun _ =>
  bd2 (f_J2_add_3 v19 x4 v20 S26) fun v29 S30 =>
  bd1 (oI S30 a0 1 1) fun v33 =>
  bd1 (pV S30 a0 1 1 (.int (v33 + x3))) fun S34 =>
  s_X2_name_93 a0 x4 S34
def f_X2_name (a0 : Option Nat) (a1 : Option Nat) (x2 : Int32) (x3 : Int32) (S0 : St) : Option (Option Nat × St) :=
  bd1 (isO S0 a0 1) fun _ =>
  bd2 (f_X2_search a0 a1 x2 x3 S0) fun v2 S3 =>
  bd1 (oA S3 a0 1 0) fun v6 =>
  bd1 (isO S3 v6 16) fun _ =>
  bd2 (f_J2_size v6 S3) fun v8 S9 =>
  if v2 = v8 then
    s_X2_name_46 a0 a1 x2 x3 v2 S9
  else
    bd1 (oA S9 a0 1 0) fun v48 =>
    bd1 (isO S9 v48 16) fun _ =>
    bd2 (f_J2_get v48 v2 S9) fun v50 S51 =>
    bd1 (ckO S51 v50 14) fun _ =>
    bd1 (isO S51 v50 14) fun _ =>
    bd2 (f_X15_compare v50 a1 x2 x3 S51) fun v55 S56 =>
    if v55 = 0 then
      s_X2_name_93 a0 v2 S56
    else
      s_X2_name_46 a0 a1 x2 x3 v2 S56
def f_X4_init (a0 : Option Nat) (S0 : St) : Option (Unit × St) :=
  bd1 a0 fun q1 =>
  bd2 (f_X4_init_2 a0 120 S0) fun v3 S4 =>
  some ((), S4)
def f_J3_init_3_X9 (a0 : Option Nat) (a1 : Option Nat) (a2 : Option Nat) (S0 : St) : Option (Unit × St) :=
  bd1 a0 fun q1 =>
  bd1 (pV S0 a0 8 0 (va_rf a0)) fun S3 =>
  bd1 (pV S3 a0 8 1 (va_rf (S3.2.2.2.2.2 2))) fun S5 =>
  bd1 (pV S5 a0 8 2 (va_rf (S5.2.2.2.2.2 3))) fun S7 =>
  bd1 (fillQ S7 a0 8) fun _ =>
  bd1 (pV S7 a0 8 3 (va_rf a1)) fun S10 =>
  bd1 (pV S10 a0 8 0 (va_rf a2)) fun S12 =>
  some ((), S12)
def f_J4_init_3_X9 (a0 : Option Nat) (a1 : Option Nat) (a2 : Option Nat) (S0 : St) : Option (Unit × St) :=
  bd1 a0 fun q1 =>
  bd2 (f_J3_init_3_X9 a0 a1 a2 S0) fun v3 S4 =>
  some ((), S4)
def f_J3_init_3_X13 (a0 : Option Nat) (a1 : Option Nat) (a2 : Option Nat) (S0 : St) : Option (Unit × St) :=
  bd1 a0 fun q1 =>
  bd1 (pV S0 a0 12 0 (va_rf a0)) fun S3 =>
  bd1 (pV S3 a0 12 1 (va_rf (S3.2.2.2.2.2 2))) fun S5 =>
  bd1 (pV S5 a0 12 2 (va_rf (S5.2.2.2.2.2 3))) fun S7 =>
  bd1 (fillQ S7 a0 12) fun _ =>
  bd1 (pV S7 a0 12 3 (va_rf a1)) fun S10 =>
  bd1 (pV S10 a0 12 0 (va_rf a2)) fun S12 =>
  some ((), S12)
def f_J4_init_3_X13 (a0 : Option Nat) (a1 : Option Nat) (a2 : Option Nat) (S0 : St) : Option (Unit × St) :=
  bd1 a0 fun q1 =>
  bd2 (f_J3_init_3_X13 a0 a1 a2 S0) fun v3 S4 =>
  some ((), S4)
def f_X9_init (a0 : Option Nat) (S0 : St) : Option (Unit × St) :=
  bd1 a0 fun q1 =>
  bd2 (f_J4_init_3_X9 a0 none none S0) fun v3 S4 =>
  some ((), S4)
def f_X13_init_2 (a0 : Option Nat) (x1 : Int32) (x2 : Int32) (a3 : Option Nat) (S0 : St) : Option (Unit × St) :=
  bd1 a0 fun q1 =>
  bd2 (f_J4_init_3_X13 a0 none a3 S0) fun v3 S4 =>
  bd1 (pV S4 a0 12 6 (.int x1)) fun S6 =>
  bd1 (pV S6 a0 12 7 (.int x2)) fun S8 =>
  some ((), S8)
def f_X13_init_3 (a0 : Option Nat) (x1 : Int32) (a2 : Option Nat) (S0 : St) : Option (Unit × St) :=
  bd1 (oI S0 a2 12 7) fun v2 =>
  bd1 a0 fun q3 =>
  bd2 (f_X13_init_2 a0 x1 v2 a2 S0) fun v5 S6 =>
  some ((), S6)
def s_X13_root_2 (rc2 : Option Nat → St → Option (Int32 × St)) (a1 : Option Nat) (S0 : St) : Option (Int32 × St) :=
  bd1 (oA S0 a1 12 0) fun v2 =>
  if (if v2 = a1 then none else v2) = none then
    bd1 (ckO S0 a1 12) fun _ =>
    bd1 (oI S0 a1 12 6) fun v5 =>
    some (v5, S0)
  else
    bd1 (oA S0 a1 12 0) fun v7 =>
    rc2 (if v7 = a1 then none else v7) S0
def l_X13_root_2   : Nat → Option Nat → St → Option (Int32 × St) :=
  lp fun rc2 v S0 => s_X13_root_2   rc2 v S0
def f_X13_root (a0 : Option Nat) (S0 : St) : Option (Int32 × St) :=
  l_X13_root_2 FU a0 S0
def s_X13_steps_7 (rc7 : Int32 × Option Nat → St → Option (Int32 × St)) (x1 : Int32) (a2 : Option Nat) (S0 : St) : Option (Int32 × St) :=
  if a2 = none then
    some (x1, S0)
  else
    bd1 (oA S0 a2 12 0) fun v4 =>
    rc7 ((x1 + 1), (if v4 = a2 then none else v4)) S0
def l_X13_steps_7   : Nat → Int32 × Option Nat → St → Option (Int32 × St) :=
  lp fun rc7 v S0 => s_X13_steps_7   rc7 v.1 v.2 S0
def f_X13_steps (a0 : Option Nat) (S0 : St) : Option (Int32 × St) :=
  bd1 (oA S0 a0 12 0) fun v2 =>
  l_X13_steps_7 FU (0, (if v2 = a0 then none else v2)) S0
def s_X4_addFrom_21 (rc21 : Option Nat × Option Nat × Int32 × Int32 × Int32 → St → Option ((Ex ⊕ Unit) × St)) (a0 : Option Nat) (a1 : Option Nat) (x2 : Int32) (x3 : Int32) (x4 : Int32) (S0 : St) : Option ((Ex ⊕ Unit) × St) :=
  if (x2 + x3) ≤ x4 then
    some ((.inr (())), S0)
  else
    bd1 (oA S0 a1 3 0) fun v4 =>
    bd1 (iL S0 v4 0 x4) fun v6 =>
    bd1 (isO S0 a0 3) fun _ =>
    bd2 (f_X4_add a0 v6 S0) fun v8 S9 =>
    rc21 (a0, a1, x2, x3, (x4 + 1)) S9
def l_X4_addFrom_21   : Nat → Option Nat × Option Nat × Int32 × Int32 × Int32 → St → Option ((Ex ⊕ Unit) × St) :=
  lp fun rc21 v S0 => s_X4_addFrom_21   rc21 v.1 v.2.1 v.2.2.1 v.2.2.2.1 v.2.2.2.2 S0
def f_X4_addFrom (a0 : Option Nat) (a1 : Option Nat) (x2 : Int32) (x3 : Int32) (S0 : St) : Option ((Ex ⊕ Unit) × St) :=
  bd1 (oI S0 a1 3 1) fun v2 =>
  if (x2 + x3) ≤ v2 then
    l_X4_addFrom_21 FU (a0, a1, x2, x3, x2) S0
  else
    bd2 (nO S0 8 6 [.null, .null, .null, .null, .null, .int 0]) fun v11 S12 =>
    bd1 v11 fun q14 =>
    bd2 (f_X9_init v11 S12) fun v16 S17 =>
    bd1 (oQ S17 v11 8) fun q20 =>
    some (.inl ("RollSync$Beyond", q20), S17)
def f_X13_init (a0 : Option Nat) (x1 : Int32) (x2 : Int32) (S0 : St) : Option (Unit × St) :=
  bd1 a0 fun q1 =>
  bd2 (f_X13_init_2 a0 x1 x2 none S0) fun v3 S4 =>
  some ((), S4)
def s_X5_init_65 (rc65 : Option Nat × Option Nat × Int32 × Option Nat × Int32 → St → Option (Unit × St)) (a0 : Option Nat) (a1 : Option Nat) (x2 : Int32) (a4 : Option Nat) (x5 : Int32) (S0 : St) : Option (Unit × St) :=
  bd1 (oI S0 a0 4 2) fun v33 =>
  if v33 ≤ x5 then
    some ((), S0)
  else
    bd1 (oI S0 a1 3 1) fun v35 =>
    bd2 (f_J12_min x2 (v35 - (x2 * x5)) S0) fun v36 S37 =>
    bd1 (isO S37 a4 5) fun _ =>
    bd2 (f_X6_come a4 (x2 * x5) v36 S37) fun v40 S41 =>
    bd1 (oA S41 a0 4 4) fun v44 =>
    bd1 (aL S41 v44 4 0) fun v46 =>
    bd1 (isO S41 a4 5) fun _ =>
    bd2 (f_X6_weak a4 S41) fun v48 S49 =>
    bd1 (jS S49 v46 x5 v48.toInt64) fun S52 =>
    bd1 (oA S52 a0 4 4) fun v54 =>
    bd1 (aL S52 v54 4 1) fun v56 =>
    bd1 (isO S52 a4 5) fun _ =>
    bd2 (f_X6_strong a4 S52) fun v58 S59 =>
    bd1 (jS S59 v56 x5 v58) fun S62 =>
    rc65 (a0, a1, x2, a4, (x5 + 1)) S62
def l_X5_init_65   : Nat → Option Nat × Option Nat × Int32 × Option Nat × Int32 → St → Option (Unit × St) :=
  lp fun rc65 v S0 => s_X5_init_65   rc65 v.1 v.2.1 v.2.2.1 v.2.2.2.1 v.2.2.2.2 S0
def f_X5_init (a0 : Option Nat) (a1 : Option Nat) (x2 : Int32) (x3 : Int32) (S0 : St) : Option (Unit × St) :=
  bd1 a0 fun q1 =>
  bd1 (pV S0 a0 4 0 (.int x2)) fun S3 =>
  bd1 (pV S3 a0 4 1 (.int x3)) fun S5 =>
  bd1 (oI S5 a1 3 1) fun v8 =>
  bd1 (nz x2) fun _ =>
  bd1 (pV S5 a0 4 3 (.int (v8 - v8 / x2 * x2))) fun S10 =>
  bd1 (oI S10 a1 3 1) fun v13 =>
  bd1 (nz x2) fun _ =>
  bd1 (pV S10 a0 4 2 (.int (((v13 + x2) - 1) / x2))) fun S15 =>
  bd1 (oI S15 a0 4 2) fun v18 =>
  bd2 (nM S15 2 v18) fun v19 S20 =>
  bd1 (pV S20 a0 4 4 (va_rf v19)) fun S22 =>
  bd2 (nO S22 5 6 [.null, .int 0, .int 0, .int 0, .int 0, .int 0]) fun v24 S25 =>
  bd1 v24 fun q27 =>
  bd2 (f_X6_init v24 a1 x3 S25) fun v29 S30 =>
  l_X5_init_65 FU (a0, a1, x2, v24, 0) S30
def f_X5_weak (a0 : Option Nat) (x1 : Int32) (S0 : St) : Option (Int32 × St) :=
  bd1 (oA S0 a0 4 4) fun v2 =>
  bd1 (aL S0 v2 4 0) fun v4 =>
  bd1 (jL S0 v4 x1) fun v6 =>
  some (v6.toInt32, S0)
def f_X5_strong (a0 : Option Nat) (x1 : Int32) (S0 : St) : Option (Int64 × St) :=
  bd1 (oA S0 a0 4 4) fun v2 =>
  bd1 (aL S0 v2 4 1) fun v4 =>
  bd1 (jL S0 v4 x1) fun v6 =>
  some (v6, S0)
def s_X5_whole_20  (t0 : Int32) (S0 : St) : Option (Int32 × St) :=
  some (t0, S0)
def f_X5_whole (a0 : Option Nat) (S0 : St) : Option (Int32 × St) :=
  bd1 (oI S0 a0 4 3) fun v2 =>
  if v2 = 0 then
    bd1 (oI S0 a0 4 2) fun v6 =>
    s_X5_whole_20 v6 S0
  else
    bd1 (oI S0 a0 4 2) fun v4 =>
    s_X5_whole_20 (v4 - 1) S0
def f_X7_lambda_step_0 (x0 : Int32) (x1 : Int32) (a2 : Option Nat) (a3 : Option Nat) (S0 : St) : Option ((Ex ⊕ Unit) × St) :=
  bd1 (isO S0 a3 3) fun _ =>
  bd2 (f_X4_addFrom a3 a2 x0 x1 S0) fun v2 S3 =>
  match v2 with
  | .inl x5 =>
    some (.inl x5, S3)
  | .inr v6 =>
    some ((.inr (())), S3)
def f_X7_lambda_step_1 (a0 : Option Nat) (a1 : Option Nat) (a2 : Option Nat) (S0 : St) : Option (Unit × St) :=
  bd1 (isO S0 a2 3) fun _ =>
  bd2 (f_X4_add_2 a2 a0 S0) fun v2 S3 =>
  some ((), S3)
def f_run (o a1 a2 : Option Nat) (S : St) : Option ((Ex ⊕ Unit) × St) := o.bind fun a => (S.1 a).bind fun ob => match ob with
  | .inl (100, [.int x, .int z]) => f_X7_lambda_step_0 x z a1 a2 S
  | .inl (101, [.ref t]) => (f_X7_lambda_step_1 (some t) a1 a2 S).bind fun p => some (.inr p.1, p.2)
  | _ => none
def s_X7_match_260  (x8 : Int32) (t0 : Int32) (t1 : Int32) (t2 : Option Nat) (S0 : St) : Option (Int32 × St) :=
  bd1 (pV S0 t2 6 1 (.int (t1 + t0))) fun S34 =>
  some (x8, S34)
def s_X7_match_259  (x8 : Int32) (t0 : Int32) (t1 : Option Nat) (S0 : St) : Option (Int32 × St) :=
  s_X7_match_260 x8 0 t0 t1 S0
def s_X7_match_239  (a0 : Option Nat) (x8 : Int32) (x9 : Int32) (S0 : St) : Option (Int32 × St) :=
  bd1 (oI S0 a0 6 1) fun v33 =>
  if x9 = 0 then
    s_X7_match_259 x8 v33 a0 S0
  else
    if x8 = ((-1)) then
      s_X7_match_260 x8 1 v33 a0 S0
    else
      s_X7_match_259 x8 v33 a0 S0
def s_X7_match_233 (rc139 : Option Nat × Option Nat × Option Nat × Int32 × Int32 × Int32 × Int32 × Int32 → St → Option (Int32 × St)) (a0 : Option Nat) (a1 : Option Nat) (a2 : Option Nat) (x5 : Int32) (x7 : Int32) (x8 : Int32) (x9 : Int32) (x10 : Int32) (S0 : St) : Option (Int32 × St) :=
  rc139 (a0, a1, a2, x5, x7, x8, x9, (x10 + 1)) S0
def s_X7_match_216 (rc139 : Option Nat × Option Nat × Option Nat × Int32 × Int32 × Int32 × Int32 × Int32 → St → Option (Int32 × St)) (a0 : Option Nat) (a1 : Option Nat) (a2 : Option Nat) (x5 : Int32) (x7 : Int32) (x9 : Int32) (x10 : Int32) (t0 : Int32) (S0 : St) : Option (Int32 × St) :=
  if x7 < 0 then
    s_X7_match_239 a0 t0 x9 S0
  else
    if x10 < x7 then
      s_X7_match_233 rc139 a0 a1 a2 x5 x7 t0 x9 x10 S0
    else
      s_X7_match_239 a0 t0 x9 S0
def s_X7_match_209 (rc139 : Option Nat × Option Nat × Option Nat × Int32 × Int32 × Int32 × Int32 × Int32 → St → Option (Int32 × St)) (a0 : Option Nat) (a1 : Option Nat) (a2 : Option Nat) (x5 : Int32) (x7 : Int32) (x9 : Int32) (x10 : Int32) (S0 : St) : Option (Int32 × St) :=
  s_X7_match_216 rc139 a0 a1 a2 x5 x7 x9 x10 x10 S0
def s_X7_match_157 (rc139 : Option Nat × Option Nat × Option Nat × Int32 × Int32 × Int32 × Int32 × Int32 → St → Option (Int32 × St)) (a0 : Option Nat) (a1 : Option Nat) (a2 : Option Nat) (x5 : Int32) (x7 : Int32) (x8 : Int32) (x9 : Int32) (x10 : Int32) (t0 : Int32) (t1 : Int32) (S0 : St) : Option (Int32 × St) :=
  if t0 ≤ t1 then
    s_X7_match_239 a0 x8 x9 S0
  else
    bd1 (isO S0 a1 4) fun _ =>
    bd2 (f_X5_weak a1 x10 S0) fun v37 S38 =>
    bd1 (isO S38 a2 5) fun _ =>
    bd2 (f_X6_weak a2 S38) fun v41 S42 =>
    if v37 = v41 then
      bd1 (isO S42 a1 4) fun _ =>
      bd2 (f_X5_strong a1 x10 S42) fun v45 S46 =>
      bd1 (isO S46 a2 5) fun _ =>
      bd2 (f_X6_strong a2 S46) fun v49 S50 =>
      if (lg_cmp v45 v49) = 0 then
        if x8 = ((-1)) then
          s_X7_match_209 rc139 a0 a1 a2 x5 x7 1 x10 S50
        else
          if x10 = x7 then
            s_X7_match_209 rc139 a0 a1 a2 x5 x7 1 x10 S50
          else
            s_X7_match_216 rc139 a0 a1 a2 x5 x7 1 x10 x8 S50
      else
        s_X7_match_233 rc139 a0 a1 a2 x5 x7 x8 1 x10 S50
    else
      s_X7_match_233 rc139 a0 a1 a2 x5 x7 x8 x9 x10 S42
def s_X7_match_139 (rc139 : Option Nat × Option Nat × Option Nat × Int32 × Int32 × Int32 × Int32 × Int32 → St → Option (Int32 × St)) (a0 : Option Nat) (a1 : Option Nat) (a2 : Option Nat) (x5 : Int32) (x7 : Int32) (x8 : Int32) (x9 : Int32) (x10 : Int32) (S0 : St) : Option (Int32 × St) :=
  if x5 = 0 then
    bd1 (oI S0 a1 4 2) fun v31 =>
    s_X7_match_157 rc139 a0 a1 a2 x5 x7 x8 x9 x10 v31 x10 S0
  else
    bd1 (isO S0 a1 4) fun _ =>
    bd2 (f_X5_whole a1 S0) fun v53 S54 =>
    s_X7_match_157 rc139 a0 a1 a2 x5 x7 x8 x9 x10 v53 x10 S54
def l_X7_match_139   : Nat → Option Nat × Option Nat × Option Nat × Int32 × Int32 × Int32 × Int32 × Int32 → St → Option (Int32 × St) :=
  lp fun rc139 v S0 => s_X7_match_139   rc139 v.1 v.2.1 v.2.2.1 v.2.2.2.1 v.2.2.2.2.1 v.2.2.2.2.2.1 v.2.2.2.2.2.2.1 v.2.2.2.2.2.2.2 S0
def s_X7_match_137  (a0 : Option Nat) (a1 : Option Nat) (a2 : Option Nat) (x5 : Int32) (x7 : Int32) (x8 : Int32) (x9 : Int32) (t0 : Int32) (S0 : St) : Option (Int32 × St) :=
  l_X7_match_139 FU (a0, a1, a2, x5, x7, x8, x9, t0) S0
def s_X7_match_116  (a0 : Option Nat) (a1 : Option Nat) (a2 : Option Nat) (x5 : Int32) (t0 : Int32) (S0 : St) : Option (Int32 × St) :=
  if x5 = 0 then
    bd1 (isO S0 a1 4) fun _ =>
    bd2 (f_X5_whole a1 S0) fun v27 S28 =>
    s_X7_match_137 a0 a1 a2 x5 t0 ((-1)) 0 v27 S28
  else
    s_X7_match_137 a0 a1 a2 x5 t0 ((-1)) 0 0 S0
def s_X7_match_115  (a0 : Option Nat) (a1 : Option Nat) (a2 : Option Nat) (x5 : Int32) (S0 : St) : Option (Int32 × St) :=
  s_X7_match_116 a0 a1 a2 x5 ((-1)) S0
def s_X7_match_90  (a0 : Option Nat) (a1 : Option Nat) (a2 : Option Nat) (x5 : Int32) (t0 : Option Nat) (S0 : St) : Option (Int32 × St) :=
  if t0 = none then
    s_X7_match_115 a0 a1 a2 x5 S0
  else
    bd1 (oI S0 t0 7 0) fun v57 =>
    if v57 = 0 then
      s_X7_match_115 a0 a1 a2 x5 S0
    else
      bd1 (oI S0 t0 7 3) fun v59 =>
      s_X7_match_116 a0 a1 a2 x5 (v59 + 1) S0
def s_X7_match_48  (a0 : Option Nat) (a1 : Option Nat) (a2 : Option Nat) (x5 : Int32) (t0 : Int32) (t1 : Int32) (t2 : Option Nat) (S0 : St) : Option (Int32 × St) :=
  bd1 (isO S0 t2 5) fun _ =>
  bd2 (f_X6_come t2 t1 t0 S0) fun v4 S5 =>
  bd1 (oA S5 a0 6 0) fun v8 =>
  bd1 (isO S5 v8 16) fun _ =>
  bd2 (f_J2_isEmpty v8 S5) fun v10 S11 =>
  if v10 = 0 then
    bd1 (oA S11 a0 6 0) fun v14 =>
    bd1 (oA S11 a0 6 0) fun v16 =>
    bd1 (isO S11 v16 16) fun _ =>
    bd2 (f_J2_size v16 S11) fun v18 S19 =>
    bd1 (isO S19 v14 16) fun _ =>
    bd2 (f_J2_get v14 (v18 - 1) S19) fun v22 S23 =>
    bd1 (ckO S23 v22 7) fun _ =>
    s_X7_match_90 a0 a1 a2 x5 v22 S23
  else
    s_X7_match_90 a0 a1 a2 x5 none S11
def s_X7_match_32  (a0 : Option Nat) (a1 : Option Nat) (a2 : Option Nat) (x3 : Int32) (x4 : Int32) (x5 : Int32) (S0 : St) : Option (Int32 × St) :=
  if x5 = 0 then
    s_X7_match_48 a0 a1 a2 x5 x4 x3 a2 S0
  else
    bd1 (oI S0 a1 4 0) fun v61 =>
    s_X7_match_48 a0 a1 a2 x5 v61 x3 a2 S0
def s_X7_match_14  (a0 : Option Nat) (a1 : Option Nat) (a2 : Option Nat) (x3 : Int32) (x4 : Int32) (t0 : Int32) (S0 : St) : Option (Int32 × St) :=
  if t0 = 0 then
    bd1 (oI S0 a1 4 3) fun v63 =>
    if x4 = v63 then
      s_X7_match_32 a0 a1 a2 x3 x4 t0 S0
    else
      some ((-1), S0)
  else
    s_X7_match_32 a0 a1 a2 x3 x4 t0 S0
def f_X7_match (a0 : Option Nat) (a1 : Option Nat) (a2 : Option Nat) (x3 : Int32) (x4 : Int32) (S0 : St) : Option (Int32 × St) :=
  bd1 (oI S0 a1 4 0) fun v2 =>
  if x4 < v2 then
    s_X7_match_14 a0 a1 a2 x3 x4 0 S0
  else
    s_X7_match_14 a0 a1 a2 x3 x4 1 S0
def f_X7_step (a0 : Option Nat) (a1 : Option Nat) (S0 : St) : Option (Option Nat × St) :=
  bd1 (oI S0 a0 7 1) fun v2 =>
  bd1 (oI S0 a0 7 2) fun v4 =>
  bd1 (oI S0 a0 7 0) fun v6 =>
  if v6 = 0 then
    bd2 (nA S0 0 v4 (.inl fun _ => 0)) fun v7 S8 =>
    bd1 (oA S8 a1 3 0) fun v11 =>
    bd1 (cpI S8 v11 v2 v7 0 v4) fun S12 =>
    bd2 (nL S12 1 [va_rf v7]) fun v14 S15 =>
    some (v14, S15)
  else
    bd2 (nL S0 0 [.int v2, .int v4]) fun v17 S18 =>
    some (v17, S18)
def s_X7_init_284 (rc284 : Option Nat × Option Nat × Int32 → St → Option (Unit × St)) (a0 : Option Nat) (a2 : Option Nat) (x4 : Int32) (S0 : St) : Option (Unit × St) :=
  bd1 (oA S0 a0 6 3) fun v37 =>
  bd1 (lenA S0 v37 8) fun v39 =>
  if v39 ≤ x4 then
    some ((), S0)
  else
    bd1 (oA S0 a0 6 3) fun v41 =>
    bd1 (oA S0 a0 6 0) fun v43 =>
    bd1 (isO S0 v43 16) fun _ =>
    bd2 (f_J2_get v43 x4 S0) fun v45 S46 =>
    bd1 (ckO S46 v45 7) fun _ =>
    bd2 (f_X7_step v45 a2 S46) fun v49 S50 =>
    bd1 (aS S50 v41 8 x4 v49) fun S53 =>
    rc284 (a0, a2, (x4 + 1)) S53
def l_X7_init_284   : Nat → Option Nat × Option Nat × Int32 → St → Option (Unit × St) :=
  lp fun rc284 v S0 => s_X7_init_284   rc284 v.1 v.2.1 v.2.2 S0
def s_X7_init_251 (rc31 : Option Nat × Option Nat × Option Nat × Option Nat × Int32 → St → Option (Unit × St)) (a0 : Option Nat) (a1 : Option Nat) (a2 : Option Nat) (a3 : Option Nat) (x4 : Int32) (x7 : Int32) (t0 : Int32) (t1 : Int32) (t2 : Option Nat) (S0 : St) : Option (Unit × St) :=
  bd1 (pV S0 t2 6 2 (.int (t1 + t0))) fun S105 =>
  rc31 (a0, a1, a2, a3, (x4 + x7)) S105
def s_X7_init_217 (rc31 : Option Nat × Option Nat × Option Nat × Option Nat × Int32 → St → Option (Unit × St)) (a0 : Option Nat) (a1 : Option Nat) (a2 : Option Nat) (a3 : Option Nat) (x4 : Int32) (x5 : Int32) (x6 : Int32) (x7 : Int32) (a8 : Option Nat) (S0 : St) : Option (Unit × St) :=
  bd1 (oI S0 a8 7 2) fun v98 =>
  bd1 (pV S0 a8 7 2 (.int (v98 + x7))) fun S99 =>
  bd1 (pV S99 a8 7 3 (.int x5)) fun S101 =>
  bd1 (oI S101 a0 6 2) fun v104 =>
  if x6 = 0 then
    s_X7_init_251 rc31 a0 a1 a2 a3 x4 x7 1 v104 a0 S101
  else
    s_X7_init_251 rc31 a0 a1 a2 a3 x4 x7 0 v104 a0 S101
def s_X7_init_213 (rc31 : Option Nat × Option Nat × Option Nat × Option Nat × Int32 → St → Option (Unit × St)) (a0 : Option Nat) (a1 : Option Nat) (a2 : Option Nat) (a3 : Option Nat) (x4 : Int32) (x5 : Int32) (x6 : Int32) (x7 : Int32) (a8 : Option Nat) (t0 : Int32) (t1 : Int32) (t2 : Option Nat) (S0 : St) : Option (Unit × St) :=
  bd1 (pV S0 t2 6 2 (.int (t1 + t0))) fun S95 =>
  s_X7_init_217 rc31 a0 a1 a2 a3 x4 x5 x6 x7 a8 S95
def s_X7_init_181 (rc31 : Option Nat × Option Nat × Option Nat × Option Nat × Int32 → St → Option (Unit × St)) (a0 : Option Nat) (a1 : Option Nat) (a2 : Option Nat) (a3 : Option Nat) (x4 : Int32) (x5 : Int32) (x6 : Int32) (x7 : Int32) (t0 : Int32) (t1 : Int32) (t2 : Option Nat) (t3 : Option Nat) (S0 : St) : Option (Unit × St) :=
  bd1 t2 fun q82 =>
  bd2 (f_X8_init t2 t1 t0 S0) fun v84 S85 =>
  bd1 (oA S85 a0 6 0) fun v88 =>
  bd1 (isO S85 v88 16) fun _ =>
  bd2 (f_J2_add v88 t3 S85) fun v90 S91 =>
  bd1 (oI S91 a0 6 2) fun v94 =>
  if x6 = 0 then
    s_X7_init_213 rc31 a0 a1 a2 a3 x4 x5 x6 x7 t3 1 v94 a0 S91
  else
    s_X7_init_213 rc31 a0 a1 a2 a3 x4 x5 x6 x7 t3 3 v94 a0 S91
def s_X7_init_158 (rc31 : Option Nat × Option Nat × Option Nat × Option Nat × Int32 → St → Option (Unit × St)) (a0 : Option Nat) (a1 : Option Nat) (a2 : Option Nat) (a3 : Option Nat) (x4 : Int32) (x5 : Int32) (x6 : Int32) (x7 : Int32) (S0 : St) : Option (Unit × St) :=
  bd2 (nO S0 7 4 [.int 0, .int 0, .int 0, .int 0]) fun v79 S80 =>
  if x6 = 0 then
    s_X7_init_181 rc31 a0 a1 a2 a3 x4 x5 x6 x7 x4 x6 v79 v79 S80
  else
    bd1 (oI S80 a1 4 0) fun v108 =>
    s_X7_init_181 rc31 a0 a1 a2 a3 x4 x5 x6 x7 (x5 * v108) x6 v79 v79 S80
def s_X7_init_124 (rc31 : Option Nat × Option Nat × Option Nat × Option Nat × Int32 → St → Option (Unit × St)) (a0 : Option Nat) (a1 : Option Nat) (a2 : Option Nat) (a3 : Option Nat) (x4 : Int32) (x5 : Int32) (x6 : Int32) (x7 : Int32) (t0 : Option Nat) (S0 : St) : Option (Unit × St) :=
  if t0 = none then
    s_X7_init_158 rc31 a0 a1 a2 a3 x4 x5 x6 x7 S0
  else
    bd1 (oI S0 t0 7 0) fun v110 =>
    if v110 = x6 then
      if x6 = 0 then
        s_X7_init_217 rc31 a0 a1 a2 a3 x4 x5 x6 x7 t0 S0
      else
        bd1 (oI S0 t0 7 3) fun v112 =>
        if (v112 + 1) = x5 then
          s_X7_init_217 rc31 a0 a1 a2 a3 x4 x5 x6 x7 t0 S0
        else
          s_X7_init_158 rc31 a0 a1 a2 a3 x4 x5 x6 x7 S0
    else
      s_X7_init_158 rc31 a0 a1 a2 a3 x4 x5 x6 x7 S0
def s_X7_init_83 (rc31 : Option Nat × Option Nat × Option Nat × Option Nat × Int32 → St → Option (Unit × St)) (a0 : Option Nat) (a1 : Option Nat) (a2 : Option Nat) (a3 : Option Nat) (x4 : Int32) (x5 : Int32) (x6 : Int32) (t0 : Int32) (S0 : St) : Option (Unit × St) :=
  bd1 (oA S0 a0 6 0) fun v61 =>
  bd1 (isO S0 v61 16) fun _ =>
  bd2 (f_J2_isEmpty v61 S0) fun v63 S64 =>
  if v63 = 0 then
    bd1 (oA S64 a0 6 0) fun v67 =>
    bd1 (oA S64 a0 6 0) fun v69 =>
    bd1 (isO S64 v69 16) fun _ =>
    bd2 (f_J2_size v69 S64) fun v71 S72 =>
    bd1 (isO S72 v67 16) fun _ =>
    bd2 (f_J2_get v67 (v71 - 1) S72) fun v75 S76 =>
    bd1 (ckO S76 v75 7) fun _ =>
    s_X7_init_124 rc31 a0 a1 a2 a3 x4 x5 x6 t0 v75 S76
  else
    s_X7_init_124 rc31 a0 a1 a2 a3 x4 x5 x6 t0 none S64
def s_X7_init_68 (rc31 : Option Nat × Option Nat × Option Nat × Option Nat × Int32 → St → Option (Unit × St)) (a0 : Option Nat) (a1 : Option Nat) (a2 : Option Nat) (a3 : Option Nat) (x4 : Int32) (x5 : Int32) (t0 : Int32) (S0 : St) : Option (Unit × St) :=
  if t0 = 0 then
    s_X7_init_83 rc31 a0 a1 a2 a3 x4 x5 t0 1 S0
  else
    bd1 (oI S0 a3 5 3) fun v114 =>
    s_X7_init_83 rc31 a0 a1 a2 a3 x4 x5 t0 v114 S0
def s_X7_init_31 (rc31 : Option Nat × Option Nat × Option Nat × Option Nat × Int32 → St → Option (Unit × St)) (a0 : Option Nat) (a1 : Option Nat) (a2 : Option Nat) (a3 : Option Nat) (x4 : Int32) (S0 : St) : Option (Unit × St) :=
  bd1 (oI S0 a2 3 1) fun v24 =>
  if v24 ≤ x4 then
    bd1 (oA S0 a0 6 0) fun v26 =>
    bd1 (isO S0 v26 16) fun _ =>
    bd2 (f_J2_size v26 S0) fun v28 S29 =>
    bd2 (nA S29 8 v28 (.inr (.inr (.inr (.inr fun _ => none))))) fun v31 S32 =>
    bd1 (pV S32 a0 6 3 (va_rf v31)) fun S34 =>
    l_X7_init_284 FU (a0, a2, 0) S34
  else
    bd1 (oI S0 a2 3 1) fun v55 =>
    bd1 (isO S0 a0 6) fun _ =>
    bd2 (f_X7_match a0 a1 a3 x4 (v55 - x4) S0) fun v57 S58 =>
    if v57 = ((-1)) then
      s_X7_init_68 rc31 a0 a1 a2 a3 x4 v57 0 S58
    else
      s_X7_init_68 rc31 a0 a1 a2 a3 x4 v57 1 S58
def l_X7_init_31   : Nat → Option Nat × Option Nat × Option Nat × Option Nat × Int32 → St → Option (Unit × St) :=
  lp fun rc31 v S0 => s_X7_init_31   rc31 v.1 v.2.1 v.2.2.1 v.2.2.2.1 v.2.2.2.2 S0
def f_X7_init (a0 : Option Nat) (a1 : Option Nat) (a2 : Option Nat) (S0 : St) : Option (Unit × St) :=
  bd1 a0 fun q1 =>
  bd2 (nO S0 16 3 [.int 0, .null, .int 0]) fun v3 S4 =>
  bd1 v3 fun q6 =>
  bd2 (f_J2_init_2 v3 S4) fun v8 S9 =>
  bd1 (pV S9 a0 6 0 (va_rf v3)) fun S11 =>
  bd2 (nO S11 5 6 [.null, .int 0, .int 0, .int 0, .int 0, .int 0]) fun v13 S14 =>
  bd1 (oI S14 a1 4 1) fun v17 =>
  bd1 v13 fun q18 =>
  bd2 (f_X6_init v13 a2 v17 S14) fun v20 S21 =>
  l_X7_init_31 FU (a0, a1, a2, v13, 0) S21
def s_X7_applied_10 (rc10 : Option Nat × Option Nat × Option Nat × Int32 → St → Option ((Ex ⊕ Option Nat) × St)) (a0 : Option Nat) (a1 : Option Nat) (a2 : Option Nat) (x3 : Int32) (S0 : St) : Option ((Ex ⊕ Option Nat) × St) :=
  bd1 (oA S0 a0 6 3) fun v10 =>
  bd1 (lenA S0 v10 8) fun v12 =>
  if v12 ≤ x3 then
    some ((.inr a2), S0)
  else
    bd1 (oA S0 a0 6 3) fun v14 =>
    bd1 (aL S0 v14 8 x3) fun v16 =>
    bd2 (f_run v16 a1 a2 S0) fun v17 S18 =>
    match v17 with
    | .inl x20 =>
      some (.inl x20, S18)
    | .inr v21 =>
      rc10 (a0, a1, a2, (x3 + 1)) S18
def l_X7_applied_10   : Nat → Option Nat × Option Nat × Option Nat × Int32 → St → Option ((Ex ⊕ Option Nat) × St) :=
  lp fun rc10 v S0 => s_X7_applied_10   rc10 v.1 v.2.1 v.2.2.1 v.2.2.2 S0
def f_X7_applied (a0 : Option Nat) (a1 : Option Nat) (S0 : St) : Option ((Ex ⊕ Option Nat) × St) :=
  bd2 (nO S0 3 2 [.null, .int 0]) fun v1 S2 =>
  bd1 v1 fun q4 =>
  bd2 (f_X4_init v1 S2) fun v6 S7 =>
  l_X7_applied_10 FU (a0, a1, v1, 0) S7
def f_X14_init (a0 : Option Nat) (S0 : St) : Option (Unit × St) :=
  bd1 a0 fun q1 =>
  some ((), S0)
def f_X14_rebuilt (a0 : Option Nat) (x1 : Int32) (S0 : St) : Option ((Ex ⊕ Option Nat) × St) :=
  bd2 (nO S0 12 8 [.null, .null, .null, .null, .null, .int 0, .int 0, .int 0]) fun v1 S2 =>
  bd1 v1 fun q4 =>
  bd2 (f_X13_init v1 x1 1 S2) fun v6 S7 =>
  bd1 (oQ S7 v1 12) fun q10 =>
  some (.inl ("RollSync$Broken", q10), S7)
def f_X14_size (a0 : Option Nat) (S0 : St) : Option (Int32 × St) :=
  some (0, S0)
def f_X11_init (a0 : Option Nat) (x1 : Int32) (a2 : Option Nat) (S0 : St) : Option (Unit × St) :=
  bd1 a0 fun q1 =>
  bd1 (pV S0 a0 10 0 (.int x1)) fun S3 =>
  bd1 (pV S3 a0 10 1 (va_rf a2)) fun S5 =>
  some ((), S5)
def f_X11_rebuilt (rec : Option Nat → Int32 → St → Option ((Ex ⊕ Option Nat) × St)) (a0 : Option Nat) (S0 : St) : Option ((Ex ⊕ Option Nat) × St) :=
  bd1 (oA S0 a0 10 1) fun v2 =>
  bd1 (oI S0 a0 10 0) fun v4 =>
  bd2 (rec v2 v4 S0) fun v5 S6 =>
  match v5 with
  | .inl x8 =>
    some (.inl x8, S6)
  | .inr v9 =>
    some ((.inr v9), S6)
def f_X12_rebuilt (rec : Option Nat → Int32 → St → Option ((Ex ⊕ Option Nat) × St)) (a0 : Option Nat) (x1 : Int32) (S0 : St) : Option ((Ex ⊕ Option Nat) × St) :=
  bd1 (oA S0 a0 11 1) fun v2 =>
  bd1 (oA S0 a0 11 0) fun v4 =>
  bd1 (isO S0 v4 10) fun _ =>
  bd2 (f_X11_rebuilt rec v4 S0) fun v6 S7 =>
  match v6 with
  | .inl x9 =>
    if x9.1 = "RollSync$Beyond" then
      bd2 (nO S7 12 8 [.null, .null, .null, .null, .null, .int 0, .int 0, .int 0]) fun v11 S12 =>
      bd1 v11 fun q14 =>
      bd2 (f_X13_init v11 x1 2 S12) fun v16 S17 =>
      bd1 (oQ S17 v11 12) fun q20 =>
      some (.inl ("RollSync$Broken", q20), S17)
    else
      if x9.1 = "RollSync$Broken" then
        bd2 (nO S7 12 8 [.null, .null, .null, .null, .null, .int 0, .int 0, .int 0]) fun v21 S22 =>
        bd1 v21 fun q24 =>
        bd2 (f_X13_init_3 v21 x1 (some x9.2) S22) fun v26 S27 =>
        bd1 (oQ S27 v21 12) fun q30 =>
        some (.inl ("RollSync$Broken", q30), S27)
      else
        none
  | .inr v10 =>
    bd1 (isO S7 v2 6) fun _ =>
    bd2 (f_X7_applied v2 v10 S7) fun v32 S33 =>
    match v32 with
    | .inl x35 =>
      if x35.1 = "RollSync$Beyond" then
        bd2 (nO S33 12 8 [.null, .null, .null, .null, .null, .int 0, .int 0, .int 0]) fun v37 S38 =>
        bd1 v37 fun q40 =>
        bd2 (f_X13_init v37 x1 2 S38) fun v42 S43 =>
        bd1 (oQ S43 v37 12) fun q46 =>
        some (.inl ("RollSync$Broken", q46), S43)
      else
        if x35.1 = "RollSync$Broken" then
          bd2 (nO S33 12 8 [.null, .null, .null, .null, .null, .int 0, .int 0, .int 0]) fun v47 S48 =>
          bd1 v47 fun q50 =>
          bd2 (f_X13_init_3 v47 x1 (some x35.2) S48) fun v52 S53 =>
          bd1 (oQ S53 v47 12) fun q56 =>
          some (.inl ("RollSync$Broken", q56), S53)
        else
          none
    | .inr v36 =>
      some ((.inr v36), S33)
def f_X12_init (a0 : Option Nat) (a1 : Option Nat) (a2 : Option Nat) (S0 : St) : Option (Unit × St) :=
  bd1 a0 fun q1 =>
  bd1 (pV S0 a0 11 0 (va_rf a1)) fun S3 =>
  bd1 (pV S3 a0 11 1 (va_rf a2)) fun S5 =>
  some ((), S5)
def f_X12_size (a0 : Option Nat) (S0 : St) : Option (Int32 × St) :=
  bd1 (oA S0 a0 11 1) fun v2 =>
  bd1 (oI S0 v2 6 2) fun v4 =>
  some (v4, S0)
def f_held : Nat → Option Nat → Int32 → St → Option ((Ex ⊕ Option Nat) × St)
  | 0 => fun _ _ _ => none
  | n + 1 => fun o x S => if isO S o 9 = some () then hX (f_X10_rebuilt o x S) else if isO S o 11 = some () then f_X12_rebuilt (f_held n) o x S else if isO S o 13 = some () then f_X14_rebuilt o x S else none
/-- Version.rebuilt: the chain is at most 40 long -/
def f_ver (o : Option Nat) (S : St) : Option ((Ex ⊕ Option Nat) × St) := f_X11_rebuilt (f_held 40) o S
def f_hsize (o : Option Nat) (S : St) : Option (Int32 × St) := if isO S o 9 = some () then f_X10_size o S else if isO S o 11 = some () then f_X12_size o S else if isO S o 13 = some () then f_X14_size o S else none
def f_X3_init (a0 : Option Nat) (S0 : St) : Option (Unit × St) :=
  bd1 a0 fun q1 =>
  bd2 (nA S0 0 6 (.inl fun _ => 0)) fun v3 S4 =>
  bd1 (pV S4 a0 2 1 (va_rf v3)) fun S6 =>
  bd2 (nA S6 0 720 (.inl fun _ => 0)) fun v8 S9 =>
  bd1 (pV S9 a0 2 2 (va_rf v8)) fun S11 =>
  bd2 (nA S11 0 5 (.inl fun _ => 0)) fun v13 S14 =>
  bd1 (pV S14 a0 2 3 (va_rf v13)) fun S16 =>
  bd2 (nA S16 0 5 (.inl fun _ => 0)) fun v18 S19 =>
  bd1 (pV S19 a0 2 4 (va_rf v18)) fun S21 =>
  bd2 (nA S21 0 5 (.inl fun _ => 0)) fun v23 S24 =>
  bd1 (pV S24 a0 2 5 (va_rf v23)) fun S26 =>
  bd2 (nA S26 0 5 (.inl fun _ => 0)) fun v28 S29 =>
  bd1 (pV S29 a0 2 6 (va_rf v28)) fun S31 =>
  bd2 (nA S31 0 600 (.inl fun _ => 0)) fun v33 S34 =>
  bd1 (pV S34 a0 2 7 (va_rf v33)) fun S36 =>
  bd2 (nA S36 1 600 (.inr (.inl fun _ => 0))) fun v38 S39 =>
  bd1 (pV S39 a0 2 8 (va_rf v38)) fun S41 =>
  bd2 (nA S41 2 24 (.inl fun _ => 0)) fun v43 S44 =>
  bd1 (pV S44 a0 2 9 (va_rf v43)) fun S46 =>
  bd2 (nA S46 0 24 (.inl fun _ => 0)) fun v48 S49 =>
  bd1 (pV S49 a0 2 10 (va_rf v48)) fun S51 =>
  bd2 (nA S51 0 24 (.inl fun _ => 0)) fun v53 S54 =>
  bd1 (pV S54 a0 2 11 (va_rf v53)) fun S56 =>
  bd2 (nA S56 2 2880 (.inl fun _ => 0)) fun v58 S59 =>
  bd1 (pV S59 a0 2 12 (va_rf v58)) fun S61 =>
  bd2 (nA S61 0 2880 (.inl fun _ => 0)) fun v63 S64 =>
  bd1 (pV S64 a0 2 13 (va_rf v63)) fun S66 =>
  bd2 (nA S66 0 2880 (.inl fun _ => 0)) fun v68 S69 =>
  bd1 (pV S69 a0 2 14 (va_rf v68)) fun S71 =>
  bd2 (nA S71 0 2880 (.inl fun _ => 0)) fun v73 S74 =>
  bd1 (pV S74 a0 2 15 (va_rf v73)) fun S76 =>
  bd2 (nA S76 0 20 (.inl fun _ => 0)) fun v78 S79 =>
  bd1 (pV S79 a0 2 17 (va_rf v78)) fun S81 =>
  bd2 (nA S81 0 20 (.inl fun _ => 0)) fun v83 S84 =>
  bd1 (pV S84 a0 2 18 (va_rf v83)) fun S86 =>
  bd2 (nA S86 0 20 (.inl fun _ => 0)) fun v88 S89 =>
  bd1 (pV S89 a0 2 19 (va_rf v88)) fun S91 =>
  bd2 (nA S91 0 2400 (.inl fun _ => 0)) fun v93 S94 =>
  bd1 (pV S94 a0 2 20 (va_rf v93)) fun S96 =>
  bd2 (nA S96 0 20 (.inl fun _ => 0)) fun v98 S99 =>
  bd1 (pV S99 a0 2 21 (va_rf v98)) fun S101 =>
  bd2 (nA S101 0 120 (.inl fun _ => 0)) fun v103 S104 =>
  bd1 (pV S104 a0 2 25 (va_rf v103)) fun S106 =>
  bd2 (nA S106 0 120 (.inl fun _ => 0)) fun v108 S109 =>
  bd1 (pV S109 a0 2 27 (va_rf v108)) fun S111 =>
  bd1 (pV S111 a0 2 28 (.int 4)) fun S113 =>
  bd1 (pV S113 a0 2 29 (.int 16)) fun S115 =>
  bd1 (pV S115 a0 2 30 (.int 8)) fun S117 =>
  bd2 (nA S117 2 12 (.inl fun _ => 0)) fun v119 S120 =>
  bd1 (pV S120 a0 2 31 (va_rf v119)) fun S122 =>
  bd2 (nA S122 0 12 (.inl fun _ => 0)) fun v124 S125 =>
  bd1 (pV S125 a0 2 32 (va_rf v124)) fun S127 =>
  bd2 (nA S127 0 1440 (.inl fun _ => 0)) fun v129 S130 =>
  bd1 (pV S130 a0 2 33 (va_rf v129)) fun S132 =>
  bd2 (nA S132 0 1440 (.inl fun _ => 0)) fun v134 S135 =>
  bd1 (pV S135 a0 2 34 (va_rf v134)) fun S137 =>
  some ((), S137)
def f_X3_thrown  (S0 : Sg) : Option (Int32 × Sg) :=
  some (S0.1 35, S0)
def s_X3_may_10  (x1 : Int32) (t0 : Int32) (S0 : Sg) : Option (Int32 × Sg) :=
  bd1 (some (mP S0 35 t0)) fun S1 =>
  bd1 (zb x1) fun _ =>
  some (x1, S1)
def f_X3_may (x1 : Int32) (S0 : Sg) : Option (Int32 × Sg) :=
  if x1 = 0 then
    s_X3_may_10 x1 1 S0
  else
    s_X3_may_10 x1 0 S0
def s_X3_isByte_16  (t0 : Int32) (S0 : Sg) : Option (Int32 × Sg) :=
  bd1 (zb t0) fun _ =>
  some (t0, S0)
def s_X3_isByte_15   (S0 : Sg) : Option (Int32 × Sg) :=
  s_X3_isByte_16 0 S0
def f_X3_isByte (x0 : Int32) (S0 : Sg) : Option (Int32 × Sg) :=
  if x0 < 0 then
    s_X3_isByte_15  S0
  else
    if 256 ≤ x0 then
      s_X3_isByte_15  S0
    else
      s_X3_isByte_16 1 S0
def s_X3_isFile_17  (t0 : Int32) (S0 : Sg) : Option (Int32 × Sg) :=
  bd1 (zb t0) fun _ =>
  some (t0, S0)
def s_X3_isFile_16   (S0 : Sg) : Option (Int32 × Sg) :=
  s_X3_isFile_17 0 S0
def f_X3_isFile (x1 : Int32) (S0 : Sg) : Option (Int32 × Sg) :=
  if x1 < 0 then
    s_X3_isFile_16  S0
  else
    if (S0.1 0) ≤ x1 then
      s_X3_isFile_16  S0
    else
      s_X3_isFile_17 1 S0
def s_X3_mayAll_41  (t0 : Int32) (S0 : Sg) : Option (Int32 × Sg) :=
  bd1 (zb t0) fun _ =>
  some (t0, S0)
def s_X3_mayAll_26  (t0 : Int32) (S0 : Sg) : Option (Int32 × Sg) :=
  bd1 (some (mP S0 35 t0)) fun S1 =>
  if (S1.1 35) = 0 then
    s_X3_mayAll_41 1 S1
  else
    s_X3_mayAll_41 0 S1
def f_X3_mayAll (x1 : Int32) (x2 : Int32) (x3 : Int32) (S0 : Sg) : Option (Int32 × Sg) :=
  if x1 = 0 then
    s_X3_mayAll_26 1 S0
  else
    if x2 = 0 then
      s_X3_mayAll_26 2 S0
    else
      if x3 = 0 then
        s_X3_mayAll_26 3 S0
      else
        s_X3_mayAll_26 0 S0
def s_X3_insert_73 (rc73 : Int32 × Int32 × Int32 × Int32 → Sg → Option (Int32 × Sg)) (x1 : Int32) (x2 : Int32) (x3 : Int32) (x5 : Int32) (S0 : Sg) : Option (Int32 × Sg) :=
  if x5 ≤ x2 then
    bd1 (mW S0 2 ((120 * x1) + x2) x3) fun S13 =>
    bd1 (mR S13 1 x1) fun v15 =>
    bd1 (mW S13 1 x1 (v15 + 1)) fun S17 =>
    bd1 (mR S17 1 x1) fun v19 =>
    some (v19, S17)
  else
    bd1 (mR S0 2 (((120 * x1) + x5) - 1)) fun v21 =>
    bd1 (mW S0 2 ((120 * x1) + x5) v21) fun S23 =>
    rc73 (x1, x2, x3, (x5 + (-1))) S23
def l_X3_insert_73   : Nat → Int32 × Int32 × Int32 × Int32 → Sg → Option (Int32 × Sg) :=
  lp fun rc73 v S0 => s_X3_insert_73   rc73 v.1 v.2.1 v.2.2.1 v.2.2.2 S0
def s_X3_insert_57  (x1 : Int32) (x2 : Int32) (x3 : Int32) (t0 : Int32) (t1 : Int32) (t2 : Int32) (S0 : Sg) : Option (Int32 × Sg) :=
  bd2 (f_X3_mayAll t2 t1 t0 S0) fun v7 S8 =>
  if v7 = 0 then
    some (0, S8)
  else
    bd1 (mR S8 1 x1) fun v11 =>
    l_X3_insert_73 FU (x1, x2, x3, v11) S8
def s_X3_insert_56  (x1 : Int32) (x2 : Int32) (x3 : Int32) (t0 : Int32) (t1 : Int32) (S0 : Sg) : Option (Int32 × Sg) :=
  s_X3_insert_57 x1 x2 x3 0 t0 t1 S0
def s_X3_insert_27  (x1 : Int32) (x2 : Int32) (x3 : Int32) (t0 : Int32) (S0 : Sg) : Option (Int32 × Sg) :=
  bd2 (f_X3_isByte x3 S0) fun v4 S5 =>
  if t0 = 0 then
    s_X3_insert_56 x1 x2 x3 v4 t0 S5
  else
    bd1 (mR S5 1 x1) fun v25 =>
    if 120 ≤ v25 then
      s_X3_insert_56 x1 x2 x3 v4 t0 S5
    else
      s_X3_insert_57 x1 x2 x3 1 v4 t0 S5
def s_X3_insert_26  (x1 : Int32) (x2 : Int32) (x3 : Int32) (S0 : Sg) : Option (Int32 × Sg) :=
  s_X3_insert_27 x1 x2 x3 0 S0
def f_X3_insert (x1 : Int32) (x2 : Int32) (x3 : Int32) (S0 : Sg) : Option (Int32 × Sg) :=
  bd2 (f_X3_isFile x1 S0) fun v1 S2 =>
  if v1 = 0 then
    s_X3_insert_26 x1 x2 x3 S2
  else
    if x2 < 0 then
      s_X3_insert_26 x1 x2 x3 S2
    else
      bd1 (mR S2 1 x1) fun v27 =>
      if v27 < x2 then
        s_X3_insert_26 x1 x2 x3 S2
      else
        s_X3_insert_27 x1 x2 x3 1 S2
def s_X3_mayBoth_33  (t0 : Int32) (S0 : Sg) : Option (Int32 × Sg) :=
  bd1 (zb t0) fun _ =>
  some (t0, S0)
def s_X3_mayBoth_18  (t0 : Int32) (S0 : Sg) : Option (Int32 × Sg) :=
  bd1 (some (mP S0 35 t0)) fun S1 =>
  if (S1.1 35) = 0 then
    s_X3_mayBoth_33 1 S1
  else
    s_X3_mayBoth_33 0 S1
def f_X3_mayBoth (x1 : Int32) (x2 : Int32) (S0 : Sg) : Option (Int32 × Sg) :=
  if x1 = 0 then
    s_X3_mayBoth_18 1 S0
  else
    if x2 = 0 then
      s_X3_mayBoth_18 2 S0
    else
      s_X3_mayBoth_18 0 S0
def s_X3_copy_80   (S0 : Sg) : Option (Unit × Sg) :=
  some ((), S0)
def s_X3_copy_42 (rc42 : Int32 × Int32 × Int32 → Sg → Option (Unit × Sg)) (x1 : Int32) (x2 : Int32) (x3 : Int32) (S0 : Sg) : Option (Unit × Sg) :=
  bd1 (mR S0 1 x1) fun v12 =>
  if v12 ≤ x3 then
    s_X3_copy_80  S0
  else
    bd1 (mR S0 2 ((120 * x1) + x3)) fun v14 =>
    bd1 (mW S0 2 ((120 * x2) + x3) v14) fun S16 =>
    rc42 (x1, x2, (x3 + 1)) S16
def l_X3_copy_42   : Nat → Int32 × Int32 × Int32 → Sg → Option (Unit × Sg) :=
  lp fun rc42 v S0 => s_X3_copy_42   rc42 v.1 v.2.1 v.2.2 S0
def s_X3_copy_22  (x1 : Int32) (x2 : Int32) (t0 : Int32) (S0 : Sg) : Option (Unit × Sg) :=
  bd2 (f_X3_may t0 S0) fun v4 S5 =>
  if v4 = 0 then
    s_X3_copy_80  S5
  else
    bd1 (mR S5 1 x1) fun v8 =>
    bd1 (mW S5 1 x2 v8) fun S10 =>
    l_X3_copy_42 FU (x1, x2, 0) S10
def s_X3_copy_21  (x1 : Int32) (x2 : Int32) (S0 : Sg) : Option (Unit × Sg) :=
  s_X3_copy_22 x1 x2 0 S0
def f_X3_copy (x1 : Int32) (x2 : Int32) (S0 : Sg) : Option (Unit × Sg) :=
  bd2 (f_X3_isFile x1 S0) fun v1 S2 =>
  if v1 = 0 then
    s_X3_copy_21 x1 x2 S2
  else
    bd2 (f_X3_isFile x2 S2) fun v17 S18 =>
    if v17 = 0 then
      s_X3_copy_21 x1 x2 S18
    else
      s_X3_copy_22 x1 x2 1 S18
def s_X3_length_22  (t0 : Int32) (S0 : Sg) : Option (Int32 × Sg) :=
  some (t0, S0)
def f_X3_length (x1 : Int32) (S0 : Sg) : Option (Int32 × Sg) :=
  bd2 (f_X3_isFile x1 S0) fun v1 S2 =>
  bd2 (f_X3_may v1 S2) fun v4 S5 =>
  if v4 = 0 then
    s_X3_length_22 0 S5
  else
    bd1 (mR S5 1 x1) fun v8 =>
    s_X3_length_22 v8 S5
def s_X3_byteAt_49  (t0 : Int32) (S0 : Sg) : Option (Int32 × Sg) :=
  some (t0, S0)
def s_X3_byteAt_28  (x1 : Int32) (x2 : Int32) (t0 : Int32) (S0 : Sg) : Option (Int32 × Sg) :=
  bd2 (f_X3_may t0 S0) fun v4 S5 =>
  if v4 = 0 then
    s_X3_byteAt_49 0 S5
  else
    bd1 (mR S5 2 ((120 * x1) + x2)) fun v8 =>
    s_X3_byteAt_49 v8 S5
def s_X3_byteAt_27  (x1 : Int32) (x2 : Int32) (S0 : Sg) : Option (Int32 × Sg) :=
  s_X3_byteAt_28 x1 x2 0 S0
def f_X3_byteAt (x1 : Int32) (x2 : Int32) (S0 : Sg) : Option (Int32 × Sg) :=
  bd2 (f_X3_isFile x1 S0) fun v1 S2 =>
  if v1 = 0 then
    s_X3_byteAt_27 x1 x2 S2
  else
    if x2 < 0 then
      s_X3_byteAt_27 x1 x2 S2
    else
      bd1 (mR S2 1 x1) fun v10 =>
      if v10 ≤ x2 then
        s_X3_byteAt_27 x1 x2 S2
      else
        s_X3_byteAt_28 x1 x2 1 S2
def s_X3_same_43   (S0 : Sg) : Option (Int32 × Sg) :=
  bd1 (zb 0) fun _ =>
  some (0, S0)
def s_X3_same_47 (rc47 : Int32 × Int32 × Int32 → Sg → Option (Int32 × Sg)) (x1 : Int32) (x2 : Int32) (x3 : Int32) (S0 : Sg) : Option (Int32 × Sg) :=
  bd1 (mR S0 1 x1) fun v13 =>
  if v13 ≤ x3 then
    bd1 (zb 1) fun _ =>
    some (1, S0)
  else
    bd1 (mR S0 2 ((120 * x1) + x3)) fun v16 =>
    bd1 (mR S0 2 ((120 * x2) + x3)) fun v18 =>
    if v16 = v18 then
      rc47 (x1, x2, (x3 + 1)) S0
    else
      bd1 (zb 0) fun _ =>
      some (0, S0)
def l_X3_same_47   : Nat → Int32 × Int32 × Int32 → Sg → Option (Int32 × Sg) :=
  lp fun rc47 v S0 => s_X3_same_47   rc47 v.1 v.2.1 v.2.2 S0
def s_X3_same_22  (x1 : Int32) (x2 : Int32) (t0 : Int32) (S0 : Sg) : Option (Int32 × Sg) :=
  bd2 (f_X3_may t0 S0) fun v4 S5 =>
  if v4 = 0 then
    s_X3_same_43  S5
  else
    bd1 (mR S5 1 x1) fun v9 =>
    bd1 (mR S5 1 x2) fun v11 =>
    if v9 = v11 then
      l_X3_same_47 FU (x1, x2, 0) S5
    else
      s_X3_same_43  S5
def s_X3_same_21  (x1 : Int32) (x2 : Int32) (S0 : Sg) : Option (Int32 × Sg) :=
  s_X3_same_22 x1 x2 0 S0
def f_X3_same (x1 : Int32) (x2 : Int32) (S0 : Sg) : Option (Int32 × Sg) :=
  bd2 (f_X3_isFile x1 S0) fun v1 S2 =>
  if v1 = 0 then
    s_X3_same_21 x1 x2 S2
  else
    bd2 (f_X3_isFile x2 S2) fun v20 S21 =>
    if v20 = 0 then
      s_X3_same_21 x1 x2 S21
    else
      s_X3_same_22 x1 x2 1 S21
def s_X3_isPlace_14  (t0 : Int32) (S0 : Sg) : Option (Int32 × Sg) :=
  bd1 (zb t0) fun _ =>
  some (t0, S0)
def s_X3_isPlace_13   (S0 : Sg) : Option (Int32 × Sg) :=
  s_X3_isPlace_14 0 S0
def f_X3_isPlace (x0 : Int32) (S0 : Sg) : Option (Int32 × Sg) :=
  if x0 < 0 then
    s_X3_isPlace_13  S0
  else
    if 4 ≤ x0 then
      s_X3_isPlace_13  S0
    else
      s_X3_isPlace_14 1 S0
def s_X3_bring_12 (rc12 : Int32 × Int32 → Sg → Option (Unit × Sg)) (x1 : Int32) (x2 : Int32) (S0 : Sg) : Option (Unit × Sg) :=
  if (S0.1 26) ≤ x2 then
    some ((), S0)
  else
    bd1 (mR S0 2 ((120 * x1) + x2)) fun v6 =>
    bd1 (mW S0 25 x2 v6) fun S8 =>
    rc12 (x1, (x2 + 1)) S8
def l_X3_bring_12   : Nat → Int32 × Int32 → Sg → Option (Unit × Sg) :=
  lp fun rc12 v S0 => s_X3_bring_12   rc12 v.1 v.2 S0
def f_X3_bring (x1 : Int32) (S0 : Sg) : Option (Unit × Sg) :=
  bd1 (mR S0 1 x1) fun v2 =>
  bd1 (some (mP S0 26 v2)) fun S3 =>
  l_X3_bring_12 FU (x1, 0) S3
def s_X3_lengthOf_36  (t0 : Int32) (S0 : Sg) : Option (Int32 × Sg) :=
  some (t0, S0)
def f_X3_lengthOf (x1 : Int32) (x2 : Int32) (S0 : Sg) : Option (Int32 × Sg) :=
  bd1 (mR S0 5 x1) fun v2 =>
  bd1 (mR S0 3 x1) fun v4 =>
  bd1 (mR S0 3 x1) fun v6 =>
  if v6 ≤ (v2 - (x2 * v4)) then
    bd1 (mR S0 3 x1) fun v8 =>
    s_X3_lengthOf_36 v8 S0
  else
    s_X3_lengthOf_36 (v2 - (x2 * v4)) S0
def s_X3_weakOf_9 (k0 : Nat) (rc9 : Int32 × Int32 × Int32 × Int32 × Int32 × Int32 → Sg → Option (Int32 × Sg)) (x1 : Int32) (x2 : Int32) (x3 : Int32) (x4 : Int32) (x5 : Int32) (x6 : Int32) (S0 : Sg) : Option (Int32 × Sg) :=
  if x2 ≤ x6 then
    bd1 (nz x3) fun _ =>
    bd1 (nz x3) fun _ =>
    some (((x5 - x5 / x3 * x3) * x3) + (x4 - x4 / x3 * x3), S0)
  else
    bd1 (mR S0 k0 (x1 + x6)) fun v4 =>
    bd1 (mR S0 k0 (x1 + x6)) fun v6 =>
    rc9 (x1, x2, x3, (x4 + v4), (x5 + ((x2 - x6) * v6)), (x6 + 1)) S0
def l_X3_weakOf_9 (k0 : Nat)  : Nat → Int32 × Int32 × Int32 × Int32 × Int32 × Int32 → Sg → Option (Int32 × Sg) :=
  lp fun rc9 v S0 => s_X3_weakOf_9 k0  rc9 v.1 v.2.1 v.2.2.1 v.2.2.2.1 v.2.2.2.2.1 v.2.2.2.2.2 S0
def f_X3_weakOf (k0 : Nat) (x1 : Int32) (x2 : Int32) (x3 : Int32) (S0 : Sg) : Option (Int32 × Sg) :=
  l_X3_weakOf_9 k0 FU (x1, x2, x3, 0, 0, 0) S0
def s_X3_strongOf_7 (k0 : Nat) (rc7 : Int32 × Int64 × Int32 → Sg → Option (Int64 × Sg)) (x1 : Int32) (j3 : Int64) (x5 : Int32) (S0 : Sg) : Option (Int64 × Sg) :=
  if x5 < 0 then
    some (j3, S0)
  else
    bd1 (mR S0 k0 (x1 + x5)) fun v2 =>
    rc7 (x1, (((257 * j3) + v2.toInt64) + 1), (x5 + (-1))) S0
def l_X3_strongOf_7 (k0 : Nat)  : Nat → Int32 × Int64 × Int32 → Sg → Option (Int64 × Sg) :=
  lp fun rc7 v S0 => s_X3_strongOf_7 k0  rc7 v.1 v.2.1 v.2.2 S0
def f_X3_strongOf (k0 : Nat) (x1 : Int32) (x2 : Int32) (S0 : Sg) : Option (Int64 × Sg) :=
  l_X3_strongOf_7 k0 FU (x1, 0, (x2 - 1)) S0
def s_X3_blocks_21  (t0 : Int32) (S0 : Sg) : Option (Int32 × Sg) :=
  some (t0, S0)
def f_X3_blocks (x1 : Int32) (S0 : Sg) : Option (Int32 × Sg) :=
  bd2 (f_X3_isPlace x1 S0) fun v1 S2 =>
  bd2 (f_X3_may v1 S2) fun v4 S5 =>
  if v4 = 0 then
    s_X3_blocks_21 0 S5
  else
    bd1 (mR S5 6 x1) fun v8 =>
    s_X3_blocks_21 v8 S5
def s_X3_isBlock_26  (t0 : Int32) (S0 : Sg) : Option (Int32 × Sg) :=
  bd1 (zb t0) fun _ =>
  some (t0, S0)
def s_X3_isBlock_25   (S0 : Sg) : Option (Int32 × Sg) :=
  s_X3_isBlock_26 0 S0
def f_X3_isBlock (x1 : Int32) (x2 : Int32) (S0 : Sg) : Option (Int32 × Sg) :=
  bd2 (f_X3_isPlace x1 S0) fun v1 S2 =>
  if v1 = 0 then
    s_X3_isBlock_25  S2
  else
    if x2 < 0 then
      s_X3_isBlock_25  S2
    else
      bd1 (mR S2 6 x1) fun v6 =>
      if v6 ≤ x2 then
        s_X3_isBlock_25  S2
      else
        s_X3_isBlock_26 1 S2
def s_X3_strong_28  (t0 : Int64) (S0 : Sg) : Option (Int64 × Sg) :=
  some (t0, S0)
def f_X3_strong (x1 : Int32) (x2 : Int32) (S0 : Sg) : Option (Int64 × Sg) :=
  bd2 (f_X3_isBlock x1 x2 S0) fun v1 S2 =>
  bd2 (f_X3_may v1 S2) fun v4 S5 =>
  if v4 = 0 then
    s_X3_strong_28 0 S5
  else
    bd1 (mRL S5 8 ((120 * x1) + x2)) fun v8 =>
    s_X3_strong_28 v8 S5
def f_X3_begins (x1 : Int32) (x2 : Int32) (x3 : Int32) (x4 : Int32) (S0 : Sg) : Option (Unit × Sg) :=
  bd1 (mR S0 10 x1) fun v2 =>
  bd1 (mW S0 12 ((120 * x1) + v2) (vp_nar .boolean x2)) fun S4 =>
  bd1 (mW S4 13 ((120 * x1) + v2) x3) fun S6 =>
  bd1 (mW S6 14 ((120 * x1) + v2) x4) fun S8 =>
  bd1 (mR S8 10 x1) fun v10 =>
  bd1 (mW S8 10 x1 (v10 + 1)) fun S12 =>
  some ((), S12)
def s_X3_instructions_21  (t0 : Int32) (S0 : Sg) : Option (Int32 × Sg) :=
  some (t0, S0)
def f_X3_instructions (x1 : Int32) (S0 : Sg) : Option (Int32 × Sg) :=
  bd2 (f_X3_isPlace x1 S0) fun v1 S2 =>
  bd2 (f_X3_may v1 S2) fun v4 S5 =>
  if v4 = 0 then
    s_X3_instructions_21 0 S5
  else
    bd1 (mR S5 10 x1) fun v8 =>
    s_X3_instructions_21 v8 S5
def s_X3_isInstruction_26  (t0 : Int32) (S0 : Sg) : Option (Int32 × Sg) :=
  bd1 (zb t0) fun _ =>
  some (t0, S0)
def s_X3_isInstruction_25   (S0 : Sg) : Option (Int32 × Sg) :=
  s_X3_isInstruction_26 0 S0
def f_X3_isInstruction (x1 : Int32) (x2 : Int32) (S0 : Sg) : Option (Int32 × Sg) :=
  bd2 (f_X3_isPlace x1 S0) fun v1 S2 =>
  if v1 = 0 then
    s_X3_isInstruction_25  S2
  else
    if x2 < 0 then
      s_X3_isInstruction_25  S2
    else
      bd1 (mR S2 10 x1) fun v6 =>
      if v6 ≤ x2 then
        s_X3_isInstruction_25  S2
      else
        s_X3_isInstruction_26 1 S2
def s_X3_startOf_28  (t0 : Int32) (S0 : Sg) : Option (Int32 × Sg) :=
  some (t0, S0)
def f_X3_startOf (x1 : Int32) (x2 : Int32) (S0 : Sg) : Option (Int32 × Sg) :=
  bd2 (f_X3_isInstruction x1 x2 S0) fun v1 S2 =>
  bd2 (f_X3_may v1 S2) fun v4 S5 =>
  if v4 = 0 then
    s_X3_startOf_28 0 S5
  else
    bd1 (mR S5 13 ((120 * x1) + x2)) fun v8 =>
    s_X3_startOf_28 v8 S5
def s_X3_bytesOf_28  (t0 : Int32) (S0 : Sg) : Option (Int32 × Sg) :=
  some (t0, S0)
def f_X3_bytesOf (x1 : Int32) (x2 : Int32) (S0 : Sg) : Option (Int32 × Sg) :=
  bd2 (f_X3_isInstruction x1 x2 S0) fun v1 S2 =>
  bd2 (f_X3_may v1 S2) fun v4 S5 =>
  if v4 = 0 then
    s_X3_bytesOf_28 0 S5
  else
    bd1 (mR S5 14 ((120 * x1) + x2)) fun v8 =>
    s_X3_bytesOf_28 v8 S5
def s_X3_costOf_44 (rc7 : Int32 × Int32 × Int32 → Sg → Option (Int32 × Sg)) (x1 : Int32) (x3 : Int32) (t0 : Int32) (t1 : Int32) (S0 : Sg) : Option (Int32 × Sg) :=
  rc7 (x1, (t1 + t0), (x3 + 1)) S0
def s_X3_costOf_7 (rc7 : Int32 × Int32 × Int32 → Sg → Option (Int32 × Sg)) (x1 : Int32) (x2 : Int32) (x3 : Int32) (S0 : Sg) : Option (Int32 × Sg) :=
  bd1 (mR S0 10 x1) fun v2 =>
  if ((120 * x1) + v2) ≤ x3 then
    some (x2, S0)
  else
    bd1 (mR S0 12 x3) fun v4 =>
    if v4 = 0 then
      bd1 (mR S0 14 x3) fun v6 =>
      s_X3_costOf_44 rc7 x1 x3 (1 + v6) x2 S0
    else
      s_X3_costOf_44 rc7 x1 x3 3 x2 S0
def l_X3_costOf_7   : Nat → Int32 × Int32 × Int32 → Sg → Option (Int32 × Sg) :=
  lp fun rc7 v S0 => s_X3_costOf_7   rc7 v.1 v.2.1 v.2.2 S0
def f_X3_costOf (x1 : Int32) (S0 : Sg) : Option (Int32 × Sg) :=
  l_X3_costOf_7 FU (x1, 0, (120 * x1)) S0
def s_X3_alarms_21  (t0 : Int32) (S0 : Sg) : Option (Int32 × Sg) :=
  some (t0, S0)
def f_X3_alarms (x1 : Int32) (S0 : Sg) : Option (Int32 × Sg) :=
  bd2 (f_X3_isPlace x1 S0) fun v1 S2 =>
  bd2 (f_X3_may v1 S2) fun v4 S5 =>
  if v4 = 0 then
    s_X3_alarms_21 0 S5
  else
    bd1 (mR S5 11 x1) fun v8 =>
    s_X3_alarms_21 v8 S5
def s_X3_goesBeyond_51 (rc5 : Int32 × Int32 → Sg → Option (Int32 × Sg)) (x1 : Int32) (x2 : Int32) (S0 : Sg) : Option (Int32 × Sg) :=
  rc5 (x1, (x2 + 1)) S0
def s_X3_goesBeyond_5 (rc5 : Int32 × Int32 → Sg → Option (Int32 × Sg)) (x1 : Int32) (x2 : Int32) (S0 : Sg) : Option (Int32 × Sg) :=
  bd1 (mR S0 10 x1) fun v2 =>
  if ((120 * x1) + v2) ≤ x2 then
    bd1 (zb 0) fun _ =>
    some (0, S0)
  else
    bd1 (mR S0 12 x2) fun v5 =>
    if v5 = 0 then
      s_X3_goesBeyond_51 rc5 x1 x2 S0
    else
      bd1 (mR S0 13 x2) fun v7 =>
      bd1 (mR S0 14 x2) fun v9 =>
      if (v7 + v9) ≤ (S0.1 26) then
        s_X3_goesBeyond_51 rc5 x1 x2 S0
      else
        bd1 (zb 1) fun _ =>
        some (1, S0)
def l_X3_goesBeyond_5   : Nat → Int32 × Int32 → Sg → Option (Int32 × Sg) :=
  lp fun rc5 v S0 => s_X3_goesBeyond_5   rc5 v.1 v.2 S0
def f_X3_goesBeyond (x1 : Int32) (S0 : Sg) : Option (Int32 × Sg) :=
  l_X3_goesBeyond_5 FU (x1, (120 * x1)) S0
def s_X3_applies_109 (rc109 : Int32 × Int32 → Sg → Option (Unit × Sg)) (x2 : Int32) (x3 : Int32) (S0 : Sg) : Option (Unit × Sg) :=
  if x2 ≤ x3 then
    some ((), S0)
  else
    bd1 (mR S0 27 x3) fun v6 =>
    bd1 (mW S0 25 x3 v6) fun S8 =>
    rc109 (x2, (x3 + 1)) S8
def l_X3_applies_109   : Nat → Int32 × Int32 → Sg → Option (Unit × Sg) :=
  lp fun rc109 v S0 => s_X3_applies_109   rc109 v.1 v.2 S0
def s_X3_applies_86 (rc7 : Int32 × Int32 × Int32 → Sg → Option (Unit × Sg)) (rc25 : Int32 × Int32 × Int32 × Int32 → Sg → Option (Unit × Sg)) (x1 : Int32) (x2 : Int32) (x3 : Int32) (x4 : Int32) (t0 : Int32) (t1 : Int32) (S0 : Sg) : Option (Unit × Sg) :=
  bd1 (mW S0 27 t1 t0) fun S18 =>
  rc25 (x1, (x2 + 1), x3, (x4 + 1)) S18
def s_X3_applies_25 (rc7 : Int32 × Int32 × Int32 → Sg → Option (Unit × Sg)) (rc25 : Int32 × Int32 × Int32 × Int32 → Sg → Option (Unit × Sg)) (x1 : Int32) (x2 : Int32) (x3 : Int32) (x4 : Int32) (S0 : Sg) : Option (Unit × Sg) :=
  bd1 (mR S0 14 x3) fun v10 =>
  if v10 ≤ x4 then
    rc7 (x1, x2, (x3 + 1)) S0
  else
    bd1 (mR S0 12 x3) fun v12 =>
    if v12 = 0 then
      bd1 (mR S0 13 x3) fun v14 =>
      bd1 (mR S0 15 (((120 * x1) + v14) + x4)) fun v16 =>
      s_X3_applies_86 rc7 rc25 x1 x2 x3 x4 v16 x2 S0
    else
      bd1 (mR S0 13 x3) fun v20 =>
      bd1 (mR S0 25 (v20 + x4)) fun v22 =>
      s_X3_applies_86 rc7 rc25 x1 x2 x3 x4 v22 x2 S0
def l_X3_applies_25  (rc7 : Int32 × Int32 × Int32 → Sg → Option (Unit × Sg)) : Nat → Int32 × Int32 × Int32 × Int32 → Sg → Option (Unit × Sg) :=
  lp fun rc25 v S0 => s_X3_applies_25  rc7 rc25 v.1 v.2.1 v.2.2.1 v.2.2.2 S0
def s_X3_applies_7 (rc7 : Int32 × Int32 × Int32 → Sg → Option (Unit × Sg)) (x1 : Int32) (x2 : Int32) (x3 : Int32) (S0 : Sg) : Option (Unit × Sg) :=
  bd1 (mR S0 10 x1) fun v2 =>
  if ((120 * x1) + v2) ≤ x3 then
    bd1 (some (mP S0 26 x2)) fun S3 =>
    l_X3_applies_109 FU (x2, 0) S3
  else
    l_X3_applies_25 rc7 FU (x1, x2, x3, 0) S0
def l_X3_applies_7   : Nat → Int32 × Int32 × Int32 → Sg → Option (Unit × Sg) :=
  lp fun rc7 v S0 => s_X3_applies_7   rc7 v.1 v.2.1 v.2.2 S0
def f_X3_applies (x1 : Int32) (S0 : Sg) : Option (Unit × Sg) :=
  l_X3_applies_7 FU (x1, 0, (120 * x1)) S0
def s_X3_give_12 (rc12 : Int32 × Int32 → Sg → Option (Int32 × Sg)) (x1 : Int32) (x2 : Int32) (S0 : Sg) : Option (Int32 × Sg) :=
  if (S0.1 26) ≤ x2 then
    some (S0.1 26, S0)
  else
    bd1 (mR S0 25 x2) fun v4 =>
    bd1 (mW S0 2 ((120 * x1) + x2) v4) fun S6 =>
    rc12 (x1, (x2 + 1)) S6
def l_X3_give_12   : Nat → Int32 × Int32 → Sg → Option (Int32 × Sg) :=
  lp fun rc12 v S0 => s_X3_give_12   rc12 v.1 v.2 S0
def f_X3_give (x1 : Int32) (S0 : Sg) : Option (Int32 × Sg) :=
  bd1 (mW S0 1 x1 (S0.1 26)) fun S2 =>
  l_X3_give_12 FU (x1, 0) S2
def s_X3_holds_21 (rc21 : Int32 × Int32 × Int32 → Sg → Option (Unit × Sg)) (x1 : Int32) (x2 : Int32) (x3 : Int32) (S0 : Sg) : Option (Unit × Sg) :=
  bd1 (mR S0 1 x2) fun v8 =>
  if v8 ≤ x3 then
    some ((), S0)
  else
    bd1 (mR S0 2 ((120 * x2) + x3)) fun v10 =>
    bd1 (mW S0 20 ((120 * x1) + x3) v10) fun S12 =>
    rc21 (x1, x2, (x3 + 1)) S12
def l_X3_holds_21   : Nat → Int32 × Int32 × Int32 → Sg → Option (Unit × Sg) :=
  lp fun rc21 v S0 => s_X3_holds_21   rc21 v.1 v.2.1 v.2.2 S0
def f_X3_holds (x1 : Int32) (x2 : Int32) (S0 : Sg) : Option (Unit × Sg) :=
  bd1 (mW S0 17 x1 1) fun S2 =>
  bd1 (mR S2 1 x2) fun v4 =>
  bd1 (mW S2 19 x1 v4) fun S6 =>
  l_X3_holds_21 FU (x1, x2, 0) S6
def s_X3_isVersion_17  (t0 : Int32) (S0 : Sg) : Option (Int32 × Sg) :=
  bd1 (zb t0) fun _ =>
  some (t0, S0)
def s_X3_isVersion_16   (S0 : Sg) : Option (Int32 × Sg) :=
  s_X3_isVersion_17 0 S0
def f_X3_isVersion (x1 : Int32) (S0 : Sg) : Option (Int32 × Sg) :=
  if x1 < 0 then
    s_X3_isVersion_16  S0
  else
    if (S0.1 16) ≤ x1 then
      s_X3_isVersion_16  S0
    else
      s_X3_isVersion_17 1 S0
def s_X3_makes_127 (rc127 : Int32 → Sg → Option (Int32 × Sg)) (x4 : Int32) (S0 : Sg) : Option (Int32 × Sg) :=
  if x4 < 0 then
    bd1 (zb 1) fun _ =>
    some (1, S0)
  else
    bd1 (mR S0 21 x4) fun v17 =>
    bd2 (f_X3_goesBeyond (4 + v17) S0) fun v18 S19 =>
    if v18 = 0 then
      bd1 (mR S19 21 x4) fun v22 =>
      bd2 (f_X3_applies (4 + v22) S19) fun v23 S24 =>
      rc127 (x4 + (-1)) S24
    else
      bd1 (mR S19 21 x4) fun v27 =>
      bd1 (some (mP S19 22 v27)) fun S28 =>
      bd1 (some (mP S28 23 x4)) fun S30 =>
      bd1 (some (mP S30 24 2)) fun S32 =>
      bd1 (zb 0) fun _ =>
      some (0, S32)
def l_X3_makes_127   : Nat → Int32 → Sg → Option (Int32 × Sg) :=
  lp fun rc127 v S0 => s_X3_makes_127   rc127 v S0
def s_X3_makes_88 (rc88 : Int32 × Int32 × Int32 → Sg → Option (Int32 × Sg)) (x2 : Int32) (x3 : Int32) (x4 : Int32) (S0 : Sg) : Option (Int32 × Sg) :=
  if (S0.1 26) ≤ x4 then
    l_X3_makes_127 FU (x2 - 1) S0
  else
    bd1 (mR S0 20 ((120 * x3) + x4)) fun v36 =>
    bd1 (mW S0 25 x4 v36) fun S38 =>
    rc88 (x2, x3, (x4 + 1)) S38
def l_X3_makes_88   : Nat → Int32 × Int32 × Int32 → Sg → Option (Int32 × Sg) :=
  lp fun rc88 v S0 => s_X3_makes_88   rc88 v.1 v.2.1 v.2.2 S0
def s_X3_makes_4 (rc4 : Int32 × Int32 → Sg → Option (Int32 × Sg)) (x2 : Int32) (x3 : Int32) (S0 : Sg) : Option (Int32 × Sg) :=
  bd1 (mR S0 17 x3) fun v2 =>
  if v2 = 2 then
    bd1 (mW S0 21 x2 x3) fun S47 =>
    bd1 (mR S47 18 x3) fun v49 =>
    rc4 ((x2 + 1), v49) S47
  else
    bd1 (some (mP S0 22 ((-1)))) fun S3 =>
    bd1 (some (mP S3 23 ((-1)))) fun S5 =>
    bd1 (some (mP S5 24 ((-1)))) fun S7 =>
    bd1 (mR S7 17 x3) fun v10 =>
    if v10 = 0 then
      bd1 (some (mP S7 22 x3)) fun S39 =>
      bd1 (some (mP S39 23 x2)) fun S41 =>
      bd1 (some (mP S41 24 1)) fun S43 =>
      bd1 (zb 0) fun _ =>
      some (0, S43)
    else
      bd1 (mR S7 19 x3) fun v12 =>
      bd1 (some (mP S7 26 v12)) fun S13 =>
      l_X3_makes_88 FU (x2, x3, 0) S13
def l_X3_makes_4   : Nat → Int32 × Int32 → Sg → Option (Int32 × Sg) :=
  lp fun rc4 v S0 => s_X3_makes_4   rc4 v.1 v.2 S0
def f_X3_makes (x1 : Int32) (S0 : Sg) : Option (Int32 × Sg) :=
  l_X3_makes_4 FU (0, x1) S0
def s_X3_heldOf_39  (t0 : Int32) (S0 : Sg) : Option (Int32 × Sg) :=
  some (t0, S0)
def f_X3_heldOf (x1 : Int32) (S0 : Sg) : Option (Int32 × Sg) :=
  bd1 (mR S0 17 x1) fun v2 =>
  if v2 = 0 then
    s_X3_heldOf_39 0 S0
  else
    bd1 (mR S0 17 x1) fun v4 =>
    if v4 = 1 then
      bd1 (mR S0 19 x1) fun v9 =>
      s_X3_heldOf_39 v9 S0
    else
      bd2 (f_X3_costOf (4 + x1) S0) fun v5 S6 =>
      s_X3_heldOf_39 v5 S6
def s_X3_replace_34   (S0 : Sg) : Option (Unit × Sg) :=
  some ((), S0)
def s_X3_replace_22  (x1 : Int32) (x2 : Int32) (t0 : Int32) (S0 : Sg) : Option (Unit × Sg) :=
  bd2 (f_X3_may t0 S0) fun v4 S5 =>
  if v4 = 0 then
    s_X3_replace_34  S5
  else
    bd2 (f_X3_holds x1 x2 S5) fun v7 S8 =>
    s_X3_replace_34  S8
def s_X3_replace_21  (x1 : Int32) (x2 : Int32) (S0 : Sg) : Option (Unit × Sg) :=
  s_X3_replace_22 x1 x2 0 S0
def f_X3_replace (x1 : Int32) (x2 : Int32) (S0 : Sg) : Option (Unit × Sg) :=
  bd2 (f_X3_isVersion x1 S0) fun v1 S2 =>
  if v1 = 0 then
    s_X3_replace_21 x1 x2 S2
  else
    bd2 (f_X3_isFile x2 S2) fun v10 S11 =>
    if v10 = 0 then
      s_X3_replace_21 x1 x2 S11
    else
      s_X3_replace_22 x1 x2 1 S11
def s_X3_rebuild_56  (t0 : Int32) (S0 : Sg) : Option (Int32 × Sg) :=
  some (t0, S0)
def s_X3_rebuild_41  (x2 : Int32) (t0 : Int32) (t1 : Int32) (S0 : Sg) : Option (Int32 × Sg) :=
  bd2 (f_X3_mayBoth t1 t0 S0) fun v4 S5 =>
  if v4 = 0 then
    s_X3_rebuild_56 0 S5
  else
    bd2 (f_X3_give x2 S5) fun v7 S8 =>
    s_X3_rebuild_56 v7 S8
def s_X3_rebuild_40  (x2 : Int32) (t0 : Int32) (S0 : Sg) : Option (Int32 × Sg) :=
  s_X3_rebuild_41 x2 0 t0 S0
def s_X3_rebuild_21  (x1 : Int32) (x2 : Int32) (t0 : Int32) (S0 : Sg) : Option (Int32 × Sg) :=
  if t0 = 0 then
    s_X3_rebuild_40 x2 t0 S0
  else
    bd2 (f_X3_makes x1 S0) fun v10 S11 =>
    if v10 = 0 then
      s_X3_rebuild_40 x2 t0 S11
    else
      s_X3_rebuild_41 x2 1 t0 S11
def s_X3_rebuild_20  (x1 : Int32) (x2 : Int32) (S0 : Sg) : Option (Int32 × Sg) :=
  s_X3_rebuild_21 x1 x2 0 S0
def f_X3_rebuild (x1 : Int32) (x2 : Int32) (S0 : Sg) : Option (Int32 × Sg) :=
  bd2 (f_X3_isVersion x1 S0) fun v1 S2 =>
  if v1 = 0 then
    s_X3_rebuild_20 x1 x2 S2
  else
    bd2 (f_X3_isFile x2 S2) fun v13 S14 =>
    if v13 = 0 then
      s_X3_rebuild_20 x1 x2 S14
    else
      s_X3_rebuild_21 x1 x2 1 S14
def f_X3_versions  (S0 : Sg) : Option (Int32 × Sg) :=
  bd1 (some (mP S0 35 0)) fun S1 =>
  some (S1.1 16, S1)
def f_X3_brokenAt (x1 : Int32) (S0 : Sg) : Option (Int32 × Sg) :=
  bd2 (f_X3_isVersion x1 S0) fun v1 S2 =>
  bd2 (f_X3_may v1 S2) fun v4 S5 =>
  if v4 = 0 then
    some (0, S5)
  else
    bd2 (f_X3_makes x1 S5) fun v7 S8 =>
    some (S8.1 22, S8)
def f_X3_brokenAfter (x1 : Int32) (S0 : Sg) : Option (Int32 × Sg) :=
  bd2 (f_X3_isVersion x1 S0) fun v1 S2 =>
  bd2 (f_X3_may v1 S2) fun v4 S5 =>
  if v4 = 0 then
    some (0, S5)
  else
    bd2 (f_X3_makes x1 S5) fun v7 S8 =>
    some (S8.1 23, S8)
def f_X3_reason (x1 : Int32) (S0 : Sg) : Option (Int32 × Sg) :=
  bd2 (f_X3_isVersion x1 S0) fun v1 S2 =>
  bd2 (f_X3_may v1 S2) fun v4 S5 =>
  if v4 = 0 then
    some (0, S5)
  else
    bd2 (f_X3_makes x1 S5) fun v7 S8 =>
    some (S8.1 24, S8)
def s_X3_heldBy_21  (t0 : Int32) (S0 : Sg) : Option (Int32 × Sg) :=
  some (t0, S0)
def f_X3_heldBy (x1 : Int32) (S0 : Sg) : Option (Int32 × Sg) :=
  bd2 (f_X3_isVersion x1 S0) fun v1 S2 =>
  bd2 (f_X3_may v1 S2) fun v4 S5 =>
  if v4 = 0 then
    s_X3_heldBy_21 0 S5
  else
    bd2 (f_X3_heldOf x1 S5) fun v7 S8 =>
    s_X3_heldBy_21 v7 S8
def s_X3_cuts_60   (S0 : Sg) : Option (Unit × Sg) :=
  some ((), S0)
def s_X3_cuts_39  (x1 : Int32) (x2 : Int32) (x3 : Int32) (t0 : Int32) (S0 : Sg) : Option (Unit × Sg) :=
  bd2 (f_X3_may t0 S0) fun v1 S2 =>
  if v1 = 0 then
    s_X3_cuts_60  S2
  else
    bd1 (some (mP S2 28 x1)) fun S4 =>
    bd1 (some (mP S4 29 x2)) fun S6 =>
    bd1 (some (mP S6 30 x3)) fun S8 =>
    s_X3_cuts_60  S8
def s_X3_cuts_38  (x1 : Int32) (x2 : Int32) (x3 : Int32) (S0 : Sg) : Option (Unit × Sg) :=
  s_X3_cuts_39 x1 x2 x3 0 S0
def f_X3_cuts (x1 : Int32) (x2 : Int32) (x3 : Int32) (S0 : Sg) : Option (Unit × Sg) :=
  if x1 < 1 then
    s_X3_cuts_38 x1 x2 x3 S0
  else
    if 16 < x1 then
      s_X3_cuts_38 x1 x2 x3 S0
    else
      if x2 < x1 then
        s_X3_cuts_38 x1 x2 x3 S0
      else
        if 40 < x2 then
          s_X3_cuts_38 x1 x2 x3 S0
        else
          if x3 < 1 then
            s_X3_cuts_38 x1 x2 x3 S0
          else
            if 64 < x3 then
              s_X3_cuts_38 x1 x2 x3 S0
            else
              s_X3_cuts_39 x1 x2 x3 1 S0
def s_X3_hash_45  (x3 : Int32) (S0 : Sg) : Option (Int32 × Sg) :=
  some (x3, S0)
def s_X3_hash_5 (rc5 : Int32 × Int32 × Int32 × Int32 → Sg → Option (Int32 × Sg)) (x1 : Int32) (x2 : Int32) (x3 : Int32) (x4 : Int32) (S0 : Sg) : Option (Int32 × Sg) :=
  if 4 ≤ x4 then
    s_X3_hash_45 x3 S0
  else
    if x2 < x4 then
      s_X3_hash_45 x3 S0
    else
      bd1 (mR S0 2 (((120 * x1) + x2) - x4)) fun v2 =>
      rc5 (x1, x2, (x3 + ((x4 + 1) * v2)), (x4 + 1)) S0
def l_X3_hash_5   : Nat → Int32 × Int32 × Int32 × Int32 → Sg → Option (Int32 × Sg) :=
  lp fun rc5 v S0 => s_X3_hash_5   rc5 v.1 v.2.1 v.2.2.1 v.2.2.2 S0
def f_X3_hash (x1 : Int32) (x2 : Int32) (S0 : Sg) : Option (Int32 × Sg) :=
  l_X3_hash_5 FU (x1, x2, 0, 0) S0
def s_X3_isThere_24  (t0 : Int32) (S0 : Sg) : Option (Int32 × Sg) :=
  bd1 (zb t0) fun _ =>
  some (t0, S0)
def s_X3_isThere_23   (S0 : Sg) : Option (Int32 × Sg) :=
  s_X3_isThere_24 0 S0
def f_X3_isThere (x1 : Int32) (S0 : Sg) : Option (Int32 × Sg) :=
  if x1 < 0 then
    s_X3_isThere_23  S0
  else
    if 12 ≤ x1 then
      s_X3_isThere_23  S0
    else
      bd1 (mR S0 31 x1) fun v3 =>
      if v3 = 0 then
        s_X3_isThere_23  S0
      else
        s_X3_isThere_24 1 S0
def s_X3_names_159 (rc6 : Int32 × Int32 × Int32 × Int32 × Int32 × Int32 × Int32 → Sg → Option (Int32 × Sg)) (rc63 : Int32 × Int32 × Int32 × Int32 × Int32 × Int32 × Int32 × Int32 × Int32 × Int32 → Sg → Option (Int32 × Sg)) (x1 : Int32) (x2 : Int32) (x3 : Int32) (x4 : Int32) (x5 : Int32) (x7 : Int32) (x8 : Int32) (x9 : Int32) (x10 : Int32) (x11 : Int32) (t0 : Int32) (t1 : Int32) (S0 : Sg) : Option (Int32 × Sg) :=
  rc63 (x1, x2, x3, x4, x5, (t1 + t0), x7, (x8 + x11), x9, (x10 + 1)) S0
def s_X3_names_147 (rc6 : Int32 × Int32 × Int32 × Int32 × Int32 × Int32 × Int32 → Sg → Option (Int32 × Sg)) (rc63 : Int32 × Int32 × Int32 × Int32 × Int32 × Int32 × Int32 × Int32 × Int32 × Int32 → Sg → Option (Int32 × Sg)) (x1 : Int32) (x2 : Int32) (x3 : Int32) (x4 : Int32) (x5 : Int32) (x6 : Int32) (x7 : Int32) (x8 : Int32) (x9 : Int32) (x10 : Int32) (x11 : Int32) (x12 : Int32) (S0 : Sg) : Option (Int32 × Sg) :=
  if x12 = 0 then
    s_X3_names_159 rc6 rc63 x1 x2 x3 x4 x5 x7 x8 x9 x10 x11 0 x6 S0
  else
    s_X3_names_159 rc6 rc63 x1 x2 x3 x4 x5 x7 x8 x9 x10 x11 1 x6 S0
def s_X3_names_139 (rc6 : Int32 × Int32 × Int32 × Int32 × Int32 × Int32 × Int32 → Sg → Option (Int32 × Sg)) (rc63 : Int32 × Int32 × Int32 × Int32 × Int32 × Int32 × Int32 × Int32 × Int32 × Int32 → Sg → Option (Int32 × Sg)) (rc101 : Int32 × Int32 × Int32 × Int32 × Int32 × Int32 × Int32 × Int32 × Int32 × Int32 × Int32 × Int32 × Int32 → Sg → Option (Int32 × Sg)) (x1 : Int32) (x2 : Int32) (x3 : Int32) (x4 : Int32) (x5 : Int32) (x6 : Int32) (x7 : Int32) (x8 : Int32) (x9 : Int32) (x10 : Int32) (x11 : Int32) (x13 : Int32) (t0 : Int32) (S0 : Sg) : Option (Int32 × Sg) :=
  rc101 (x1, x2, x3, x4, x5, x6, x7, x8, x9, x10, x11, t0, (x13 + 1)) S0
def s_X3_names_101 (rc6 : Int32 × Int32 × Int32 × Int32 × Int32 × Int32 × Int32 → Sg → Option (Int32 × Sg)) (rc63 : Int32 × Int32 × Int32 × Int32 × Int32 × Int32 × Int32 × Int32 × Int32 × Int32 → Sg → Option (Int32 × Sg)) (rc101 : Int32 × Int32 × Int32 × Int32 × Int32 × Int32 × Int32 × Int32 × Int32 × Int32 × Int32 × Int32 × Int32 → Sg → Option (Int32 × Sg)) (x1 : Int32) (x2 : Int32) (x3 : Int32) (x4 : Int32) (x5 : Int32) (x6 : Int32) (x7 : Int32) (x8 : Int32) (x9 : Int32) (x10 : Int32) (x11 : Int32) (x12 : Int32) (x13 : Int32) (S0 : Sg) : Option (Int32 × Sg) :=
  if x2 ≤ x13 then
    s_X3_names_147 rc6 rc63 x1 x2 x3 x4 x5 x6 x7 x8 x9 x10 x11 x12 S0
  else
    if x12 = 0 then
      s_X3_names_147 rc6 rc63 x1 x2 x3 x4 x5 x6 x7 x8 x9 x10 x11 x12 S0
    else
      bd1 (mR S0 34 (x1 + x13)) fun v6 =>
      bd1 (mR S0 34 (x8 + x13)) fun v8 =>
      if v6 = v8 then
        s_X3_names_139 rc6 rc63 rc101 x1 x2 x3 x4 x5 x6 x7 x8 x9 x10 x11 x13 1 S0
      else
        s_X3_names_139 rc6 rc63 rc101 x1 x2 x3 x4 x5 x6 x7 x8 x9 x10 x11 x13 0 S0
def l_X3_names_101  (rc6 : Int32 × Int32 × Int32 × Int32 × Int32 × Int32 × Int32 → Sg → Option (Int32 × Sg)) (rc63 : Int32 × Int32 × Int32 × Int32 × Int32 × Int32 × Int32 × Int32 × Int32 × Int32 → Sg → Option (Int32 × Sg)) : Nat → Int32 × Int32 × Int32 × Int32 × Int32 × Int32 × Int32 × Int32 × Int32 × Int32 × Int32 × Int32 × Int32 → Sg → Option (Int32 × Sg) :=
  lp fun rc101 v S0 => s_X3_names_101  rc6 rc63 rc101 v.1 v.2.1 v.2.2.1 v.2.2.2.1 v.2.2.2.2.1 v.2.2.2.2.2.1 v.2.2.2.2.2.2.1 v.2.2.2.2.2.2.2.1 v.2.2.2.2.2.2.2.2.1 v.2.2.2.2.2.2.2.2.2.1 v.2.2.2.2.2.2.2.2.2.2.1 v.2.2.2.2.2.2.2.2.2.2.2.1 v.2.2.2.2.2.2.2.2.2.2.2.2 S0
def s_X3_names_96 (rc6 : Int32 × Int32 × Int32 × Int32 × Int32 × Int32 × Int32 → Sg → Option (Int32 × Sg)) (rc63 : Int32 × Int32 × Int32 × Int32 × Int32 × Int32 × Int32 × Int32 × Int32 × Int32 → Sg → Option (Int32 × Sg)) (x1 : Int32) (x2 : Int32) (x3 : Int32) (x4 : Int32) (x5 : Int32) (x6 : Int32) (x7 : Int32) (x8 : Int32) (x9 : Int32) (x10 : Int32) (x11 : Int32) (t0 : Int32) (S0 : Sg) : Option (Int32 × Sg) :=
  l_X3_names_101 rc6 rc63 FU (x1, x2, x3, x4, x5, x6, x7, x8, x9, x10, x11, t0, 0) S0
def s_X3_names_63 (rc6 : Int32 × Int32 × Int32 × Int32 × Int32 × Int32 × Int32 → Sg → Option (Int32 × Sg)) (rc63 : Int32 × Int32 × Int32 × Int32 × Int32 × Int32 × Int32 × Int32 × Int32 × Int32 → Sg → Option (Int32 × Sg)) (x1 : Int32) (x2 : Int32) (x3 : Int32) (x4 : Int32) (x5 : Int32) (x6 : Int32) (x7 : Int32) (x8 : Int32) (x9 : Int32) (x10 : Int32) (S0 : Sg) : Option (Int32 × Sg) :=
  if x9 ≤ x10 then
    rc6 (x1, x2, x3, x4, x5, x6, (x7 + 1)) S0
  else
    bd1 (mR S0 33 ((120 * x7) + x10)) fun v4 =>
    if v4 = x2 then
      s_X3_names_96 rc6 rc63 x1 x2 x3 x4 x5 x6 x7 x8 x9 x10 v4 1 S0
    else
      s_X3_names_96 rc6 rc63 x1 x2 x3 x4 x5 x6 x7 x8 x9 x10 v4 0 S0
def l_X3_names_63  (rc6 : Int32 × Int32 × Int32 × Int32 × Int32 × Int32 × Int32 → Sg → Option (Int32 × Sg)) : Nat → Int32 × Int32 × Int32 × Int32 × Int32 × Int32 × Int32 × Int32 × Int32 × Int32 → Sg → Option (Int32 × Sg) :=
  lp fun rc63 v S0 => s_X3_names_63  rc6 rc63 v.1 v.2.1 v.2.2.1 v.2.2.2.1 v.2.2.2.2.1 v.2.2.2.2.2.1 v.2.2.2.2.2.2.1 v.2.2.2.2.2.2.2.1 v.2.2.2.2.2.2.2.2.1 v.2.2.2.2.2.2.2.2.2 S0
def s_X3_names_58 (rc6 : Int32 × Int32 × Int32 × Int32 × Int32 × Int32 × Int32 → Sg → Option (Int32 × Sg)) (x1 : Int32) (x2 : Int32) (x3 : Int32) (x4 : Int32) (x5 : Int32) (x6 : Int32) (x7 : Int32) (x8 : Int32) (t0 : Int32) (S0 : Sg) : Option (Int32 × Sg) :=
  l_X3_names_63 rc6 FU (x1, x2, x3, x4, x5, x6, x7, x8, t0, 0) S0
def s_X3_names_36 (rc6 : Int32 × Int32 × Int32 × Int32 × Int32 × Int32 × Int32 → Sg → Option (Int32 × Sg)) (x1 : Int32) (x2 : Int32) (x3 : Int32) (x4 : Int32) (x5 : Int32) (x6 : Int32) (x7 : Int32) (x8 : Int32) (S0 : Sg) : Option (Int32 × Sg) :=
  s_X3_names_58 rc6 x1 x2 x3 x4 x5 x6 x7 x8 0 S0
def s_X3_names_6 (rc6 : Int32 × Int32 × Int32 × Int32 × Int32 × Int32 × Int32 → Sg → Option (Int32 × Sg)) (x1 : Int32) (x2 : Int32) (x3 : Int32) (x4 : Int32) (x5 : Int32) (x6 : Int32) (x7 : Int32) (S0 : Sg) : Option (Int32 × Sg) :=
  if x3 < x7 then
    some (x6, S0)
  else
    bd1 (mR S0 31 x7) fun v2 =>
    if v2 = 0 then
      s_X3_names_36 rc6 x1 x2 x3 x4 x5 x6 x7 (120 * x7) S0
    else
      if x7 = x5 then
        s_X3_names_36 rc6 x1 x2 x3 x4 x5 x6 x7 (120 * x7) S0
      else
        if x7 = x3 then
          s_X3_names_58 rc6 x1 x2 x3 x4 x5 x6 x7 (120 * x7) x4 S0
        else
          bd1 (mR S0 32 x7) fun v10 =>
          s_X3_names_58 rc6 x1 x2 x3 x4 x5 x6 x7 (120 * x7) v10 S0
def l_X3_names_6   : Nat → Int32 × Int32 × Int32 × Int32 × Int32 × Int32 × Int32 → Sg → Option (Int32 × Sg) :=
  lp fun rc6 v S0 => s_X3_names_6   rc6 v.1 v.2.1 v.2.2.1 v.2.2.2.1 v.2.2.2.2.1 v.2.2.2.2.2.1 v.2.2.2.2.2.2 S0
def f_X3_names (x1 : Int32) (x2 : Int32) (x3 : Int32) (x4 : Int32) (x5 : Int32) (S0 : Sg) : Option (Int32 × Sg) :=
  l_X3_names_6 FU (x1, x2, x3, x4, x5, 0, 0) S0
def s_X3_begin_8 (rc8 : Int32 × Int32 × Int32 × Int32 → Sg → Option (Int32 × Sg)) (x1 : Int32) (x2 : Int32) (x3 : Int32) (x4 : Int32) (S0 : Sg) : Option (Int32 × Sg) :=
  if x2 ≤ x4 then
    some (x3, S0)
  else
    bd1 (mR S0 33 ((120 * x1) + x4)) fun v2 =>
    rc8 (x1, x2, (x3 + v2), (x4 + 1)) S0
def l_X3_begin_8   : Nat → Int32 × Int32 × Int32 × Int32 → Sg → Option (Int32 × Sg) :=
  lp fun rc8 v S0 => s_X3_begin_8   rc8 v.1 v.2.1 v.2.2.1 v.2.2.2 S0
def f_X3_begin (x1 : Int32) (x2 : Int32) (S0 : Sg) : Option (Int32 × Sg) :=
  l_X3_begin_8 FU (x1, x2, (120 * x1), 0) S0
def s_X3_papers_30 (rc9 : Int32 × Int32 → Sg → Option (Int32 × Sg)) (x2 : Int32) (t0 : Int32) (t1 : Int32) (S0 : Sg) : Option (Int32 × Sg) :=
  rc9 ((t1 + t0), (x2 + 1)) S0
def s_X3_papers_9 (rc9 : Int32 × Int32 → Sg → Option (Int32 × Sg)) (x1 : Int32) (x2 : Int32) (S0 : Sg) : Option (Int32 × Sg) :=
  if 12 ≤ x2 then
    some (x1, S0)
  else
    bd1 (mR S0 31 x2) fun v4 =>
    if v4 = 0 then
      s_X3_papers_30 rc9 x2 0 x1 S0
    else
      s_X3_papers_30 rc9 x2 1 x1 S0
def l_X3_papers_9   : Nat → Int32 × Int32 → Sg → Option (Int32 × Sg) :=
  lp fun rc9 v S0 => s_X3_papers_9   rc9 v.1 v.2 S0
def f_X3_papers  (S0 : Sg) : Option (Int32 × Sg) :=
  bd1 (some (mP S0 35 0)) fun S1 =>
  l_X3_papers_9 FU (0, 0) S1
def s_X3_held_94 (rc4 : Int32 × Int32 × Int32 → Sg → Option (Int32 × Sg)) (x1 : Int32) (x2 : Int32) (x3 : Int32) (S0 : Sg) : Option (Int32 × Sg) :=
  rc4 (x1, x2, (x3 + 1)) S0
def s_X3_held_81 (rc4 : Int32 × Int32 × Int32 → Sg → Option (Int32 × Sg)) (rc19 : Int32 × Int32 × Int32 × Int32 × Int32 → Sg → Option (Int32 × Sg)) (x1 : Int32) (x2 : Int32) (x3 : Int32) (x4 : Int32) (x5 : Int32) (x6 : Int32) (S0 : Sg) : Option (Int32 × Sg) :=
  rc19 (x1, x2, x3, (x4 + x6), (x5 + 1)) S0
def s_X3_held_79 (rc4 : Int32 × Int32 × Int32 → Sg → Option (Int32 × Sg)) (rc19 : Int32 × Int32 × Int32 × Int32 × Int32 → Sg → Option (Int32 × Sg)) (x1 : Int32) (x3 : Int32) (x4 : Int32) (x5 : Int32) (x6 : Int32) (t0 : Int32) (t1 : Int32) (S0 : Sg) : Option (Int32 × Sg) :=
  s_X3_held_81 rc4 rc19 x1 (t1 + t0) x3 x4 x5 x6 S0
def s_X3_held_19 (rc4 : Int32 × Int32 × Int32 → Sg → Option (Int32 × Sg)) (rc19 : Int32 × Int32 × Int32 × Int32 × Int32 → Sg → Option (Int32 × Sg)) (x1 : Int32) (x2 : Int32) (x3 : Int32) (x4 : Int32) (x5 : Int32) (S0 : Sg) : Option (Int32 × Sg) :=
  bd1 (mR S0 32 x3) fun v2 =>
  if v2 ≤ x5 then
    s_X3_held_94 rc4 x1 x2 x3 S0
  else
    bd1 (mR S0 31 x3) fun v4 =>
    if v4 = 0 then
      s_X3_held_94 rc4 x1 x2 x3 S0
    else
      bd1 (mR S0 33 ((120 * x3) + x5)) fun v6 =>
      bd2 (f_X3_names x4 v6 x3 x5 ((-1)) S0) fun v7 S8 =>
      if v7 = 0 then
        if x1 = 0 then
          s_X3_held_79 rc4 rc19 x1 x3 x4 x5 v6 1 x2 S8
        else
          s_X3_held_79 rc4 rc19 x1 x3 x4 x5 v6 v6 x2 S8
      else
        s_X3_held_81 rc4 rc19 x1 x2 x3 x4 x5 v6 S8
def l_X3_held_19  (rc4 : Int32 × Int32 × Int32 → Sg → Option (Int32 × Sg)) : Nat → Int32 × Int32 × Int32 × Int32 × Int32 → Sg → Option (Int32 × Sg) :=
  lp fun rc19 v S0 => s_X3_held_19  rc4 rc19 v.1 v.2.1 v.2.2.1 v.2.2.2.1 v.2.2.2.2 S0
def s_X3_held_4 (rc4 : Int32 × Int32 × Int32 → Sg → Option (Int32 × Sg)) (x1 : Int32) (x2 : Int32) (x3 : Int32) (S0 : Sg) : Option (Int32 × Sg) :=
  if 12 ≤ x3 then
    some (x2, S0)
  else
    l_X3_held_19 rc4 FU (x1, x2, x3, (120 * x3), 0) S0
def l_X3_held_4   : Nat → Int32 × Int32 × Int32 → Sg → Option (Int32 × Sg) :=
  lp fun rc4 v S0 => s_X3_held_4   rc4 v.1 v.2.1 v.2.2 S0
def f_X3_held (x1 : Int32) (S0 : Sg) : Option (Int32 × Sg) :=
  l_X3_held_4 FU (x1, 0, 0) S0
def f_X3_heldBytes  (S0 : Sg) : Option (Int32 × Sg) :=
  bd1 (some (mP S0 35 0)) fun S1 =>
  bd2 (f_X3_held 1 S1) fun v3 S4 =>
  some (v3, S4)
def s_X3_parts_22  (t0 : Int32) (S0 : Sg) : Option (Int32 × Sg) :=
  some (t0, S0)
def f_X3_parts (x1 : Int32) (S0 : Sg) : Option (Int32 × Sg) :=
  bd2 (f_X3_isThere x1 S0) fun v1 S2 =>
  bd2 (f_X3_may v1 S2) fun v4 S5 =>
  if v4 = 0 then
    s_X3_parts_22 0 S5
  else
    bd1 (mR S5 32 x1) fun v8 =>
    s_X3_parts_22 v8 S5
def s_X3_isPart_27  (t0 : Int32) (S0 : Sg) : Option (Int32 × Sg) :=
  bd1 (zb t0) fun _ =>
  some (t0, S0)
def s_X3_isPart_26   (S0 : Sg) : Option (Int32 × Sg) :=
  s_X3_isPart_27 0 S0
def f_X3_isPart (x1 : Int32) (x2 : Int32) (S0 : Sg) : Option (Int32 × Sg) :=
  bd2 (f_X3_isThere x1 S0) fun v1 S2 =>
  if v1 = 0 then
    s_X3_isPart_26  S2
  else
    if x2 < 0 then
      s_X3_isPart_26  S2
    else
      bd1 (mR S2 32 x1) fun v6 =>
      if v6 ≤ x2 then
        s_X3_isPart_26  S2
      else
        s_X3_isPart_27 1 S2
def s_X3_shared_48  (t0 : Int32) (S0 : Sg) : Option (Int32 × Sg) :=
  some (t0, S0)
def f_X3_shared (x1 : Int32) (x2 : Int32) (S0 : Sg) : Option (Int32 × Sg) :=
  bd2 (f_X3_isPart x1 x2 S0) fun v1 S2 =>
  bd2 (f_X3_may v1 S2) fun v4 S5 =>
  if v4 = 0 then
    s_X3_shared_48 0 S5
  else
    bd2 (f_X3_begin x1 x2 S5) fun v7 S8 =>
    bd1 (mR S8 33 ((120 * x1) + x2)) fun v11 =>
    bd1 (mR S8 32 11) fun v13 =>
    bd2 (f_X3_names v7 v11 11 v13 ((-1)) S8) fun v14 S15 =>
    s_X3_shared_48 v14 S15
def s_X3_file_15  (t0 : Int32) (S0 : Sg) : Option (Int32 × Sg) :=
  bd2 (f_X3_may t0 S0) fun v1 S2 =>
  if v1 = 0 then
    some (0, S2)
  else
    bd1 (some (mP S2 0 ((S2.1 0) + 1))) fun S4 =>
    some ((S4.1 0) - 1, S4)
def f_X3_file  (S0 : Sg) : Option (Int32 × Sg) :=
  if 6 ≤ (S0.1 0) then
    s_X3_file_15 0 S0
  else
    s_X3_file_15 1 S0
def s_X3_add_88 (rc88 : Int32 × Int32 × Int32 × Int32 × Int32 → Sg → Option (Int32 × Sg)) (x1 : Int32) (x3 : Int32) (x4 : Int32) (x6 : Int32) (x7 : Int32) (S0 : Sg) : Option (Int32 × Sg) :=
  if x4 ≤ x7 then
    bd1 (mR S0 1 x1) fun v14 =>
    some (v14, S0)
  else
    bd1 (mR S0 1 x1) fun v16 =>
    bd1 (mW S0 2 ((120 * x1) + v16) x6) fun S18 =>
    bd1 (mR S18 1 x1) fun v20 =>
    bd1 (mW S18 1 x1 (v20 + 1)) fun S22 =>
    bd1 (nz 256) fun _ =>
    rc88 (x1, x3, x4, ((x6 + x3) - (x6 + x3) / 256 * 256), (x7 + 1)) S22
def l_X3_add_88   : Nat → Int32 × Int32 × Int32 × Int32 × Int32 → Sg → Option (Int32 × Sg) :=
  lp fun rc88 v S0 => s_X3_add_88   rc88 v.1 v.2.1 v.2.2.1 v.2.2.2.1 v.2.2.2.2 S0
def s_X3_add_74  (x1 : Int32) (x2 : Int32) (x3 : Int32) (x4 : Int32) (t0 : Int32) (t1 : Int32) (t2 : Int32) (S0 : Sg) : Option (Int32 × Sg) :=
  bd2 (f_X3_mayAll t2 t1 t0 S0) fun v10 S11 =>
  if v10 = 0 then
    some (0, S11)
  else
    l_X3_add_88 FU (x1, x3, x4, x2, 0) S11
def s_X3_add_73  (x1 : Int32) (x2 : Int32) (x3 : Int32) (x4 : Int32) (t0 : Int32) (t1 : Int32) (S0 : Sg) : Option (Int32 × Sg) :=
  s_X3_add_74 x1 x2 x3 x4 0 t0 t1 S0
def s_X3_add_32  (x1 : Int32) (x2 : Int32) (x3 : Int32) (x4 : Int32) (t0 : Int32) (S0 : Sg) : Option (Int32 × Sg) :=
  bd2 (f_X3_isFile x1 S0) fun v4 S5 =>
  bd2 (f_X3_isFile x1 S5) fun v7 S8 =>
  if v7 = 0 then
    s_X3_add_73 x1 x2 x3 x4 t0 v4 S8
  else
    if t0 = 0 then
      s_X3_add_73 x1 x2 x3 x4 t0 v4 S8
    else
      bd1 (mR S8 1 x1) fun v25 =>
      if 120 < (v25 + x4) then
        s_X3_add_73 x1 x2 x3 x4 t0 v4 S8
      else
        s_X3_add_74 x1 x2 x3 x4 1 t0 v4 S8
def s_X3_add_31  (x1 : Int32) (x2 : Int32) (x3 : Int32) (x4 : Int32) (S0 : Sg) : Option (Int32 × Sg) :=
  s_X3_add_32 x1 x2 x3 x4 0 S0
def f_X3_add (x1 : Int32) (x2 : Int32) (x3 : Int32) (x4 : Int32) (S0 : Sg) : Option (Int32 × Sg) :=
  bd2 (f_X3_isByte x2 S0) fun v1 S2 =>
  if v1 = 0 then
    s_X3_add_31 x1 x2 x3 x4 S2
  else
    bd2 (f_X3_isByte x3 S2) fun v26 S27 =>
    if v26 = 0 then
      s_X3_add_31 x1 x2 x3 x4 S27
    else
      if x4 < 1 then
        s_X3_add_31 x1 x2 x3 x4 S27
      else
        if 120 < x4 then
          s_X3_add_31 x1 x2 x3 x4 S27
        else
          s_X3_add_32 x1 x2 x3 x4 1 S27
def s_X3_remove_79 (rc79 : Int32 × Int32 × Int32 → Sg → Option (Int32 × Sg)) (x1 : Int32) (x3 : Int32) (x5 : Int32) (S0 : Sg) : Option (Int32 × Sg) :=
  bd1 (mR S0 1 x1) fun v12 =>
  if v12 ≤ x5 then
    bd1 (mR S0 1 x1) fun v14 =>
    some (v14, S0)
  else
    bd1 (mR S0 2 (((120 * x1) + x5) + x3)) fun v16 =>
    bd1 (mW S0 2 ((120 * x1) + x5) v16) fun S18 =>
    rc79 (x1, x3, (x5 + 1)) S18
def l_X3_remove_79   : Nat → Int32 × Int32 × Int32 → Sg → Option (Int32 × Sg) :=
  lp fun rc79 v S0 => s_X3_remove_79   rc79 v.1 v.2.1 v.2.2 S0
def s_X3_remove_58  (x1 : Int32) (x2 : Int32) (x3 : Int32) (t0 : Int32) (t1 : Int32) (S0 : Sg) : Option (Int32 × Sg) :=
  bd2 (f_X3_mayBoth t1 t0 S0) fun v4 S5 =>
  if v4 = 0 then
    some (0, S5)
  else
    bd1 (mR S5 1 x1) fun v8 =>
    bd1 (mW S5 1 x1 (v8 - x3)) fun S10 =>
    l_X3_remove_79 FU (x1, x3, x2) S10
def s_X3_remove_57  (x1 : Int32) (x2 : Int32) (x3 : Int32) (t0 : Int32) (S0 : Sg) : Option (Int32 × Sg) :=
  s_X3_remove_58 x1 x2 x3 0 t0 S0
def s_X3_remove_27  (x1 : Int32) (x2 : Int32) (x3 : Int32) (t0 : Int32) (S0 : Sg) : Option (Int32 × Sg) :=
  if t0 = 0 then
    s_X3_remove_57 x1 x2 x3 t0 S0
  else
    if x3 < 0 then
      s_X3_remove_57 x1 x2 x3 t0 S0
    else
      bd1 (mR S0 1 x1) fun v20 =>
      if (v20 - x2) < x3 then
        s_X3_remove_57 x1 x2 x3 t0 S0
      else
        s_X3_remove_58 x1 x2 x3 1 t0 S0
def s_X3_remove_26  (x1 : Int32) (x2 : Int32) (x3 : Int32) (S0 : Sg) : Option (Int32 × Sg) :=
  s_X3_remove_27 x1 x2 x3 0 S0
def f_X3_remove (x1 : Int32) (x2 : Int32) (x3 : Int32) (S0 : Sg) : Option (Int32 × Sg) :=
  bd2 (f_X3_isFile x1 S0) fun v1 S2 =>
  if v1 = 0 then
    s_X3_remove_26 x1 x2 x3 S2
  else
    if x2 < 0 then
      s_X3_remove_26 x1 x2 x3 S2
    else
      bd1 (mR S2 1 x1) fun v22 =>
      if v22 < x2 then
        s_X3_remove_26 x1 x2 x3 S2
      else
        s_X3_remove_27 x1 x2 x3 1 S2
def s_X3_signs_43 (rc43 : Int32 × Int32 × Int32 × Int32 → Sg → Option (Unit × Sg)) (x1 : Int32) (x2 : Int32) (x3 : Int32) (x4 : Int32) (S0 : Sg) : Option (Unit × Sg) :=
  bd1 (mR S0 6 x1) fun v11 =>
  if v11 ≤ x4 then
    some ((), S0)
  else
    bd2 (f_X3_lengthOf x1 x4 S0) fun v12 S13 =>
    bd2 (f_X3_weakOf 25 (x4 * x2) v12 x3 S13) fun v15 S16 =>
    bd1 (mW S16 7 ((120 * x1) + x4) v15) fun S19 =>
    bd2 (f_X3_lengthOf x1 x4 S19) fun v20 S21 =>
    bd2 (f_X3_strongOf 25 (x4 * x2) v20 S21) fun v23 S24 =>
    bd1 (mWL S24 8 ((120 * x1) + x4) v23) fun S27 =>
    rc43 (x1, x2, x3, (x4 + 1)) S27
def l_X3_signs_43   : Nat → Int32 × Int32 × Int32 × Int32 → Sg → Option (Unit × Sg) :=
  lp fun rc43 v S0 => s_X3_signs_43   rc43 v.1 v.2.1 v.2.2.1 v.2.2.2 S0
def f_X3_signs (x1 : Int32) (x2 : Int32) (x3 : Int32) (S0 : Sg) : Option (Unit × Sg) :=
  bd1 (mW S0 3 x1 x2) fun S2 =>
  bd1 (mW S2 4 x1 x3) fun S4 =>
  bd1 (mW S4 5 x1 (S4.1 26)) fun S6 =>
  bd1 (nz x2) fun _ =>
  bd1 (mW S6 6 x1 ((((S6.1 26) + x2) - 1) / x2)) fun S9 =>
  l_X3_signs_43 FU (x1, x2, x3, 0) S9
def s_X3_weak_28  (t0 : Int32) (S0 : Sg) : Option (Int32 × Sg) :=
  some (t0, S0)
def f_X3_weak (x1 : Int32) (x2 : Int32) (S0 : Sg) : Option (Int32 × Sg) :=
  bd2 (f_X3_isBlock x1 x2 S0) fun v1 S2 =>
  bd2 (f_X3_may v1 S2) fun v4 S5 =>
  if v4 = 0 then
    s_X3_weak_28 0 S5
  else
    bd1 (mR S5 7 ((120 * x1) + x2)) fun v8 =>
    s_X3_weak_28 v8 S5
def s_X3_compares_410 (rc87 : Int32 × Int32 × Int32 × Int32 × Int32 × Int32 × Int32 × Int32 → Sg → Option (Unit × Sg)) (x1 : Int32) (x2 : Int32) (x3 : Int32) (x4 : Int32) (x5 : Int32) (x6 : Int32) (x7 : Int32) (x8 : Int32) (S0 : Sg) : Option (Unit × Sg) :=
  rc87 (x1, x2, x3, x4, x5, x6, x7, x8) S0
def s_X3_compares_404 (rc87 : Int32 × Int32 × Int32 × Int32 × Int32 × Int32 × Int32 × Int32 → Sg → Option (Unit × Sg)) (x1 : Int32) (x2 : Int32) (x3 : Int32) (x4 : Int32) (x5 : Int32) (x6 : Int32) (x8 : Int32) (S0 : Sg) : Option (Unit × Sg) :=
  s_X3_compares_410 rc87 x1 x2 x3 x4 x5 x6 ((-1)) (x8 + 1) S0
def s_X3_compares_395 (rc87 : Int32 × Int32 × Int32 × Int32 × Int32 × Int32 × Int32 × Int32 → Sg → Option (Unit × Sg)) (x1 : Int32) (x2 : Int32) (x3 : Int32) (x4 : Int32) (x5 : Int32) (x6 : Int32) (x8 : Int32) (S0 : Sg) : Option (Unit × Sg) :=
  bd2 (f_X3_begins x1 0 x8 1 S0) fun v33 S34 =>
  s_X3_compares_404 rc87 x1 x2 x3 x4 x5 x6 x8 S34
def s_X3_compares_360 (rc87 : Int32 × Int32 × Int32 × Int32 × Int32 × Int32 × Int32 × Int32 → Sg → Option (Unit × Sg)) (x1 : Int32) (x2 : Int32) (x3 : Int32) (x4 : Int32) (x5 : Int32) (x6 : Int32) (x8 : Int32) (x16 : Int32) (t0 : Int32) (t1 : Int32) (t2 : Int32) (S0 : Sg) : Option (Unit × Sg) :=
  bd1 (mW S0 11 t2 (t1 + t0)) fun S30 =>
  bd1 (mR S30 10 x1) fun v32 =>
  if v32 ≤ 0 then
    s_X3_compares_395 rc87 x1 x2 x3 x4 x5 x6 x8 S30
  else
    bd1 (mR S30 12 x16) fun v37 =>
    if v37 = 0 then
      bd1 (mR S30 14 x16) fun v39 =>
      bd1 (mW S30 14 x16 (v39 + 1)) fun S41 =>
      s_X3_compares_404 rc87 x1 x2 x3 x4 x5 x6 x8 S41
    else
      s_X3_compares_395 rc87 x1 x2 x3 x4 x5 x6 x8 S30
def s_X3_compares_327 (rc87 : Int32 × Int32 × Int32 × Int32 × Int32 × Int32 × Int32 × Int32 → Sg → Option (Unit × Sg)) (x1 : Int32) (x2 : Int32) (x3 : Int32) (x4 : Int32) (x5 : Int32) (x6 : Int32) (x8 : Int32) (x10 : Int32) (x14 : Int32) (S0 : Sg) : Option (Unit × Sg) :=
  s_X3_compares_410 rc87 x1 x2 x3 x4 x5 x6 (x14 + 1) (x8 + x10) S0
def s_X3_compares_267 (rc87 : Int32 × Int32 × Int32 × Int32 × Int32 × Int32 × Int32 × Int32 → Sg → Option (Unit × Sg)) (rc172 : Int32 × Int32 × Int32 × Int32 × Int32 × Int32 × Int32 × Int32 × Int32 × Int32 × Int64 × Int32 × Int32 × Int32 → Sg → Option (Unit × Sg)) (x1 : Int32) (x2 : Int32) (x3 : Int32) (x4 : Int32) (x5 : Int32) (x6 : Int32) (x7 : Int32) (x8 : Int32) (x10 : Int32) (x11 : Int32) (j12 : Int64) (x14 : Int32) (x15 : Int32) (x16 : Int32) (S0 : Sg) : Option (Unit × Sg) :=
  rc172 (x1, x2, x3, x4, x5, x6, x7, x8, x10, x11, j12, x14, x15, (x16 + 1)) S0
def s_X3_compares_265 (rc87 : Int32 × Int32 × Int32 × Int32 × Int32 × Int32 × Int32 × Int32 → Sg → Option (Unit × Sg)) (rc172 : Int32 × Int32 × Int32 × Int32 × Int32 × Int32 × Int32 × Int32 × Int32 × Int32 × Int64 × Int32 × Int32 × Int32 → Sg → Option (Unit × Sg)) (x1 : Int32) (x2 : Int32) (x3 : Int32) (x4 : Int32) (x5 : Int32) (x6 : Int32) (x7 : Int32) (x8 : Int32) (x10 : Int32) (x11 : Int32) (j12 : Int64) (x15 : Int32) (x16 : Int32) (t0 : Int32) (S0 : Sg) : Option (Unit × Sg) :=
  s_X3_compares_267 rc87 rc172 x1 x2 x3 x4 x5 x6 x7 x8 x10 x11 j12 t0 x15 x16 S0
def s_X3_compares_263 (rc87 : Int32 × Int32 × Int32 × Int32 × Int32 × Int32 × Int32 × Int32 → Sg → Option (Unit × Sg)) (rc172 : Int32 × Int32 × Int32 × Int32 × Int32 × Int32 × Int32 × Int32 × Int32 × Int32 × Int64 × Int32 × Int32 × Int32 → Sg → Option (Unit × Sg)) (x1 : Int32) (x2 : Int32) (x3 : Int32) (x4 : Int32) (x5 : Int32) (x6 : Int32) (x7 : Int32) (x8 : Int32) (x10 : Int32) (x11 : Int32) (j12 : Int64) (x14 : Int32) (x15 : Int32) (x16 : Int32) (S0 : Sg) : Option (Unit × Sg) :=
  s_X3_compares_265 rc87 rc172 x1 x2 x3 x4 x5 x6 x7 x8 x10 x11 j12 x15 x16 x14 S0
def s_X3_compares_258 (rc87 : Int32 × Int32 × Int32 × Int32 × Int32 × Int32 × Int32 × Int32 → Sg → Option (Unit × Sg)) (rc172 : Int32 × Int32 × Int32 × Int32 × Int32 × Int32 × Int32 × Int32 × Int32 × Int32 × Int64 × Int32 × Int32 × Int32 → Sg → Option (Unit × Sg)) (x1 : Int32) (x2 : Int32) (x3 : Int32) (x4 : Int32) (x5 : Int32) (x6 : Int32) (x7 : Int32) (x8 : Int32) (x10 : Int32) (x11 : Int32) (j12 : Int64) (x15 : Int32) (x16 : Int32) (S0 : Sg) : Option (Unit × Sg) :=
  s_X3_compares_265 rc87 rc172 x1 x2 x3 x4 x5 x6 x7 x8 x10 x11 j12 x15 x16 x16 S0
def s_X3_compares_235 (rc87 : Int32 × Int32 × Int32 × Int32 × Int32 × Int32 × Int32 × Int32 → Sg → Option (Unit × Sg)) (rc172 : Int32 × Int32 × Int32 × Int32 × Int32 × Int32 × Int32 × Int32 × Int32 × Int32 × Int64 × Int32 × Int32 × Int32 → Sg → Option (Unit × Sg)) (x1 : Int32) (x2 : Int32) (x3 : Int32) (x4 : Int32) (x5 : Int32) (x6 : Int32) (x7 : Int32) (x8 : Int32) (x10 : Int32) (x11 : Int32) (j12 : Int64) (x14 : Int32) (x16 : Int32) (t0 : Int32) (S0 : Sg) : Option (Unit × Sg) :=
  if t0 = 0 then
    s_X3_compares_263 rc87 rc172 x1 x2 x3 x4 x5 x6 x7 x8 x10 x11 j12 x14 1 x16 S0
  else
    if x14 = ((-1)) then
      s_X3_compares_258 rc87 rc172 x1 x2 x3 x4 x5 x6 x7 x8 x10 x11 j12 1 x16 S0
    else
      if x16 = x7 then
        s_X3_compares_258 rc87 rc172 x1 x2 x3 x4 x5 x6 x7 x8 x10 x11 j12 1 x16 S0
      else
        s_X3_compares_263 rc87 rc172 x1 x2 x3 x4 x5 x6 x7 x8 x10 x11 j12 x14 1 x16 S0
def s_X3_compares_172 (rc87 : Int32 × Int32 × Int32 × Int32 × Int32 × Int32 × Int32 × Int32 → Sg → Option (Unit × Sg)) (rc172 : Int32 × Int32 × Int32 × Int32 × Int32 × Int32 × Int32 × Int32 × Int32 × Int32 × Int64 × Int32 × Int32 × Int32 → Sg → Option (Unit × Sg)) (x1 : Int32) (x2 : Int32) (x3 : Int32) (x4 : Int32) (x5 : Int32) (x6 : Int32) (x7 : Int32) (x8 : Int32) (x10 : Int32) (x11 : Int32) (j12 : Int64) (x14 : Int32) (x15 : Int32) (x16 : Int32) (S0 : Sg) : Option (Unit × Sg) :=
  bd1 (mR S0 6 x2) fun v24 =>
  if v24 ≤ x16 then
    bd1 (mR S0 10 x1) fun v26 =>
    if x14 = ((-1)) then
      bd1 (mR S0 11 x1) fun v28 =>
      if x15 = 0 then
        s_X3_compares_360 rc87 x1 x2 x3 x4 x5 x6 x8 ((x4 + v26) - 1) 0 v28 x1 S0
      else
        s_X3_compares_360 rc87 x1 x2 x3 x4 x5 x6 x8 ((x4 + v26) - 1) 1 v28 x1 S0
    else
      if x14 = x7 then
        bd1 (mR S0 14 ((x4 + v26) - 1)) fun v46 =>
        bd1 (mW S0 14 ((x4 + v26) - 1) (v46 + x10)) fun S48 =>
        s_X3_compares_327 rc87 x1 x2 x3 x4 x5 x6 x8 x10 x14 S48
      else
        bd2 (f_X3_begins x1 1 (x14 * x6) x10 S0) fun v42 S43 =>
        s_X3_compares_327 rc87 x1 x2 x3 x4 x5 x6 x8 x10 x14 S43
  else
    bd2 (f_X3_lengthOf x2 x16 S0) fun v49 S50 =>
    if v49 = x10 then
      bd1 (mR S50 7 ((120 * x2) + x16)) fun v53 =>
      if v53 = x11 then
        bd1 (mRL S50 8 ((120 * x2) + x16)) fun v55 =>
        if (lg_cmp v55 j12) = 0 then
          s_X3_compares_235 rc87 rc172 x1 x2 x3 x4 x5 x6 x7 x8 x10 x11 j12 x14 x16 1 S50
        else
          s_X3_compares_235 rc87 rc172 x1 x2 x3 x4 x5 x6 x7 x8 x10 x11 j12 x14 x16 0 S50
      else
        s_X3_compares_267 rc87 rc172 x1 x2 x3 x4 x5 x6 x7 x8 x10 x11 j12 x14 x15 x16 S50
    else
      s_X3_compares_267 rc87 rc172 x1 x2 x3 x4 x5 x6 x7 x8 x10 x11 j12 x14 x15 x16 S50
def l_X3_compares_172  (rc87 : Int32 × Int32 × Int32 × Int32 × Int32 × Int32 × Int32 × Int32 → Sg → Option (Unit × Sg)) : Nat → Int32 × Int32 × Int32 × Int32 × Int32 × Int32 × Int32 × Int32 × Int32 × Int32 × Int64 × Int32 × Int32 × Int32 → Sg → Option (Unit × Sg) :=
  lp fun rc172 v S0 => s_X3_compares_172  rc87 rc172 v.1 v.2.1 v.2.2.1 v.2.2.2.1 v.2.2.2.2.1 v.2.2.2.2.2.1 v.2.2.2.2.2.2.1 v.2.2.2.2.2.2.2.1 v.2.2.2.2.2.2.2.2.1 v.2.2.2.2.2.2.2.2.2.1 v.2.2.2.2.2.2.2.2.2.2.1 v.2.2.2.2.2.2.2.2.2.2.2.1 v.2.2.2.2.2.2.2.2.2.2.2.2.1 v.2.2.2.2.2.2.2.2.2.2.2.2.2 S0
def s_X3_compares_123 (rc87 : Int32 × Int32 × Int32 × Int32 × Int32 × Int32 × Int32 × Int32 → Sg → Option (Unit × Sg)) (x1 : Int32) (x2 : Int32) (x3 : Int32) (x4 : Int32) (x5 : Int32) (x6 : Int32) (x7 : Int32) (x8 : Int32) (t0 : Int32) (S0 : Sg) : Option (Unit × Sg) :=
  bd1 (mR S0 4 x2) fun v16 =>
  bd2 (f_X3_weakOf 2 (x5 + x8) t0 v16 S0) fun v17 S18 =>
  bd2 (f_X3_strongOf 2 (x5 + x8) t0 S18) fun v20 S21 =>
  l_X3_compares_172 rc87 FU (x1, x2, x3, x4, x5, x6, x7, x8, t0, v17, v20, ((-1)), 0, 0) S21
def s_X3_compares_87 (rc87 : Int32 × Int32 × Int32 × Int32 × Int32 × Int32 × Int32 × Int32 → Sg → Option (Unit × Sg)) (x1 : Int32) (x2 : Int32) (x3 : Int32) (x4 : Int32) (x5 : Int32) (x6 : Int32) (x7 : Int32) (x8 : Int32) (S0 : Sg) : Option (Unit × Sg) :=
  bd1 (mR S0 1 x3) fun v12 =>
  if v12 ≤ x8 then
    some ((), S0)
  else
    bd1 (mR S0 1 x3) fun v14 =>
    if (v14 - x8) < x6 then
      s_X3_compares_123 rc87 x1 x2 x3 x4 x5 x6 x7 x8 (v14 - x8) S0
    else
      s_X3_compares_123 rc87 x1 x2 x3 x4 x5 x6 x7 x8 x6 S0
def l_X3_compares_87   : Nat → Int32 × Int32 × Int32 × Int32 × Int32 × Int32 × Int32 × Int32 → Sg → Option (Unit × Sg) :=
  lp fun rc87 v S0 => s_X3_compares_87   rc87 v.1 v.2.1 v.2.2.1 v.2.2.2.1 v.2.2.2.2.1 v.2.2.2.2.2.1 v.2.2.2.2.2.2.1 v.2.2.2.2.2.2.2 S0
def s_X3_compares_44 (rc44 : Int32 × Int32 × Int32 × Int32 × Int32 × Int32 × Int32 → Sg → Option (Unit × Sg)) (x1 : Int32) (x2 : Int32) (x3 : Int32) (x4 : Int32) (x5 : Int32) (x6 : Int32) (x7 : Int32) (S0 : Sg) : Option (Unit × Sg) :=
  bd1 (mR S0 1 x3) fun v10 =>
  if v10 ≤ x7 then
    l_X3_compares_87 FU (x1, x2, x3, x4, x5, x6, ((-1)), 0) S0
  else
    bd1 (mR S0 2 (x5 + x7)) fun v57 =>
    bd1 (mW S0 15 (x4 + x7) v57) fun S59 =>
    rc44 (x1, x2, x3, x4, x5, x6, (x7 + 1)) S59
def l_X3_compares_44   : Nat → Int32 × Int32 × Int32 × Int32 × Int32 × Int32 × Int32 → Sg → Option (Unit × Sg) :=
  lp fun rc44 v S0 => s_X3_compares_44   rc44 v.1 v.2.1 v.2.2.1 v.2.2.2.1 v.2.2.2.2.1 v.2.2.2.2.2.1 v.2.2.2.2.2.2 S0
def f_X3_compares (x1 : Int32) (x2 : Int32) (x3 : Int32) (S0 : Sg) : Option (Unit × Sg) :=
  bd1 (mR S0 3 x2) fun v2 =>
  bd1 (mW S0 9 x1 (vp_nar .boolean 1)) fun S4 =>
  bd1 (mW S4 10 x1 0) fun S6 =>
  bd1 (mW S6 11 x1 0) fun S8 =>
  l_X3_compares_44 FU (x1, x2, x3, (120 * x1), (120 * x3), v2, 0) S8
def s_X3_isCopy_32  (t0 : Int32) (S0 : Sg) : Option (Int32 × Sg) :=
  bd1 (zb t0) fun _ =>
  some (t0, S0)
def s_X3_isCopy_31   (S0 : Sg) : Option (Int32 × Sg) :=
  s_X3_isCopy_32 0 S0
def f_X3_isCopy (x1 : Int32) (x2 : Int32) (S0 : Sg) : Option (Int32 × Sg) :=
  bd2 (f_X3_isInstruction x1 x2 S0) fun v1 S2 =>
  bd2 (f_X3_may v1 S2) fun v4 S5 =>
  if v4 = 0 then
    s_X3_isCopy_31  S5
  else
    bd1 (mR S5 12 ((120 * x1) + x2)) fun v9 =>
    if v9 = 0 then
      s_X3_isCopy_31  S5
    else
      s_X3_isCopy_32 1 S5
def s_X3_cost_20  (t0 : Int32) (S0 : Sg) : Option (Int32 × Sg) :=
  some (t0, S0)
def f_X3_cost (x1 : Int32) (S0 : Sg) : Option (Int32 × Sg) :=
  bd2 (f_X3_isPlace x1 S0) fun v1 S2 =>
  bd2 (f_X3_may v1 S2) fun v4 S5 =>
  if v4 = 0 then
    s_X3_cost_20 0 S5
  else
    bd2 (f_X3_costOf x1 S5) fun v7 S8 =>
    s_X3_cost_20 v7 S8
def s_X3_apply_70  (x1 : Int32) (x3 : Int32) (t0 : Int32) (t1 : Int32) (S0 : Sg) : Option (Int32 × Sg) :=
  bd2 (f_X3_mayBoth t1 t0 S0) fun v4 S5 =>
  if v4 = 0 then
    some (0, S5)
  else
    bd2 (f_X3_applies x1 S5) fun v7 S8 =>
    bd2 (f_X3_give x3 S8) fun v10 S11 =>
    some (v10, S11)
def s_X3_apply_69  (x1 : Int32) (x3 : Int32) (t0 : Int32) (S0 : Sg) : Option (Int32 × Sg) :=
  s_X3_apply_70 x1 x3 0 t0 S0
def s_X3_apply_40  (x1 : Int32) (x3 : Int32) (x4 : Int32) (S0 : Sg) : Option (Int32 × Sg) :=
  if x4 = 0 then
    s_X3_apply_69 x1 x3 x4 S0
  else
    bd1 (mR S0 9 x1) fun v14 =>
    if v14 = 0 then
      s_X3_apply_69 x1 x3 x4 S0
    else
      bd2 (f_X3_goesBeyond x1 S0) fun v15 S16 =>
      if v15 = 0 then
        s_X3_apply_70 x1 x3 1 x4 S16
      else
        s_X3_apply_69 x1 x3 x4 S16
def s_X3_apply_28  (x1 : Int32) (x2 : Int32) (x3 : Int32) (t0 : Int32) (S0 : Sg) : Option (Int32 × Sg) :=
  if t0 = 0 then
    s_X3_apply_40 x1 x3 t0 S0
  else
    bd2 (f_X3_bring x2 S0) fun v18 S19 =>
    s_X3_apply_40 x1 x3 t0 S19
def s_X3_apply_27  (x1 : Int32) (x2 : Int32) (x3 : Int32) (S0 : Sg) : Option (Int32 × Sg) :=
  s_X3_apply_28 x1 x2 x3 0 S0
def f_X3_apply (x1 : Int32) (x2 : Int32) (x3 : Int32) (S0 : Sg) : Option (Int32 × Sg) :=
  bd2 (f_X3_isPlace x1 S0) fun v1 S2 =>
  if v1 = 0 then
    s_X3_apply_27 x1 x2 x3 S2
  else
    bd2 (f_X3_isFile x2 S2) fun v21 S22 =>
    if v21 = 0 then
      s_X3_apply_27 x1 x2 x3 S22
    else
      bd2 (f_X3_isFile x3 S22) fun v24 S25 =>
      if v24 = 0 then
        s_X3_apply_27 x1 x2 x3 S25
      else
        s_X3_apply_28 x1 x2 x3 1 S25
def s_X3_keep_20  (x1 : Int32) (t0 : Int32) (t1 : Int32) (S0 : Sg) : Option (Int32 × Sg) :=
  bd2 (f_X3_mayBoth t1 t0 S0) fun v4 S5 =>
  if v4 = 0 then
    some (0, S5)
  else
    bd2 (f_X3_holds (S5.1 16) x1 S5) fun v7 S8 =>
    bd1 (some (mP S8 16 ((S8.1 16) + 1))) fun S10 =>
    some ((S10.1 16) - 1, S10)
def f_X3_keep (x1 : Int32) (S0 : Sg) : Option (Int32 × Sg) :=
  bd2 (f_X3_isFile x1 S0) fun v1 S2 =>
  if 20 ≤ (S2.1 16) then
    s_X3_keep_20 x1 0 v1 S2
  else
    s_X3_keep_20 x1 1 v1 S2
def s_X3_keepDelta_73  (x1 : Int32) (x2 : Int32) (x3 : Int32) (t0 : Int32) (t1 : Int32) (t2 : Int32) (S0 : Sg) : Option (Int32 × Sg) :=
  bd2 (f_X3_mayAll t2 t1 t0 S0) fun v4 S5 =>
  if v4 = 0 then
    some (0, S5)
  else
    bd2 (f_X3_signs 4 x3 256 S5) fun v7 S8 =>
    bd1 (mW S8 17 (S8.1 16) 2) fun S11 =>
    bd1 (mW S11 18 (S8.1 16) x2) fun S13 =>
    bd2 (f_X3_compares (4 + (S8.1 16)) 4 x1 S13) fun v14 S15 =>
    bd1 (some (mP S15 16 ((S15.1 16) + 1))) fun S17 =>
    some (S8.1 16, S17)
def s_X3_keepDelta_72  (x1 : Int32) (x2 : Int32) (x3 : Int32) (t0 : Int32) (t1 : Int32) (S0 : Sg) : Option (Int32 × Sg) :=
  s_X3_keepDelta_73 x1 x2 x3 0 t0 t1 S0
def s_X3_keepDelta_39  (x1 : Int32) (x2 : Int32) (x3 : Int32) (x4 : Int32) (t0 : Int32) (S0 : Sg) : Option (Int32 × Sg) :=
  if x4 = 0 then
    s_X3_keepDelta_72 x1 x2 x3 t0 x4 S0
  else
    if 20 ≤ (S0.1 16) then
      s_X3_keepDelta_72 x1 x2 x3 t0 x4 S0
    else
      bd2 (f_X3_makes x2 S0) fun v19 S20 =>
      if v19 = 0 then
        s_X3_keepDelta_72 x1 x2 x3 t0 x4 S20
      else
        s_X3_keepDelta_73 x1 x2 x3 1 t0 x4 S20
def s_X3_keepDelta_38  (x1 : Int32) (x2 : Int32) (x3 : Int32) (x4 : Int32) (S0 : Sg) : Option (Int32 × Sg) :=
  s_X3_keepDelta_39 x1 x2 x3 x4 0 S0
def s_X3_keepDelta_21  (x1 : Int32) (x2 : Int32) (x3 : Int32) (t0 : Int32) (S0 : Sg) : Option (Int32 × Sg) :=
  if x3 < 1 then
    s_X3_keepDelta_38 x1 x2 x3 t0 S0
  else
    if 7 < x3 then
      s_X3_keepDelta_38 x1 x2 x3 t0 S0
    else
      s_X3_keepDelta_39 x1 x2 x3 t0 1 S0
def s_X3_keepDelta_20  (x1 : Int32) (x2 : Int32) (x3 : Int32) (S0 : Sg) : Option (Int32 × Sg) :=
  s_X3_keepDelta_21 x1 x2 x3 0 S0
def f_X3_keepDelta (x1 : Int32) (x2 : Int32) (x3 : Int32) (S0 : Sg) : Option (Int32 × Sg) :=
  bd2 (f_X3_isFile x1 S0) fun v1 S2 =>
  if v1 = 0 then
    s_X3_keepDelta_20 x1 x2 x3 S2
  else
    bd2 (f_X3_isVersion x2 S2) fun v22 S23 =>
    if v22 = 0 then
      s_X3_keepDelta_20 x1 x2 x3 S23
    else
      s_X3_keepDelta_21 x1 x2 x3 1 S23
def f_X3_lose (x1 : Int32) (S0 : Sg) : Option (Int32 × Sg) :=
  bd2 (f_X3_isVersion x1 S0) fun v1 S2 =>
  bd2 (f_X3_may v1 S2) fun v4 S5 =>
  if v4 = 0 then
    some (0, S5)
  else
    bd2 (f_X3_heldOf x1 S5) fun v7 S8 =>
    bd1 (mW S8 17 x1 0) fun S11 =>
    some (v7, S11)
def s_X3_store_184 (rc67 : Int32 × Int32 × Int32 × Int32 → Sg → Option (Int32 × Sg)) (x1 : Int32) (x2 : Int32) (x3 : Int32) (x4 : Int32) (S0 : Sg) : Option (Int32 × Sg) :=
  rc67 (x1, x2, x3, (x4 + 1)) S0
def s_X3_store_155 (rc67 : Int32 × Int32 × Int32 × Int32 → Sg → Option (Int32 × Sg)) (x1 : Int32) (x2 : Int32) (x3 : Int32) (x4 : Int32) (S0 : Sg) : Option (Int32 × Sg) :=
  bd1 (mR S0 32 x2) fun v18 =>
  bd1 (mW S0 33 ((120 * x2) + v18) x3) fun S20 =>
  bd1 (mR S20 32 x2) fun v22 =>
  bd1 (mW S20 32 x2 (v22 + 1)) fun S24 =>
  s_X3_store_184 rc67 x1 x2 0 x4 S24
def s_X3_store_142 (rc67 : Int32 × Int32 × Int32 × Int32 → Sg → Option (Int32 × Sg)) (x1 : Int32) (x2 : Int32) (x3 : Int32) (x4 : Int32) (S0 : Sg) : Option (Int32 × Sg) :=
  bd1 (mR S0 1 x1) fun v26 =>
  if x4 = (v26 - 1) then
    s_X3_store_155 rc67 x1 x2 x3 x4 S0
  else
    s_X3_store_184 rc67 x1 x2 x3 x4 S0
def s_X3_store_67 (rc67 : Int32 × Int32 × Int32 × Int32 → Sg → Option (Int32 × Sg)) (x1 : Int32) (x2 : Int32) (x3 : Int32) (x4 : Int32) (S0 : Sg) : Option (Int32 × Sg) :=
  bd1 (mR S0 1 x1) fun v12 =>
  if v12 ≤ x4 then
    some (x2, S0)
  else
    bd1 (mR S0 2 ((120 * x1) + x4)) fun v14 =>
    bd1 (mW S0 34 ((120 * x2) + x4) v14) fun S16 =>
    if (x3 + 1) = (S16.1 29) then
      s_X3_store_155 rc67 x1 x2 (x3 + 1) x4 S16
    else
      if (x3 + 1) < (S16.1 28) then
        s_X3_store_142 rc67 x1 x2 (x3 + 1) x4 S16
      else
        bd2 (f_X3_hash x1 x4 S16) fun v27 S28 =>
        bd1 (nz (S28.1 30)) fun _ =>
        if (v27 - v27 / (S28.1 30) * (S28.1 30)) = ((S28.1 30) - 1) then
          s_X3_store_155 rc67 x1 x2 (x3 + 1) x4 S28
        else
          s_X3_store_142 rc67 x1 x2 (x3 + 1) x4 S28
def l_X3_store_67   : Nat → Int32 × Int32 × Int32 × Int32 → Sg → Option (Int32 × Sg) :=
  lp fun rc67 v S0 => s_X3_store_67   rc67 v.1 v.2.1 v.2.2.1 v.2.2.2 S0
def s_X3_store_40  (x1 : Int32) (x2 : Int32) (t0 : Int32) (t1 : Int32) (S0 : Sg) : Option (Int32 × Sg) :=
  bd2 (f_X3_mayBoth t1 t0 S0) fun v4 S5 =>
  if v4 = 0 then
    some (0, S5)
  else
    bd1 (mW S5 31 x2 (vp_nar .boolean 1)) fun S8 =>
    bd1 (mW S8 32 x2 0) fun S10 =>
    l_X3_store_67 FU (x1, x2, 0, 0) S10
def s_X3_store_23  (x1 : Int32) (x2 : Int32) (S0 : Sg) : Option (Int32 × Sg) :=
  bd2 (f_X3_isFile x1 S0) fun v1 S2 =>
  if 12 ≤ x2 then
    s_X3_store_40 x1 x2 0 v1 S2
  else
    s_X3_store_40 x1 x2 1 v1 S2
def s_X3_store_2 (rc2 : Int32 × Int32 → Sg → Option (Int32 × Sg)) (x1 : Int32) (x2 : Int32) (S0 : Sg) : Option (Int32 × Sg) :=
  if 12 ≤ x2 then
    s_X3_store_23 x1 x2 S0
  else
    bd1 (mR S0 31 x2) fun v32 =>
    if v32 = 0 then
      s_X3_store_23 x1 x2 S0
    else
      rc2 (x1, (x2 + 1)) S0
def l_X3_store_2   : Nat → Int32 × Int32 → Sg → Option (Int32 × Sg) :=
  lp fun rc2 v S0 => s_X3_store_2   rc2 v.1 v.2 S0
def f_X3_store (x1 : Int32) (S0 : Sg) : Option (Int32 × Sg) :=
  l_X3_store_2 FU (x1, 0) S0
def s_X3_release_111 (rc24 : Int32 × Int32 × Int32 × Int32 → Sg → Option (Int32 × Sg)) (x1 : Int32) (x3 : Int32) (x4 : Int32) (x5 : Int32) (t0 : Int32) (t1 : Int32) (S0 : Sg) : Option (Int32 × Sg) :=
  rc24 (x1, (t1 + t0), (x3 + x5), (x4 + 1)) S0
def s_X3_release_110 (rc24 : Int32 × Int32 × Int32 × Int32 → Sg → Option (Int32 × Sg)) (x1 : Int32) (x3 : Int32) (x4 : Int32) (x5 : Int32) (t0 : Int32) (S0 : Sg) : Option (Int32 × Sg) :=
  s_X3_release_111 rc24 x1 x3 x4 x5 0 t0 S0
def s_X3_release_78 (rc24 : Int32 × Int32 × Int32 × Int32 → Sg → Option (Int32 × Sg)) (x1 : Int32) (x2 : Int32) (x3 : Int32) (x4 : Int32) (x5 : Int32) (t0 : Int32) (S0 : Sg) : Option (Int32 × Sg) :=
  if t0 = 0 then
    s_X3_release_110 rc24 x1 x3 x4 x5 x2 S0
  else
    bd1 (mR S0 32 11) fun v20 =>
    bd2 (f_X3_names x3 x5 11 v20 x1 S0) fun v21 S22 =>
    if v21 = 0 then
      s_X3_release_111 rc24 x1 x3 x4 x5 1 x2 S22
    else
      s_X3_release_110 rc24 x1 x3 x4 x5 x2 S22
def s_X3_release_24 (rc24 : Int32 × Int32 × Int32 × Int32 → Sg → Option (Int32 × Sg)) (x1 : Int32) (x2 : Int32) (x3 : Int32) (x4 : Int32) (S0 : Sg) : Option (Int32 × Sg) :=
  bd1 (mR S0 32 x1) fun v8 =>
  if v8 ≤ x4 then
    bd1 (mW S0 31 x1 (vp_nar .boolean 0)) fun S10 =>
    some (x2, S10)
  else
    bd1 (mR S0 33 ((120 * x1) + x4)) fun v12 =>
    bd2 (f_X3_names x3 v12 x1 x4 ((-1)) S0) fun v13 S14 =>
    bd2 (f_X3_names x3 v12 x1 0 ((-1)) S14) fun v16 S17 =>
    if v13 = v16 then
      s_X3_release_78 rc24 x1 x2 x3 x4 v12 1 S17
    else
      s_X3_release_78 rc24 x1 x2 x3 x4 v12 0 S17
def l_X3_release_24   : Nat → Int32 × Int32 × Int32 × Int32 → Sg → Option (Int32 × Sg) :=
  lp fun rc24 v S0 => s_X3_release_24   rc24 v.1 v.2.1 v.2.2.1 v.2.2.2 S0
def f_X3_release (x1 : Int32) (S0 : Sg) : Option (Int32 × Sg) :=
  bd2 (f_X3_isThere x1 S0) fun v1 S2 =>
  bd2 (f_X3_may v1 S2) fun v4 S5 =>
  if v4 = 0 then
    some (0, S5)
  else
    l_X3_release_24 FU (x1, 0, (120 * x1), 0) S5
def s_X3_fetch_52 (rc52 : Int32 × Int32 × Int32 → Sg → Option (Int32 × Sg)) (x1 : Int32) (x2 : Int32) (x3 : Int32) (S0 : Sg) : Option (Int32 × Sg) :=
  if (S0.1 26) ≤ x3 then
    bd2 (f_X3_give x2 S0) fun v14 S15 =>
    some (v14, S15)
  else
    bd1 (mR S0 34 ((120 * x1) + x3)) fun v18 =>
    bd1 (mW S0 25 x3 v18) fun S20 =>
    rc52 (x1, x2, (x3 + 1)) S20
def l_X3_fetch_52   : Nat → Int32 × Int32 × Int32 → Sg → Option (Int32 × Sg) :=
  lp fun rc52 v S0 => s_X3_fetch_52   rc52 v.1 v.2.1 v.2.2 S0
def s_X3_fetch_22  (x1 : Int32) (x2 : Int32) (t0 : Int32) (S0 : Sg) : Option (Int32 × Sg) :=
  bd2 (f_X3_may t0 S0) fun v4 S5 =>
  if v4 = 0 then
    some (0, S5)
  else
    bd1 (mR S5 32 x1) fun v8 =>
    bd2 (f_X3_begin x1 v8 S5) fun v9 S10 =>
    bd1 (some (mP S10 26 (v9 - (120 * x1)))) fun S12 =>
    l_X3_fetch_52 FU (x1, x2, 0) S12
def s_X3_fetch_21  (x1 : Int32) (x2 : Int32) (S0 : Sg) : Option (Int32 × Sg) :=
  s_X3_fetch_22 x1 x2 0 S0
def f_X3_fetch (x1 : Int32) (x2 : Int32) (S0 : Sg) : Option (Int32 × Sg) :=
  bd2 (f_X3_isThere x1 S0) fun v1 S2 =>
  if v1 = 0 then
    s_X3_fetch_21 x1 x2 S2
  else
    bd2 (f_X3_isFile x2 S2) fun v21 S22 =>
    if v21 = 0 then
      s_X3_fetch_21 x1 x2 S22
    else
      s_X3_fetch_22 x1 x2 1 S22
def f_X3_chunks  (S0 : Sg) : Option (Int32 × Sg) :=
  bd1 (some (mP S0 35 0)) fun S1 =>
  bd2 (f_X3_held 0 S1) fun v3 S4 =>
  some (v3, S4)
def s_X3_partLength_28  (t0 : Int32) (S0 : Sg) : Option (Int32 × Sg) :=
  some (t0, S0)
def f_X3_partLength (x1 : Int32) (x2 : Int32) (S0 : Sg) : Option (Int32 × Sg) :=
  bd2 (f_X3_isPart x1 x2 S0) fun v1 S2 =>
  bd2 (f_X3_may v1 S2) fun v4 S5 =>
  if v4 = 0 then
    s_X3_partLength_28 0 S5
  else
    bd1 (mR S5 33 ((120 * x1) + x2)) fun v8 =>
    s_X3_partLength_28 v8 S5
def s_X3_sign_53  (x1 : Int32) (x2 : Int32) (x3 : Int32) (x4 : Int32) (x5 : Int32) (t0 : Int32) (S0 : Sg) : Option (Int32 × Sg) :=
  bd2 (f_X3_mayBoth t0 x5 S0) fun v4 S5 =>
  if v4 = 0 then
    some (0, S5)
  else
    bd2 (f_X3_bring x2 S5) fun v7 S8 =>
    bd2 (f_X3_signs x1 x3 x4 S8) fun v10 S11 =>
    bd1 (mR S11 6 x1) fun v14 =>
    some (v14, S11)
def s_X3_sign_52  (x1 : Int32) (x2 : Int32) (x3 : Int32) (x4 : Int32) (x5 : Int32) (S0 : Sg) : Option (Int32 × Sg) :=
  s_X3_sign_53 x1 x2 x3 x4 x5 0 S0
def s_X3_sign_30  (x1 : Int32) (x2 : Int32) (x3 : Int32) (x4 : Int32) (t0 : Int32) (S0 : Sg) : Option (Int32 × Sg) :=
  bd2 (f_X3_isPlace x1 S0) fun v1 S2 =>
  if v1 = 0 then
    s_X3_sign_52 x1 x2 x3 x4 t0 S2
  else
    bd2 (f_X3_isFile x2 S2) fun v15 S16 =>
    if v15 = 0 then
      s_X3_sign_52 x1 x2 x3 x4 t0 S16
    else
      s_X3_sign_53 x1 x2 x3 x4 t0 1 S16
def s_X3_sign_29  (x1 : Int32) (x2 : Int32) (x3 : Int32) (x4 : Int32) (S0 : Sg) : Option (Int32 × Sg) :=
  s_X3_sign_30 x1 x2 x3 x4 0 S0
def f_X3_sign (x1 : Int32) (x2 : Int32) (x3 : Int32) (x4 : Int32) (S0 : Sg) : Option (Int32 × Sg) :=
  if x3 < 1 then
    s_X3_sign_29 x1 x2 x3 x4 S0
  else
    if 7 < x3 then
      s_X3_sign_29 x1 x2 x3 x4 S0
    else
      if x4 < 1 then
        s_X3_sign_29 x1 x2 x3 x4 S0
      else
        if 4096 < x4 then
          s_X3_sign_29 x1 x2 x3 x4 S0
        else
          s_X3_sign_30 x1 x2 x3 x4 1 S0
def s_X3_compare_51  (x1 : Int32) (x2 : Int32) (x3 : Int32) (t0 : Int32) (t1 : Int32) (S0 : Sg) : Option (Int32 × Sg) :=
  bd2 (f_X3_mayBoth t1 t0 S0) fun v4 S5 =>
  if v4 = 0 then
    some (0, S5)
  else
    bd2 (f_X3_compares x1 x2 x3 S5) fun v7 S8 =>
    bd1 (mR S8 10 x1) fun v11 =>
    some (v11, S8)
def s_X3_compare_50  (x1 : Int32) (x2 : Int32) (x3 : Int32) (t0 : Int32) (S0 : Sg) : Option (Int32 × Sg) :=
  s_X3_compare_51 x1 x2 x3 0 t0 S0
def s_X3_compare_27  (x1 : Int32) (x2 : Int32) (x3 : Int32) (t0 : Int32) (S0 : Sg) : Option (Int32 × Sg) :=
  if t0 = 0 then
    s_X3_compare_50 x1 x2 x3 t0 S0
  else
    bd1 (mR S0 3 x2) fun v13 =>
    if v13 ≤ 0 then
      s_X3_compare_50 x1 x2 x3 t0 S0
    else
      s_X3_compare_51 x1 x2 x3 1 t0 S0
def s_X3_compare_26  (x1 : Int32) (x2 : Int32) (x3 : Int32) (S0 : Sg) : Option (Int32 × Sg) :=
  s_X3_compare_27 x1 x2 x3 0 S0
def f_X3_compare (x1 : Int32) (x2 : Int32) (x3 : Int32) (S0 : Sg) : Option (Int32 × Sg) :=
  bd2 (f_X3_isPlace x1 S0) fun v1 S2 =>
  if v1 = 0 then
    s_X3_compare_26 x1 x2 x3 S2
  else
    bd2 (f_X3_isPlace x2 S2) fun v14 S15 =>
    if v14 = 0 then
      s_X3_compare_26 x1 x2 x3 S15
    else
      bd2 (f_X3_isFile x3 S15) fun v17 S18 =>
      if v17 = 0 then
        s_X3_compare_26 x1 x2 x3 S18
      else
        s_X3_compare_27 x1 x2 x3 1 S18
def f_X11_broken (a0 : Option Nat) (S0 : St) : Option (Option Nat × St) :=
  bd1 (isO S0 a0 10) fun _ =>
  bd2 (f_ver a0 S0) fun v2 S3 =>
  match v2 with
  | .inl x5 =>
    if x5.1 = "RollSync$Broken" then
      some (some x5.2, S3)
    else
      none
  | .inr v6 =>
    some (none, S3)
def f_X1_init (a0 : Option Nat) (S0 : St) : Option (Unit × St) :=
  bd1 a0 fun q1 =>
  bd2 (nO S0 16 3 [.int 0, .null, .int 0]) fun v3 S4 =>
  bd1 v3 fun q6 =>
  bd2 (f_J2_init v3 6 S4) fun v8 S9 =>
  bd1 (pV S9 a0 0 0 (va_rf v3)) fun S11 =>
  bd2 (nA S11 5 4 (.inr (.inr (.inr (.inr fun _ => none))))) fun v13 S14 =>
  bd1 (pV S14 a0 0 1 (va_rf v13)) fun S16 =>
  bd2 (nA S16 6 4 (.inr (.inr (.inr (.inr fun _ => none))))) fun v18 S19 =>
  bd1 (pV S19 a0 0 2 (va_rf v18)) fun S21 =>
  bd2 (nO S21 16 3 [.int 0, .null, .int 0]) fun v23 S24 =>
  bd1 v23 fun q26 =>
  bd2 (f_J2_init_2 v23 S24) fun v28 S29 =>
  bd1 (pV S29 a0 0 3 (va_rf v23)) fun S31 =>
  bd2 (nO S31 1 2 [.null, .int 0]) fun v33 S34 =>
  bd1 v33 fun q36 =>
  bd2 (f_X2_init v33 S34) fun v38 S39 =>
  bd1 (pV S39 a0 0 4 (va_rf v33)) fun S41 =>
  bd2 (nA S41 7 12 (.inr (.inr (.inr (.inr fun _ => none))))) fun v43 S44 =>
  bd1 (pV S44 a0 0 5 (va_rf v43)) fun S46 =>
  bd1 (pV S46 a0 0 6 (.int 4)) fun S48 =>
  bd1 (pV S48 a0 0 7 (.int 16)) fun S50 =>
  bd1 (pV S50 a0 0 8 (.int 8)) fun S52 =>
  some ((), S52)
def f_X1_versions (a0 : Option Nat) (S0 : St) : Option (Int32 × St) :=
  bd1 (oA S0 a0 0 3) fun v2 =>
  bd1 (isO S0 v2 16) fun _ =>
  bd2 (f_J2_size v2 S0) fun v4 S5 =>
  some (v4, S5)
def s_X1_papers_36 (rc13 : Int32 × Option Nat × Int32 × Int32 → St → Option (Int32 × St)) (a2 : Option Nat) (x3 : Int32) (x4 : Int32) (t0 : Int32) (t1 : Int32) (S0 : St) : Option (Int32 × St) :=
  rc13 ((t1 + t0), a2, x3, (x4 + 1)) S0
def s_X1_papers_13 (rc13 : Int32 × Option Nat × Int32 × Int32 → St → Option (Int32 × St)) (x1 : Int32) (a2 : Option Nat) (x3 : Int32) (x4 : Int32) (S0 : St) : Option (Int32 × St) :=
  if x3 ≤ x4 then
    some (x1, S0)
  else
    bd1 (aL S0 a2 7 x4) fun v6 =>
    if v6 = none then
      s_X1_papers_36 rc13 a2 x3 x4 0 x1 S0
    else
      s_X1_papers_36 rc13 a2 x3 x4 1 x1 S0
def l_X1_papers_13   : Nat → Int32 × Option Nat × Int32 × Int32 → St → Option (Int32 × St) :=
  lp fun rc13 v S0 => s_X1_papers_13   rc13 v.1 v.2.1 v.2.2.1 v.2.2.2 S0
def f_X1_papers (a0 : Option Nat) (S0 : St) : Option (Int32 × St) :=
  bd1 (oA S0 a0 0 5) fun v2 =>
  bd1 (lenA S0 v2 7) fun v4 =>
  l_X1_papers_13 FU (0, v2, v4, 0) S0
def f_X1_chunks (a0 : Option Nat) (S0 : St) : Option (Int32 × St) :=
  bd1 (oA S0 a0 0 4) fun v2 =>
  bd1 (oA S0 v2 1 0) fun v4 =>
  bd1 (isO S0 v4 16) fun _ =>
  bd2 (f_J2_size v4 S0) fun v6 S7 =>
  some (v6, S7)
def f_X1_heldBytes (a0 : Option Nat) (S0 : St) : Option (Int32 × St) :=
  bd1 (oA S0 a0 0 4) fun v2 =>
  bd1 (oI S0 v2 1 1) fun v4 =>
  some (v4, S0)
def f_X1_can (x0 : Int32) (S0 : St) : Option ((Ex ⊕ Unit) × St) :=
  if x0 = 0 then
    bd2 (thr S0 "java/lang/IllegalStateException") fun x1 S2 =>
    some (.inl x1, S2)
  else
    some ((.inr (())), S0)
def s_X1_there_9   (S0 : St) : Option ((Ex ⊕ Unit) × St) :=
  bd2 (thr S0 "java/lang/IndexOutOfBoundsException") fun x1 S2 =>
  some (.inl x1, S2)
def f_X1_there (x0 : Int32) (x1 : Int32) (S0 : St) : Option ((Ex ⊕ Unit) × St) :=
  if x0 < 0 then
    s_X1_there_9  S0
  else
    if x0 < x1 then
      some ((.inr (())), S0)
    else
      s_X1_there_9  S0
def s_X1_fit_10   (S0 : St) : Option ((Ex ⊕ Unit) × St) :=
  bd2 (thr S0 "java/lang/IllegalArgumentException") fun x1 S2 =>
  some (.inl x1, S2)
def f_X1_fit (x0 : Int32) (x1 : Int32) (x2 : Int32) (S0 : St) : Option ((Ex ⊕ Unit) × St) :=
  if x0 < x1 then
    s_X1_fit_10  S0
  else
    if x0 ≤ x2 then
      some ((.inr (())), S0)
    else
      s_X1_fit_10  S0
def s_X1_blocks_27  (t0 : Int32) (S0 : St) : Option ((Ex ⊕ Int32) × St) :=
  some ((.inr t0), S0)
def f_X1_blocks (a0 : Option Nat) (x1 : Int32) (S0 : St) : Option ((Ex ⊕ Int32) × St) :=
  bd2 (f_X1_there x1 4 S0) fun v1 S2 =>
  match v1 with
  | .inl x4 =>
    some (.inl x4, S2)
  | .inr v5 =>
    bd1 (oA S2 a0 0 1) fun v7 =>
    bd1 (aL S2 v7 5 x1) fun v9 =>
    if v9 = none then
      s_X1_blocks_27 0 S2
    else
      bd1 (oA S2 a0 0 1) fun v11 =>
      bd1 (aL S2 v11 5 x1) fun v13 =>
      bd1 (oI S2 v13 4 2) fun v15 =>
      s_X1_blocks_27 v15 S2
def f_X1_weak (a0 : Option Nat) (x1 : Int32) (x2 : Int32) (S0 : St) : Option ((Ex ⊕ Int32) × St) :=
  bd1 (isO S0 a0 0) fun _ =>
  bd2 (f_X1_blocks a0 x1 S0) fun v2 S3 =>
  match v2 with
  | .inl x5 =>
    some (.inl x5, S3)
  | .inr v6 =>
    bd2 (f_X1_there x2 v6 S3) fun v7 S8 =>
    match v7 with
    | .inl x10 =>
      some (.inl x10, S8)
    | .inr v11 =>
      bd1 (oA S8 a0 0 1) fun v13 =>
      bd1 (aL S8 v13 5 x1) fun v15 =>
      bd1 (isO S8 v15 4) fun _ =>
      bd2 (f_X5_weak v15 x2 S8) fun v17 S18 =>
      some ((.inr v17), S18)
def f_X1_strong (a0 : Option Nat) (x1 : Int32) (x2 : Int32) (S0 : St) : Option ((Ex ⊕ Int64) × St) :=
  bd1 (isO S0 a0 0) fun _ =>
  bd2 (f_X1_blocks a0 x1 S0) fun v2 S3 =>
  match v2 with
  | .inl x5 =>
    some (.inl x5, S3)
  | .inr v6 =>
    bd2 (f_X1_there x2 v6 S3) fun v7 S8 =>
    match v7 with
    | .inl x10 =>
      some (.inl x10, S8)
    | .inr v11 =>
      bd1 (oA S8 a0 0 1) fun v13 =>
      bd1 (aL S8 v13 5 x1) fun v15 =>
      bd1 (isO S8 v15 4) fun _ =>
      bd2 (f_X5_strong v15 x2 S8) fun v17 S18 =>
      some ((.inr v17), S18)
def s_X1_instructions_32  (t0 : Int32) (S0 : St) : Option ((Ex ⊕ Int32) × St) :=
  some ((.inr t0), S0)
def f_X1_instructions (a0 : Option Nat) (x1 : Int32) (S0 : St) : Option ((Ex ⊕ Int32) × St) :=
  bd2 (f_X1_there x1 4 S0) fun v1 S2 =>
  match v1 with
  | .inl x4 =>
    some (.inl x4, S2)
  | .inr v5 =>
    bd1 (oA S2 a0 0 2) fun v7 =>
    bd1 (aL S2 v7 6 x1) fun v9 =>
    if v9 = none then
      s_X1_instructions_32 0 S2
    else
      bd1 (oA S2 a0 0 2) fun v11 =>
      bd1 (aL S2 v11 6 x1) fun v13 =>
      bd1 (oA S2 v13 6 0) fun v15 =>
      bd1 (isO S2 v15 16) fun _ =>
      bd2 (f_J2_size v15 S2) fun v17 S18 =>
      s_X1_instructions_32 v17 S18
def f_X1_instruction (a0 : Option Nat) (x1 : Int32) (x2 : Int32) (S0 : St) : Option ((Ex ⊕ Option Nat) × St) :=
  bd1 (isO S0 a0 0) fun _ =>
  bd2 (f_X1_instructions a0 x1 S0) fun v2 S3 =>
  match v2 with
  | .inl x5 =>
    some (.inl x5, S3)
  | .inr v6 =>
    bd2 (f_X1_there x2 v6 S3) fun v7 S8 =>
    match v7 with
    | .inl x10 =>
      some (.inl x10, S8)
    | .inr v11 =>
      bd1 (oA S8 a0 0 2) fun v13 =>
      bd1 (aL S8 v13 6 x1) fun v15 =>
      bd1 (oA S8 v15 6 0) fun v17 =>
      bd1 (isO S8 v17 16) fun _ =>
      bd2 (f_J2_get v17 x2 S8) fun v19 S20 =>
      bd1 (ckO S20 v19 7) fun _ =>
      some ((.inr v19), S20)
def f_X1_startOf (a0 : Option Nat) (x1 : Int32) (x2 : Int32) (S0 : St) : Option ((Ex ⊕ Int32) × St) :=
  bd1 (isO S0 a0 0) fun _ =>
  bd2 (f_X1_instruction a0 x1 x2 S0) fun v2 S3 =>
  match v2 with
  | .inl x5 =>
    some (.inl x5, S3)
  | .inr v6 =>
    bd1 (oI S3 v6 7 1) fun v8 =>
    some ((.inr v8), S3)
def f_X1_bytesOf (a0 : Option Nat) (x1 : Int32) (x2 : Int32) (S0 : St) : Option ((Ex ⊕ Int32) × St) :=
  bd1 (isO S0 a0 0) fun _ =>
  bd2 (f_X1_instruction a0 x1 x2 S0) fun v2 S3 =>
  match v2 with
  | .inl x5 =>
    some (.inl x5, S3)
  | .inr v6 =>
    bd1 (oI S3 v6 7 2) fun v8 =>
    some ((.inr v8), S3)
def s_X1_cost_27  (t0 : Int32) (S0 : St) : Option ((Ex ⊕ Int32) × St) :=
  some ((.inr t0), S0)
def f_X1_cost (a0 : Option Nat) (x1 : Int32) (S0 : St) : Option ((Ex ⊕ Int32) × St) :=
  bd2 (f_X1_there x1 4 S0) fun v1 S2 =>
  match v1 with
  | .inl x4 =>
    some (.inl x4, S2)
  | .inr v5 =>
    bd1 (oA S2 a0 0 2) fun v7 =>
    bd1 (aL S2 v7 6 x1) fun v9 =>
    if v9 = none then
      s_X1_cost_27 0 S2
    else
      bd1 (oA S2 a0 0 2) fun v11 =>
      bd1 (aL S2 v11 6 x1) fun v13 =>
      bd1 (oI S2 v13 6 2) fun v15 =>
      s_X1_cost_27 v15 S2
def s_X1_alarms_27  (t0 : Int32) (S0 : St) : Option ((Ex ⊕ Int32) × St) :=
  some ((.inr t0), S0)
def f_X1_alarms (a0 : Option Nat) (x1 : Int32) (S0 : St) : Option ((Ex ⊕ Int32) × St) :=
  bd2 (f_X1_there x1 4 S0) fun v1 S2 =>
  match v1 with
  | .inl x4 =>
    some (.inl x4, S2)
  | .inr v5 =>
    bd1 (oA S2 a0 0 2) fun v7 =>
    bd1 (aL S2 v7 6 x1) fun v9 =>
    if v9 = none then
      s_X1_alarms_27 0 S2
    else
      bd1 (oA S2 a0 0 2) fun v11 =>
      bd1 (aL S2 v11 6 x1) fun v13 =>
      bd1 (oI S2 v13 6 1) fun v15 =>
      s_X1_alarms_27 v15 S2
def f_X1_kept (a0 : Option Nat) (a1 : Option Nat) (S0 : St) : Option (Int32 × St) :=
  bd1 (oA S0 a0 0 3) fun v2 =>
  bd2 (nO S0 10 2 [.int 0, .null]) fun v3 S4 =>
  bd1 (oA S4 a0 0 3) fun v7 =>
  bd1 (isO S4 v7 16) fun _ =>
  bd2 (f_J2_size v7 S4) fun v9 S10 =>
  bd1 v3 fun q12 =>
  bd2 (f_X11_init v3 v9 a1 S10) fun v14 S15 =>
  bd1 (isO S15 v2 16) fun _ =>
  bd2 (f_J2_add v2 v3 S15) fun v18 S19 =>
  bd1 (oA S19 a0 0 3) fun v22 =>
  bd1 (isO S19 v22 16) fun _ =>
  bd2 (f_J2_size v22 S19) fun v24 S25 =>
  some (v24 - 1, S25)
def f_X1_version (a0 : Option Nat) (x1 : Int32) (S0 : St) : Option ((Ex ⊕ Option Nat) × St) :=
  bd1 (oA S0 a0 0 3) fun v2 =>
  bd1 (isO S0 v2 16) fun _ =>
  bd2 (f_J2_size v2 S0) fun v4 S5 =>
  bd2 (f_X1_there x1 v4 S5) fun v7 S8 =>
  match v7 with
  | .inl x10 =>
    some (.inl x10, S8)
  | .inr v11 =>
    bd1 (oA S8 a0 0 3) fun v13 =>
    bd1 (isO S8 v13 16) fun _ =>
    bd2 (f_J2_get v13 x1 S8) fun v15 S16 =>
    bd1 (ckO S16 v15 10) fun _ =>
    some ((.inr v15), S16)
def f_X1_lose (a0 : Option Nat) (x1 : Int32) (S0 : St) : Option ((Ex ⊕ Int32) × St) :=
  bd1 (isO S0 a0 0) fun _ =>
  bd2 (f_X1_version a0 x1 S0) fun v2 S3 =>
  match v2 with
  | .inl x5 =>
    some (.inl x5, S3)
  | .inr v6 =>
    bd1 (oA S3 v6 10 1) fun v8 =>
    bd2 (f_hsize v8 S3) fun v9 S10 =>
    bd2 (nO S10 13 0 []) fun v12 S13 =>
    bd1 v12 fun q15 =>
    bd2 (f_X14_init v12 S13) fun v17 S18 =>
    bd1 (pV S18 v6 10 1 (va_rf v12)) fun S20 =>
    some ((.inr v9), S20)
def s_X1_brokenAt_21  (t0 : Int32) (S0 : St) : Option ((Ex ⊕ Int32) × St) :=
  some ((.inr t0), S0)
def f_X1_brokenAt (a0 : Option Nat) (x1 : Int32) (S0 : St) : Option ((Ex ⊕ Int32) × St) :=
  bd1 (isO S0 a0 0) fun _ =>
  bd2 (f_X1_version a0 x1 S0) fun v2 S3 =>
  match v2 with
  | .inl x5 =>
    some (.inl x5, S3)
  | .inr v6 =>
    bd1 (isO S3 v6 10) fun _ =>
    bd2 (f_X11_broken v6 S3) fun v8 S9 =>
    if v8 = none then
      s_X1_brokenAt_21 ((-1)) S9
    else
      bd1 (isO S9 v8 12) fun _ =>
      bd2 (f_X13_root v8 S9) fun v12 S13 =>
      s_X1_brokenAt_21 v12 S13
def s_X1_brokenAfter_21  (t0 : Int32) (S0 : St) : Option ((Ex ⊕ Int32) × St) :=
  some ((.inr t0), S0)
def f_X1_brokenAfter (a0 : Option Nat) (x1 : Int32) (S0 : St) : Option ((Ex ⊕ Int32) × St) :=
  bd1 (isO S0 a0 0) fun _ =>
  bd2 (f_X1_version a0 x1 S0) fun v2 S3 =>
  match v2 with
  | .inl x5 =>
    some (.inl x5, S3)
  | .inr v6 =>
    bd1 (isO S3 v6 10) fun _ =>
    bd2 (f_X11_broken v6 S3) fun v8 S9 =>
    if v8 = none then
      s_X1_brokenAfter_21 ((-1)) S9
    else
      bd1 (isO S9 v8 12) fun _ =>
      bd2 (f_X13_steps v8 S9) fun v12 S13 =>
      s_X1_brokenAfter_21 v12 S13
def s_X1_reason_21  (t0 : Int32) (S0 : St) : Option ((Ex ⊕ Int32) × St) :=
  some ((.inr t0), S0)
def f_X1_reason (a0 : Option Nat) (x1 : Int32) (S0 : St) : Option ((Ex ⊕ Int32) × St) :=
  bd1 (isO S0 a0 0) fun _ =>
  bd2 (f_X1_version a0 x1 S0) fun v2 S3 =>
  match v2 with
  | .inl x5 =>
    some (.inl x5, S3)
  | .inr v6 =>
    bd1 (isO S3 v6 10) fun _ =>
    bd2 (f_X11_broken v6 S3) fun v8 S9 =>
    if v8 = none then
      s_X1_reason_21 ((-1)) S9
    else
      bd1 (oI S9 v8 12 7) fun v12 =>
      s_X1_reason_21 v12 S9
def f_X1_heldBy (a0 : Option Nat) (x1 : Int32) (S0 : St) : Option ((Ex ⊕ Int32) × St) :=
  bd1 (isO S0 a0 0) fun _ =>
  bd2 (f_X1_version a0 x1 S0) fun v2 S3 =>
  match v2 with
  | .inl x5 =>
    some (.inl x5, S3)
  | .inr v6 =>
    bd1 (oA S3 v6 10 1) fun v8 =>
    bd2 (f_hsize v8 S3) fun v9 S10 =>
    some ((.inr v9), S10)
def f_X1_cuts (a0 : Option Nat) (x1 : Int32) (x2 : Int32) (x3 : Int32) (S0 : St) : Option ((Ex ⊕ Unit) × St) :=
  bd2 (f_X1_fit x1 1 16 S0) fun v1 S2 =>
  match v1 with
  | .inl x4 =>
    some (.inl x4, S2)
  | .inr v5 =>
    bd2 (f_X1_fit x2 x1 40 S2) fun v6 S7 =>
    match v6 with
    | .inl x9 =>
      some (.inl x9, S7)
    | .inr v10 =>
      bd2 (f_X1_fit x3 1 64 S7) fun v11 S12 =>
      match v11 with
      | .inl x14 =>
        some (.inl x14, S12)
      | .inr v15 =>
        bd1 (pV S12 a0 0 6 (.int x1)) fun S16 =>
        bd1 (pV S16 a0 0 7 (.int x2)) fun S18 =>
        bd1 (pV S18 a0 0 8 (.int x3)) fun S20 =>
        some ((.inr (())), S20)
def s_X1_isEnd_39  (t0 : Int32) (S0 : St) : Option (Int32 × St) :=
  bd1 (zb t0) fun _ =>
  some (t0, S0)
def s_X1_isEnd_25  (a0 : Option Nat) (x4 : Int32) (S0 : St) : Option (Int32 × St) :=
  bd1 (oI S0 a0 0 7) fun v4 =>
  if x4 < v4 then
    s_X1_isEnd_39 0 S0
  else
    s_X1_isEnd_39 1 S0
def s_X1_isEnd_104  (t0 : Int32) (S0 : St) : Option (Int32 × St) :=
  bd1 (zb t0) fun _ =>
  some (t0, S0)
def s_X1_isEnd_83  (a0 : Option Nat) (x5 : Int32) (S0 : St) : Option (Int32 × St) :=
  bd1 (oI S0 a0 0 8) fun v9 =>
  bd1 (nz v9) fun _ =>
  bd1 (oI S0 a0 0 8) fun v12 =>
  if (x5 - x5 / v9 * v9) = (v12 - 1) then
    s_X1_isEnd_104 1 S0
  else
    s_X1_isEnd_104 0 S0
def s_X1_isEnd_46 (rc46 : Option Nat × Option Nat × Int32 × Int32 × Int32 → St → Option (Int32 × St)) (a0 : Option Nat) (a1 : Option Nat) (x3 : Int32) (x5 : Int32) (x6 : Int32) (S0 : St) : Option (Int32 × St) :=
  if 4 ≤ x6 then
    s_X1_isEnd_83 a0 x5 S0
  else
    if x3 < x6 then
      s_X1_isEnd_83 a0 x5 S0
    else
      bd1 (oA S0 a1 3 0) fun v15 =>
      bd1 (iL S0 v15 0 (x3 - x6)) fun v17 =>
      rc46 (a0, a1, x3, (x5 + ((x6 + 1) * v17)), (x6 + 1)) S0
def l_X1_isEnd_46   : Nat → Option Nat × Option Nat × Int32 × Int32 × Int32 → St → Option (Int32 × St) :=
  lp fun rc46 v S0 => s_X1_isEnd_46   rc46 v.1 v.2.1 v.2.2.1 v.2.2.2.1 v.2.2.2.2 S0
def f_X1_isEnd (a0 : Option Nat) (a1 : Option Nat) (x2 : Int32) (x3 : Int32) (S0 : St) : Option (Int32 × St) :=
  bd1 (oI S0 a0 0 6) fun v2 =>
  if ((x3 + 1) - x2) < v2 then
    s_X1_isEnd_25 a0 ((x3 + 1) - x2) S0
  else
    bd1 (oI S0 a0 0 7) fun v7 =>
    if ((x3 + 1) - x2) < v7 then
      l_X1_isEnd_46 FU (a0, a1, x3, 0, 0) S0
    else
      s_X1_isEnd_25 a0 ((x3 + 1) - x2) S0
def f_X1_paper (a0 : Option Nat) (x1 : Int32) (S0 : St) : Option ((Ex ⊕ Option Nat) × St) :=
  bd2 (f_X1_there x1 12 S0) fun v1 S2 =>
  match v1 with
  | .inl x4 =>
    some (.inl x4, S2)
  | .inr v5 =>
    bd1 (oA S2 a0 0 5) fun v7 =>
    bd1 (aL S2 v7 7 x1) fun v9 =>
    if v9 = none then
      bd2 (thr S2 "java/lang/IndexOutOfBoundsException") fun x16 S17 =>
      some (.inl x16, S17)
    else
      bd1 (oA S2 a0 0 5) fun v11 =>
      bd1 (aL S2 v11 7 x1) fun v13 =>
      bd1 (oA S2 v13 15 0) fun v15 =>
      some ((.inr v15), S2)
def f_X1_parts (a0 : Option Nat) (x1 : Int32) (S0 : St) : Option ((Ex ⊕ Int32) × St) :=
  bd1 (isO S0 a0 0) fun _ =>
  bd2 (f_X1_paper a0 x1 S0) fun v2 S3 =>
  match v2 with
  | .inl x5 =>
    some (.inl x5, S3)
  | .inr v6 =>
    bd1 (lenA S3 v6 9) fun v8 =>
    some ((.inr v8), S3)
def f_X1_part (a0 : Option Nat) (x1 : Int32) (x2 : Int32) (S0 : St) : Option ((Ex ⊕ Option Nat) × St) :=
  bd1 (isO S0 a0 0) fun _ =>
  bd2 (f_X1_paper a0 x1 S0) fun v2 S3 =>
  match v2 with
  | .inl x5 =>
    some (.inl x5, S3)
  | .inr v6 =>
    bd1 (lenA S3 v6 9) fun v8 =>
    bd2 (f_X1_there x2 v8 S3) fun v9 S10 =>
    match v9 with
    | .inl x12 =>
      some (.inl x12, S10)
    | .inr v13 =>
      bd1 (aL S10 v6 9 x2) fun v15 =>
      some ((.inr v15), S10)
def f_X1_shared (a0 : Option Nat) (x1 : Int32) (x2 : Int32) (S0 : St) : Option ((Ex ⊕ Int32) × St) :=
  bd1 (isO S0 a0 0) fun _ =>
  bd2 (f_X1_part a0 x1 x2 S0) fun v2 S3 =>
  match v2 with
  | .inl x5 =>
    some (.inl x5, S3)
  | .inr v6 =>
    bd1 (oI S3 v6 14 1) fun v8 =>
    some ((.inr v8), S3)
def s_X1_file_19  (a0 : Option Nat) (t0 : Int32) (S0 : St) : Option ((Ex ⊕ Int32) × St) :=
  bd2 (f_X1_can t0 S0) fun v7 S8 =>
  match v7 with
  | .inl x10 =>
    some (.inl x10, S8)
  | .inr v11 =>
    bd1 (oA S8 a0 0 0) fun v13 =>
    bd2 (nO S8 3 2 [.null, .int 0]) fun v14 S15 =>
    bd1 v14 fun q17 =>
    bd2 (f_X4_init v14 S15) fun v19 S20 =>
    bd1 (isO S20 v13 16) fun _ =>
    bd2 (f_J2_add v13 v14 S20) fun v23 S24 =>
    bd1 (oA S24 a0 0 0) fun v27 =>
    bd1 (isO S24 v27 16) fun _ =>
    bd2 (f_J2_size v27 S24) fun v29 S30 =>
    some ((.inr (v29 - 1)), S30)
def f_X1_file (a0 : Option Nat) (S0 : St) : Option ((Ex ⊕ Int32) × St) :=
  bd1 (oA S0 a0 0 0) fun v2 =>
  bd1 (isO S0 v2 16) fun _ =>
  bd2 (f_J2_size v2 S0) fun v4 S5 =>
  if 6 ≤ v4 then
    s_X1_file_19 a0 0 S5
  else
    s_X1_file_19 a0 1 S5
def f_X1_strip (a0 : Option Nat) (x1 : Int32) (S0 : St) : Option ((Ex ⊕ Option Nat) × St) :=
  bd1 (oA S0 a0 0 0) fun v2 =>
  bd1 (isO S0 v2 16) fun _ =>
  bd2 (f_J2_size v2 S0) fun v4 S5 =>
  bd2 (f_X1_there x1 v4 S5) fun v7 S8 =>
  match v7 with
  | .inl x10 =>
    some (.inl x10, S8)
  | .inr v11 =>
    bd1 (oA S8 a0 0 0) fun v13 =>
    bd1 (isO S8 v13 16) fun _ =>
    bd2 (f_J2_get v13 x1 S8) fun v15 S16 =>
    bd1 (ckO S16 v15 3) fun _ =>
    some ((.inr v15), S16)
def s_X1_insert_41  (x2 : Int32) (x3 : Int32) (a4 : Option Nat) (t0 : Int32) (S0 : St) : Option ((Ex ⊕ Int32) × St) :=
  bd2 (f_X1_can t0 S0) fun v21 S22 =>
  match v21 with
  | .inl x24 =>
    some (.inl x24, S22)
  | .inr v25 =>
    bd1 (oA S22 a4 3 0) fun v27 =>
    bd1 (oA S22 a4 3 0) fun v29 =>
    bd1 (oI S22 a4 3 1) fun v31 =>
    bd1 (cpI S22 v27 x2 v29 (x2 + 1) (v31 - x2)) fun S32 =>
    bd1 (oA S32 a4 3 0) fun v35 =>
    bd1 (iS S32 v35 0 x2 x3) fun S37 =>
    bd1 (oI S37 a4 3 1) fun v39 =>
    bd1 (pV S37 a4 3 1 (.int (v39 + 1))) fun S40 =>
    bd1 (oI S40 a4 3 1) fun v43 =>
    some ((.inr v43), S40)
def f_X1_insert (a0 : Option Nat) (x1 : Int32) (x2 : Int32) (x3 : Int32) (S0 : St) : Option ((Ex ⊕ Int32) × St) :=
  bd1 (isO S0 a0 0) fun _ =>
  bd2 (f_X1_strip a0 x1 S0) fun v2 S3 =>
  match v2 with
  | .inl x5 =>
    some (.inl x5, S3)
  | .inr v6 =>
    bd1 (oI S3 v6 3 1) fun v8 =>
    bd2 (f_X1_there x2 (v8 + 1) S3) fun v9 S10 =>
    match v9 with
    | .inl x12 =>
      some (.inl x12, S10)
    | .inr v13 =>
      bd2 (f_X1_fit x3 0 255 S10) fun v14 S15 =>
      match v14 with
      | .inl x17 =>
        some (.inl x17, S15)
      | .inr v18 =>
        bd1 (oI S15 v6 3 1) fun v20 =>
        if 120 ≤ v20 then
          s_X1_insert_41 x2 x3 v6 0 S15
        else
          s_X1_insert_41 x2 x3 v6 1 S15
def f_X1_remove (a0 : Option Nat) (x1 : Int32) (x2 : Int32) (x3 : Int32) (S0 : St) : Option ((Ex ⊕ Int32) × St) :=
  bd1 (isO S0 a0 0) fun _ =>
  bd2 (f_X1_strip a0 x1 S0) fun v2 S3 =>
  match v2 with
  | .inl x5 =>
    some (.inl x5, S3)
  | .inr v6 =>
    bd1 (oI S3 v6 3 1) fun v8 =>
    bd2 (f_X1_there x2 (v8 + 1) S3) fun v9 S10 =>
    match v9 with
    | .inl x12 =>
      some (.inl x12, S10)
    | .inr v13 =>
      bd1 (oI S10 v6 3 1) fun v15 =>
      bd2 (f_X1_fit x3 0 (v15 - x2) S10) fun v16 S17 =>
      match v16 with
      | .inl x19 =>
        some (.inl x19, S17)
      | .inr v20 =>
        bd1 (oA S17 v6 3 0) fun v22 =>
        bd1 (oA S17 v6 3 0) fun v24 =>
        bd1 (oI S17 v6 3 1) fun v26 =>
        bd1 (cpI S17 v22 (x2 + x3) v24 x2 ((v26 - x2) - x3)) fun S27 =>
        bd1 (oI S27 v6 3 1) fun v30 =>
        bd1 (pV S27 v6 3 1 (.int (v30 - x3))) fun S31 =>
        bd1 (oI S31 v6 3 1) fun v34 =>
        some ((.inr v34), S31)
def f_X1_copy (a0 : Option Nat) (x1 : Int32) (x2 : Int32) (S0 : St) : Option ((Ex ⊕ Unit) × St) :=
  bd1 (isO S0 a0 0) fun _ =>
  bd2 (f_X1_strip a0 x1 S0) fun v2 S3 =>
  match v2 with
  | .inl x5 =>
    some (.inl x5, S3)
  | .inr v6 =>
    bd1 (isO S3 a0 0) fun _ =>
    bd2 (f_X1_strip a0 x2 S3) fun v8 S9 =>
    match v8 with
    | .inl x11 =>
      some (.inl x11, S9)
    | .inr v12 =>
      bd1 (isO S9 v12 3) fun _ =>
      bd2 (f_X4_become v12 v6 S9) fun v14 S15 =>
      some ((.inr (())), S15)
def f_X1_length (a0 : Option Nat) (x1 : Int32) (S0 : St) : Option ((Ex ⊕ Int32) × St) :=
  bd1 (isO S0 a0 0) fun _ =>
  bd2 (f_X1_strip a0 x1 S0) fun v2 S3 =>
  match v2 with
  | .inl x5 =>
    some (.inl x5, S3)
  | .inr v6 =>
    bd1 (oI S3 v6 3 1) fun v8 =>
    some ((.inr v8), S3)
def f_X1_byteAt (a0 : Option Nat) (x1 : Int32) (x2 : Int32) (S0 : St) : Option ((Ex ⊕ Int32) × St) :=
  bd1 (isO S0 a0 0) fun _ =>
  bd2 (f_X1_strip a0 x1 S0) fun v2 S3 =>
  match v2 with
  | .inl x5 =>
    some (.inl x5, S3)
  | .inr v6 =>
    bd1 (oI S3 v6 3 1) fun v8 =>
    bd2 (f_X1_there x2 v8 S3) fun v9 S10 =>
    match v9 with
    | .inl x12 =>
      some (.inl x12, S10)
    | .inr v13 =>
      bd1 (oA S10 v6 3 0) fun v15 =>
      bd1 (iL S10 v15 0 x2) fun v17 =>
      some ((.inr v17), S10)
def f_X1_same (a0 : Option Nat) (x1 : Int32) (x2 : Int32) (S0 : St) : Option ((Ex ⊕ Int32) × St) :=
  bd1 (isO S0 a0 0) fun _ =>
  bd2 (f_X1_strip a0 x1 S0) fun v2 S3 =>
  match v2 with
  | .inl x5 =>
    some (.inl x5, S3)
  | .inr v6 =>
    bd1 (isO S3 a0 0) fun _ =>
    bd2 (f_X1_strip a0 x2 S3) fun v8 S9 =>
    match v8 with
    | .inl x11 =>
      some (.inl x11, S9)
    | .inr v12 =>
      bd1 (isO S9 v6 3) fun _ =>
      bd2 (f_X4_isSame v6 v12 S9) fun v14 S15 =>
      bd1 (zb v14) fun _ =>
      some ((.inr v14), S15)
def f_X1_sign (a0 : Option Nat) (x1 : Int32) (x2 : Int32) (x3 : Int32) (x4 : Int32) (S0 : St) : Option ((Ex ⊕ Int32) × St) :=
  bd2 (f_X1_there x1 4 S0) fun v1 S2 =>
  match v1 with
  | .inl x4 =>
    some (.inl x4, S2)
  | .inr v5 =>
    bd1 (isO S2 a0 0) fun _ =>
    bd2 (f_X1_strip a0 x2 S2) fun v7 S8 =>
    match v7 with
    | .inl x10 =>
      some (.inl x10, S8)
    | .inr v11 =>
      bd2 (f_X1_fit x3 1 7 S8) fun v12 S13 =>
      match v12 with
      | .inl x15 =>
        some (.inl x15, S13)
      | .inr v16 =>
        bd2 (f_X1_fit x4 1 4096 S13) fun v17 S18 =>
        match v17 with
        | .inl x20 =>
          some (.inl x20, S18)
        | .inr v21 =>
          bd1 (oA S18 a0 0 1) fun v23 =>
          bd2 (nO S18 4 5 [.int 0, .int 0, .int 0, .int 0, .null]) fun v24 S25 =>
          bd1 v24 fun q27 =>
          bd2 (f_X5_init v24 v11 x3 x4 S25) fun v29 S30 =>
          bd1 (aS S30 v23 5 x1 v24) fun S33 =>
          bd1 (oA S33 a0 0 1) fun v35 =>
          bd1 (aL S33 v35 5 x1) fun v37 =>
          bd1 (oI S33 v37 4 2) fun v39 =>
          some ((.inr v39), S33)
def s_X1_compare_31  (a0 : Option Nat) (x1 : Int32) (x2 : Int32) (a4 : Option Nat) (t0 : Int32) (S0 : St) : Option ((Ex ⊕ Int32) × St) :=
  bd2 (f_X1_can t0 S0) fun v21 S22 =>
  match v21 with
  | .inl x24 =>
    some (.inl x24, S22)
  | .inr v25 =>
    bd1 (oA S22 a0 0 2) fun v27 =>
    bd2 (nO S22 6 4 [.null, .int 0, .int 0, .null]) fun v28 S29 =>
    bd1 (oA S29 a0 0 1) fun v32 =>
    bd1 (aL S29 v32 5 x2) fun v34 =>
    bd1 v28 fun q35 =>
    bd2 (f_X7_init v28 v34 a4 S29) fun v37 S38 =>
    bd1 (aS S38 v27 6 x1 v28) fun S41 =>
    bd1 (oA S41 a0 0 2) fun v43 =>
    bd1 (aL S41 v43 6 x1) fun v45 =>
    bd1 (oA S41 v45 6 0) fun v47 =>
    bd1 (isO S41 v47 16) fun _ =>
    bd2 (f_J2_size v47 S41) fun v49 S50 =>
    some ((.inr v49), S50)
def f_X1_compare (a0 : Option Nat) (x1 : Int32) (x2 : Int32) (x3 : Int32) (S0 : St) : Option ((Ex ⊕ Int32) × St) :=
  bd2 (f_X1_there x1 4 S0) fun v1 S2 =>
  match v1 with
  | .inl x4 =>
    some (.inl x4, S2)
  | .inr v5 =>
    bd2 (f_X1_there x2 4 S2) fun v6 S7 =>
    match v6 with
    | .inl x9 =>
      some (.inl x9, S7)
    | .inr v10 =>
      bd1 (isO S7 a0 0) fun _ =>
      bd2 (f_X1_strip a0 x3 S7) fun v12 S13 =>
      match v12 with
      | .inl x15 =>
        some (.inl x15, S13)
      | .inr v16 =>
        bd1 (oA S13 a0 0 1) fun v18 =>
        bd1 (aL S13 v18 5 x2) fun v20 =>
        if v20 = none then
          s_X1_compare_31 a0 x1 x2 v16 0 S13
        else
          s_X1_compare_31 a0 x1 x2 v16 1 S13
def f_X1_isCopy (a0 : Option Nat) (x1 : Int32) (x2 : Int32) (S0 : St) : Option ((Ex ⊕ Int32) × St) :=
  bd1 (isO S0 a0 0) fun _ =>
  bd2 (f_X1_instruction a0 x1 x2 S0) fun v2 S3 =>
  match v2 with
  | .inl x5 =>
    some (.inl x5, S3)
  | .inr v6 =>
    bd1 (oI S3 v6 7 0) fun v8 =>
    bd1 (zb v8) fun _ =>
    some ((.inr v8), S3)
def s_X1_apply_33  (a0 : Option Nat) (x1 : Int32) (a4 : Option Nat) (a5 : Option Nat) (t0 : Int32) (S0 : St) : Option ((Ex ⊕ Int32) × St) :=
  bd2 (f_X1_can t0 S0) fun v22 S23 =>
  match v22 with
  | .inl x25 =>
    some (.inl x25, S23)
  | .inr v26 =>
    bd1 (oA S23 a0 0 2) fun v28 =>
    bd1 (aL S23 v28 6 x1) fun v30 =>
    bd1 (isO S23 v30 6) fun _ =>
    bd2 (f_X7_applied v30 a4 S23) fun v32 S33 =>
    match v32 with
    | .inl x35 =>
      if x35.1 = "RollSync$Beyond" then
        bd2 (thr S33 "java/lang/IllegalStateException") fun x37 S38 =>
        some (.inl x37, S38)
      else
        none
    | .inr v36 =>
      bd1 (isO S33 a5 3) fun _ =>
      bd2 (f_X4_become a5 v36 S33) fun v41 S42 =>
      bd1 (oI S42 a5 3 1) fun v45 =>
      some ((.inr v45), S42)
def f_X1_apply (a0 : Option Nat) (x1 : Int32) (x2 : Int32) (x3 : Int32) (S0 : St) : Option ((Ex ⊕ Int32) × St) :=
  bd2 (f_X1_there x1 4 S0) fun v1 S2 =>
  match v1 with
  | .inl x4 =>
    some (.inl x4, S2)
  | .inr v5 =>
    bd1 (isO S2 a0 0) fun _ =>
    bd2 (f_X1_strip a0 x2 S2) fun v7 S8 =>
    match v7 with
    | .inl x10 =>
      some (.inl x10, S8)
    | .inr v11 =>
      bd1 (isO S8 a0 0) fun _ =>
      bd2 (f_X1_strip a0 x3 S8) fun v13 S14 =>
      match v13 with
      | .inl x16 =>
        some (.inl x16, S14)
      | .inr v17 =>
        bd1 (oA S14 a0 0 2) fun v19 =>
        bd1 (aL S14 v19 6 x1) fun v21 =>
        if v21 = none then
          s_X1_apply_33 a0 x1 v11 v17 0 S14
        else
          s_X1_apply_33 a0 x1 v11 v17 1 S14
def s_X1_keep_25  (a0 : Option Nat) (a2 : Option Nat) (t0 : Int32) (S0 : St) : Option ((Ex ⊕ Int32) × St) :=
  bd2 (f_X1_can t0 S0) fun v13 S14 =>
  match v13 with
  | .inl x16 =>
    some (.inl x16, S14)
  | .inr v17 =>
    bd2 (nO S14 9 1 [.null]) fun v18 S19 =>
    bd1 v18 fun q21 =>
    bd2 (f_X10_init v18 a2 S19) fun v23 S24 =>
    bd1 (isO S24 a0 0) fun _ =>
    bd2 (f_X1_kept a0 v18 S24) fun v27 S28 =>
    some ((.inr v27), S28)
def f_X1_keep (a0 : Option Nat) (x1 : Int32) (S0 : St) : Option ((Ex ⊕ Int32) × St) :=
  bd1 (isO S0 a0 0) fun _ =>
  bd2 (f_X1_strip a0 x1 S0) fun v2 S3 =>
  match v2 with
  | .inl x5 =>
    some (.inl x5, S3)
  | .inr v6 =>
    bd1 (oA S3 a0 0 3) fun v8 =>
    bd1 (isO S3 v8 16) fun _ =>
    bd2 (f_J2_size v8 S3) fun v10 S11 =>
    if 20 ≤ v10 then
      s_X1_keep_25 a0 v6 0 S11
    else
      s_X1_keep_25 a0 v6 1 S11
def s_X1_keepDelta_40  (a0 : Option Nat) (x3 : Int32) (a4 : Option Nat) (a5 : Option Nat) (t0 : Int32) (S0 : St) : Option ((Ex ⊕ Int32) × St) :=
  bd2 (f_X1_can t0 S0) fun v24 S25 =>
  match v24 with
  | .inl x27 =>
    some (.inl x27, S25)
  | .inr v28 =>
    bd2 (nO S25 11 2 [.null, .null]) fun v29 S30 =>
    bd2 (nO S30 6 4 [.null, .int 0, .int 0, .null]) fun v32 S33 =>
    bd2 (nO S33 4 5 [.int 0, .int 0, .int 0, .int 0, .null]) fun v35 S36 =>
    bd1 (isO S36 a5 10) fun _ =>
    bd2 (f_ver a5 S36) fun v39 S40 =>
    match v39 with
    | .inl x42 =>
      if x42.1 = "RollSync$Broken" then
        bd2 (thr S40 "java/lang/IllegalStateException") fun x44 S45 =>
        some (.inl x44, S45)
      else
        none
    | .inr v43 =>
      bd1 v35 fun q47 =>
      bd2 (f_X5_init v35 v43 x3 256 S40) fun v49 S50 =>
      bd1 v32 fun q52 =>
      bd2 (f_X7_init v32 v35 a4 S50) fun v54 S55 =>
      bd1 v29 fun q57 =>
      bd2 (f_X12_init v29 a5 v32 S55) fun v59 S60 =>
      bd1 (isO S60 a0 0) fun _ =>
      bd2 (f_X1_kept a0 v29 S60) fun v63 S64 =>
      some ((.inr v63), S64)
def f_X1_keepDelta (a0 : Option Nat) (x1 : Int32) (x2 : Int32) (x3 : Int32) (S0 : St) : Option ((Ex ⊕ Int32) × St) :=
  bd1 (isO S0 a0 0) fun _ =>
  bd2 (f_X1_strip a0 x1 S0) fun v2 S3 =>
  match v2 with
  | .inl x5 =>
    some (.inl x5, S3)
  | .inr v6 =>
    bd1 (isO S3 a0 0) fun _ =>
    bd2 (f_X1_version a0 x2 S3) fun v8 S9 =>
    match v8 with
    | .inl x11 =>
      some (.inl x11, S9)
    | .inr v12 =>
      bd2 (f_X1_fit x3 1 7 S9) fun v13 S14 =>
      match v13 with
      | .inl x16 =>
        some (.inl x16, S14)
      | .inr v17 =>
        bd1 (oA S14 a0 0 3) fun v19 =>
        bd1 (isO S14 v19 16) fun _ =>
        bd2 (f_J2_size v19 S14) fun v21 S22 =>
        if 20 ≤ v21 then
          s_X1_keepDelta_40 a0 x3 v6 v12 0 S22
        else
          s_X1_keepDelta_40 a0 x3 v6 v12 1 S22
def f_X1_replace (a0 : Option Nat) (x1 : Int32) (x2 : Int32) (S0 : St) : Option ((Ex ⊕ Unit) × St) :=
  bd1 (isO S0 a0 0) fun _ =>
  bd2 (f_X1_version a0 x1 S0) fun v2 S3 =>
  match v2 with
  | .inl x5 =>
    some (.inl x5, S3)
  | .inr v6 =>
    bd2 (nO S3 9 1 [.null]) fun v7 S8 =>
    bd1 (isO S8 a0 0) fun _ =>
    bd2 (f_X1_strip a0 x2 S8) fun v11 S12 =>
    match v11 with
    | .inl x14 =>
      some (.inl x14, S12)
    | .inr v15 =>
      bd1 v7 fun q16 =>
      bd2 (f_X10_init v7 v15 S12) fun v18 S19 =>
      bd1 (pV S19 v6 10 1 (va_rf v7)) fun S21 =>
      some ((.inr (())), S21)
def f_X1_rebuild (a0 : Option Nat) (x1 : Int32) (x2 : Int32) (S0 : St) : Option ((Ex ⊕ Int32) × St) :=
  bd1 (isO S0 a0 0) fun _ =>
  bd2 (f_X1_version a0 x1 S0) fun v2 S3 =>
  match v2 with
  | .inl x5 =>
    some (.inl x5, S3)
  | .inr v6 =>
    bd1 (isO S3 a0 0) fun _ =>
    bd2 (f_X1_strip a0 x2 S3) fun v8 S9 =>
    match v8 with
    | .inl x11 =>
      some (.inl x11, S9)
    | .inr v12 =>
      bd1 (isO S9 v6 10) fun _ =>
      bd2 (f_ver v6 S9) fun v14 S15 =>
      match v14 with
      | .inl x17 =>
        if x17.1 = "RollSync$Broken" then
          bd2 (thr S15 "java/lang/IllegalStateException") fun x19 S20 =>
          some (.inl x19, S20)
        else
          none
      | .inr v18 =>
        bd1 (isO S15 v12 3) fun _ =>
        bd2 (f_X4_become v12 v18 S15) fun v23 S24 =>
        bd1 (oI S24 v12 3 1) fun v27 =>
        some ((.inr v27), S24)
def s_X1_cut_71 (rc13 : Option Nat × Option Nat × Option Nat × Int32 × Int32 → St → Option (Option Nat × St)) (a0 : Option Nat) (a1 : Option Nat) (a2 : Option Nat) (x3 : Int32) (x4 : Int32) (S0 : St) : Option (Option Nat × St) :=
  rc13 (a0, a1, a2, x3, (x4 + 1)) S0
def s_X1_cut_44 (rc13 : Option Nat × Option Nat × Option Nat × Int32 × Int32 → St → Option (Option Nat × St)) (a0 : Option Nat) (a1 : Option Nat) (a2 : Option Nat) (x3 : Int32) (x4 : Int32) (S0 : St) : Option (Option Nat × St) :=
  bd1 (oA S0 a0 0 4) fun v22 =>
  bd1 (isO S0 v22 1) fun _ =>
  bd2 (f_X2_name v22 a1 x3 ((x4 + 1) - x3) S0) fun v24 S25 =>
  bd1 (isO S25 a2 16) fun _ =>
  bd2 (f_J2_add a2 v24 S25) fun v28 S29 =>
  s_X1_cut_71 rc13 a0 a1 a2 (x4 + 1) x4 S29
def s_X1_cut_13 (rc13 : Option Nat × Option Nat × Option Nat × Int32 × Int32 → St → Option (Option Nat × St)) (a0 : Option Nat) (a1 : Option Nat) (a2 : Option Nat) (x3 : Int32) (x4 : Int32) (S0 : St) : Option (Option Nat × St) :=
  bd1 (oI S0 a1 3 1) fun v10 =>
  if v10 ≤ x4 then
    bd2 (nO S0 15 1 [.null]) fun v11 S12 =>
    bd1 v11 fun q14 =>
    bd2 (f_X16_init v11 a2 S12) fun v16 S17 =>
    some (v11, S17)
  else
    bd1 (oI S0 a1 3 1) fun v20 =>
    if x4 = (v20 - 1) then
      s_X1_cut_44 rc13 a0 a1 a2 x3 x4 S0
    else
      bd1 (isO S0 a0 0) fun _ =>
      bd2 (f_X1_isEnd a0 a1 x3 x4 S0) fun v32 S33 =>
      if v32 = 0 then
        s_X1_cut_71 rc13 a0 a1 a2 x3 x4 S33
      else
        s_X1_cut_44 rc13 a0 a1 a2 x3 x4 S33
def l_X1_cut_13   : Nat → Option Nat × Option Nat × Option Nat × Int32 × Int32 → St → Option (Option Nat × St) :=
  lp fun rc13 v S0 => s_X1_cut_13   rc13 v.1 v.2.1 v.2.2.1 v.2.2.2.1 v.2.2.2.2 S0
def f_X1_cut (a0 : Option Nat) (a1 : Option Nat) (S0 : St) : Option (Option Nat × St) :=
  bd2 (nO S0 16 3 [.int 0, .null, .int 0]) fun v1 S2 =>
  bd1 v1 fun q4 =>
  bd2 (f_J2_init_2 v1 S2) fun v6 S7 =>
  l_X1_cut_13 FU (a0, a1, v1, 0, 0) S7
def s_X1_release_51 (rc19 : Option Nat × Int32 × Int32 × Option Nat × Int32 × Int32 → St → Option ((Ex ⊕ Int32) × St)) (a0 : Option Nat) (x1 : Int32) (a4 : Option Nat) (x5 : Int32) (x6 : Int32) (t0 : Int32) (t1 : Int32) (S0 : St) : Option ((Ex ⊕ Int32) × St) :=
  rc19 (a0, x1, (t1 + t0), a4, x5, (x6 + 1)) S0
def s_X1_release_19 (rc19 : Option Nat × Int32 × Int32 × Option Nat × Int32 × Int32 → St → Option ((Ex ⊕ Int32) × St)) (a0 : Option Nat) (x1 : Int32) (x3 : Int32) (a4 : Option Nat) (x5 : Int32) (x6 : Int32) (S0 : St) : Option ((Ex ⊕ Int32) × St) :=
  if x5 ≤ x6 then
    bd1 (oA S0 a0 0 5) fun v10 =>
    bd1 (aS S0 v10 7 x1 none) fun S12 =>
    some ((.inr x3), S12)
  else
    bd1 (aL S0 a4 9 x6) fun v14 =>
    bd1 (oA S0 a0 0 4) fun v16 =>
    bd1 (isO S0 v16 1) fun _ =>
    bd2 (f_X2_forget v16 v14 S0) fun v18 S19 =>
    if v18 = 0 then
      s_X1_release_51 rc19 a0 x1 a4 x5 x6 0 x3 S19
    else
      s_X1_release_51 rc19 a0 x1 a4 x5 x6 1 x3 S19
def l_X1_release_19   : Nat → Option Nat × Int32 × Int32 × Option Nat × Int32 × Int32 → St → Option ((Ex ⊕ Int32) × St) :=
  lp fun rc19 v S0 => s_X1_release_19   rc19 v.1 v.2.1 v.2.2.1 v.2.2.2.1 v.2.2.2.2.1 v.2.2.2.2.2 S0
def f_X1_release (a0 : Option Nat) (x1 : Int32) (S0 : St) : Option ((Ex ⊕ Int32) × St) :=
  bd1 (isO S0 a0 0) fun _ =>
  bd2 (f_X1_paper a0 x1 S0) fun v2 S3 =>
  match v2 with
  | .inl x5 =>
    some (.inl x5, S3)
  | .inr v6 =>
    bd1 (lenA S3 v6 9) fun v8 =>
    l_X1_release_19 FU (a0, x1, 0, v6, v8, 0) S3
def s_X1_fetch_30 (rc30 : Option Nat × Option Nat × Int32 × Int32 → St → Option ((Ex ⊕ Int32) × St)) (a4 : Option Nat) (a5 : Option Nat) (x6 : Int32) (x7 : Int32) (S0 : St) : Option ((Ex ⊕ Int32) × St) :=
  if x6 ≤ x7 then
    bd1 (oI S0 a4 3 1) fun v18 =>
    some ((.inr v18), S0)
  else
    bd1 (aL S0 a5 9 x7) fun v20 =>
    bd1 (oA S0 v20 14 0) fun v22 =>
    bd1 (isO S0 a4 3) fun _ =>
    bd2 (f_X4_add_2 a4 v22 S0) fun v24 S25 =>
    rc30 (a4, a5, x6, (x7 + 1)) S25
def l_X1_fetch_30   : Nat → Option Nat × Option Nat × Int32 × Int32 → St → Option ((Ex ⊕ Int32) × St) :=
  lp fun rc30 v S0 => s_X1_fetch_30   rc30 v.1 v.2.1 v.2.2.1 v.2.2.2 S0
def f_X1_fetch (a0 : Option Nat) (x1 : Int32) (x2 : Int32) (S0 : St) : Option ((Ex ⊕ Int32) × St) :=
  bd1 (isO S0 a0 0) fun _ =>
  bd2 (f_X1_paper a0 x1 S0) fun v2 S3 =>
  match v2 with
  | .inl x5 =>
    some (.inl x5, S3)
  | .inr v6 =>
    bd1 (isO S3 a0 0) fun _ =>
    bd2 (f_X1_strip a0 x2 S3) fun v8 S9 =>
    match v8 with
    | .inl x11 =>
      some (.inl x11, S9)
    | .inr v12 =>
      bd1 (pV S9 v12 3 1 (.int 0)) fun S13 =>
      bd1 (lenA S13 v6 9) fun v16 =>
      l_X1_fetch_30 FU (v12, v6, v16, 0) S13
def f_X1_partLength (a0 : Option Nat) (x1 : Int32) (x2 : Int32) (S0 : St) : Option ((Ex ⊕ Int32) × St) :=
  bd1 (isO S0 a0 0) fun _ =>
  bd2 (f_X1_part a0 x1 x2 S0) fun v2 S3 =>
  match v2 with
  | .inl x5 =>
    some (.inl x5, S3)
  | .inr v6 =>
    bd1 (oA S3 v6 14 0) fun v8 =>
    bd1 (lenA S3 v8 0) fun v10 =>
    some ((.inr v10), S3)
def s_X1_add_55 (rc55 : Int32 × Int32 × Int32 × Option Nat × Int32 → St → Option ((Ex ⊕ Int32) × St)) (x2 : Int32) (x3 : Int32) (x4 : Int32) (a5 : Option Nat) (x6 : Int32) (S0 : St) : Option ((Ex ⊕ Int32) × St) :=
  if x4 ≤ x6 then
    bd1 (oI S0 a5 3 1) fun v30 =>
    some ((.inr v30), S0)
  else
    bd1 (nz 256) fun _ =>
    bd1 (isO S0 a5 3) fun _ =>
    bd2 (f_X4_add a5 ((x2 + (x6 * x3)) - (x2 + (x6 * x3)) / 256 * 256) S0) fun v33 S34 =>
    rc55 (x2, x3, x4, a5, (x6 + 1)) S34
def l_X1_add_55   : Nat → Int32 × Int32 × Int32 × Option Nat × Int32 → St → Option ((Ex ⊕ Int32) × St) :=
  lp fun rc55 v S0 => s_X1_add_55   rc55 v.1 v.2.1 v.2.2.1 v.2.2.2.1 v.2.2.2.2 S0
def s_X1_add_49  (x2 : Int32) (x3 : Int32) (x4 : Int32) (a5 : Option Nat) (t0 : Int32) (S0 : St) : Option ((Ex ⊕ Int32) × St) :=
  bd2 (f_X1_can t0 S0) fun v24 S25 =>
  match v24 with
  | .inl x27 =>
    some (.inl x27, S25)
  | .inr v28 =>
    l_X1_add_55 FU (x2, x3, x4, a5, 0) S25
def f_X1_add (a0 : Option Nat) (x1 : Int32) (x2 : Int32) (x3 : Int32) (x4 : Int32) (S0 : St) : Option ((Ex ⊕ Int32) × St) :=
  bd1 (isO S0 a0 0) fun _ =>
  bd2 (f_X1_strip a0 x1 S0) fun v2 S3 =>
  match v2 with
  | .inl x5 =>
    some (.inl x5, S3)
  | .inr v6 =>
    bd2 (f_X1_fit x2 0 255 S3) fun v7 S8 =>
    match v7 with
    | .inl x10 =>
      some (.inl x10, S8)
    | .inr v11 =>
      bd2 (f_X1_fit x3 0 255 S8) fun v12 S13 =>
      match v12 with
      | .inl x15 =>
        some (.inl x15, S13)
      | .inr v16 =>
        bd2 (f_X1_fit x4 1 120 S13) fun v17 S18 =>
        match v17 with
        | .inl x20 =>
          some (.inl x20, S18)
        | .inr v21 =>
          bd1 (oI S18 v6 3 1) fun v23 =>
          if 120 < (v23 + x4) then
            s_X1_add_49 x2 x3 x4 v6 0 S18
          else
            s_X1_add_49 x2 x3 x4 v6 1 S18
def s_X1_store_40  (a0 : Option Nat) (a2 : Option Nat) (x3 : Int32) (t0 : Int32) (S0 : St) : Option ((Ex ⊕ Int32) × St) :=
  bd2 (f_X1_can t0 S0) fun v7 S8 =>
  match v7 with
  | .inl x10 =>
    some (.inl x10, S8)
  | .inr v11 =>
    bd1 (oA S8 a0 0 5) fun v13 =>
    bd1 (isO S8 a0 0) fun _ =>
    bd2 (f_X1_cut a0 a2 S8) fun v15 S16 =>
    bd1 (aS S16 v13 7 x3 v15) fun S19 =>
    some ((.inr x3), S19)
def s_X1_store_29  (a0 : Option Nat) (a2 : Option Nat) (x3 : Int32) (S0 : St) : Option ((Ex ⊕ Int32) × St) :=
  if 12 ≤ x3 then
    s_X1_store_40 a0 a2 x3 0 S0
  else
    s_X1_store_40 a0 a2 x3 1 S0
def s_X1_store_8 (rc8 : Option Nat × Option Nat × Int32 → St → Option ((Ex ⊕ Int32) × St)) (a0 : Option Nat) (a2 : Option Nat) (x3 : Int32) (S0 : St) : Option ((Ex ⊕ Int32) × St) :=
  if 12 ≤ x3 then
    s_X1_store_29 a0 a2 x3 S0
  else
    bd1 (oA S0 a0 0 5) fun v21 =>
    bd1 (aL S0 v21 7 x3) fun v23 =>
    if v23 = none then
      s_X1_store_29 a0 a2 x3 S0
    else
      rc8 (a0, a2, (x3 + 1)) S0
def l_X1_store_8   : Nat → Option Nat × Option Nat × Int32 → St → Option ((Ex ⊕ Int32) × St) :=
  lp fun rc8 v S0 => s_X1_store_8   rc8 v.1 v.2.1 v.2.2 S0
def f_X1_store (a0 : Option Nat) (x1 : Int32) (S0 : St) : Option ((Ex ⊕ Int32) × St) :=
  bd1 (isO S0 a0 0) fun _ =>
  bd2 (f_X1_strip a0 x1 S0) fun v2 S3 =>
  match v2 with
  | .inl x5 =>
    some (.inl x5, S3)
  | .inr v6 =>
    l_X1_store_8 FU (a0, v6, 0) S3
def f_X0_file (a0 : Option Nat) (a1 : Option Nat) (S0 : St) : Option (Int32 × St) :=
  bd1 (isO S0 a0 0) fun _ =>
  bd2 (f_X1_file a0 S0) fun v2 S3 =>
  match v2 with
  | .inl x5 =>
    if x5.1 = "java/lang/IllegalStateException" then
      some (1, S3)
    else
      none
  | .inr v6 =>
    bd1 (jS S3 a1 0 v6.toInt64) fun S8 =>
    some (0, S8)
def f_X0_add (a0 : Option Nat) (x1 : Int32) (x2 : Int32) (x3 : Int32) (x4 : Int32) (a5 : Option Nat) (S0 : St) : Option (Int32 × St) :=
  bd1 (isO S0 a0 0) fun _ =>
  bd2 (f_X1_add a0 x1 x2 x3 x4 S0) fun v2 S3 =>
  match v2 with
  | .inl x5 =>
    if x5.1 = "java/lang/IndexOutOfBoundsException" then
      some (1, S3)
    else
      if x5.1 = "java/lang/IllegalArgumentException" then
        some (2, S3)
      else
        if x5.1 = "java/lang/IllegalStateException" then
          some (3, S3)
        else
          none
  | .inr v6 =>
    bd1 (jS S3 a5 0 v6.toInt64) fun S8 =>
    some (0, S8)
def f_X0_insert (a0 : Option Nat) (x1 : Int32) (x2 : Int32) (x3 : Int32) (a4 : Option Nat) (S0 : St) : Option (Int32 × St) :=
  bd1 (isO S0 a0 0) fun _ =>
  bd2 (f_X1_insert a0 x1 x2 x3 S0) fun v2 S3 =>
  match v2 with
  | .inl x5 =>
    if x5.1 = "java/lang/IndexOutOfBoundsException" then
      some (1, S3)
    else
      if x5.1 = "java/lang/IllegalArgumentException" then
        some (2, S3)
      else
        if x5.1 = "java/lang/IllegalStateException" then
          some (3, S3)
        else
          none
  | .inr v6 =>
    bd1 (jS S3 a4 0 v6.toInt64) fun S8 =>
    some (0, S8)
def f_X0_remove (a0 : Option Nat) (x1 : Int32) (x2 : Int32) (x3 : Int32) (a4 : Option Nat) (S0 : St) : Option (Int32 × St) :=
  bd1 (isO S0 a0 0) fun _ =>
  bd2 (f_X1_remove a0 x1 x2 x3 S0) fun v2 S3 =>
  match v2 with
  | .inl x5 =>
    if x5.1 = "java/lang/IndexOutOfBoundsException" then
      some (1, S3)
    else
      if x5.1 = "java/lang/IllegalArgumentException" then
        some (2, S3)
      else
        none
  | .inr v6 =>
    bd1 (jS S3 a4 0 v6.toInt64) fun S8 =>
    some (0, S8)
def f_X0_copy (a0 : Option Nat) (x1 : Int32) (x2 : Int32) (S0 : St) : Option (Int32 × St) :=
  bd1 (isO S0 a0 0) fun _ =>
  bd2 (f_X1_copy a0 x1 x2 S0) fun v2 S3 =>
  match v2 with
  | .inl x5 =>
    if x5.1 = "java/lang/IndexOutOfBoundsException" then
      some (1, S3)
    else
      none
  | .inr v6 =>
    some (0, S3)
def f_X0_length (a0 : Option Nat) (x1 : Int32) (a2 : Option Nat) (S0 : St) : Option (Int32 × St) :=
  bd1 (isO S0 a0 0) fun _ =>
  bd2 (f_X1_length a0 x1 S0) fun v2 S3 =>
  match v2 with
  | .inl x5 =>
    if x5.1 = "java/lang/IndexOutOfBoundsException" then
      some (1, S3)
    else
      none
  | .inr v6 =>
    bd1 (jS S3 a2 0 v6.toInt64) fun S8 =>
    some (0, S8)
def f_X0_byteAt (a0 : Option Nat) (x1 : Int32) (x2 : Int32) (a3 : Option Nat) (S0 : St) : Option (Int32 × St) :=
  bd1 (isO S0 a0 0) fun _ =>
  bd2 (f_X1_byteAt a0 x1 x2 S0) fun v2 S3 =>
  match v2 with
  | .inl x5 =>
    if x5.1 = "java/lang/IndexOutOfBoundsException" then
      some (1, S3)
    else
      none
  | .inr v6 =>
    bd1 (jS S3 a3 0 v6.toInt64) fun S8 =>
    some (0, S8)
def s_X0_same_16  (t0 : Int64) (t1 : Int32) (t2 : Option Nat) (S0 : St) : Option (Int32 × St) :=
  bd1 (jS S0 t2 t1 t0) fun S8 =>
  some (0, S8)
def f_X0_same (a0 : Option Nat) (x1 : Int32) (x2 : Int32) (a3 : Option Nat) (S0 : St) : Option (Int32 × St) :=
  bd1 (isO S0 a0 0) fun _ =>
  bd2 (f_X1_same a0 x1 x2 S0) fun v2 S3 =>
  match v2 with
  | .inl x5 =>
    if x5.1 = "java/lang/IndexOutOfBoundsException" then
      some (1, S3)
    else
      none
  | .inr v6 =>
    if v6 = 0 then
      s_X0_same_16 0 0 a3 S3
    else
      s_X0_same_16 1 0 a3 S3
def f_X0_sign (a0 : Option Nat) (x1 : Int32) (x2 : Int32) (x3 : Int32) (x4 : Int32) (a5 : Option Nat) (S0 : St) : Option (Int32 × St) :=
  bd1 (isO S0 a0 0) fun _ =>
  bd2 (f_X1_sign a0 x1 x2 x3 x4 S0) fun v2 S3 =>
  match v2 with
  | .inl x5 =>
    if x5.1 = "java/lang/IndexOutOfBoundsException" then
      some (1, S3)
    else
      if x5.1 = "java/lang/IllegalArgumentException" then
        some (2, S3)
      else
        none
  | .inr v6 =>
    bd1 (jS S3 a5 0 v6.toInt64) fun S8 =>
    some (0, S8)
def f_X0_blocks (a0 : Option Nat) (x1 : Int32) (a2 : Option Nat) (S0 : St) : Option (Int32 × St) :=
  bd1 (isO S0 a0 0) fun _ =>
  bd2 (f_X1_blocks a0 x1 S0) fun v2 S3 =>
  match v2 with
  | .inl x5 =>
    if x5.1 = "java/lang/IndexOutOfBoundsException" then
      some (1, S3)
    else
      none
  | .inr v6 =>
    bd1 (jS S3 a2 0 v6.toInt64) fun S8 =>
    some (0, S8)
def f_X0_weak (a0 : Option Nat) (x1 : Int32) (x2 : Int32) (a3 : Option Nat) (S0 : St) : Option (Int32 × St) :=
  bd1 (isO S0 a0 0) fun _ =>
  bd2 (f_X1_weak a0 x1 x2 S0) fun v2 S3 =>
  match v2 with
  | .inl x5 =>
    if x5.1 = "java/lang/IndexOutOfBoundsException" then
      some (1, S3)
    else
      none
  | .inr v6 =>
    bd1 (jS S3 a3 0 v6.toInt64) fun S8 =>
    some (0, S8)
def f_X0_strong (a0 : Option Nat) (x1 : Int32) (x2 : Int32) (a3 : Option Nat) (S0 : St) : Option (Int32 × St) :=
  bd1 (isO S0 a0 0) fun _ =>
  bd2 (f_X1_strong a0 x1 x2 S0) fun v2 S3 =>
  match v2 with
  | .inl x5 =>
    if x5.1 = "java/lang/IndexOutOfBoundsException" then
      some (1, S3)
    else
      none
  | .inr v6 =>
    bd1 (jS S3 a3 0 v6) fun S8 =>
    some (0, S8)
def f_X0_compare (a0 : Option Nat) (x1 : Int32) (x2 : Int32) (x3 : Int32) (a4 : Option Nat) (S0 : St) : Option (Int32 × St) :=
  bd1 (isO S0 a0 0) fun _ =>
  bd2 (f_X1_compare a0 x1 x2 x3 S0) fun v2 S3 =>
  match v2 with
  | .inl x5 =>
    if x5.1 = "java/lang/IndexOutOfBoundsException" then
      some (1, S3)
    else
      if x5.1 = "java/lang/IllegalStateException" then
        some (2, S3)
      else
        none
  | .inr v6 =>
    bd1 (jS S3 a4 0 v6.toInt64) fun S8 =>
    some (0, S8)
def f_X0_instructions (a0 : Option Nat) (x1 : Int32) (a2 : Option Nat) (S0 : St) : Option (Int32 × St) :=
  bd1 (isO S0 a0 0) fun _ =>
  bd2 (f_X1_instructions a0 x1 S0) fun v2 S3 =>
  match v2 with
  | .inl x5 =>
    if x5.1 = "java/lang/IndexOutOfBoundsException" then
      some (1, S3)
    else
      none
  | .inr v6 =>
    bd1 (jS S3 a2 0 v6.toInt64) fun S8 =>
    some (0, S8)
def s_X0_isCopy_16  (t0 : Int64) (t1 : Int32) (t2 : Option Nat) (S0 : St) : Option (Int32 × St) :=
  bd1 (jS S0 t2 t1 t0) fun S8 =>
  some (0, S8)
def f_X0_isCopy (a0 : Option Nat) (x1 : Int32) (x2 : Int32) (a3 : Option Nat) (S0 : St) : Option (Int32 × St) :=
  bd1 (isO S0 a0 0) fun _ =>
  bd2 (f_X1_isCopy a0 x1 x2 S0) fun v2 S3 =>
  match v2 with
  | .inl x5 =>
    if x5.1 = "java/lang/IndexOutOfBoundsException" then
      some (1, S3)
    else
      none
  | .inr v6 =>
    if v6 = 0 then
      s_X0_isCopy_16 0 0 a3 S3
    else
      s_X0_isCopy_16 1 0 a3 S3
def f_X0_startOf (a0 : Option Nat) (x1 : Int32) (x2 : Int32) (a3 : Option Nat) (S0 : St) : Option (Int32 × St) :=
  bd1 (isO S0 a0 0) fun _ =>
  bd2 (f_X1_startOf a0 x1 x2 S0) fun v2 S3 =>
  match v2 with
  | .inl x5 =>
    if x5.1 = "java/lang/IndexOutOfBoundsException" then
      some (1, S3)
    else
      none
  | .inr v6 =>
    bd1 (jS S3 a3 0 v6.toInt64) fun S8 =>
    some (0, S8)
def f_X0_bytesOf (a0 : Option Nat) (x1 : Int32) (x2 : Int32) (a3 : Option Nat) (S0 : St) : Option (Int32 × St) :=
  bd1 (isO S0 a0 0) fun _ =>
  bd2 (f_X1_bytesOf a0 x1 x2 S0) fun v2 S3 =>
  match v2 with
  | .inl x5 =>
    if x5.1 = "java/lang/IndexOutOfBoundsException" then
      some (1, S3)
    else
      none
  | .inr v6 =>
    bd1 (jS S3 a3 0 v6.toInt64) fun S8 =>
    some (0, S8)
def f_X0_cost (a0 : Option Nat) (x1 : Int32) (a2 : Option Nat) (S0 : St) : Option (Int32 × St) :=
  bd1 (isO S0 a0 0) fun _ =>
  bd2 (f_X1_cost a0 x1 S0) fun v2 S3 =>
  match v2 with
  | .inl x5 =>
    if x5.1 = "java/lang/IndexOutOfBoundsException" then
      some (1, S3)
    else
      none
  | .inr v6 =>
    bd1 (jS S3 a2 0 v6.toInt64) fun S8 =>
    some (0, S8)
def f_X0_alarms (a0 : Option Nat) (x1 : Int32) (a2 : Option Nat) (S0 : St) : Option (Int32 × St) :=
  bd1 (isO S0 a0 0) fun _ =>
  bd2 (f_X1_alarms a0 x1 S0) fun v2 S3 =>
  match v2 with
  | .inl x5 =>
    if x5.1 = "java/lang/IndexOutOfBoundsException" then
      some (1, S3)
    else
      none
  | .inr v6 =>
    bd1 (jS S3 a2 0 v6.toInt64) fun S8 =>
    some (0, S8)
def f_X0_apply (a0 : Option Nat) (x1 : Int32) (x2 : Int32) (x3 : Int32) (a4 : Option Nat) (S0 : St) : Option (Int32 × St) :=
  bd1 (isO S0 a0 0) fun _ =>
  bd2 (f_X1_apply a0 x1 x2 x3 S0) fun v2 S3 =>
  match v2 with
  | .inl x5 =>
    if x5.1 = "java/lang/IndexOutOfBoundsException" then
      some (1, S3)
    else
      if x5.1 = "java/lang/IllegalStateException" then
        some (2, S3)
      else
        none
  | .inr v6 =>
    bd1 (jS S3 a4 0 v6.toInt64) fun S8 =>
    some (0, S8)
def f_X0_keep (a0 : Option Nat) (x1 : Int32) (a2 : Option Nat) (S0 : St) : Option (Int32 × St) :=
  bd1 (isO S0 a0 0) fun _ =>
  bd2 (f_X1_keep a0 x1 S0) fun v2 S3 =>
  match v2 with
  | .inl x5 =>
    if x5.1 = "java/lang/IndexOutOfBoundsException" then
      some (1, S3)
    else
      if x5.1 = "java/lang/IllegalStateException" then
        some (2, S3)
      else
        none
  | .inr v6 =>
    bd1 (jS S3 a2 0 v6.toInt64) fun S8 =>
    some (0, S8)
def f_X0_keepDelta (a0 : Option Nat) (x1 : Int32) (x2 : Int32) (x3 : Int32) (a4 : Option Nat) (S0 : St) : Option (Int32 × St) :=
  bd1 (isO S0 a0 0) fun _ =>
  bd2 (f_X1_keepDelta a0 x1 x2 x3 S0) fun v2 S3 =>
  match v2 with
  | .inl x5 =>
    if x5.1 = "java/lang/IndexOutOfBoundsException" then
      some (1, S3)
    else
      if x5.1 = "java/lang/IllegalArgumentException" then
        some (2, S3)
      else
        if x5.1 = "java/lang/IllegalStateException" then
          some (3, S3)
        else
          none
  | .inr v6 =>
    bd1 (jS S3 a4 0 v6.toInt64) fun S8 =>
    some (0, S8)
def f_X0_lose (a0 : Option Nat) (x1 : Int32) (a2 : Option Nat) (S0 : St) : Option (Int32 × St) :=
  bd1 (isO S0 a0 0) fun _ =>
  bd2 (f_X1_lose a0 x1 S0) fun v2 S3 =>
  match v2 with
  | .inl x5 =>
    if x5.1 = "java/lang/IndexOutOfBoundsException" then
      some (1, S3)
    else
      none
  | .inr v6 =>
    bd1 (jS S3 a2 0 v6.toInt64) fun S8 =>
    some (0, S8)
def f_X0_replace (a0 : Option Nat) (x1 : Int32) (x2 : Int32) (S0 : St) : Option (Int32 × St) :=
  bd1 (isO S0 a0 0) fun _ =>
  bd2 (f_X1_replace a0 x1 x2 S0) fun v2 S3 =>
  match v2 with
  | .inl x5 =>
    if x5.1 = "java/lang/IndexOutOfBoundsException" then
      some (1, S3)
    else
      none
  | .inr v6 =>
    some (0, S3)
def f_X0_rebuild (a0 : Option Nat) (x1 : Int32) (x2 : Int32) (a3 : Option Nat) (S0 : St) : Option (Int32 × St) :=
  bd1 (isO S0 a0 0) fun _ =>
  bd2 (f_X1_rebuild a0 x1 x2 S0) fun v2 S3 =>
  match v2 with
  | .inl x5 =>
    if x5.1 = "java/lang/IndexOutOfBoundsException" then
      some (1, S3)
    else
      if x5.1 = "java/lang/IllegalStateException" then
        some (2, S3)
      else
        none
  | .inr v6 =>
    bd1 (jS S3 a3 0 v6.toInt64) fun S8 =>
    some (0, S8)
def f_X0_brokenAt (a0 : Option Nat) (x1 : Int32) (a2 : Option Nat) (S0 : St) : Option (Int32 × St) :=
  bd1 (isO S0 a0 0) fun _ =>
  bd2 (f_X1_brokenAt a0 x1 S0) fun v2 S3 =>
  match v2 with
  | .inl x5 =>
    if x5.1 = "java/lang/IndexOutOfBoundsException" then
      some (1, S3)
    else
      none
  | .inr v6 =>
    bd1 (jS S3 a2 0 v6.toInt64) fun S8 =>
    some (0, S8)
def f_X0_brokenAfter (a0 : Option Nat) (x1 : Int32) (a2 : Option Nat) (S0 : St) : Option (Int32 × St) :=
  bd1 (isO S0 a0 0) fun _ =>
  bd2 (f_X1_brokenAfter a0 x1 S0) fun v2 S3 =>
  match v2 with
  | .inl x5 =>
    if x5.1 = "java/lang/IndexOutOfBoundsException" then
      some (1, S3)
    else
      none
  | .inr v6 =>
    bd1 (jS S3 a2 0 v6.toInt64) fun S8 =>
    some (0, S8)
def f_X0_reason (a0 : Option Nat) (x1 : Int32) (a2 : Option Nat) (S0 : St) : Option (Int32 × St) :=
  bd1 (isO S0 a0 0) fun _ =>
  bd2 (f_X1_reason a0 x1 S0) fun v2 S3 =>
  match v2 with
  | .inl x5 =>
    if x5.1 = "java/lang/IndexOutOfBoundsException" then
      some (1, S3)
    else
      none
  | .inr v6 =>
    bd1 (jS S3 a2 0 v6.toInt64) fun S8 =>
    some (0, S8)
def f_X0_heldBy (a0 : Option Nat) (x1 : Int32) (a2 : Option Nat) (S0 : St) : Option (Int32 × St) :=
  bd1 (isO S0 a0 0) fun _ =>
  bd2 (f_X1_heldBy a0 x1 S0) fun v2 S3 =>
  match v2 with
  | .inl x5 =>
    if x5.1 = "java/lang/IndexOutOfBoundsException" then
      some (1, S3)
    else
      none
  | .inr v6 =>
    bd1 (jS S3 a2 0 v6.toInt64) fun S8 =>
    some (0, S8)
def f_X0_cuts (a0 : Option Nat) (x1 : Int32) (x2 : Int32) (x3 : Int32) (S0 : St) : Option (Int32 × St) :=
  bd1 (isO S0 a0 0) fun _ =>
  bd2 (f_X1_cuts a0 x1 x2 x3 S0) fun v2 S3 =>
  match v2 with
  | .inl x5 =>
    if x5.1 = "java/lang/IllegalArgumentException" then
      some (1, S3)
    else
      none
  | .inr v6 =>
    some (0, S3)
def f_X0_store (a0 : Option Nat) (x1 : Int32) (a2 : Option Nat) (S0 : St) : Option (Int32 × St) :=
  bd1 (isO S0 a0 0) fun _ =>
  bd2 (f_X1_store a0 x1 S0) fun v2 S3 =>
  match v2 with
  | .inl x5 =>
    if x5.1 = "java/lang/IndexOutOfBoundsException" then
      some (1, S3)
    else
      if x5.1 = "java/lang/IllegalStateException" then
        some (2, S3)
      else
        none
  | .inr v6 =>
    bd1 (jS S3 a2 0 v6.toInt64) fun S8 =>
    some (0, S8)
def f_X0_release (a0 : Option Nat) (x1 : Int32) (a2 : Option Nat) (S0 : St) : Option (Int32 × St) :=
  bd1 (isO S0 a0 0) fun _ =>
  bd2 (f_X1_release a0 x1 S0) fun v2 S3 =>
  match v2 with
  | .inl x5 =>
    if x5.1 = "java/lang/IndexOutOfBoundsException" then
      some (1, S3)
    else
      none
  | .inr v6 =>
    bd1 (jS S3 a2 0 v6.toInt64) fun S8 =>
    some (0, S8)
def f_X0_fetch (a0 : Option Nat) (x1 : Int32) (x2 : Int32) (a3 : Option Nat) (S0 : St) : Option (Int32 × St) :=
  bd1 (isO S0 a0 0) fun _ =>
  bd2 (f_X1_fetch a0 x1 x2 S0) fun v2 S3 =>
  match v2 with
  | .inl x5 =>
    if x5.1 = "java/lang/IndexOutOfBoundsException" then
      some (1, S3)
    else
      none
  | .inr v6 =>
    bd1 (jS S3 a3 0 v6.toInt64) fun S8 =>
    some (0, S8)
def f_X0_parts (a0 : Option Nat) (x1 : Int32) (a2 : Option Nat) (S0 : St) : Option (Int32 × St) :=
  bd1 (isO S0 a0 0) fun _ =>
  bd2 (f_X1_parts a0 x1 S0) fun v2 S3 =>
  match v2 with
  | .inl x5 =>
    if x5.1 = "java/lang/IndexOutOfBoundsException" then
      some (1, S3)
    else
      none
  | .inr v6 =>
    bd1 (jS S3 a2 0 v6.toInt64) fun S8 =>
    some (0, S8)
def f_X0_partLength (a0 : Option Nat) (x1 : Int32) (x2 : Int32) (a3 : Option Nat) (S0 : St) : Option (Int32 × St) :=
  bd1 (isO S0 a0 0) fun _ =>
  bd2 (f_X1_partLength a0 x1 x2 S0) fun v2 S3 =>
  match v2 with
  | .inl x5 =>
    if x5.1 = "java/lang/IndexOutOfBoundsException" then
      some (1, S3)
    else
      none
  | .inr v6 =>
    bd1 (jS S3 a3 0 v6.toInt64) fun S8 =>
    some (0, S8)
def f_X0_shared (a0 : Option Nat) (x1 : Int32) (x2 : Int32) (a3 : Option Nat) (S0 : St) : Option (Int32 × St) :=
  bd1 (isO S0 a0 0) fun _ =>
  bd2 (f_X1_shared a0 x1 x2 S0) fun v2 S3 =>
  match v2 with
  | .inl x5 =>
    if x5.1 = "java/lang/IndexOutOfBoundsException" then
      some (1, S3)
    else
      none
  | .inr v6 =>
    bd1 (jS S3 a3 0 v6.toInt64) fun S8 =>
    some (0, S8)
def s_L_law_2593 (L : Nat) (xs : Nat → Int32) (rc23 : Option Nat × Option Nat × Int32 → St → Option (Int32 × St)) (a1 : Option Nat) (a3 : Option Nat) (x4 : Int32) (S0 : St) : Option (Int32 × St) :=
  rc23 (a1, a3, (x4 + 5)) S0
def s_L_law_253 (L : Nat) (xs : Nat → Int32) (rc23 : Option Nat × Option Nat × Int32 → St → Option (Int32 × St)) (a1 : Option Nat) (a3 : Option Nat) (x4 : Int32) (S0 : St) : Option (Int32 × St) :=
  s_L_law_2593 L xs rc23 a1 a3 x4 S0
def s_L_law_345 (L : Nat) (xs : Nat → Int32) (rc23 : Option Nat × Option Nat × Int32 → St → Option (Int32 × St)) (a1 : Option Nat) (a3 : Option Nat) (x4 : Int32) (S0 : St) : Option (Int32 × St) :=
  s_L_law_2593 L xs rc23 a1 a3 x4 S0
def s_L_law_425 (L : Nat) (xs : Nat → Int32) (rc23 : Option Nat × Option Nat × Int32 → St → Option (Int32 × St)) (a1 : Option Nat) (a3 : Option Nat) (x4 : Int32) (S0 : St) : Option (Int32 × St) :=
  s_L_law_2593 L xs rc23 a1 a3 x4 S0
def s_L_law_505 (L : Nat) (xs : Nat → Int32) (rc23 : Option Nat × Option Nat × Int32 → St → Option (Int32 × St)) (a1 : Option Nat) (a3 : Option Nat) (x4 : Int32) (S0 : St) : Option (Int32 × St) :=
  s_L_law_2593 L xs rc23 a1 a3 x4 S0
def s_L_law_609 (L : Nat) (xs : Nat → Int32) (rc23 : Option Nat × Option Nat × Int32 → St → Option (Int32 × St)) (a1 : Option Nat) (a3 : Option Nat) (x4 : Int32) (S0 : St) : Option (Int32 × St) :=
  s_L_law_2593 L xs rc23 a1 a3 x4 S0
def s_L_law_677 (L : Nat) (xs : Nat → Int32) (rc23 : Option Nat × Option Nat × Int32 → St → Option (Int32 × St)) (a1 : Option Nat) (a3 : Option Nat) (x4 : Int32) (S0 : St) : Option (Int32 × St) :=
  s_L_law_2593 L xs rc23 a1 a3 x4 S0
def s_L_law_752 (L : Nat) (xs : Nat → Int32) (rc23 : Option Nat × Option Nat × Int32 → St → Option (Int32 × St)) (a1 : Option Nat) (a3 : Option Nat) (x4 : Int32) (S0 : St) : Option (Int32 × St) :=
  s_L_law_2593 L xs rc23 a1 a3 x4 S0
def s_L_law_746 (L : Nat) (xs : Nat → Int32) (rc23 : Option Nat × Option Nat × Int32 → St → Option (Int32 × St)) (a1 : Option Nat) (a3 : Option Nat) (x4 : Int32) (t0 : Int64) (t1 : Int64) (S0 : St) : Option (Int32 × St) :=
  if (lg_cmp t1 t0) = 0 then
    s_L_law_752 L xs rc23 a1 a3 x4 S0
  else
    bd1 (zb 0) fun _ =>
    some (0, S0)
def s_L_law_844 (L : Nat) (xs : Nat → Int32) (rc23 : Option Nat × Option Nat × Int32 → St → Option (Int32 × St)) (a1 : Option Nat) (a3 : Option Nat) (x4 : Int32) (S0 : St) : Option (Int32 × St) :=
  s_L_law_2593 L xs rc23 a1 a3 x4 S0
def s_L_law_900 (L : Nat) (xs : Nat → Int32) (rc23 : Option Nat × Option Nat × Int32 → St → Option (Int32 × St)) (a1 : Option Nat) (a3 : Option Nat) (x4 : Int32) (S0 : St) : Option (Int32 × St) :=
  s_L_law_2593 L xs rc23 a1 a3 x4 S0
def s_L_law_968 (L : Nat) (xs : Nat → Int32) (rc23 : Option Nat × Option Nat × Int32 → St → Option (Int32 × St)) (a1 : Option Nat) (a3 : Option Nat) (x4 : Int32) (S0 : St) : Option (Int32 × St) :=
  s_L_law_2593 L xs rc23 a1 a3 x4 S0
def s_L_law_1035 (L : Nat) (xs : Nat → Int32) (rc23 : Option Nat × Option Nat × Int32 → St → Option (Int32 × St)) (a1 : Option Nat) (a3 : Option Nat) (x4 : Int32) (S0 : St) : Option (Int32 × St) :=
  s_L_law_2593 L xs rc23 a1 a3 x4 S0
def s_L_law_1115 (L : Nat) (xs : Nat → Int32) (rc23 : Option Nat × Option Nat × Int32 → St → Option (Int32 × St)) (a1 : Option Nat) (a3 : Option Nat) (x4 : Int32) (S0 : St) : Option (Int32 × St) :=
  s_L_law_2593 L xs rc23 a1 a3 x4 S0
def s_L_law_1171 (L : Nat) (xs : Nat → Int32) (rc23 : Option Nat × Option Nat × Int32 → St → Option (Int32 × St)) (a1 : Option Nat) (a3 : Option Nat) (x4 : Int32) (S0 : St) : Option (Int32 × St) :=
  s_L_law_2593 L xs rc23 a1 a3 x4 S0
def s_L_law_1246 (L : Nat) (xs : Nat → Int32) (rc23 : Option Nat × Option Nat × Int32 → St → Option (Int32 × St)) (a1 : Option Nat) (a3 : Option Nat) (x4 : Int32) (S0 : St) : Option (Int32 × St) :=
  s_L_law_2593 L xs rc23 a1 a3 x4 S0
def s_L_law_1240 (L : Nat) (xs : Nat → Int32) (rc23 : Option Nat × Option Nat × Int32 → St → Option (Int32 × St)) (a1 : Option Nat) (a3 : Option Nat) (x4 : Int32) (t0 : Int64) (t1 : Int64) (S0 : St) : Option (Int32 × St) :=
  if (lg_cmp t1 t0) = 0 then
    s_L_law_1246 L xs rc23 a1 a3 x4 S0
  else
    bd1 (zb 0) fun _ =>
    some (0, S0)
def s_L_law_1314 (L : Nat) (xs : Nat → Int32) (rc23 : Option Nat × Option Nat × Int32 → St → Option (Int32 × St)) (a1 : Option Nat) (a3 : Option Nat) (x4 : Int32) (S0 : St) : Option (Int32 × St) :=
  s_L_law_2593 L xs rc23 a1 a3 x4 S0
def s_L_law_1382 (L : Nat) (xs : Nat → Int32) (rc23 : Option Nat × Option Nat × Int32 → St → Option (Int32 × St)) (a1 : Option Nat) (a3 : Option Nat) (x4 : Int32) (S0 : St) : Option (Int32 × St) :=
  s_L_law_2593 L xs rc23 a1 a3 x4 S0
def s_L_law_1438 (L : Nat) (xs : Nat → Int32) (rc23 : Option Nat × Option Nat × Int32 → St → Option (Int32 × St)) (a1 : Option Nat) (a3 : Option Nat) (x4 : Int32) (S0 : St) : Option (Int32 × St) :=
  s_L_law_2593 L xs rc23 a1 a3 x4 S0
def s_L_law_1494 (L : Nat) (xs : Nat → Int32) (rc23 : Option Nat × Option Nat × Int32 → St → Option (Int32 × St)) (a1 : Option Nat) (a3 : Option Nat) (x4 : Int32) (S0 : St) : Option (Int32 × St) :=
  s_L_law_2593 L xs rc23 a1 a3 x4 S0
def s_L_law_1574 (L : Nat) (xs : Nat → Int32) (rc23 : Option Nat × Option Nat × Int32 → St → Option (Int32 × St)) (a1 : Option Nat) (a3 : Option Nat) (x4 : Int32) (S0 : St) : Option (Int32 × St) :=
  s_L_law_2593 L xs rc23 a1 a3 x4 S0
def s_L_law_1630 (L : Nat) (xs : Nat → Int32) (rc23 : Option Nat × Option Nat × Int32 → St → Option (Int32 × St)) (a1 : Option Nat) (a3 : Option Nat) (x4 : Int32) (S0 : St) : Option (Int32 × St) :=
  s_L_law_2593 L xs rc23 a1 a3 x4 S0
def s_L_law_1710 (L : Nat) (xs : Nat → Int32) (rc23 : Option Nat × Option Nat × Int32 → St → Option (Int32 × St)) (a1 : Option Nat) (a3 : Option Nat) (x4 : Int32) (S0 : St) : Option (Int32 × St) :=
  s_L_law_2593 L xs rc23 a1 a3 x4 S0
def s_L_law_1766 (L : Nat) (xs : Nat → Int32) (rc23 : Option Nat × Option Nat × Int32 → St → Option (Int32 × St)) (a1 : Option Nat) (a3 : Option Nat) (x4 : Int32) (S0 : St) : Option (Int32 × St) :=
  s_L_law_2593 L xs rc23 a1 a3 x4 S0
def s_L_law_1882 (L : Nat) (xs : Nat → Int32) (rc23 : Option Nat × Option Nat × Int32 → St → Option (Int32 × St)) (a1 : Option Nat) (a3 : Option Nat) (x4 : Int32) (S0 : St) : Option (Int32 × St) :=
  s_L_law_2593 L xs rc23 a1 a3 x4 S0
def s_L_law_1951 (L : Nat) (xs : Nat → Int32) (rc23 : Option Nat × Option Nat × Int32 → St → Option (Int32 × St)) (a1 : Option Nat) (a3 : Option Nat) (x4 : Int32) (S0 : St) : Option (Int32 × St) :=
  s_L_law_2593 L xs rc23 a1 a3 x4 S0
def s_L_law_2007 (L : Nat) (xs : Nat → Int32) (rc23 : Option Nat × Option Nat × Int32 → St → Option (Int32 × St)) (a1 : Option Nat) (a3 : Option Nat) (x4 : Int32) (S0 : St) : Option (Int32 × St) :=
  s_L_law_2593 L xs rc23 a1 a3 x4 S0
def s_L_law_2063 (L : Nat) (xs : Nat → Int32) (rc23 : Option Nat × Option Nat × Int32 → St → Option (Int32 × St)) (a1 : Option Nat) (a3 : Option Nat) (x4 : Int32) (S0 : St) : Option (Int32 × St) :=
  s_L_law_2593 L xs rc23 a1 a3 x4 S0
def s_L_law_2119 (L : Nat) (xs : Nat → Int32) (rc23 : Option Nat × Option Nat × Int32 → St → Option (Int32 × St)) (a1 : Option Nat) (a3 : Option Nat) (x4 : Int32) (S0 : St) : Option (Int32 × St) :=
  s_L_law_2593 L xs rc23 a1 a3 x4 S0
def s_L_law_2235 (L : Nat) (xs : Nat → Int32) (rc23 : Option Nat × Option Nat × Int32 → St → Option (Int32 × St)) (a1 : Option Nat) (a3 : Option Nat) (x4 : Int32) (S0 : St) : Option (Int32 × St) :=
  s_L_law_2593 L xs rc23 a1 a3 x4 S0
def s_L_law_2291 (L : Nat) (xs : Nat → Int32) (rc23 : Option Nat × Option Nat × Int32 → St → Option (Int32 × St)) (a1 : Option Nat) (a3 : Option Nat) (x4 : Int32) (S0 : St) : Option (Int32 × St) :=
  s_L_law_2593 L xs rc23 a1 a3 x4 S0
def s_L_law_2359 (L : Nat) (xs : Nat → Int32) (rc23 : Option Nat × Option Nat × Int32 → St → Option (Int32 × St)) (a1 : Option Nat) (a3 : Option Nat) (x4 : Int32) (S0 : St) : Option (Int32 × St) :=
  s_L_law_2593 L xs rc23 a1 a3 x4 S0
def s_L_law_2454 (L : Nat) (xs : Nat → Int32) (rc23 : Option Nat × Option Nat × Int32 → St → Option (Int32 × St)) (a1 : Option Nat) (a3 : Option Nat) (x4 : Int32) (S0 : St) : Option (Int32 × St) :=
  s_L_law_2593 L xs rc23 a1 a3 x4 S0
def s_L_law_2522 (L : Nat) (xs : Nat → Int32) (rc23 : Option Nat × Option Nat × Int32 → St → Option (Int32 × St)) (a1 : Option Nat) (a3 : Option Nat) (x4 : Int32) (S0 : St) : Option (Int32 × St) :=
  s_L_law_2593 L xs rc23 a1 a3 x4 S0
def s_L_law_2590 (L : Nat) (xs : Nat → Int32) (rc23 : Option Nat × Option Nat × Int32 → St → Option (Int32 × St)) (a1 : Option Nat) (a3 : Option Nat) (x4 : Int32) (S0 : St) : Option (Int32 × St) :=
  s_L_law_2593 L xs rc23 a1 a3 x4 S0
def s_L_law_23 (L : Nat) (xs : Nat → Int32) (rc23 : Option Nat × Option Nat × Int32 → St → Option (Int32 × St)) (a1 : Option Nat) (a3 : Option Nat) (x4 : Int32) (S0 : St) : Option (Int32 × St) :=
  if (L.toInt32 - 5) < x4 then
    bd1 (zb 1) fun _ =>
    some (1, S0)
  else
    bd1 (scL L xs x4) fun v6 =>
    if (v6 &&& 63) = 0 then
      bd2 (f_X0_file a1 a3 S0) fun v7 S8 =>
      bd2 (cM (f_X3_file ) S8) fun v10 S11 =>
      bd2 (cM (f_X3_thrown ) S11) fun v13 S14 =>
      if v13 = v7 then
        if v7 = 0 then
          bd1 (jL S14 a3 0) fun v17 =>
          if (lg_cmp v17 v10.toInt64) = 0 then
            s_L_law_253 L xs rc23 a1 a3 x4 S14
          else
            bd1 (zb 0) fun _ =>
            some (0, S14)
        else
          s_L_law_253 L xs rc23 a1 a3 x4 S14
      else
        bd1 (zb 0) fun _ =>
        some (0, S14)
    else
      if (v6 &&& 63) = 1 then
        bd1 (scL L xs (x4 + 1)) fun v21 =>
        bd1 (scL L xs (x4 + 2)) fun v23 =>
        bd1 (scL L xs (x4 + 3)) fun v25 =>
        bd1 (scL L xs (x4 + 4)) fun v27 =>
        bd2 (f_X0_add a1 v21 v23 v25 v27 a3 S0) fun v28 S29 =>
        bd1 (scL L xs (x4 + 1)) fun v32 =>
        bd1 (scL L xs (x4 + 2)) fun v34 =>
        bd1 (scL L xs (x4 + 3)) fun v36 =>
        bd1 (scL L xs (x4 + 4)) fun v38 =>
        bd2 (cM (f_X3_add v32 v34 v36 v38) S29) fun v39 S40 =>
        bd2 (cM (f_X3_thrown ) S40) fun v42 S43 =>
        if v42 = v28 then
          if v28 = 0 then
            bd1 (jL S43 a3 0) fun v46 =>
            if (lg_cmp v46 v39.toInt64) = 0 then
              s_L_law_345 L xs rc23 a1 a3 x4 S43
            else
              bd1 (zb 0) fun _ =>
              some (0, S43)
          else
            s_L_law_345 L xs rc23 a1 a3 x4 S43
        else
          bd1 (zb 0) fun _ =>
          some (0, S43)
      else
        if (v6 &&& 63) = 2 then
          bd1 (scL L xs (x4 + 1)) fun v50 =>
          bd1 (scL L xs (x4 + 2)) fun v52 =>
          bd1 (scL L xs (x4 + 3)) fun v54 =>
          bd2 (f_X0_insert a1 v50 v52 v54 a3 S0) fun v55 S56 =>
          bd1 (scL L xs (x4 + 1)) fun v59 =>
          bd1 (scL L xs (x4 + 2)) fun v61 =>
          bd1 (scL L xs (x4 + 3)) fun v63 =>
          bd2 (cM (f_X3_insert v59 v61 v63) S56) fun v64 S65 =>
          bd2 (cM (f_X3_thrown ) S65) fun v67 S68 =>
          if v67 = v55 then
            if v55 = 0 then
              bd1 (jL S68 a3 0) fun v71 =>
              if (lg_cmp v71 v64.toInt64) = 0 then
                s_L_law_425 L xs rc23 a1 a3 x4 S68
              else
                bd1 (zb 0) fun _ =>
                some (0, S68)
            else
              s_L_law_425 L xs rc23 a1 a3 x4 S68
          else
            bd1 (zb 0) fun _ =>
            some (0, S68)
        else
          if (v6 &&& 63) = 3 then
            bd1 (scL L xs (x4 + 1)) fun v75 =>
            bd1 (scL L xs (x4 + 2)) fun v77 =>
            bd1 (scL L xs (x4 + 3)) fun v79 =>
            bd2 (f_X0_remove a1 v75 v77 v79 a3 S0) fun v80 S81 =>
            bd1 (scL L xs (x4 + 1)) fun v84 =>
            bd1 (scL L xs (x4 + 2)) fun v86 =>
            bd1 (scL L xs (x4 + 3)) fun v88 =>
            bd2 (cM (f_X3_remove v84 v86 v88) S81) fun v89 S90 =>
            bd2 (cM (f_X3_thrown ) S90) fun v92 S93 =>
            if v92 = v80 then
              if v80 = 0 then
                bd1 (jL S93 a3 0) fun v96 =>
                if (lg_cmp v96 v89.toInt64) = 0 then
                  s_L_law_505 L xs rc23 a1 a3 x4 S93
                else
                  bd1 (zb 0) fun _ =>
                  some (0, S93)
              else
                s_L_law_505 L xs rc23 a1 a3 x4 S93
            else
              bd1 (zb 0) fun _ =>
              some (0, S93)
          else
            if (v6 &&& 63) = 4 then
              bd1 (scL L xs (x4 + 1)) fun v100 =>
              bd1 (scL L xs (x4 + 2)) fun v102 =>
              bd2 (f_X0_copy a1 v100 v102 S0) fun v103 S104 =>
              bd1 (scL L xs (x4 + 1)) fun v107 =>
              bd1 (scL L xs (x4 + 2)) fun v109 =>
              bd2 (cM (f_X3_copy v107 v109) S104) fun v110 S111 =>
              bd2 (cM (f_X3_thrown ) S111) fun v113 S114 =>
              if v113 = v103 then
                s_L_law_2593 L xs rc23 a1 a3 x4 S114
              else
                bd1 (zb 0) fun _ =>
                some (0, S114)
            else
              if (v6 &&& 63) = 5 then
                bd1 (scL L xs (x4 + 1)) fun v118 =>
                bd2 (f_X0_length a1 v118 a3 S0) fun v119 S120 =>
                bd1 (scL L xs (x4 + 1)) fun v123 =>
                bd2 (cM (f_X3_length v123) S120) fun v124 S125 =>
                bd2 (cM (f_X3_thrown ) S125) fun v127 S128 =>
                if v127 = v119 then
                  if v119 = 0 then
                    bd1 (jL S128 a3 0) fun v131 =>
                    if (lg_cmp v131 v124.toInt64) = 0 then
                      s_L_law_609 L xs rc23 a1 a3 x4 S128
                    else
                      bd1 (zb 0) fun _ =>
                      some (0, S128)
                  else
                    s_L_law_609 L xs rc23 a1 a3 x4 S128
                else
                  bd1 (zb 0) fun _ =>
                  some (0, S128)
              else
                if (v6 &&& 63) = 6 then
                  bd1 (scL L xs (x4 + 1)) fun v135 =>
                  bd1 (scL L xs (x4 + 2)) fun v137 =>
                  bd2 (f_X0_byteAt a1 v135 v137 a3 S0) fun v138 S139 =>
                  bd1 (scL L xs (x4 + 1)) fun v142 =>
                  bd1 (scL L xs (x4 + 2)) fun v144 =>
                  bd2 (cM (f_X3_byteAt v142 v144) S139) fun v145 S146 =>
                  bd2 (cM (f_X3_thrown ) S146) fun v148 S149 =>
                  if v148 = v138 then
                    if v138 = 0 then
                      bd1 (jL S149 a3 0) fun v152 =>
                      if (lg_cmp v152 v145.toInt64) = 0 then
                        s_L_law_677 L xs rc23 a1 a3 x4 S149
                      else
                        bd1 (zb 0) fun _ =>
                        some (0, S149)
                    else
                      s_L_law_677 L xs rc23 a1 a3 x4 S149
                  else
                    bd1 (zb 0) fun _ =>
                    some (0, S149)
                else
                  if (v6 &&& 63) = 7 then
                    bd1 (scL L xs (x4 + 1)) fun v156 =>
                    bd1 (scL L xs (x4 + 2)) fun v158 =>
                    bd2 (f_X0_same a1 v156 v158 a3 S0) fun v159 S160 =>
                    bd1 (scL L xs (x4 + 1)) fun v163 =>
                    bd1 (scL L xs (x4 + 2)) fun v165 =>
                    bd2 (cM (f_X3_same v163 v165) S160) fun v166 S167 =>
                    bd2 (cM (f_X3_thrown ) S167) fun v169 S170 =>
                    if v169 = v159 then
                      if v159 = 0 then
                        bd1 (jL S170 a3 0) fun v173 =>
                        if v166 = 0 then
                          s_L_law_746 L xs rc23 a1 a3 x4 0 v173 S170
                        else
                          s_L_law_746 L xs rc23 a1 a3 x4 1 v173 S170
                      else
                        s_L_law_752 L xs rc23 a1 a3 x4 S170
                    else
                      bd1 (zb 0) fun _ =>
                      some (0, S170)
                  else
                    if (v6 &&& 63) = 8 then
                      bd1 (scL L xs (x4 + 1)) fun v177 =>
                      bd1 (scL L xs (x4 + 2)) fun v179 =>
                      bd1 (scL L xs (x4 + 3)) fun v181 =>
                      bd1 (scL L xs (x4 + 4)) fun v183 =>
                      bd2 (f_X0_sign a1 v177 v179 v181 v183 a3 S0) fun v184 S185 =>
                      bd1 (scL L xs (x4 + 1)) fun v188 =>
                      bd1 (scL L xs (x4 + 2)) fun v190 =>
                      bd1 (scL L xs (x4 + 3)) fun v192 =>
                      bd1 (scL L xs (x4 + 4)) fun v194 =>
                      bd2 (cM (f_X3_sign v188 v190 v192 v194) S185) fun v195 S196 =>
                      bd2 (cM (f_X3_thrown ) S196) fun v198 S199 =>
                      if v198 = v184 then
                        if v184 = 0 then
                          bd1 (jL S199 a3 0) fun v202 =>
                          if (lg_cmp v202 v195.toInt64) = 0 then
                            s_L_law_844 L xs rc23 a1 a3 x4 S199
                          else
                            bd1 (zb 0) fun _ =>
                            some (0, S199)
                        else
                          s_L_law_844 L xs rc23 a1 a3 x4 S199
                      else
                        bd1 (zb 0) fun _ =>
                        some (0, S199)
                    else
                      if (v6 &&& 63) = 9 then
                        bd1 (scL L xs (x4 + 1)) fun v206 =>
                        bd2 (f_X0_blocks a1 v206 a3 S0) fun v207 S208 =>
                        bd1 (scL L xs (x4 + 1)) fun v211 =>
                        bd2 (cM (f_X3_blocks v211) S208) fun v212 S213 =>
                        bd2 (cM (f_X3_thrown ) S213) fun v215 S216 =>
                        if v215 = v207 then
                          if v207 = 0 then
                            bd1 (jL S216 a3 0) fun v219 =>
                            if (lg_cmp v219 v212.toInt64) = 0 then
                              s_L_law_900 L xs rc23 a1 a3 x4 S216
                            else
                              bd1 (zb 0) fun _ =>
                              some (0, S216)
                          else
                            s_L_law_900 L xs rc23 a1 a3 x4 S216
                        else
                          bd1 (zb 0) fun _ =>
                          some (0, S216)
                      else
                        if (v6 &&& 63) = 10 then
                          bd1 (scL L xs (x4 + 1)) fun v223 =>
                          bd1 (scL L xs (x4 + 2)) fun v225 =>
                          bd2 (f_X0_weak a1 v223 v225 a3 S0) fun v226 S227 =>
                          bd1 (scL L xs (x4 + 1)) fun v230 =>
                          bd1 (scL L xs (x4 + 2)) fun v232 =>
                          bd2 (cM (f_X3_weak v230 v232) S227) fun v233 S234 =>
                          bd2 (cM (f_X3_thrown ) S234) fun v236 S237 =>
                          if v236 = v226 then
                            if v226 = 0 then
                              bd1 (jL S237 a3 0) fun v240 =>
                              if (lg_cmp v240 v233.toInt64) = 0 then
                                s_L_law_968 L xs rc23 a1 a3 x4 S237
                              else
                                bd1 (zb 0) fun _ =>
                                some (0, S237)
                            else
                              s_L_law_968 L xs rc23 a1 a3 x4 S237
                          else
                            bd1 (zb 0) fun _ =>
                            some (0, S237)
                        else
                          if (v6 &&& 63) = 11 then
                            bd1 (scL L xs (x4 + 1)) fun v244 =>
                            bd1 (scL L xs (x4 + 2)) fun v246 =>
                            bd2 (f_X0_strong a1 v244 v246 a3 S0) fun v247 S248 =>
                            bd1 (scL L xs (x4 + 1)) fun v251 =>
                            bd1 (scL L xs (x4 + 2)) fun v253 =>
                            bd2 (cM (f_X3_strong v251 v253) S248) fun v254 S255 =>
                            bd2 (cM (f_X3_thrown ) S255) fun v257 S258 =>
                            if v257 = v247 then
                              if v247 = 0 then
                                bd1 (jL S258 a3 0) fun v261 =>
                                if (lg_cmp v261 v254) = 0 then
                                  s_L_law_1035 L xs rc23 a1 a3 x4 S258
                                else
                                  bd1 (zb 0) fun _ =>
                                  some (0, S258)
                              else
                                s_L_law_1035 L xs rc23 a1 a3 x4 S258
                            else
                              bd1 (zb 0) fun _ =>
                              some (0, S258)
                          else
                            if (v6 &&& 63) = 12 then
                              bd1 (scL L xs (x4 + 1)) fun v265 =>
                              bd1 (scL L xs (x4 + 2)) fun v267 =>
                              bd1 (scL L xs (x4 + 3)) fun v269 =>
                              bd2 (f_X0_compare a1 v265 v267 v269 a3 S0) fun v270 S271 =>
                              bd1 (scL L xs (x4 + 1)) fun v274 =>
                              bd1 (scL L xs (x4 + 2)) fun v276 =>
                              bd1 (scL L xs (x4 + 3)) fun v278 =>
                              bd2 (cM (f_X3_compare v274 v276 v278) S271) fun v279 S280 =>
                              bd2 (cM (f_X3_thrown ) S280) fun v282 S283 =>
                              if v282 = v270 then
                                if v270 = 0 then
                                  bd1 (jL S283 a3 0) fun v286 =>
                                  if (lg_cmp v286 v279.toInt64) = 0 then
                                    s_L_law_1115 L xs rc23 a1 a3 x4 S283
                                  else
                                    bd1 (zb 0) fun _ =>
                                    some (0, S283)
                                else
                                  s_L_law_1115 L xs rc23 a1 a3 x4 S283
                              else
                                bd1 (zb 0) fun _ =>
                                some (0, S283)
                            else
                              if (v6 &&& 63) = 13 then
                                bd1 (scL L xs (x4 + 1)) fun v290 =>
                                bd2 (f_X0_instructions a1 v290 a3 S0) fun v291 S292 =>
                                bd1 (scL L xs (x4 + 1)) fun v295 =>
                                bd2 (cM (f_X3_instructions v295) S292) fun v296 S297 =>
                                bd2 (cM (f_X3_thrown ) S297) fun v299 S300 =>
                                if v299 = v291 then
                                  if v291 = 0 then
                                    bd1 (jL S300 a3 0) fun v303 =>
                                    if (lg_cmp v303 v296.toInt64) = 0 then
                                      s_L_law_1171 L xs rc23 a1 a3 x4 S300
                                    else
                                      bd1 (zb 0) fun _ =>
                                      some (0, S300)
                                  else
                                    s_L_law_1171 L xs rc23 a1 a3 x4 S300
                                else
                                  bd1 (zb 0) fun _ =>
                                  some (0, S300)
                              else
                                if (v6 &&& 63) = 14 then
                                  bd1 (scL L xs (x4 + 1)) fun v307 =>
                                  bd1 (scL L xs (x4 + 2)) fun v309 =>
                                  bd2 (f_X0_isCopy a1 v307 v309 a3 S0) fun v310 S311 =>
                                  bd1 (scL L xs (x4 + 1)) fun v314 =>
                                  bd1 (scL L xs (x4 + 2)) fun v316 =>
                                  bd2 (cM (f_X3_isCopy v314 v316) S311) fun v317 S318 =>
                                  bd2 (cM (f_X3_thrown ) S318) fun v320 S321 =>
                                  if v320 = v310 then
                                    if v310 = 0 then
                                      bd1 (jL S321 a3 0) fun v324 =>
                                      if v317 = 0 then
                                        s_L_law_1240 L xs rc23 a1 a3 x4 0 v324 S321
                                      else
                                        s_L_law_1240 L xs rc23 a1 a3 x4 1 v324 S321
                                    else
                                      s_L_law_1246 L xs rc23 a1 a3 x4 S321
                                  else
                                    bd1 (zb 0) fun _ =>
                                    some (0, S321)
                                else
                                  if (v6 &&& 63) = 15 then
                                    bd1 (scL L xs (x4 + 1)) fun v328 =>
                                    bd1 (scL L xs (x4 + 2)) fun v330 =>
                                    bd2 (f_X0_startOf a1 v328 v330 a3 S0) fun v331 S332 =>
                                    bd1 (scL L xs (x4 + 1)) fun v335 =>
                                    bd1 (scL L xs (x4 + 2)) fun v337 =>
                                    bd2 (cM (f_X3_startOf v335 v337) S332) fun v338 S339 =>
                                    bd2 (cM (f_X3_thrown ) S339) fun v341 S342 =>
                                    if v341 = v331 then
                                      if v331 = 0 then
                                        bd1 (jL S342 a3 0) fun v345 =>
                                        if (lg_cmp v345 v338.toInt64) = 0 then
                                          s_L_law_1314 L xs rc23 a1 a3 x4 S342
                                        else
                                          bd1 (zb 0) fun _ =>
                                          some (0, S342)
                                      else
                                        s_L_law_1314 L xs rc23 a1 a3 x4 S342
                                    else
                                      bd1 (zb 0) fun _ =>
                                      some (0, S342)
                                  else
                                    if (v6 &&& 63) = 16 then
                                      bd1 (scL L xs (x4 + 1)) fun v349 =>
                                      bd1 (scL L xs (x4 + 2)) fun v351 =>
                                      bd2 (f_X0_bytesOf a1 v349 v351 a3 S0) fun v352 S353 =>
                                      bd1 (scL L xs (x4 + 1)) fun v356 =>
                                      bd1 (scL L xs (x4 + 2)) fun v358 =>
                                      bd2 (cM (f_X3_bytesOf v356 v358) S353) fun v359 S360 =>
                                      bd2 (cM (f_X3_thrown ) S360) fun v362 S363 =>
                                      if v362 = v352 then
                                        if v352 = 0 then
                                          bd1 (jL S363 a3 0) fun v366 =>
                                          if (lg_cmp v366 v359.toInt64) = 0 then
                                            s_L_law_1382 L xs rc23 a1 a3 x4 S363
                                          else
                                            bd1 (zb 0) fun _ =>
                                            some (0, S363)
                                        else
                                          s_L_law_1382 L xs rc23 a1 a3 x4 S363
                                      else
                                        bd1 (zb 0) fun _ =>
                                        some (0, S363)
                                    else
                                      if (v6 &&& 63) = 17 then
                                        bd1 (scL L xs (x4 + 1)) fun v370 =>
                                        bd2 (f_X0_cost a1 v370 a3 S0) fun v371 S372 =>
                                        bd1 (scL L xs (x4 + 1)) fun v375 =>
                                        bd2 (cM (f_X3_cost v375) S372) fun v376 S377 =>
                                        bd2 (cM (f_X3_thrown ) S377) fun v379 S380 =>
                                        if v379 = v371 then
                                          if v371 = 0 then
                                            bd1 (jL S380 a3 0) fun v383 =>
                                            if (lg_cmp v383 v376.toInt64) = 0 then
                                              s_L_law_1438 L xs rc23 a1 a3 x4 S380
                                            else
                                              bd1 (zb 0) fun _ =>
                                              some (0, S380)
                                          else
                                            s_L_law_1438 L xs rc23 a1 a3 x4 S380
                                        else
                                          bd1 (zb 0) fun _ =>
                                          some (0, S380)
                                      else
                                        if (v6 &&& 63) = 18 then
                                          bd1 (scL L xs (x4 + 1)) fun v387 =>
                                          bd2 (f_X0_alarms a1 v387 a3 S0) fun v388 S389 =>
                                          bd1 (scL L xs (x4 + 1)) fun v392 =>
                                          bd2 (cM (f_X3_alarms v392) S389) fun v393 S394 =>
                                          bd2 (cM (f_X3_thrown ) S394) fun v396 S397 =>
                                          if v396 = v388 then
                                            if v388 = 0 then
                                              bd1 (jL S397 a3 0) fun v400 =>
                                              if (lg_cmp v400 v393.toInt64) = 0 then
                                                s_L_law_1494 L xs rc23 a1 a3 x4 S397
                                              else
                                                bd1 (zb 0) fun _ =>
                                                some (0, S397)
                                            else
                                              s_L_law_1494 L xs rc23 a1 a3 x4 S397
                                          else
                                            bd1 (zb 0) fun _ =>
                                            some (0, S397)
                                        else
                                          if (v6 &&& 63) = 19 then
                                            bd1 (scL L xs (x4 + 1)) fun v404 =>
                                            bd1 (scL L xs (x4 + 2)) fun v406 =>
                                            bd1 (scL L xs (x4 + 3)) fun v408 =>
                                            bd2 (f_X0_apply a1 v404 v406 v408 a3 S0) fun v409 S410 =>
                                            bd1 (scL L xs (x4 + 1)) fun v413 =>
                                            bd1 (scL L xs (x4 + 2)) fun v415 =>
                                            bd1 (scL L xs (x4 + 3)) fun v417 =>
                                            bd2 (cM (f_X3_apply v413 v415 v417) S410) fun v418 S419 =>
                                            bd2 (cM (f_X3_thrown ) S419) fun v421 S422 =>
                                            if v421 = v409 then
                                              if v409 = 0 then
                                                bd1 (jL S422 a3 0) fun v425 =>
                                                if (lg_cmp v425 v418.toInt64) = 0 then
                                                  s_L_law_1574 L xs rc23 a1 a3 x4 S422
                                                else
                                                  bd1 (zb 0) fun _ =>
                                                  some (0, S422)
                                              else
                                                s_L_law_1574 L xs rc23 a1 a3 x4 S422
                                            else
                                              bd1 (zb 0) fun _ =>
                                              some (0, S422)
                                          else
                                            if (v6 &&& 63) = 20 then
                                              bd1 (scL L xs (x4 + 1)) fun v429 =>
                                              bd2 (f_X0_keep a1 v429 a3 S0) fun v430 S431 =>
                                              bd1 (scL L xs (x4 + 1)) fun v434 =>
                                              bd2 (cM (f_X3_keep v434) S431) fun v435 S436 =>
                                              bd2 (cM (f_X3_thrown ) S436) fun v438 S439 =>
                                              if v438 = v430 then
                                                if v430 = 0 then
                                                  bd1 (jL S439 a3 0) fun v442 =>
                                                  if (lg_cmp v442 v435.toInt64) = 0 then
                                                    s_L_law_1630 L xs rc23 a1 a3 x4 S439
                                                  else
                                                    bd1 (zb 0) fun _ =>
                                                    some (0, S439)
                                                else
                                                  s_L_law_1630 L xs rc23 a1 a3 x4 S439
                                              else
                                                bd1 (zb 0) fun _ =>
                                                some (0, S439)
                                            else
                                              if (v6 &&& 63) = 21 then
                                                bd1 (scL L xs (x4 + 1)) fun v446 =>
                                                bd1 (scL L xs (x4 + 2)) fun v448 =>
                                                bd1 (scL L xs (x4 + 3)) fun v450 =>
                                                bd2 (f_X0_keepDelta a1 v446 v448 v450 a3 S0) fun v451 S452 =>
                                                bd1 (scL L xs (x4 + 1)) fun v455 =>
                                                bd1 (scL L xs (x4 + 2)) fun v457 =>
                                                bd1 (scL L xs (x4 + 3)) fun v459 =>
                                                bd2 (cM (f_X3_keepDelta v455 v457 v459) S452) fun v460 S461 =>
                                                bd2 (cM (f_X3_thrown ) S461) fun v463 S464 =>
                                                if v463 = v451 then
                                                  if v451 = 0 then
                                                    bd1 (jL S464 a3 0) fun v467 =>
                                                    if (lg_cmp v467 v460.toInt64) = 0 then
                                                      s_L_law_1710 L xs rc23 a1 a3 x4 S464
                                                    else
                                                      bd1 (zb 0) fun _ =>
                                                      some (0, S464)
                                                  else
                                                    s_L_law_1710 L xs rc23 a1 a3 x4 S464
                                                else
                                                  bd1 (zb 0) fun _ =>
                                                  some (0, S464)
                                              else
                                                if (v6 &&& 63) = 22 then
                                                  bd1 (scL L xs (x4 + 1)) fun v471 =>
                                                  bd2 (f_X0_lose a1 v471 a3 S0) fun v472 S473 =>
                                                  bd1 (scL L xs (x4 + 1)) fun v476 =>
                                                  bd2 (cM (f_X3_lose v476) S473) fun v477 S478 =>
                                                  bd2 (cM (f_X3_thrown ) S478) fun v480 S481 =>
                                                  if v480 = v472 then
                                                    if v472 = 0 then
                                                      bd1 (jL S481 a3 0) fun v484 =>
                                                      if (lg_cmp v484 v477.toInt64) = 0 then
                                                        s_L_law_1766 L xs rc23 a1 a3 x4 S481
                                                      else
                                                        bd1 (zb 0) fun _ =>
                                                        some (0, S481)
                                                    else
                                                      s_L_law_1766 L xs rc23 a1 a3 x4 S481
                                                  else
                                                    bd1 (zb 0) fun _ =>
                                                    some (0, S481)
                                                else
                                                  if (v6 &&& 63) = 23 then
                                                    bd1 (scL L xs (x4 + 1)) fun v488 =>
                                                    bd1 (scL L xs (x4 + 2)) fun v490 =>
                                                    bd2 (f_X0_replace a1 v488 v490 S0) fun v491 S492 =>
                                                    bd1 (scL L xs (x4 + 1)) fun v495 =>
                                                    bd1 (scL L xs (x4 + 2)) fun v497 =>
                                                    bd2 (cM (f_X3_replace v495 v497) S492) fun v498 S499 =>
                                                    bd2 (cM (f_X3_thrown ) S499) fun v501 S502 =>
                                                    if v501 = v491 then
                                                      s_L_law_2593 L xs rc23 a1 a3 x4 S502
                                                    else
                                                      bd1 (zb 0) fun _ =>
                                                      some (0, S502)
                                                  else
                                                    if (v6 &&& 63) = 24 then
                                                      bd1 (scL L xs (x4 + 1)) fun v506 =>
                                                      bd1 (scL L xs (x4 + 2)) fun v508 =>
                                                      bd2 (f_X0_rebuild a1 v506 v508 a3 S0) fun v509 S510 =>
                                                      bd1 (scL L xs (x4 + 1)) fun v513 =>
                                                      bd1 (scL L xs (x4 + 2)) fun v515 =>
                                                      bd2 (cM (f_X3_rebuild v513 v515) S510) fun v516 S517 =>
                                                      bd2 (cM (f_X3_thrown ) S517) fun v519 S520 =>
                                                      if v519 = v509 then
                                                        if v509 = 0 then
                                                          bd1 (jL S520 a3 0) fun v523 =>
                                                          if (lg_cmp v523 v516.toInt64) = 0 then
                                                            s_L_law_1882 L xs rc23 a1 a3 x4 S520
                                                          else
                                                            bd1 (zb 0) fun _ =>
                                                            some (0, S520)
                                                        else
                                                          s_L_law_1882 L xs rc23 a1 a3 x4 S520
                                                      else
                                                        bd1 (zb 0) fun _ =>
                                                        some (0, S520)
                                                    else
                                                      if (v6 &&& 63) = 25 then
                                                        bd1 (isO S0 a1 0) fun _ =>
                                                        bd2 (f_X1_versions a1 S0) fun v527 S528 =>
                                                        bd2 (cM (f_X3_versions ) S528) fun v530 S531 =>
                                                        if v527 = v530 then
                                                          s_L_law_2593 L xs rc23 a1 a3 x4 S531
                                                        else
                                                          bd1 (zb 0) fun _ =>
                                                          some (0, S531)
                                                      else
                                                        if (v6 &&& 63) = 26 then
                                                          bd1 (scL L xs (x4 + 1)) fun v535 =>
                                                          bd2 (f_X0_brokenAt a1 v535 a3 S0) fun v536 S537 =>
                                                          bd1 (scL L xs (x4 + 1)) fun v540 =>
                                                          bd2 (cM (f_X3_brokenAt v540) S537) fun v541 S542 =>
                                                          bd2 (cM (f_X3_thrown ) S542) fun v544 S545 =>
                                                          if v544 = v536 then
                                                            if v536 = 0 then
                                                              bd1 (jL S545 a3 0) fun v548 =>
                                                              if (lg_cmp v548 v541.toInt64) = 0 then
                                                                s_L_law_1951 L xs rc23 a1 a3 x4 S545
                                                              else
                                                                bd1 (zb 0) fun _ =>
                                                                some (0, S545)
                                                            else
                                                              s_L_law_1951 L xs rc23 a1 a3 x4 S545
                                                          else
                                                            bd1 (zb 0) fun _ =>
                                                            some (0, S545)
                                                        else
                                                          if (v6 &&& 63) = 27 then
                                                            bd1 (scL L xs (x4 + 1)) fun v552 =>
                                                            bd2 (f_X0_brokenAfter a1 v552 a3 S0) fun v553 S554 =>
                                                            bd1 (scL L xs (x4 + 1)) fun v557 =>
                                                            bd2 (cM (f_X3_brokenAfter v557) S554) fun v558 S559 =>
                                                            bd2 (cM (f_X3_thrown ) S559) fun v561 S562 =>
                                                            if v561 = v553 then
                                                              if v553 = 0 then
                                                                bd1 (jL S562 a3 0) fun v565 =>
                                                                if (lg_cmp v565 v558.toInt64) = 0 then
                                                                  s_L_law_2007 L xs rc23 a1 a3 x4 S562
                                                                else
                                                                  bd1 (zb 0) fun _ =>
                                                                  some (0, S562)
                                                              else
                                                                s_L_law_2007 L xs rc23 a1 a3 x4 S562
                                                            else
                                                              bd1 (zb 0) fun _ =>
                                                              some (0, S562)
                                                          else
                                                            if (v6 &&& 63) = 28 then
                                                              bd1 (scL L xs (x4 + 1)) fun v569 =>
                                                              bd2 (f_X0_reason a1 v569 a3 S0) fun v570 S571 =>
                                                              bd1 (scL L xs (x4 + 1)) fun v574 =>
                                                              bd2 (cM (f_X3_reason v574) S571) fun v575 S576 =>
                                                              bd2 (cM (f_X3_thrown ) S576) fun v578 S579 =>
                                                              if v578 = v570 then
                                                                if v570 = 0 then
                                                                  bd1 (jL S579 a3 0) fun v582 =>
                                                                  if (lg_cmp v582 v575.toInt64) = 0 then
                                                                    s_L_law_2063 L xs rc23 a1 a3 x4 S579
                                                                  else
                                                                    bd1 (zb 0) fun _ =>
                                                                    some (0, S579)
                                                                else
                                                                  s_L_law_2063 L xs rc23 a1 a3 x4 S579
                                                              else
                                                                bd1 (zb 0) fun _ =>
                                                                some (0, S579)
                                                            else
                                                              if (v6 &&& 63) = 29 then
                                                                bd1 (scL L xs (x4 + 1)) fun v586 =>
                                                                bd2 (f_X0_heldBy a1 v586 a3 S0) fun v587 S588 =>
                                                                bd1 (scL L xs (x4 + 1)) fun v591 =>
                                                                bd2 (cM (f_X3_heldBy v591) S588) fun v592 S593 =>
                                                                bd2 (cM (f_X3_thrown ) S593) fun v595 S596 =>
                                                                if v595 = v587 then
                                                                  if v587 = 0 then
                                                                    bd1 (jL S596 a3 0) fun v599 =>
                                                                    if (lg_cmp v599 v592.toInt64) = 0 then
                                                                      s_L_law_2119 L xs rc23 a1 a3 x4 S596
                                                                    else
                                                                      bd1 (zb 0) fun _ =>
                                                                      some (0, S596)
                                                                  else
                                                                    s_L_law_2119 L xs rc23 a1 a3 x4 S596
                                                                else
                                                                  bd1 (zb 0) fun _ =>
                                                                  some (0, S596)
                                                              else
                                                                if (v6 &&& 63) = 30 then
                                                                  bd1 (scL L xs (x4 + 1)) fun v603 =>
                                                                  bd1 (scL L xs (x4 + 2)) fun v605 =>
                                                                  bd1 (scL L xs (x4 + 3)) fun v607 =>
                                                                  bd2 (f_X0_cuts a1 v603 v605 v607 S0) fun v608 S609 =>
                                                                  bd1 (scL L xs (x4 + 1)) fun v612 =>
                                                                  bd1 (scL L xs (x4 + 2)) fun v614 =>
                                                                  bd1 (scL L xs (x4 + 3)) fun v616 =>
                                                                  bd2 (cM (f_X3_cuts v612 v614 v616) S609) fun v617 S618 =>
                                                                  bd2 (cM (f_X3_thrown ) S618) fun v620 S621 =>
                                                                  if v620 = v608 then
                                                                    s_L_law_2593 L xs rc23 a1 a3 x4 S621
                                                                  else
                                                                    bd1 (zb 0) fun _ =>
                                                                    some (0, S621)
                                                                else
                                                                  if (v6 &&& 63) = 31 then
                                                                    bd1 (scL L xs (x4 + 1)) fun v625 =>
                                                                    bd2 (f_X0_store a1 v625 a3 S0) fun v626 S627 =>
                                                                    bd1 (scL L xs (x4 + 1)) fun v630 =>
                                                                    bd2 (cM (f_X3_store v630) S627) fun v631 S632 =>
                                                                    bd2 (cM (f_X3_thrown ) S632) fun v634 S635 =>
                                                                    if v634 = v626 then
                                                                      if v626 = 0 then
                                                                        bd1 (jL S635 a3 0) fun v638 =>
                                                                        if (lg_cmp v638 v631.toInt64) = 0 then
                                                                          s_L_law_2235 L xs rc23 a1 a3 x4 S635
                                                                        else
                                                                          bd1 (zb 0) fun _ =>
                                                                          some (0, S635)
                                                                      else
                                                                        s_L_law_2235 L xs rc23 a1 a3 x4 S635
                                                                    else
                                                                      bd1 (zb 0) fun _ =>
                                                                      some (0, S635)
                                                                  else
                                                                    if (v6 &&& 63) = 32 then
                                                                      bd1 (scL L xs (x4 + 1)) fun v642 =>
                                                                      bd2 (f_X0_release a1 v642 a3 S0) fun v643 S644 =>
                                                                      bd1 (scL L xs (x4 + 1)) fun v647 =>
                                                                      bd2 (cM (f_X3_release v647) S644) fun v648 S649 =>
                                                                      bd2 (cM (f_X3_thrown ) S649) fun v651 S652 =>
                                                                      if v651 = v643 then
                                                                        if v643 = 0 then
                                                                          bd1 (jL S652 a3 0) fun v655 =>
                                                                          if (lg_cmp v655 v648.toInt64) = 0 then
                                                                            s_L_law_2291 L xs rc23 a1 a3 x4 S652
                                                                          else
                                                                            bd1 (zb 0) fun _ =>
                                                                            some (0, S652)
                                                                        else
                                                                          s_L_law_2291 L xs rc23 a1 a3 x4 S652
                                                                      else
                                                                        bd1 (zb 0) fun _ =>
                                                                        some (0, S652)
                                                                    else
                                                                      if (v6 &&& 63) = 33 then
                                                                        bd1 (scL L xs (x4 + 1)) fun v659 =>
                                                                        bd1 (scL L xs (x4 + 2)) fun v661 =>
                                                                        bd2 (f_X0_fetch a1 v659 v661 a3 S0) fun v662 S663 =>
                                                                        bd1 (scL L xs (x4 + 1)) fun v666 =>
                                                                        bd1 (scL L xs (x4 + 2)) fun v668 =>
                                                                        bd2 (cM (f_X3_fetch v666 v668) S663) fun v669 S670 =>
                                                                        bd2 (cM (f_X3_thrown ) S670) fun v672 S673 =>
                                                                        if v672 = v662 then
                                                                          if v662 = 0 then
                                                                            bd1 (jL S673 a3 0) fun v676 =>
                                                                            if (lg_cmp v676 v669.toInt64) = 0 then
                                                                              s_L_law_2359 L xs rc23 a1 a3 x4 S673
                                                                            else
                                                                              bd1 (zb 0) fun _ =>
                                                                              some (0, S673)
                                                                          else
                                                                            s_L_law_2359 L xs rc23 a1 a3 x4 S673
                                                                        else
                                                                          bd1 (zb 0) fun _ =>
                                                                          some (0, S673)
                                                                      else
                                                                        if (v6 &&& 63) = 34 then
                                                                          bd1 (isO S0 a1 0) fun _ =>
                                                                          bd2 (f_X1_papers a1 S0) fun v680 S681 =>
                                                                          bd2 (cM (f_X3_papers ) S681) fun v683 S684 =>
                                                                          if v680 = v683 then
                                                                            s_L_law_2593 L xs rc23 a1 a3 x4 S684
                                                                          else
                                                                            bd1 (zb 0) fun _ =>
                                                                            some (0, S684)
                                                                        else
                                                                          if (v6 &&& 63) = 35 then
                                                                            bd1 (isO S0 a1 0) fun _ =>
                                                                            bd2 (f_X1_chunks a1 S0) fun v688 S689 =>
                                                                            bd2 (cM (f_X3_chunks ) S689) fun v691 S692 =>
                                                                            if v688 = v691 then
                                                                              s_L_law_2593 L xs rc23 a1 a3 x4 S692
                                                                            else
                                                                              bd1 (zb 0) fun _ =>
                                                                              some (0, S692)
                                                                          else
                                                                            if (v6 &&& 63) = 36 then
                                                                              bd1 (isO S0 a1 0) fun _ =>
                                                                              bd2 (f_X1_heldBytes a1 S0) fun v696 S697 =>
                                                                              bd2 (cM (f_X3_heldBytes ) S697) fun v699 S700 =>
                                                                              if v696 = v699 then
                                                                                s_L_law_2593 L xs rc23 a1 a3 x4 S700
                                                                              else
                                                                                bd1 (zb 0) fun _ =>
                                                                                some (0, S700)
                                                                            else
                                                                              if (v6 &&& 63) = 37 then
                                                                                bd1 (scL L xs (x4 + 1)) fun v704 =>
                                                                                bd2 (f_X0_parts a1 v704 a3 S0) fun v705 S706 =>
                                                                                bd1 (scL L xs (x4 + 1)) fun v709 =>
                                                                                bd2 (cM (f_X3_parts v709) S706) fun v710 S711 =>
                                                                                bd2 (cM (f_X3_thrown ) S711) fun v713 S714 =>
                                                                                if v713 = v705 then
                                                                                  if v705 = 0 then
                                                                                    bd1 (jL S714 a3 0) fun v717 =>
                                                                                    if (lg_cmp v717 v710.toInt64) = 0 then
                                                                                      s_L_law_2454 L xs rc23 a1 a3 x4 S714
                                                                                    else
                                                                                      bd1 (zb 0) fun _ =>
                                                                                      some (0, S714)
                                                                                  else
                                                                                    s_L_law_2454 L xs rc23 a1 a3 x4 S714
                                                                                else
                                                                                  bd1 (zb 0) fun _ =>
                                                                                  some (0, S714)
                                                                              else
                                                                                if (v6 &&& 63) = 38 then
                                                                                  bd1 (scL L xs (x4 + 1)) fun v721 =>
                                                                                  bd1 (scL L xs (x4 + 2)) fun v723 =>
                                                                                  bd2 (f_X0_partLength a1 v721 v723 a3 S0) fun v724 S725 =>
                                                                                  bd1 (scL L xs (x4 + 1)) fun v728 =>
                                                                                  bd1 (scL L xs (x4 + 2)) fun v730 =>
                                                                                  bd2 (cM (f_X3_partLength v728 v730) S725) fun v731 S732 =>
                                                                                  bd2 (cM (f_X3_thrown ) S732) fun v734 S735 =>
                                                                                  if v734 = v724 then
                                                                                    if v724 = 0 then
                                                                                      bd1 (jL S735 a3 0) fun v738 =>
                                                                                      if (lg_cmp v738 v731.toInt64) = 0 then
                                                                                        s_L_law_2522 L xs rc23 a1 a3 x4 S735
                                                                                      else
                                                                                        bd1 (zb 0) fun _ =>
                                                                                        some (0, S735)
                                                                                    else
                                                                                      s_L_law_2522 L xs rc23 a1 a3 x4 S735
                                                                                  else
                                                                                    bd1 (zb 0) fun _ =>
                                                                                    some (0, S735)
                                                                                else
                                                                                  if (v6 &&& 63) = 39 then
                                                                                    bd1 (scL L xs (x4 + 1)) fun v742 =>
                                                                                    bd1 (scL L xs (x4 + 2)) fun v744 =>
                                                                                    bd2 (f_X0_shared a1 v742 v744 a3 S0) fun v745 S746 =>
                                                                                    bd1 (scL L xs (x4 + 1)) fun v749 =>
                                                                                    bd1 (scL L xs (x4 + 2)) fun v751 =>
                                                                                    bd2 (cM (f_X3_shared v749 v751) S746) fun v752 S753 =>
                                                                                    bd2 (cM (f_X3_thrown ) S753) fun v755 S756 =>
                                                                                    if v755 = v745 then
                                                                                      if v745 = 0 then
                                                                                        bd1 (jL S756 a3 0) fun v759 =>
                                                                                        if (lg_cmp v759 v752.toInt64) = 0 then
                                                                                          s_L_law_2590 L xs rc23 a1 a3 x4 S756
                                                                                        else
                                                                                          bd1 (zb 0) fun _ =>
                                                                                          some (0, S756)
                                                                                      else
                                                                                        s_L_law_2590 L xs rc23 a1 a3 x4 S756
                                                                                    else
                                                                                      bd1 (zb 0) fun _ =>
                                                                                      some (0, S756)
                                                                                  else
                                                                                    none
def l_L_law_23 (L : Nat) (xs : Nat → Int32)  : Nat → Option Nat × Option Nat × Int32 → St → Option (Int32 × St) :=
  lp fun rc23 v S0 => s_L_law_23 L xs  rc23 v.1 v.2.1 v.2.2 S0
def f_L_law (L : Nat) (xs : Nat → Int32) (a1 : Option Nat) (S0 : St) : Option (Int32 × St) :=
  bd2 (nA S0 1 1 (.inr (.inl fun _ => 0))) fun v1 S2 =>
  l_L_law_23 L xs FU (a1, v1, 0) S2
