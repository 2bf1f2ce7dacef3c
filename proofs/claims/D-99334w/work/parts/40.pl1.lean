/-! printed by gen_pl.py: leaves of PegLaws -/
set_option maxRecDepth 100000
/-! J17 bitCount -/
def fJ17_bitCount  (x0 : Int32) : Option Int32 :=
  mm_lt (x0 - ((mm_ushr x0 (1 : Int32)) &&& (1431655765 : Int32))) fun v1 =>
  mm_lt ((v1 &&& (858993459 : Int32)) + ((mm_ushr v1 (2 : Int32)) &&& (858993459 : Int32))) fun v2 =>
  mm_lt ((v2 + (mm_ushr v2 (4 : Int32))) &&& (252645135 : Int32)) fun v3 =>
  mm_lt (v3 + (mm_ushr v3 (8 : Int32))) fun v4 =>
  mm_lt (v4 + (mm_ushr v4 (16 : Int32))) fun v5 =>
  some (v5 &&& (63 : Int32))
set_option maxHeartbeats 4000000 in
theorem mc_J17_bitCount {l : Launch} {K : mm_K} {P : mm_P} {x0 : Int32} {nx sl : Nat} {r : Int32} (h : fJ17_bitCount x0 = some r) : mm_C l yJ17_bitCount (ws_ yJ17_bitCount cJ17_bitCount 1 (some .int)) 0 0 [.int x0] K P nx sl (mm_wrI K P nx sl r) :=
  mm_startF (ls := [some (.int x0)]) h (by decide) (Nat.le_of_ble_eq_true rfl) rfl (Nat.le_refl _) (Nat.le_refl _) rfl fun E hl9 _ _ _ C => by
  have C : mm_Cx E RJ17 cJ17_bitCount 1 (some .int) 0 0 := C
  unfold fJ17_bitCount
  refine r_iload_n C dJ17_bitCount_0 rfl rfl ?_
  refine r_iload_n C dJ17_bitCount_1 rfl rfl ?_
  refine r_iconst (v := 1) C dJ17_bitCount_2 rfl ?_
  refine r_iushr C dJ17_bitCount_3 ?_
  refine r_ldcw (v := 1431655765) C dJ17_bitCount_4 q1141 ?_
  refine r_iand C dJ17_bitCount_7 ?_
  refine r_isub C dJ17_bitCount_8 ?_
  refine r_ltI fun v1 => ?_
  refine r_istore_n (ls' := [some (.int v1)]) C dJ17_bitCount_9 rfl (Nat.le_of_ble_eq_true rfl) rfl rfl ?_
  refine r_iload_n C dJ17_bitCount_10 rfl rfl ?_
  refine r_ldcw (v := 858993459) C dJ17_bitCount_11 q1142 ?_
  refine r_iand C dJ17_bitCount_14 ?_
  refine r_iload_n C dJ17_bitCount_15 rfl rfl ?_
  refine r_iconst (v := 2) C dJ17_bitCount_16 rfl ?_
  refine r_iushr C dJ17_bitCount_17 ?_
  refine r_ldcw (v := 858993459) C dJ17_bitCount_18 q1142 ?_
  refine r_iand C dJ17_bitCount_21 ?_
  refine r_iadd C dJ17_bitCount_22 ?_
  refine r_ltI fun v2 => ?_
  refine r_istore_n (ls' := [some (.int v2)]) C dJ17_bitCount_23 rfl (Nat.le_of_ble_eq_true rfl) rfl rfl ?_
  refine r_iload_n C dJ17_bitCount_24 rfl rfl ?_
  refine r_iload_n C dJ17_bitCount_25 rfl rfl ?_
  refine r_iconst (v := 4) C dJ17_bitCount_26 rfl ?_
  refine r_iushr C dJ17_bitCount_27 ?_
  refine r_iadd C dJ17_bitCount_28 ?_
  refine r_ldcw (v := 252645135) C dJ17_bitCount_29 q1143 ?_
  refine r_iand C dJ17_bitCount_32 ?_
  refine r_ltI fun v3 => ?_
  refine r_istore_n (ls' := [some (.int v3)]) C dJ17_bitCount_33 rfl (Nat.le_of_ble_eq_true rfl) rfl rfl ?_
  refine r_iload_n C dJ17_bitCount_34 rfl rfl ?_
  refine r_iload_n C dJ17_bitCount_35 rfl rfl ?_
  refine r_bipush (v := 8) C dJ17_bitCount_36 rfl ?_
  refine r_iushr C dJ17_bitCount_38 ?_
  refine r_iadd C dJ17_bitCount_39 ?_
  refine r_ltI fun v4 => ?_
  refine r_istore_n (ls' := [some (.int v4)]) C dJ17_bitCount_40 rfl (Nat.le_of_ble_eq_true rfl) rfl rfl ?_
  refine r_iload_n C dJ17_bitCount_41 rfl rfl ?_
  refine r_iload_n C dJ17_bitCount_42 rfl rfl ?_
  refine r_bipush (v := 16) C dJ17_bitCount_43 rfl ?_
  refine r_iushr C dJ17_bitCount_45 ?_
  refine r_iadd C dJ17_bitCount_46 ?_
  refine r_ltI fun v5 => ?_
  refine r_istore_n (ls' := [some (.int v5)]) C dJ17_bitCount_47 rfl (Nat.le_of_ble_eq_true rfl) rfl rfl ?_
  refine r_iload_n C dJ17_bitCount_48 rfl rfl ?_
  refine r_bipush (v := 63) C dJ17_bitCount_49 rfl ?_
  refine r_iand C dJ17_bitCount_51 ?_
  exact r_iret C dJ17_bitCount_52 rfl
/-! J7 checkIndex -/
def fJ7_checkIndex_b9   (x0 : Int32) (x1 : Int32) (x2 : Option Nat) : Option Int32 :=
  none
set_option maxHeartbeats 4000000 in
theorem wfJ7_checkIndex_b9 {E : mm_E} (C : mm_Cx E RJ7 cJ7_checkIndex 3 (some .int) 0 0) {K : mm_K} {P : mm_P} {nx sl : Nat} (x0 : Int32) (x1 : Int32) (x2 : Option Nat) : mm_V E (mm_wrI K P nx sl) 9 [some (.int x0), some (.int x1), some (va_rf x2)] [] K P nx sl (fJ7_checkIndex_b9 x0 x1 x2) := by
  unfold fJ7_checkIndex_b9
  refine r_aload_nO C dJ7_checkIndex_9 rfl rfl ?_
  refine r_iload_n C dJ7_checkIndex_10 rfl rfl ?_
  refine r_iload_n C dJ7_checkIndex_11 rfl rfl ?_
  exact r_none
def fJ7_checkIndex  (x0 : Int32) (x1 : Int32) (x2 : Option Nat) : Option Int32 :=
  if x0 < 0 then
  (fJ7_checkIndex_b9 x0 x1 x2)
  else
  (if x0 < x1 then
  (some (x0))
  else
  (fJ7_checkIndex_b9 x0 x1 x2))
set_option maxHeartbeats 4000000 in
theorem mc_J7_checkIndex {l : Launch} {K : mm_K} {P : mm_P} {x0 : Int32} {x1 : Int32} {x2 : Option Nat} {nx sl : Nat} {r : Int32} (h : fJ7_checkIndex x0 x1 x2 = some r) : mm_C l yJ7_checkIndex (ws_ yJ7_checkIndex cJ7_checkIndex 3 (some .int)) 0 0 [.int x0, .int x1, va_rf x2] K P nx sl (mm_wrI K P nx sl r) :=
  mm_startF (ls := [some (.int x0), some (.int x1), some (va_rf x2)]) h (by decide) (by cases x2 <;> exact (Nat.le_of_ble_eq_true rfl)) (by cases x2 <;> exact rfl) (Nat.le_refl _) (Nat.le_refl _) rfl fun E hl9 _ _ _ C => by
  have C : mm_Cx E RJ7 cJ7_checkIndex 3 (some .int) 0 0 := C
  unfold fJ7_checkIndex
  refine r_iload_n C dJ7_checkIndex_0 rfl rfl ?_
  refine r_iflt (tgt := 9) C dJ7_checkIndex_1 (by decide) (fun h1 => ?_) (fun h1 => ?_)
  · exact wfJ7_checkIndex_b9 C x0 x1 x2
  · refine r_iload_n C dJ7_checkIndex_4 rfl rfl ?_
    refine r_iload_n C dJ7_checkIndex_5 rfl rfl ?_
    refine r_icmplt (tgt := 16) C dJ7_checkIndex_6 (by decide) (fun h2 => ?_) (fun h2 => ?_)
    · refine r_iload_n C dJ7_checkIndex_16 rfl rfl ?_
      exact r_iret C dJ7_checkIndex_17 rfl
    · exact wfJ7_checkIndex_b9 C x0 x1 x2
theorem cv_J16_105 : mm_CS RJ16 105 yJ7_checkIndex cJ7_checkIndex 3 (some .int) 3 := ⟨lw_S q837 q564 q145 q565, by decide +kernel, by decide +kernel, by decide +kernel⟩
/-! J16 checkIndex -/
def fJ16_checkIndex  (x0 : Int32) (x1 : Int32) : Option Int32 :=
  mm_bd (fJ7_checkIndex x0 x1 none) fun r1 =>
  some (r1)
set_option maxHeartbeats 4000000 in
theorem mc_J16_checkIndex {l : Launch} {K : mm_K} {P : mm_P} {x0 : Int32} {x1 : Int32} {nx sl : Nat} {r : Int32} (h : fJ16_checkIndex x0 x1 = some r) : mm_C l yJ16_checkIndex (ws_ yJ16_checkIndex cJ16_checkIndex 2 (some .int)) 1 22 [.int x0, .int x1] K P nx sl (mm_wrI K P nx sl r) :=
  mm_startF (ls := [some (.int x0), some (.int x1)]) h (by decide) (Nat.le_of_ble_eq_true rfl) rfl (Nat.le_refl _) (Nat.le_refl _) rfl fun E hl9 _ _ _ C => by
  have C : mm_Cx E RJ16 cJ16_checkIndex 2 (some .int) 1 22 := C
  unfold fJ16_checkIndex
  refine r_iload_n C dJ16_checkIndex_0 rfl rfl ?_
  refine r_iload_n C dJ16_checkIndex_1 rfl rfl ?_
  refine r_null C dJ16_checkIndex_2 ?_
  refine r_bd fun r1 h2 => ?_
  refine r_callS (As := [.int x0, .int x1, .null]) (st := []) C (mc_J7_checkIndex h2) cv_J16_105  rfl (Nat.le_of_ble_eq_true rfl) (Nat.le_of_ble_eq_true rfl) rfl (Nat.le_of_ble_eq_true rfl) dJ16_checkIndex_3 ?_
  exact r_iret C dJ16_checkIndex_6 rfl
theorem fl_J2_48 : mm_FL RJ2 48 21 2 mm_i .int false := ⟨RJ2, TJ2, 3, _, tyJ2, rfl, in_J2, rfl, rfl, Nat.le_of_ble_eq_true rfl, Or.inl q238, tyJ2_ok, nmJ2, rfl, rfl⟩
/-! J2 size -/
def fJ2_size (th : Nat) (P : mm_P)  : Option Int32 :=
  some (gI P 2690 th)
set_option maxHeartbeats 4000000 in
theorem mc_J2_size {l : Launch} {K : mm_K} {P : mm_P} {th : Nat}  {nx sl : Nat} {r : Int32} (hk : K.1 th = 21) (h : fJ2_size th P = some r) : mm_C l yJ2_size (ws_ yJ2_size cJ2_size 1 (some .int)) 0 0 [.ref th] K P nx sl (mm_wrI K P nx sl r) :=
  mm_startF (ls := [some (.ref th)]) h (by decide) (Nat.le_of_ble_eq_true rfl) rfl (Nat.le_refl _) (Nat.le_refl _) rfl fun E hl9 _ _ _ C => by
  have C : mm_Cx E RJ2 cJ2_size 1 (some .int) 0 0 := C
  unfold fJ2_size
  refine r_aload_n C dJ2_size_0 rfl rfl ?_
  refine r_getI (code := 2690) C fl_J2_48 hk rfl dJ2_size_1 ?_
  exact r_iret C dJ2_size_4 rfl
theorem fl_J2_9 : mm_FL RJ2 9 21 1 mm_r (tyJ2 1) false := ⟨RJ2, TJ2, 3, _, tyJ2, rfl, in_J2, rfl, rfl, Nat.le_of_ble_eq_true rfl, Or.inl q237, tyJ2_ok, nmJ2, rfl, rfl⟩
/-! J2 elementData -/
def fJ2_elementData (K : mm_K) (th : Nat) (P : mm_P) (x1 : Int32) : Option Nat :=
  mm_bd (gR P 2689 th) fun b1 =>
  mm_gd (K.1 b1 = 68) <|
  mm_gd (mm_in x1 (K.2 b1)) <|
  mm_bd (gB P 8196 b1 x1.toNatClampNeg) fun b5 =>
  some (b5)
set_option maxHeartbeats 4000000 in
theorem mc_J2_elementData {l : Launch} {K : mm_K} {P : mm_P} {th : Nat} {x1 : Int32} {nx sl : Nat} {r : Nat} (hk : K.1 th = 21) (h : fJ2_elementData K th P x1 = some r) : mm_C l yJ2_elementData (ws_ yJ2_elementData cJ2_elementData 2 (some (.object "java/lang/Object"))) 0 0 [.ref th, .int x1] K P nx sl (mm_wrR K P nx sl r) :=
  mm_startF (ls := [some (.ref th), some (.int x1)]) h (by decide) (Nat.le_of_ble_eq_true rfl) rfl (Nat.le_refl _) (Nat.le_refl _) rfl fun E hl9 _ _ _ C => by
  have C : mm_Cx E RJ2 cJ2_elementData 2 (some (.object "java/lang/Object")) 0 0 := C
  unfold fJ2_elementData
  refine r_aload_n C dJ2_elementData_0 rfl rfl ?_
  refine r_getRn (code := 2689) C fl_J2_9 hk rfl dJ2_elementData_1 fun b1 h2 => ?_
  refine r_iload_n C dJ2_elementData_4 rfl rfl ?_
  refine r_gd fun hK3 => ?_
  refine r_aaldOn C (rg_sa (ek := 4) hK3) rfl dJ2_elementData_5 fun h4 b5 h6 => ?_
  exact r_aretR C (Or.inl ⟨_, rfl⟩) dJ2_elementData_6 rfl
theorem cv_J2_118 : mm_CS RJ2 118 yJ16_checkIndex cJ16_checkIndex 2 (some .int) 2 := ⟨lw_S q834 q835 q156 q836, by decide +kernel, by decide +kernel, by decide +kernel⟩
theorem cv_J2_123 : mm_CV RJ2 123 yJ2_elementData cJ2_elementData 2 (some (.object "java/lang/Object")) 1 21 := ⟨RJ2, TJ2, 3, _, lw_V q838 q839 q840 q138 q841, ⟨rfl, by decide +kernel, by decide +kernel, by decide +kernel⟩, rfl, rfl⟩
/-! J2 get -/
def fJ2_get (K : mm_K) (th : Nat) (P : mm_P) (x1 : Int32) : Option Nat :=
  mm_bd (fJ16_checkIndex x1 (gI P 2690 th)) fun r1 =>
  mm_bd (fJ2_elementData K th P x1) fun r3 =>
  some (r3)
set_option maxHeartbeats 4000000 in
theorem mc_J2_get {l : Launch} {K : mm_K} {P : mm_P} {th : Nat} {x1 : Int32} {nx sl : Nat} {r : Nat} (hk : K.1 th = 21) (h : fJ2_get K th P x1 = some r) : mm_C l yJ2_get (ws_ yJ2_get cJ2_get 2 (some (.object "java/lang/Object"))) 2 43 [.ref th, .int x1] K P nx sl (mm_wrR K P nx sl r) :=
  mm_startF (ls := [some (.ref th), some (.int x1)]) h (by decide) (Nat.le_of_ble_eq_true rfl) rfl (Nat.le_refl _) (Nat.le_refl _) rfl fun E hl9 _ _ _ C => by
  have C : mm_Cx E RJ2 cJ2_get 2 (some (.object "java/lang/Object")) 2 43 := C
  unfold fJ2_get
  refine r_iload_n C dJ2_get_0 rfl rfl ?_
  refine r_aload_n C dJ2_get_1 rfl rfl ?_
  refine r_getI (code := 2690) C fl_J2_48 hk rfl dJ2_get_2 ?_
  refine r_bd fun r1 h2 => ?_
  refine r_callS (As := [.int x1, .int (gI P 2690 th)]) (st := []) C (mc_J16_checkIndex h2) cv_J2_118  rfl (Nat.le_of_ble_eq_true rfl) (Nat.le_of_ble_eq_true rfl) rfl (Nat.le_of_ble_eq_true rfl) dJ2_get_5 ?_
  refine r_pop C dJ2_get_8 rfl ?_
  refine r_aload_n C dJ2_get_9 rfl rfl ?_
  refine r_iload_n C dJ2_get_10 rfl rfl ?_
  refine r_bd fun r3 h4 => ?_
  refine r_callV (As := [.int x1]) (st := []) C (mc_J2_elementData hk h4) cv_J2_123 hk rfl (Nat.le_of_ble_eq_true rfl) (Nat.le_of_ble_eq_true rfl) rfl (Nat.le_of_ble_eq_true rfl) dJ2_get_11 ?_
  exact r_aretR C (Or.inl ⟨_, rfl⟩) dJ2_get_14 rfl
/-! X7 kind -/
def fX7_kind (th : Nat)  : Option Int32 :=
  some ((0 : Int32))
set_option maxHeartbeats 4000000 in
theorem mc_X7_kind {l : Launch} {K : mm_K} {P : mm_P} {th : Nat}  {nx sl : Nat} {r : Int32} (hk : mm_isC (K.1 th)) (h : fX7_kind th = some r) : mm_C l yX7_kind (ws_ yX7_kind cX7_kind 1 (some .int)) 0 0 [.ref th] K P nx sl (mm_wrI K P nx sl r) :=
  mm_start (ls := [some (.ref th)]) h (by decide) (Nat.le_of_ble_eq_true rfl) rfl (Nat.le_refl _) (Nat.le_refl _) rfl fun E hl9 _ _ _ C => by
  have C : mm_Cx E RX7 cX7_kind 1 (some .int) 0 0 := C
  unfold fX7_kind
  refine r_iconst (v := 0) C dX7_kind_0 rfl ?_
  exact r_iret C dX7_kind_1 rfl
/-! X7 needs -/
def fX7_needs (th : Nat)  : Option Int32 :=
  some ((2 : Int32))
set_option maxHeartbeats 4000000 in
theorem mc_X7_needs {l : Launch} {K : mm_K} {P : mm_P} {th : Nat}  {nx sl : Nat} {r : Int32} (hk : mm_isC (K.1 th)) (h : fX7_needs th = some r) : mm_C l yX7_needs (ws_ yX7_needs cX7_needs 1 (some .int)) 0 0 [.ref th] K P nx sl (mm_wrI K P nx sl r) :=
  mm_start (ls := [some (.ref th)]) h (by decide) (Nat.le_of_ble_eq_true rfl) rfl (Nat.le_refl _) (Nat.le_refl _) rfl fun E hl9 _ _ _ C => by
  have C : mm_Cx E RX7 cX7_needs 1 (some .int) 0 0 := C
  unfold fX7_needs
  refine r_iconst (v := 2) C dX7_needs_0 rfl ?_
  exact r_iret C dX7_needs_1 rfl
theorem fl_X7_15 {k : Nat} (h : mm_isC k) : mm_FL RX7 15 k 2 mm_i .int false := by
  rcases mm_isC_or h with rfl | rfl | rfl | rfl
  · exact ⟨RX7, TX7, 4, _, tyX7, rfl, in_X7, rfl, rfl, Nat.le_of_ble_eq_true rfl, Or.inl q868, tyX7_ok, nmX7, rfl, rfl⟩
  · exact ⟨RX8, TX8, 4, _, tyX8, rfl, in_X8, rfl, rfl, Nat.le_of_ble_eq_true rfl, Or.inl q868, tyX8_ok, nmX8, rfl, rfl⟩
  · exact ⟨RX9, TX9, 4, _, tyX9, rfl, in_X9, rfl, rfl, Nat.le_of_ble_eq_true rfl, Or.inl q868, tyX9_ok, nmX9, rfl, rfl⟩
  · exact ⟨RX10, TX10, 4, _, tyX10, rfl, in_X10, rfl, rfl, Nat.le_of_ble_eq_true rfl, Or.inl q868, tyX10_ok, nmX10, rfl, rfl⟩
/-! X7 mass -/
def fX7_mass (th : Nat) (P : mm_P) (x1 : Int32) : Option Int32 :=
  some ((gI P 898 th) + x1)
set_option maxHeartbeats 4000000 in
theorem mc_X7_mass {l : Launch} {K : mm_K} {P : mm_P} {th : Nat} {x1 : Int32} {nx sl : Nat} {r : Int32} (hk : mm_isC (K.1 th)) (h : fX7_mass th P x1 = some r) : mm_C l yX7_mass (ws_ yX7_mass cX7_mass 2 (some .int)) 0 0 [.ref th, .int x1] K P nx sl (mm_wrI K P nx sl r) :=
  mm_start (ls := [some (.ref th), some (.int x1)]) h (by decide) (Nat.le_of_ble_eq_true rfl) rfl (Nat.le_refl _) (Nat.le_refl _) rfl fun E hl9 _ _ _ C => by
  have C : mm_Cx E RX7 cX7_mass 2 (some .int) 0 0 := C
  unfold fX7_mass
  refine r_aload_n C dX7_mass_0 rfl rfl ?_
  refine r_getI (code := 898) C (fl_X7_15 hk) rfl (mm_bsC hk _) dX7_mass_1 ?_
  refine r_iload_n C dX7_mass_4 rfl rfl ?_
  refine r_iadd C dX7_mass_5 ?_
  exact r_iret C dX7_mass_6 rfl
/-! X7 pulled -/
def fX7_pulled (th : Nat) (x1 : Int32) : Option Int32 :=
  some (x1)
set_option maxHeartbeats 4000000 in
theorem mc_X7_pulled {l : Launch} {K : mm_K} {P : mm_P} {th : Nat} {x1 : Int32} {nx sl : Nat} {r : Int32} (hk : mm_isC (K.1 th)) (h : fX7_pulled th x1 = some r) : mm_C l yX7_pulled (ws_ yX7_pulled cX7_pulled 2 (some .int)) 0 0 [.ref th, .int x1] K P nx sl (mm_wrI K P nx sl r) :=
  mm_start (ls := [some (.ref th), some (.int x1)]) h (by decide) (Nat.le_of_ble_eq_true rfl) rfl (Nat.le_refl _) (Nat.le_refl _) rfl fun E hl9 _ _ _ C => by
  have C : mm_Cx E RX7 cX7_pulled 2 (some .int) 0 0 := C
  unfold fX7_pulled
  refine r_iload_n C dX7_pulled_0 rfl rfl ?_
  exact r_iret C dX7_pulled_1 rfl
/-! X8 kind -/
def fX8_kind (th : Nat)  : Option Int32 :=
  some ((1 : Int32))
set_option maxHeartbeats 4000000 in
theorem mc_X8_kind {l : Launch} {K : mm_K} {P : mm_P} {th : Nat}  {nx sl : Nat} {r : Int32} (hk : K.1 th = 8) (h : fX8_kind th = some r) : mm_C l yX8_kind (ws_ yX8_kind cX8_kind 1 (some .int)) 0 0 [.ref th] K P nx sl (mm_wrI K P nx sl r) :=
  mm_start (ls := [some (.ref th)]) h (by decide) (Nat.le_of_ble_eq_true rfl) rfl (Nat.le_refl _) (Nat.le_refl _) rfl fun E hl9 _ _ _ C => by
  have C : mm_Cx E RX8 cX8_kind 1 (some .int) 0 0 := C
  unfold fX8_kind
  refine r_iconst (v := 1) C dX8_kind_0 rfl ?_
  exact r_iret C dX8_kind_1 rfl
/-! X8 needs -/
def fX8_needs (th : Nat)  : Option Int32 :=
  some ((4 : Int32))
set_option maxHeartbeats 4000000 in
theorem mc_X8_needs {l : Launch} {K : mm_K} {P : mm_P} {th : Nat}  {nx sl : Nat} {r : Int32} (hk : K.1 th = 8) (h : fX8_needs th = some r) : mm_C l yX8_needs (ws_ yX8_needs cX8_needs 1 (some .int)) 0 0 [.ref th] K P nx sl (mm_wrI K P nx sl r) :=
  mm_start (ls := [some (.ref th)]) h (by decide) (Nat.le_of_ble_eq_true rfl) rfl (Nat.le_refl _) (Nat.le_refl _) rfl fun E hl9 _ _ _ C => by
  have C : mm_Cx E RX8 cX8_needs 1 (some .int) 0 0 := C
  unfold fX8_needs
  refine r_iconst (v := 4) C dX8_needs_0 rfl ?_
  exact r_iret C dX8_needs_1 rfl
/-! X9 kind -/
def fX9_kind (th : Nat)  : Option Int32 :=
  some ((2 : Int32))
set_option maxHeartbeats 4000000 in
theorem mc_X9_kind {l : Launch} {K : mm_K} {P : mm_P} {th : Nat}  {nx sl : Nat} {r : Int32} (hk : K.1 th = 9) (h : fX9_kind th = some r) : mm_C l yX9_kind (ws_ yX9_kind cX9_kind 1 (some .int)) 0 0 [.ref th] K P nx sl (mm_wrI K P nx sl r) :=
  mm_start (ls := [some (.ref th)]) h (by decide) (Nat.le_of_ble_eq_true rfl) rfl (Nat.le_refl _) (Nat.le_refl _) rfl fun E hl9 _ _ _ C => by
  have C : mm_Cx E RX9 cX9_kind 1 (some .int) 0 0 := C
  unfold fX9_kind
  refine r_iconst (v := 2) C dX9_kind_0 rfl ?_
  exact r_iret C dX9_kind_1 rfl
/-! X9 pulled -/
def fX9_pulled (th : Nat) (x1 : Int32) : Option Int32 :=
  some (x1 * (2 : Int32))
set_option maxHeartbeats 4000000 in
theorem mc_X9_pulled {l : Launch} {K : mm_K} {P : mm_P} {th : Nat} {x1 : Int32} {nx sl : Nat} {r : Int32} (hk : K.1 th = 9) (h : fX9_pulled th x1 = some r) : mm_C l yX9_pulled (ws_ yX9_pulled cX9_pulled 2 (some .int)) 0 0 [.ref th, .int x1] K P nx sl (mm_wrI K P nx sl r) :=
  mm_start (ls := [some (.ref th), some (.int x1)]) h (by decide) (Nat.le_of_ble_eq_true rfl) rfl (Nat.le_refl _) (Nat.le_refl _) rfl fun E hl9 _ _ _ C => by
  have C : mm_Cx E RX9 cX9_pulled 2 (some .int) 0 0 := C
  unfold fX9_pulled
  refine r_iload_n C dX9_pulled_0 rfl rfl ?_
  refine r_iconst (v := 2) C dX9_pulled_1 rfl ?_
  refine r_imul C dX9_pulled_2 ?_
  exact r_iret C dX9_pulled_3 rfl
/-! X10 kind -/
def fX10_kind (th : Nat)  : Option Int32 :=
  some ((3 : Int32))
set_option maxHeartbeats 4000000 in
theorem mc_X10_kind {l : Launch} {K : mm_K} {P : mm_P} {th : Nat}  {nx sl : Nat} {r : Int32} (hk : K.1 th = 10) (h : fX10_kind th = some r) : mm_C l yX10_kind (ws_ yX10_kind cX10_kind 1 (some .int)) 0 0 [.ref th] K P nx sl (mm_wrI K P nx sl r) :=
  mm_start (ls := [some (.ref th)]) h (by decide) (Nat.le_of_ble_eq_true rfl) rfl (Nat.le_refl _) (Nat.le_refl _) rfl fun E hl9 _ _ _ C => by
  have C : mm_Cx E RX10 cX10_kind 1 (some .int) 0 0 := C
  unfold fX10_kind
  refine r_iconst (v := 3) C dX10_kind_0 rfl ?_
  exact r_iret C dX10_kind_1 rfl
theorem fl_X10_7 : mm_FL RX10 7 10 2 mm_i .int false := ⟨RX10, TX10, 4, _, tyX10, rfl, in_X10, rfl, rfl, Nat.le_of_ble_eq_true rfl, Or.inr (Or.inr ⟨_, q866, q867⟩), tyX10_ok, nmX10, rfl, rfl⟩
/-! X10 mass -/
def fX10_mass (th : Nat) (P : mm_P) (x1 : Int32) : Option Int32 :=
  some ((gI P 898 th) + (x1 * (2 : Int32)))
set_option maxHeartbeats 4000000 in
theorem mc_X10_mass {l : Launch} {K : mm_K} {P : mm_P} {th : Nat} {x1 : Int32} {nx sl : Nat} {r : Int32} (hk : K.1 th = 10) (h : fX10_mass th P x1 = some r) : mm_C l yX10_mass (ws_ yX10_mass cX10_mass 2 (some .int)) 0 0 [.ref th, .int x1] K P nx sl (mm_wrI K P nx sl r) :=
  mm_start (ls := [some (.ref th), some (.int x1)]) h (by decide) (Nat.le_of_ble_eq_true rfl) rfl (Nat.le_refl _) (Nat.le_refl _) rfl fun E hl9 _ _ _ C => by
  have C : mm_Cx E RX10 cX10_mass 2 (some .int) 0 0 := C
  unfold fX10_mass
  refine r_aload_n C dX10_mass_0 rfl rfl ?_
  refine r_getI (code := 898) C fl_X10_7 hk rfl dX10_mass_1 ?_
  refine r_iload_n C dX10_mass_4 rfl rfl ?_
  refine r_iconst (v := 2) C dX10_mass_5 rfl ?_
  refine r_imul C dX10_mass_6 ?_
  refine r_iadd C dX10_mass_7 ?_
  exact r_iret C dX10_mass_8 rfl
def dC_kind (l : Launch) (fr lc : Nat) (K : mm_K) (P : mm_P) (nx sl : Nat) (a : Nat) (r : Int32) : Prop :=
  (K.1 a = 7 ∧ ∃ g c, g + 1 ≤ fr ∧ 8 + (1 + 11) + c ≤ lc ∧ mm_C l yX7_kind (ws_ yX7_kind cX7_kind 1 (some .int)) g c [.ref a] K P nx sl (mm_wrI K P nx sl r)) ∨
  (K.1 a = 8 ∧ ∃ g c, g + 1 ≤ fr ∧ 8 + (1 + 11) + c ≤ lc ∧ mm_C l yX8_kind (ws_ yX8_kind cX8_kind 1 (some .int)) g c [.ref a] K P nx sl (mm_wrI K P nx sl r)) ∨
  (K.1 a = 9 ∧ ∃ g c, g + 1 ≤ fr ∧ 8 + (1 + 11) + c ≤ lc ∧ mm_C l yX9_kind (ws_ yX9_kind cX9_kind 1 (some .int)) g c [.ref a] K P nx sl (mm_wrI K P nx sl r)) ∨
  (K.1 a = 10 ∧ ∃ g c, g + 1 ≤ fr ∧ 8 + (1 + 11) + c ≤ lc ∧ mm_C l yX10_kind (ws_ yX10_kind cX10_kind 1 (some .int)) g c [.ref a] K P nx sl (mm_wrI K P nx sl r))
def fV_kind (K : mm_K) (a : Nat) : Option Int32 :=
    if K.1 a = 7 then fX7_kind a else
    if K.1 a = 8 then fX8_kind a else
    if K.1 a = 9 then fX9_kind a else
    if K.1 a = 10 then fX10_kind a else
    none
theorem dv_kind {l : Launch} {K : mm_K} {P : mm_P} {nx sl : Nat} {a : Nat} {r : Int32} (h : fV_kind K a  = some r) : dC_kind l 1 20 K P  nx sl a  r := by
  unfold fV_kind at h
  by_cases h7 : K.1 a = 7
  · rw [if_pos h7] at h
    exact Or.inl ⟨h7, _, _, by omega, by omega, mc_X7_kind (by rw [h7]; decide) h⟩
  rw [if_neg h7] at h
  by_cases h8 : K.1 a = 8
  · rw [if_pos h8] at h
    exact Or.inr (Or.inl ⟨h8, _, _, by omega, by omega, mc_X8_kind h8 h⟩)
  rw [if_neg h8] at h
  by_cases h9 : K.1 a = 9
  · rw [if_pos h9] at h
    exact Or.inr (Or.inr (Or.inl ⟨h9, _, _, by omega, by omega, mc_X9_kind h9 h⟩))
  rw [if_neg h9] at h
  by_cases h10 : K.1 a = 10
  · rw [if_pos h10] at h
    exact Or.inr (Or.inr (Or.inr (⟨h10, _, _, by omega, by omega, mc_X10_kind h10 h⟩)))
  rw [if_neg h10] at h
  cases h
def dC_needs (l : Launch) (fr lc : Nat) (K : mm_K) (P : mm_P) (nx sl : Nat) (a : Nat) (r : Int32) : Prop :=
  (K.1 a = 7 ∧ ∃ g c, g + 1 ≤ fr ∧ 8 + (1 + 11) + c ≤ lc ∧ mm_C l yX7_needs (ws_ yX7_needs cX7_needs 1 (some .int)) g c [.ref a] K P nx sl (mm_wrI K P nx sl r)) ∨
  (K.1 a = 8 ∧ ∃ g c, g + 1 ≤ fr ∧ 8 + (1 + 11) + c ≤ lc ∧ mm_C l yX8_needs (ws_ yX8_needs cX8_needs 1 (some .int)) g c [.ref a] K P nx sl (mm_wrI K P nx sl r)) ∨
  (K.1 a = 9 ∧ ∃ g c, g + 1 ≤ fr ∧ 8 + (1 + 11) + c ≤ lc ∧ mm_C l yX7_needs (ws_ yX7_needs cX7_needs 1 (some .int)) g c [.ref a] K P nx sl (mm_wrI K P nx sl r)) ∨
  (K.1 a = 10 ∧ ∃ g c, g + 1 ≤ fr ∧ 8 + (1 + 11) + c ≤ lc ∧ mm_C l yX7_needs (ws_ yX7_needs cX7_needs 1 (some .int)) g c [.ref a] K P nx sl (mm_wrI K P nx sl r))
def fV_needs (K : mm_K) (a : Nat) : Option Int32 :=
    if K.1 a = 7 then fX7_needs a else
    if K.1 a = 8 then fX8_needs a else
    if K.1 a = 9 then fX7_needs a else
    if K.1 a = 10 then fX7_needs a else
    none
theorem dv_needs {l : Launch} {K : mm_K} {P : mm_P} {nx sl : Nat} {a : Nat} {r : Int32} (h : fV_needs K a  = some r) : dC_needs l 1 20 K P  nx sl a  r := by
  unfold fV_needs at h
  by_cases h7 : K.1 a = 7
  · rw [if_pos h7] at h
    exact Or.inl ⟨h7, _, _, by omega, by omega, mc_X7_needs (by rw [h7]; decide) h⟩
  rw [if_neg h7] at h
  by_cases h8 : K.1 a = 8
  · rw [if_pos h8] at h
    exact Or.inr (Or.inl ⟨h8, _, _, by omega, by omega, mc_X8_needs h8 h⟩)
  rw [if_neg h8] at h
  by_cases h9 : K.1 a = 9
  · rw [if_pos h9] at h
    exact Or.inr (Or.inr (Or.inl ⟨h9, _, _, by omega, by omega, mc_X7_needs (by rw [h9]; decide) h⟩))
  rw [if_neg h9] at h
  by_cases h10 : K.1 a = 10
  · rw [if_pos h10] at h
    exact Or.inr (Or.inr (Or.inr (⟨h10, _, _, by omega, by omega, mc_X7_needs (by rw [h10]; decide) h⟩)))
  rw [if_neg h10] at h
  cases h
def dC_mass (l : Launch) (fr lc : Nat) (K : mm_K) (P : mm_P) (nx sl : Nat) (a : Nat) (z0 : Int32) (r : Int32) : Prop :=
  (K.1 a = 7 ∧ ∃ g c, g + 1 ≤ fr ∧ 8 + (2 + 11) + c ≤ lc ∧ mm_C l yX7_mass (ws_ yX7_mass cX7_mass 2 (some .int)) g c [.ref a, .int z0] K P nx sl (mm_wrI K P nx sl r)) ∨
  (K.1 a = 8 ∧ ∃ g c, g + 1 ≤ fr ∧ 8 + (2 + 11) + c ≤ lc ∧ mm_C l yX7_mass (ws_ yX7_mass cX7_mass 2 (some .int)) g c [.ref a, .int z0] K P nx sl (mm_wrI K P nx sl r)) ∨
  (K.1 a = 9 ∧ ∃ g c, g + 1 ≤ fr ∧ 8 + (2 + 11) + c ≤ lc ∧ mm_C l yX7_mass (ws_ yX7_mass cX7_mass 2 (some .int)) g c [.ref a, .int z0] K P nx sl (mm_wrI K P nx sl r)) ∨
  (K.1 a = 10 ∧ ∃ g c, g + 1 ≤ fr ∧ 8 + (2 + 11) + c ≤ lc ∧ mm_C l yX10_mass (ws_ yX10_mass cX10_mass 2 (some .int)) g c [.ref a, .int z0] K P nx sl (mm_wrI K P nx sl r))
def fV_mass (K : mm_K) (P : mm_P) (a : Nat) (z0 : Int32) : Option Int32 :=
    if K.1 a = 7 then fX7_mass a P z0 else
    if K.1 a = 8 then fX7_mass a P z0 else
    if K.1 a = 9 then fX7_mass a P z0 else
    if K.1 a = 10 then fX10_mass a P z0 else
    none
theorem dv_mass {l : Launch} {K : mm_K} {P : mm_P} {nx sl : Nat} {a : Nat} {z0 : Int32} {r : Int32} (h : fV_mass K P a z0 = some r) : dC_mass l 1 21 K P  nx sl a z0 r := by
  unfold fV_mass at h
  by_cases h7 : K.1 a = 7
  · rw [if_pos h7] at h
    exact Or.inl ⟨h7, _, _, by omega, by omega, mc_X7_mass (by rw [h7]; decide) h⟩
  rw [if_neg h7] at h
  by_cases h8 : K.1 a = 8
  · rw [if_pos h8] at h
    exact Or.inr (Or.inl ⟨h8, _, _, by omega, by omega, mc_X7_mass (by rw [h8]; decide) h⟩)
  rw [if_neg h8] at h
  by_cases h9 : K.1 a = 9
  · rw [if_pos h9] at h
    exact Or.inr (Or.inr (Or.inl ⟨h9, _, _, by omega, by omega, mc_X7_mass (by rw [h9]; decide) h⟩))
  rw [if_neg h9] at h
  by_cases h10 : K.1 a = 10
  · rw [if_pos h10] at h
    exact Or.inr (Or.inr (Or.inr (⟨h10, _, _, by omega, by omega, mc_X10_mass h10 h⟩)))
  rw [if_neg h10] at h
  cases h
def dC_pulled (l : Launch) (fr lc : Nat) (K : mm_K) (P : mm_P) (nx sl : Nat) (a : Nat) (z0 : Int32) (r : Int32) : Prop :=
  (K.1 a = 7 ∧ ∃ g c, g + 1 ≤ fr ∧ 8 + (2 + 11) + c ≤ lc ∧ mm_C l yX7_pulled (ws_ yX7_pulled cX7_pulled 2 (some .int)) g c [.ref a, .int z0] K P nx sl (mm_wrI K P nx sl r)) ∨
  (K.1 a = 8 ∧ ∃ g c, g + 1 ≤ fr ∧ 8 + (2 + 11) + c ≤ lc ∧ mm_C l yX7_pulled (ws_ yX7_pulled cX7_pulled 2 (some .int)) g c [.ref a, .int z0] K P nx sl (mm_wrI K P nx sl r)) ∨
  (K.1 a = 9 ∧ ∃ g c, g + 1 ≤ fr ∧ 8 + (2 + 11) + c ≤ lc ∧ mm_C l yX9_pulled (ws_ yX9_pulled cX9_pulled 2 (some .int)) g c [.ref a, .int z0] K P nx sl (mm_wrI K P nx sl r)) ∨
  (K.1 a = 10 ∧ ∃ g c, g + 1 ≤ fr ∧ 8 + (2 + 11) + c ≤ lc ∧ mm_C l yX7_pulled (ws_ yX7_pulled cX7_pulled 2 (some .int)) g c [.ref a, .int z0] K P nx sl (mm_wrI K P nx sl r))
def fV_pulled (K : mm_K) (a : Nat) (z0 : Int32) : Option Int32 :=
    if K.1 a = 7 then fX7_pulled a z0 else
    if K.1 a = 8 then fX7_pulled a z0 else
    if K.1 a = 9 then fX9_pulled a z0 else
    if K.1 a = 10 then fX7_pulled a z0 else
    none
theorem dv_pulled {l : Launch} {K : mm_K} {P : mm_P} {nx sl : Nat} {a : Nat} {z0 : Int32} {r : Int32} (h : fV_pulled K a z0 = some r) : dC_pulled l 1 21 K P  nx sl a z0 r := by
  unfold fV_pulled at h
  by_cases h7 : K.1 a = 7
  · rw [if_pos h7] at h
    exact Or.inl ⟨h7, _, _, by omega, by omega, mc_X7_pulled (by rw [h7]; decide) h⟩
  rw [if_neg h7] at h
  by_cases h8 : K.1 a = 8
  · rw [if_pos h8] at h
    exact Or.inr (Or.inl ⟨h8, _, _, by omega, by omega, mc_X7_pulled (by rw [h8]; decide) h⟩)
  rw [if_neg h8] at h
  by_cases h9 : K.1 a = 9
  · rw [if_pos h9] at h
    exact Or.inr (Or.inr (Or.inl ⟨h9, _, _, by omega, by omega, mc_X9_pulled h9 h⟩))
  rw [if_neg h9] at h
  by_cases h10 : K.1 a = 10
  · rw [if_pos h10] at h
    exact Or.inr (Or.inr (Or.inr (⟨h10, _, _, by omega, by omega, mc_X7_pulled (by rw [h10]; decide) h⟩)))
  rw [if_neg h10] at h
  cases h
def dC_worked (l : Launch) (fr lc : Nat) (K : mm_K) (P : mm_P) (z0 : Nat) (nx sl : Nat) (a : Nat) (r : Int32) : Prop :=
  (K.1 a = 11 ∧ ∃ g c, g + 1 ≤ fr ∧ 8 + (2 + 11) + c ≤ lc ∧ mm_C l yX12_worked (ws_ yX12_worked cX12_worked 2 (some .int)) g c [.ref a, .ref (z0 + 20)] K P nx sl (mm_wrI K P nx sl r)) ∨
  (K.1 a = 12 ∧ ∃ g c, g + 1 ≤ fr ∧ 8 + (2 + 11) + c ≤ lc ∧ mm_C l yX13_worked (ws_ yX13_worked cX13_worked 2 (some .int)) g c [.ref a, .ref (z0 + 20)] K P nx sl (mm_wrI K P nx sl r)) ∨
  (K.1 a = 13 ∧ ∃ g c, g + 1 ≤ fr ∧ 8 + (2 + 11) + c ≤ lc ∧ mm_C l yX14_worked (ws_ yX14_worked cX14_worked 2 (some .int)) g c [.ref a, .ref (z0 + 20)] K P nx sl (mm_wrI K P nx sl r)) ∨
  (K.1 a = 14 ∧ ∃ g c, g + 1 ≤ fr ∧ 8 + (4 + 11) + c ≤ lc ∧ mm_C l yX15_worked (ws_ yX15_worked cX15_worked 4 (some .int)) g c [.ref a, .ref (z0 + 20)] K P nx sl (mm_wrI K P nx sl r))
theorem fl_X12_7 : mm_FL RX12 7 11 0 mm_i .int true := ⟨RX12, TX12, 1, _, tyX12, rfl, in_X12, rfl, rfl, Nat.le_of_ble_eq_true rfl, Or.inl q1038, tyX12_ok, nmX12, rfl, rfl⟩
/-! X12 worked -/
def fX12_worked (th : Nat) (P : mm_P) (x1 : Nat)  : Option Int32 :=
  some (gI P 1408 th)
set_option maxHeartbeats 4000000 in
theorem mc_X12_worked {l : Launch} {K : mm_K} {P : mm_P} {th : Nat} {x1 : Nat}  {nx sl : Nat} {r : Int32} (hk : K.1 th = 11) (hx1 : K.1 x1 = 1) (h : fX12_worked th P x1 = some r) : mm_C l yX12_worked (ws_ yX12_worked cX12_worked 2 (some .int)) 0 0 [.ref th, .ref (x1 + 20)] K P nx sl (mm_wrI K P nx sl r) :=
  mm_start (ls := [some (.ref th), some (.ref (x1 + 20))]) h (by decide) (Nat.le_of_ble_eq_true rfl) rfl (Nat.le_refl _) (Nat.le_refl _) rfl fun E hl9 _ _ _ C => by
  have C : mm_Cx E RX12 cX12_worked 2 (some .int) 0 0 := C
  unfold fX12_worked
  refine r_aload_n C dX12_worked_0 rfl rfl ?_
  refine r_getI (code := 1408) C fl_X12_7 hk rfl dX12_worked_1 ?_
  exact r_iret C dX12_worked_4 rfl
theorem rg_134 {K : mm_K} {a : Nat} (h : K.1 a = 1) : mm_reg K 134 a 20 0 3 := Or.inl ⟨1, 6, rfl, h, by decide, rfl⟩
theorem fl_X13_7 : mm_FL RX13 7 12 0 mm_i .int true := ⟨RX13, TX13, 1, _, tyX13, rfl, in_X13, rfl, rfl, Nat.le_of_ble_eq_true rfl, Or.inl q1048, tyX13_ok, nmX13, rfl, rfl⟩
/-! X13 worked -/
def fX13_worked (th : Nat) (P : mm_P) (x1 : Nat)  : Option Int32 :=
  mm_gd (mm_in (gI P 1536 th) 3) <|
  some (gA P 134 x1 (gI P 1536 th).toNatClampNeg)
set_option maxHeartbeats 4000000 in
theorem mc_X13_worked {l : Launch} {K : mm_K} {P : mm_P} {th : Nat} {x1 : Nat}  {nx sl : Nat} {r : Int32} (hk : K.1 th = 12) (hx1 : K.1 x1 = 1) (h : fX13_worked th P x1 = some r) : mm_C l yX13_worked (ws_ yX13_worked cX13_worked 2 (some .int)) 0 0 [.ref th, .ref (x1 + 20)] K P nx sl (mm_wrI K P nx sl r) :=
  mm_start (ls := [some (.ref th), some (.ref (x1 + 20))]) h (by decide) (Nat.le_of_ble_eq_true rfl) rfl (Nat.le_refl _) (Nat.le_refl _) rfl fun E hl9 _ _ _ C => by
  have C : mm_Cx E RX13 cX13_worked 2 (some .int) 0 0 := C
  unfold fX13_worked
  refine r_aload_n C dX13_worked_0 rfl rfl ?_
  refine r_aload_n C dX13_worked_1 rfl rfl ?_
  refine r_getI (code := 1536) C fl_X13_7 hk rfl dX13_worked_2 ?_
  refine r_iald C (rg_134 hx1) rfl dX13_worked_5 fun h1 => ?_
  exact r_iret C dX13_worked_6 rfl
theorem fl_X14_7 : mm_FL RX14 7 13 0 mm_r (tyX14 0) true := ⟨RX14, TX14, 1, _, tyX14, rfl, in_X14, rfl, rfl, Nat.le_of_ble_eq_true rfl, Or.inl q1058, tyX14_ok, nmX14, rfl, rfl⟩
theorem cv_X14_13_11 : mm_CU RX14 13 ⟨"PegLaws$Expression", "worked", "([I)I"⟩ yX12_worked cX12_worked 2 (some .int) 1 11 := ⟨RX12, "PegLaws$Expression", TX12, 1, _, ⟨by decide +kernel, by decide +kernel, by decide +kernel⟩, rfl, rfl, Or.inl ⟨lw_app (lw_in _ [1257, 1247, 1251, 1252, 162] (by decide +kernel) (by decide +kernel)) (lw_meth q1253), Or.inr (nw_in q1246 rfl)⟩⟩
theorem cv_X14_13_12 : mm_CU RX14 13 ⟨"PegLaws$Expression", "worked", "([I)I"⟩ yX13_worked cX13_worked 2 (some .int) 1 12 := ⟨RX13, "PegLaws$Expression", TX13, 1, _, ⟨by decide +kernel, by decide +kernel, by decide +kernel⟩, rfl, rfl, Or.inl ⟨lw_app (lw_in _ [1257, 1247, 1248, 1249, 163] (by decide +kernel) (by decide +kernel)) (lw_meth q1250), Or.inr (nw_in q1246 rfl)⟩⟩
theorem cv_X14_13_13 : mm_CU RX14 13 ⟨"PegLaws$Expression", "worked", "([I)I"⟩ yX14_worked cX14_worked 2 (some .int) 1 13 := ⟨RX14, "PegLaws$Expression", TX14, 1, _, ⟨by decide +kernel, by decide +kernel, by decide +kernel⟩, rfl, rfl, Or.inl ⟨lw_app (lw_in _ [1257, 1247, 1254, 1255, 164] (by decide +kernel) (by decide +kernel)) (lw_meth q1256), Or.inr (nw_in q1246 rfl)⟩⟩
theorem cv_X14_13_14 : mm_CU RX14 13 ⟨"PegLaws$Expression", "worked", "([I)I"⟩ yX15_worked cX15_worked 4 (some .int) 1 14 := ⟨RX15, "PegLaws$Expression", TX15, 3, _, ⟨by decide +kernel, by decide +kernel, by decide +kernel⟩, rfl, rfl, Or.inl ⟨lw_app (lw_in _ [1257, 1247, 1261, 1258, 165] (by decide +kernel) (by decide +kernel)) (lw_meth q1259), Or.inr (nw_in q1246 rfl)⟩⟩
theorem vd_X14_13 {α : Type} {E : mm_E} {cc : ByteArray} {nL : Nat} {ret : Option FieldType} {FR LC : Nat} {w : α → mm_O} {pc : Nat} {ls : List (Option Value)} {st st0 : List Value} {K : mm_K} {P : mm_P} {nx sl : Nat} {f : Option α} {fr lc : Nat} {z0 : Nat} {a : Nat} {r : Int32} (C : mm_Cx E RX14 cc nL ret FR LC) (h : dC_worked (eL E) fr lc K P z0 nx sl a  r) (hfr : fr ≤ FR) (hlc : lc ≤ LC) (hst : st0 = [.ref (z0 + 20)].reverse ++ .ref a :: st) (hw : (st.map fun v => v.category).sum ≤ 8) (dd : decode cc pc = .ok (.invokevirtual 13, 3)) (kk : mm_V E w (pc + 3) ls (.int r :: st) K P nx sl f) : mm_V E w pc ls st0 K P nx sl f := by
  rcases h with ⟨hk, g, c, h1, h2, hM⟩ | ⟨hk, g, c, h1, h2, hM⟩ | ⟨hk, g, c, h1, h2, hM⟩ | ⟨hk, g, c, h1, h2, hM⟩
  · exact r_callU (As := [.ref (z0 + 20)]) C hM cv_X14_13_11 hk rfl (by omega) (by omega) hst hw dd kk
  · exact r_callU (As := [.ref (z0 + 20)]) C hM cv_X14_13_12 hk rfl (by omega) (by omega) hst hw dd kk
  · exact r_callU (As := [.ref (z0 + 20)]) C hM cv_X14_13_13 hk rfl (by omega) (by omega) hst hw dd kk
  · exact r_callU (As := [.ref (z0 + 20)]) C hM cv_X14_13_14 hk rfl (by omega) (by omega) hst hw dd kk
/-! X14 worked -/
def fX14_worked (K : mm_K) (th : Nat) (P : mm_P) (x1 : Nat) (kS : (Nat → Option Int32))  : Option Int32 :=
  mm_bd (gR P 1664 th) fun b1 =>
  mm_bd (kS b1) fun r3 =>
  if r3 ≠ 0 then
  (some ((0 : Int32)))
  else
  (some ((1 : Int32)))
set_option maxHeartbeats 4000000 in
theorem mc_X14_worked {l : Launch} {FRS LCS : Nat} {K : mm_K} {P : mm_P} {th : Nat} {x1 : Nat}  {nx sl : Nat} {kS : (Nat → Option Int32)} {r : Int32} (hk : K.1 th = 13) (hx1 : K.1 x1 = 1) (hkS : ∀ (z : Nat) (r : Int32), kS z = some r → dC_worked l FRS LCS K P x1 nx sl z r) (h : fX14_worked K th P x1 kS = some r) : mm_C l yX14_worked (ws_ yX14_worked cX14_worked 2 (some .int)) (max (FRS + 0) 0) (max (LCS + 0) 0) [.ref th, .ref (x1 + 20)] K P nx sl (mm_wrI K P nx sl r) :=
  mm_start (ls := [some (.ref th), some (.ref (x1 + 20))]) h (by decide) (Nat.le_of_ble_eq_true rfl) rfl (Nat.le_refl _) (Nat.le_refl _) rfl fun E hl _ _ _ C => by
  have C : mm_Cx E RX14 cX14_worked 2 (some .int) (max (FRS + 0) 0) (max (LCS + 0) 0) := C
  generalize hFe : (max (FRS + 0) 0) = FR at C
  generalize hLe : (max (LCS + 0) 0) = LC at C
  have hFR : FRS + 0 ≤ FR := by omega
  have hFb : 0 ≤ FR := by omega
  have hLC : LCS + 0 ≤ LC := by omega
  have hLb : 0 ≤ LC := by omega
  clear hFe hLe h
  subst hl
  unfold fX14_worked
  refine r_aload_n C dX14_worked_0 rfl rfl ?_
  refine r_getRn (code := 1664) C fl_X14_7 hk rfl dX14_worked_1 fun b1 h2 => ?_
  refine r_aload_n C dX14_worked_4 rfl rfl ?_
  refine r_bd fun r3 h4 => ?_
  refine vd_X14_13 (st := []) C (hkS _ _ h4) (by omega) (by omega) rfl (Nat.le_of_ble_eq_true rfl) dX14_worked_5 ?_
  refine r_ifne (tgt := 15) C dX14_worked_8 (by decide) (fun h5 => ?_) (fun h5 => ?_)
  · refine r_iconst (v := 0) C dX14_worked_15 rfl ?_
    exact r_iret C dX14_worked_16 rfl
  · refine r_iconst (v := 1) C dX14_worked_11 rfl ?_
    refine r_goto (tgt := 16) C dX14_worked_12 (by decide) ?_
    exact r_iret C dX14_worked_16 rfl
theorem fl_X15_13 : mm_FL RX15 13 14 1 mm_r (tyX15 1) true := ⟨RX15, TX15, 3, _, tyX15, rfl, in_X15, rfl, rfl, Nat.le_of_ble_eq_true rfl, Or.inl q1073, tyX15_ok, nmX15, rfl, rfl⟩
theorem fl_X15_17 : mm_FL RX15 17 14 2 mm_r (tyX15 2) true := ⟨RX15, TX15, 3, _, tyX15, rfl, in_X15, rfl, rfl, Nat.le_of_ble_eq_true rfl, Or.inl q1074, tyX15_ok, nmX15, rfl, rfl⟩
theorem fl_X15_7 : mm_FL RX15 7 14 0 mm_i .char true := ⟨RX15, TX15, 3, _, tyX15, rfl, in_X15, rfl, rfl, Nat.le_of_ble_eq_true rfl, Or.inl q1072, tyX15_ok, nmX15, rfl, rfl⟩
theorem cv_X15_20_11 : mm_CU RX15 20 ⟨"PegLaws$Expression", "worked", "([I)I"⟩ yX12_worked cX12_worked 2 (some .int) 1 11 := ⟨RX12, "PegLaws$Expression", TX12, 1, _, ⟨by decide +kernel, by decide +kernel, by decide +kernel⟩, rfl, rfl, Or.inl ⟨lw_app (lw_in _ [1260, 1247, 1251, 1252, 162] (by decide +kernel) (by decide +kernel)) (lw_meth q1253), Or.inr (nw_in q1246 rfl)⟩⟩
theorem cv_X15_20_12 : mm_CU RX15 20 ⟨"PegLaws$Expression", "worked", "([I)I"⟩ yX13_worked cX13_worked 2 (some .int) 1 12 := ⟨RX13, "PegLaws$Expression", TX13, 1, _, ⟨by decide +kernel, by decide +kernel, by decide +kernel⟩, rfl, rfl, Or.inl ⟨lw_app (lw_in _ [1260, 1247, 1248, 1249, 163] (by decide +kernel) (by decide +kernel)) (lw_meth q1250), Or.inr (nw_in q1246 rfl)⟩⟩
theorem cv_X15_20_13 : mm_CU RX15 20 ⟨"PegLaws$Expression", "worked", "([I)I"⟩ yX14_worked cX14_worked 2 (some .int) 1 13 := ⟨RX14, "PegLaws$Expression", TX14, 1, _, ⟨by decide +kernel, by decide +kernel, by decide +kernel⟩, rfl, rfl, Or.inl ⟨lw_app (lw_in _ [1260, 1247, 1254, 1255, 164] (by decide +kernel) (by decide +kernel)) (lw_meth q1256), Or.inr (nw_in q1246 rfl)⟩⟩
theorem cv_X15_20_14 : mm_CU RX15 20 ⟨"PegLaws$Expression", "worked", "([I)I"⟩ yX15_worked cX15_worked 4 (some .int) 1 14 := ⟨RX15, "PegLaws$Expression", TX15, 3, _, ⟨by decide +kernel, by decide +kernel, by decide +kernel⟩, rfl, rfl, Or.inl ⟨lw_app (lw_in _ [1260, 1247, 1261, 1258, 165] (by decide +kernel) (by decide +kernel)) (lw_meth q1259), Or.inr (nw_in q1246 rfl)⟩⟩
theorem vd_X15_20 {α : Type} {E : mm_E} {cc : ByteArray} {nL : Nat} {ret : Option FieldType} {FR LC : Nat} {w : α → mm_O} {pc : Nat} {ls : List (Option Value)} {st st0 : List Value} {K : mm_K} {P : mm_P} {nx sl : Nat} {f : Option α} {fr lc : Nat} {z0 : Nat} {a : Nat} {r : Int32} (C : mm_Cx E RX15 cc nL ret FR LC) (h : dC_worked (eL E) fr lc K P z0 nx sl a  r) (hfr : fr ≤ FR) (hlc : lc ≤ LC) (hst : st0 = [.ref (z0 + 20)].reverse ++ .ref a :: st) (hw : (st.map fun v => v.category).sum ≤ 8) (dd : decode cc pc = .ok (.invokevirtual 20, 3)) (kk : mm_V E w (pc + 3) ls (.int r :: st) K P nx sl f) : mm_V E w pc ls st0 K P nx sl f := by
  rcases h with ⟨hk, g, c, h1, h2, hM⟩ | ⟨hk, g, c, h1, h2, hM⟩ | ⟨hk, g, c, h1, h2, hM⟩ | ⟨hk, g, c, h1, h2, hM⟩
  · exact r_callU (As := [.ref (z0 + 20)]) C hM cv_X15_20_11 hk rfl (by omega) (by omega) hst hw dd kk
  · exact r_callU (As := [.ref (z0 + 20)]) C hM cv_X15_20_12 hk rfl (by omega) (by omega) hst hw dd kk
  · exact r_callU (As := [.ref (z0 + 20)]) C hM cv_X15_20_13 hk rfl (by omega) (by omega) hst hw dd kk
  · exact r_callU (As := [.ref (z0 + 20)]) C hM cv_X15_20_14 hk rfl (by omega) (by omega) hst hw dd kk
/-! X15 worked -/
def fX15_worked (K : mm_K) (th : Nat) (P : mm_P) (x1 : Nat) (kS : (Nat → Option Int32))  : Option Int32 :=
  mm_bd (gR P 1793 th) fun b1 =>
  mm_bd (kS b1) fun r3 =>
  mm_bd (gR P 1794 th) fun b5 =>
  mm_bd (kS b5) fun r7 =>
  mm_lt (gI P 1792 th) fun v9 =>
  if v9 = (38 : Int32) then
  (if r3 = 0 then
  (some ((0 : Int32)))
  else
  (if r7 = 0 then
  (some ((0 : Int32)))
  else
  (some ((1 : Int32)))))
  else
  (if v9 = (42 : Int32) then
  (some (r3 * r7))
  else
  (if v9 = (43 : Int32) then
  (some (r3 + r7))
  else
  (if v9 = (45 : Int32) then
  (some (r3 - r7))
  else
  (if v9 = (60 : Int32) then
  (if r7 ≤ r3 then
  (some ((0 : Int32)))
  else
  (some ((1 : Int32))))
  else
  (if v9 = (61 : Int32) then
  (if r3 ≠ r7 then
  (some ((0 : Int32)))
  else
  (some ((1 : Int32))))
  else
  (if r3 ≠ 0 then
  (some ((1 : Int32)))
  else
  (if r7 = 0 then
  (some ((0 : Int32)))
  else
  (some ((1 : Int32))))))))))
set_option maxHeartbeats 4000000 in
theorem mc_X15_worked {l : Launch} {FRS LCS : Nat} {K : mm_K} {P : mm_P} {th : Nat} {x1 : Nat}  {nx sl : Nat} {kS : (Nat → Option Int32)} {r : Int32} (hk : K.1 th = 14) (hx1 : K.1 x1 = 1) (hkS : ∀ (z : Nat) (r : Int32), kS z = some r → dC_worked l FRS LCS K P x1 nx sl z r) (h : fX15_worked K th P x1 kS = some r) : mm_C l yX15_worked (ws_ yX15_worked cX15_worked 4 (some .int)) (max (FRS + 0) 0) (max (LCS + 0) 0) [.ref th, .ref (x1 + 20)] K P nx sl (mm_wrI K P nx sl r) :=
  mm_start (ls := [some (.ref th), some (.ref (x1 + 20)), none, none]) h (by decide) (Nat.le_of_ble_eq_true rfl) rfl (Nat.le_refl _) (Nat.le_refl _) rfl fun E hl _ _ _ C => by
  have C : mm_Cx E RX15 cX15_worked 4 (some .int) (max (FRS + 0) 0) (max (LCS + 0) 0) := C
  generalize hFe : (max (FRS + 0) 0) = FR at C
  generalize hLe : (max (LCS + 0) 0) = LC at C
  have hFR : FRS + 0 ≤ FR := by omega
  have hFb : 0 ≤ FR := by omega
  have hLC : LCS + 0 ≤ LC := by omega
  have hLb : 0 ≤ LC := by omega
  clear hFe hLe h
  subst hl
  unfold fX15_worked
  refine r_aload_n C dX15_worked_0 rfl rfl ?_
  refine r_getRn (code := 1793) C fl_X15_13 hk rfl dX15_worked_1 fun b1 h2 => ?_
  refine r_aload_n C dX15_worked_4 rfl rfl ?_
  refine r_bd fun r3 h4 => ?_
  refine vd_X15_20 (st := []) C (hkS _ _ h4) (by omega) (by omega) rfl (Nat.le_of_ble_eq_true rfl) dX15_worked_5 ?_
  refine r_istore_n (ls' := [some (.ref th), some (.ref (x1 + 20)), some (.int r3), none]) C dX15_worked_8 rfl (Nat.le_of_ble_eq_true rfl) rfl rfl ?_
  refine r_aload_n C dX15_worked_9 rfl rfl ?_
  refine r_getRn (code := 1794) C fl_X15_17 hk rfl dX15_worked_10 fun b5 h6 => ?_
  refine r_aload_n C dX15_worked_13 rfl rfl ?_
  refine r_bd fun r7 h8 => ?_
  refine vd_X15_20 (st := []) C (hkS _ _ h8) (by omega) (by omega) rfl (Nat.le_of_ble_eq_true rfl) dX15_worked_14 ?_
  refine r_istore_n (ls' := [some (.ref th), some (.ref (x1 + 20)), some (.int r3), some (.int r7)]) C dX15_worked_17 rfl (Nat.le_of_ble_eq_true rfl) rfl rfl ?_
  refine r_aload_n C dX15_worked_18 rfl rfl ?_
  refine r_getI (code := 1792) C fl_X15_7 hk rfl dX15_worked_19 ?_
  refine r_ltI fun v9 => ?_
  refine r_if (fun h10 => ?_) (fun h10 => ?_)
  · refine r_lookupC (tgt := 114) (off := 92) C dX15_worked_22 h10 (by decide) (by decide) (by decide) ?_
    refine r_iload_n C dX15_worked_114 rfl rfl ?_
    refine r_ifeq (tgt := 126) C dX15_worked_115 (by decide) (fun h11 => ?_) (fun h11 => ?_)
    · refine r_iconst (v := 0) C dX15_worked_126 rfl ?_
      exact r_iret C dX15_worked_127 rfl
    · refine r_iload_n C dX15_worked_118 rfl rfl ?_
      refine r_ifeq (tgt := 126) C dX15_worked_119 (by decide) (fun h12 => ?_) (fun h12 => ?_)
      · refine r_iconst (v := 0) C dX15_worked_126 rfl ?_
        exact r_iret C dX15_worked_127 rfl
      · refine r_iconst (v := 1) C dX15_worked_122 rfl ?_
        refine r_goto (tgt := 127) C dX15_worked_123 (by decide) ?_
        exact r_iret C dX15_worked_127 rfl
  refine r_if (fun h13 => ?_) (fun h13 => ?_)
  · refine r_lookupC (tgt := 88) (off := 66) C dX15_worked_22 h13 (by decide) (by decide) (by decide) ?_
    refine r_iload_n C dX15_worked_88 rfl rfl ?_
    refine r_iload_n C dX15_worked_89 rfl rfl ?_
    refine r_imul C dX15_worked_90 ?_
    exact r_iret C dX15_worked_91 rfl
  refine r_if (fun h14 => ?_) (fun h14 => ?_)
  · refine r_lookupC (tgt := 80) (off := 58) C dX15_worked_22 h14 (by decide) (by decide) (by decide) ?_
    refine r_iload_n C dX15_worked_80 rfl rfl ?_
    refine r_iload_n C dX15_worked_81 rfl rfl ?_
    refine r_iadd C dX15_worked_82 ?_
    exact r_iret C dX15_worked_83 rfl
  refine r_if (fun h15 => ?_) (fun h15 => ?_)
  · refine r_lookupC (tgt := 84) (off := 62) C dX15_worked_22 h15 (by decide) (by decide) (by decide) ?_
    refine r_iload_n C dX15_worked_84 rfl rfl ?_
    refine r_iload_n C dX15_worked_85 rfl rfl ?_
    refine r_isub C dX15_worked_86 ?_
    exact r_iret C dX15_worked_87 rfl
  refine r_if (fun h16 => ?_) (fun h16 => ?_)
  · refine r_lookupC (tgt := 92) (off := 70) C dX15_worked_22 h16 (by decide) (by decide) (by decide) ?_
    refine r_iload_n C dX15_worked_92 rfl rfl ?_
    refine r_iload_n C dX15_worked_93 rfl rfl ?_
    refine r_icmpge (tgt := 101) C dX15_worked_94 (by decide) (fun h17 => ?_) (fun h17 => ?_)
    · refine r_iconst (v := 0) C dX15_worked_101 rfl ?_
      exact r_iret C dX15_worked_102 rfl
    · refine r_iconst (v := 1) C dX15_worked_97 rfl ?_
      refine r_goto (tgt := 102) C dX15_worked_98 (by decide) ?_
      exact r_iret C dX15_worked_102 rfl
  refine r_if (fun h18 => ?_) (fun h18 => ?_)
  · refine r_lookupC (tgt := 103) (off := 81) C dX15_worked_22 h18 (by decide) (by decide) (by decide) ?_
    refine r_iload_n C dX15_worked_103 rfl rfl ?_
    refine r_iload_n C dX15_worked_104 rfl rfl ?_
    refine r_icmpne (tgt := 112) C dX15_worked_105 (by decide) (fun h19 => ?_) (fun h19 => ?_)
    · refine r_iconst (v := 0) C dX15_worked_112 rfl ?_
      exact r_iret C dX15_worked_113 rfl
    · refine r_iconst (v := 1) C dX15_worked_108 rfl ?_
      refine r_goto (tgt := 113) C dX15_worked_109 (by decide) ?_
      exact r_iret C dX15_worked_113 rfl
  refine r_lookupD (tgt := 128) C dX15_worked_22 (mm_fa h10 (mm_fa h13 (mm_fa h14 (mm_fa h15 (mm_fa h16 (mm_fa h18 (mm_fn))))))) (by decide +kernel) (by decide) (by decide) ?_
  refine r_iload_n C dX15_worked_128 rfl rfl ?_
  refine r_ifne (tgt := 136) C dX15_worked_129 (by decide) (fun h20 => ?_) (fun h20 => ?_)
  · refine r_iconst (v := 1) C dX15_worked_136 rfl ?_
    refine r_goto (tgt := 141) C dX15_worked_137 (by decide) ?_
    exact r_iret C dX15_worked_141 rfl
  · refine r_iload_n C dX15_worked_132 rfl rfl ?_
    refine r_ifeq (tgt := 140) C dX15_worked_133 (by decide) (fun h21 => ?_) (fun h21 => ?_)
    · refine r_iconst (v := 0) C dX15_worked_140 rfl ?_
      exact r_iret C dX15_worked_141 rfl
    · refine r_iconst (v := 1) C dX15_worked_136 rfl ?_
      refine r_goto (tgt := 141) C dX15_worked_137 (by decide) ?_
      exact r_iret C dX15_worked_141 rfl
def fV_worked (K : mm_K) (P : mm_P) (z0 : Nat) : Nat → Nat → Option Int32
  | 0, _ => none
  | d + 1, a =>
    if K.1 a = 11 then fX12_worked a P z0 else
    if K.1 a = 12 then fX13_worked a P z0 else
    if K.1 a = 13 then fX14_worked K a P z0 (fV_worked K P z0 d) else
    if K.1 a = 14 then fX15_worked K a P z0 (fV_worked K P z0 d) else
    none
theorem dv_worked {l : Launch} {K : mm_K} {P : mm_P} {z0 : Nat} {nx sl : Nat} (hx0 : K.1 z0 = 1) : ∀ (d : Nat) {a : Nat} {r : Int32} (_ : fV_worked K P z0 d a = some r), dC_worked l (1 * d + 1) (23 * d + 23) K P z0 nx sl a r := by
  intro d
  induction d with
  | zero => intro a r h; cases h
  | succ d ih =>
  intro a r h
  rw [fV_worked] at h
  by_cases h11 : K.1 a = 11
  · rw [if_pos h11] at h
    exact Or.inl ⟨h11, _, _, by omega, by omega, mc_X12_worked h11 hx0 h⟩
  rw [if_neg h11] at h
  by_cases h12 : K.1 a = 12
  · rw [if_pos h12] at h
    exact Or.inr (Or.inl ⟨h12, _, _, by omega, by omega, mc_X13_worked h12 hx0 h⟩)
  rw [if_neg h12] at h
  by_cases h13 : K.1 a = 13
  · rw [if_pos h13] at h
    exact Or.inr (Or.inr (Or.inl ⟨h13, _, _, by omega, by omega, mc_X14_worked h13 hx0 (fun z r hq => ih hq) h⟩))
  rw [if_neg h13] at h
  by_cases h14 : K.1 a = 14
  · rw [if_pos h14] at h
    exact Or.inr (Or.inr (Or.inr (⟨h14, _, _, by omega, by omega, mc_X15_worked h14 hx0 (fun z r hq => ih hq) h⟩)))
  rw [if_neg h14] at h
  cases h
theorem rg_386 {K : mm_K} {a : Nat} (h : K.1 a = 3) : mm_reg K 386 a 4 0 12 := Or.inl ⟨3, 2, rfl, h, by decide, rfl⟩
theorem fl_X3_24 : mm_FL RX3 24 3 2 (mm_a 4 0 12) (tyX3 2) true := ⟨RX3, TX3, 11, _, tyX3, rfl, in_X3, rfl, rfl, Nat.le_of_ble_eq_true rfl, Or.inl q255, tyX3_ok, nmX3, rfl, rfl⟩
theorem fl_X3_57 : mm_FL RX3 57 3 5 mm_i .int false := ⟨RX3, TX3, 11, _, tyX3, rfl, in_X3, rfl, rfl, Nat.le_of_ble_eq_true rfl, Or.inl q262, tyX3_ok, nmX3, rfl, rfl⟩
/-! X3 wind -/
def fX3_wind (th : Nat) (P : mm_P) (x1 : Int32) : Option Int32 :=
  if (gI P 389 th) ≠ 0 then
  (mm_gd (¬ (gI P 389 th) = 0) <|
  mm_gd (mm_in (mm_rem x1 (gI P 389 th)) 12) <|
  some (gA P 386 th (mm_rem x1 (gI P 389 th)).toNatClampNeg))
  else
  (some ((3 : Int32)))
set_option maxHeartbeats 4000000 in
theorem mc_X3_wind {l : Launch} {K : mm_K} {P : mm_P} {th : Nat} {x1 : Int32} {nx sl : Nat} {r : Int32} (hk : K.1 th = 3) (h : fX3_wind th P x1 = some r) : mm_C l yX3_wind (ws_ yX3_wind cX3_wind 2 (some .int)) 0 0 [.ref th, .int x1] K P nx sl (mm_wrI K P nx sl r) :=
  mm_start (ls := [some (.ref th), some (.int x1)]) h (by decide) (Nat.le_of_ble_eq_true rfl) rfl (Nat.le_refl _) (Nat.le_refl _) rfl fun E hl9 _ _ _ C => by
  have C : mm_Cx E RX3 cX3_wind 2 (some .int) 0 0 := C
  unfold fX3_wind
  refine r_aload_n C dX3_wind_0 rfl rfl ?_
  refine r_getI (code := 389) C fl_X3_57 hk rfl dX3_wind_1 ?_
  refine r_ifne (tgt := 11) C dX3_wind_4 (by decide) (fun h1 => ?_) (fun h1 => ?_)
  · refine r_aload_n C dX3_wind_11 rfl rfl ?_
    refine r_getA C fl_X3_24 hk dX3_wind_12 ?_
    refine r_iload_n C dX3_wind_15 rfl rfl ?_
    refine r_aload_n C dX3_wind_16 rfl rfl ?_
    refine r_getI (code := 389) C fl_X3_57 hk rfl dX3_wind_17 ?_
    refine r_gd fun h2 => ?_
    refine r_irem C dX3_wind_20 h2 ?_
    refine r_iald C (rg_386 hk) rfl dX3_wind_21 fun h3 => ?_
    exact r_iret C dX3_wind_22 rfl
  · refine r_iconst (v := 3) C dX3_wind_7 rfl ?_
    refine r_goto (tgt := 22) C dX3_wind_8 (by decide) ?_
    exact r_iret C dX3_wind_22 rfl
theorem fl_X3_30 : mm_FL RX3 30 3 7 mm_i .int false := ⟨RX3, TX3, 11, _, tyX3, rfl, in_X3, rfl, rfl, Nat.le_of_ble_eq_true rfl, Or.inl q267, tyX3_ok, nmX3, rfl, rfl⟩
/-! X3 yards -/
def fX3_yards (th : Nat) (P : mm_P)  : Option Int32 :=
  if 0 ≤ (gI P 391 th) then
  (some (gI P 391 th))
  else
  (some ((20 : Int32)))
set_option maxHeartbeats 4000000 in
theorem mc_X3_yards {l : Launch} {K : mm_K} {P : mm_P} {th : Nat}  {nx sl : Nat} {r : Int32} (hk : K.1 th = 3) (h : fX3_yards th P = some r) : mm_C l yX3_yards (ws_ yX3_yards cX3_yards 1 (some .int)) 0 0 [.ref th] K P nx sl (mm_wrI K P nx sl r) :=
  mm_start (ls := [some (.ref th)]) h (by decide) (Nat.le_of_ble_eq_true rfl) rfl (Nat.le_refl _) (Nat.le_refl _) rfl fun E hl9 _ _ _ C => by
  have C : mm_Cx E RX3 cX3_yards 1 (some .int) 0 0 := C
  unfold fX3_yards
  refine r_aload_n C dX3_yards_0 rfl rfl ?_
  refine r_getI (code := 391) C fl_X3_30 hk rfl dX3_yards_1 ?_
  refine r_ifge (tgt := 12) C dX3_yards_4 (by decide) (fun h1 => ?_) (fun h1 => ?_)
  · refine r_aload_n C dX3_yards_12 rfl rfl ?_
    refine r_getI (code := 391) C fl_X3_30 hk rfl dX3_yards_13 ?_
    exact r_iret C dX3_yards_16 rfl
  · refine r_bipush (v := 20) C dX3_yards_7 rfl ?_
    refine r_goto (tgt := 16) C dX3_yards_9 (by decide) ?_
    exact r_iret C dX3_yards_16 rfl
theorem fl_X3_34 : mm_FL RX3 34 3 8 mm_i .int false := ⟨RX3, TX3, 11, _, tyX3, rfl, in_X3, rfl, rfl, Nat.le_of_ble_eq_true rfl, Or.inl q269, tyX3_ok, nmX3, rfl, rfl⟩
/-! X3 gusts -/
def fX3_gusts (th : Nat) (P : mm_P)  : Option Int32 :=
  some (mm_max (0 : Int32) (gI P 392 th))
set_option maxHeartbeats 4000000 in
theorem mc_X3_gusts {l : Launch} {K : mm_K} {P : mm_P} {th : Nat}  {nx sl : Nat} {r : Int32} (hk : K.1 th = 3) (h : fX3_gusts th P = some r) : mm_C l yX3_gusts (ws_ yX3_gusts cX3_gusts 1 (some .int)) 1 21 [.ref th] K P nx sl (mm_wrI K P nx sl r) :=
  mm_start (ls := [some (.ref th)]) h (by decide) (Nat.le_of_ble_eq_true rfl) rfl (Nat.le_refl _) (Nat.le_refl _) rfl fun E hl9 _ _ _ C => by
  have C : mm_Cx E RX3 cX3_gusts 1 (some .int) 1 21 := C
  unfold fX3_gusts
  refine r_iconst (v := 0) C dX3_gusts_0 rfl ?_
  refine r_aload_n C dX3_gusts_1 rfl rfl ?_
  refine r_getI (code := 392) C fl_X3_34 hk rfl dX3_gusts_2 ?_
  refine r_mmax C q1467 q483 q143 q484 (Nat.le_of_ble_eq_true rfl) (Nat.le_of_ble_eq_true rfl) (Nat.le_of_ble_eq_true rfl) dX3_gusts_5 ?_
  exact r_iret C dX3_gusts_8 rfl
/-! X1 in -/
def fX1_in  (x0 : Int32) (x1 : Int32) (x2 : Int32) : Option Int32 :=
  if x0 < x1 then
  (some ((0 : Int32)))
  else
  (if x2 < x0 then
  (some ((0 : Int32)))
  else
  (some ((1 : Int32))))
set_option maxHeartbeats 4000000 in
theorem mc_X1_in {l : Launch} {K : mm_K} {P : mm_P} {x0 : Int32} {x1 : Int32} {x2 : Int32} {nx sl : Nat} {r : Int32} (h : fX1_in x0 x1 x2 = some r) : mm_C l yX1_in (ws_ yX1_in cX1_in 3 (some .boolean)) 0 0 [.int x0, .int x1, .int x2] K P nx sl (mm_wrI K P nx sl r) :=
  mm_start (ls := [some (.int x0), some (.int x1), some (.int x2)]) h (by decide) (Nat.le_of_ble_eq_true rfl) rfl (Nat.le_refl _) (Nat.le_refl _) rfl fun E hl9 _ _ _ C => by
  have C : mm_Cx E RX1 cX1_in 3 (some .boolean) 0 0 := C
  unfold fX1_in
  refine r_iload_n C dX1_in_0 rfl rfl ?_
  refine r_iload_n C dX1_in_1 rfl rfl ?_
  refine r_icmplt (tgt := 14) C dX1_in_2 (by decide) (fun h1 => ?_) (fun h1 => ?_)
  · refine r_iconst (v := 0) C dX1_in_14 rfl ?_
    exact r_zret C dX1_in_15 rfl rfl
  · refine r_iload_n C dX1_in_5 rfl rfl ?_
    refine r_iload_n C dX1_in_6 rfl rfl ?_
    refine r_icmpgt (tgt := 14) C dX1_in_7 (by decide) (fun h2 => ?_) (fun h2 => ?_)
    · refine r_iconst (v := 0) C dX1_in_14 rfl ?_
      exact r_zret C dX1_in_15 rfl rfl
    · refine r_iconst (v := 1) C dX1_in_10 rfl ?_
      refine r_goto (tgt := 15) C dX1_in_11 (by decide) ?_
      exact r_zret C dX1_in_15 rfl rfl
/-! X1 between -/
def fX1_between  (x0 : Int32) (x1 : Int32) (x2 : Int32) : Option Int32 :=
  some (mm_max x1 (mm_min x2 x0))
set_option maxHeartbeats 4000000 in
theorem mc_X1_between {l : Launch} {K : mm_K} {P : mm_P} {x0 : Int32} {x1 : Int32} {x2 : Int32} {nx sl : Nat} {r : Int32} (h : fX1_between x0 x1 x2 = some r) : mm_C l yX1_between (ws_ yX1_between cX1_between 3 (some .int)) 1 21 [.int x0, .int x1, .int x2] K P nx sl (mm_wrI K P nx sl r) :=
  mm_start (ls := [some (.int x0), some (.int x1), some (.int x2)]) h (by decide) (Nat.le_of_ble_eq_true rfl) rfl (Nat.le_refl _) (Nat.le_refl _) rfl fun E hl9 _ _ _ C => by
  have C : mm_Cx E RX1 cX1_between 3 (some .int) 1 21 := C
  unfold fX1_between
  refine r_iload_n C dX1_between_0 rfl rfl ?_
  refine r_iload_n C dX1_between_1 rfl rfl ?_
  refine r_iload_n C dX1_between_2 rfl rfl ?_
  refine r_mmin C q1243 q486 q143 q487 (Nat.le_of_ble_eq_true rfl) (Nat.le_of_ble_eq_true rfl) (Nat.le_of_ble_eq_true rfl) dX1_between_3 ?_
  refine r_mmax C q1244 q483 q143 q484 (Nat.le_of_ble_eq_true rfl) (Nat.le_of_ble_eq_true rfl) (Nat.le_of_ble_eq_true rfl) dX1_between_6 ?_
  exact r_iret C dX1_between_9 rfl
/-! X1 isIn -/
def fX1_isIn  (x0 : Int32) (x1 : Int32) : Option Int32 :=
  if ((mm_shr x0 x1) &&& (1 : Int32)) ≠ (1 : Int32) then
  (some ((0 : Int32)))
  else
  (some ((1 : Int32)))
set_option maxHeartbeats 4000000 in
theorem mc_X1_isIn {l : Launch} {K : mm_K} {P : mm_P} {x0 : Int32} {x1 : Int32} {nx sl : Nat} {r : Int32} (h : fX1_isIn x0 x1 = some r) : mm_C l yX1_isIn (ws_ yX1_isIn cX1_isIn 2 (some .boolean)) 0 0 [.int x0, .int x1] K P nx sl (mm_wrI K P nx sl r) :=
  mm_start (ls := [some (.int x0), some (.int x1)]) h (by decide) (Nat.le_of_ble_eq_true rfl) rfl (Nat.le_refl _) (Nat.le_refl _) rfl fun E hl9 _ _ _ C => by
  have C : mm_Cx E RX1 cX1_isIn 2 (some .boolean) 0 0 := C
  unfold fX1_isIn
  refine r_iload_n C dX1_isIn_0 rfl rfl ?_
  refine r_iload_n C dX1_isIn_1 rfl rfl ?_
  refine r_ishr C dX1_isIn_2 ?_
  refine r_iconst (v := 1) C dX1_isIn_3 rfl ?_
  refine r_iand C dX1_isIn_4 ?_
  refine r_iconst (v := 1) C dX1_isIn_5 rfl ?_
  refine r_icmpne (tgt := 13) C dX1_isIn_6 (by decide) (fun h1 => ?_) (fun h1 => ?_)
  · refine r_iconst (v := 0) C dX1_isIn_13 rfl ?_
    exact r_zret C dX1_isIn_14 rfl rfl
  · refine r_iconst (v := 1) C dX1_isIn_9 rfl ?_
    refine r_goto (tgt := 14) C dX1_isIn_10 (by decide) ?_
    exact r_zret C dX1_isIn_14 rfl rfl
/-! X1 copies -/
def fX1_copies_b2 (rg0 : Nat) (x0 : Nat) (n0 : Nat) (rg1 : Nat) (x1 : Nat) (n1 : Nat)  : Nat → Int32 → mm_P → Option mm_P
  | 0, _, _ => none
  | n + 1, x2, P =>
  if (Int32.ofNat n1) ≤ x2 then
  (some P)
  else
  (mm_gd (mm_in x2 n0) <|
  mm_gd (mm_in x2 n1) <|
  mm_lt (sA P rg1 x1 x2.toNatClampNeg (gA P rg0 x0 x2.toNatClampNeg)) fun P4 =>
  fX1_copies_b2 rg0 x0 n0 rg1 x1 n1 n (x2 + (1 : Int32)) P4)
set_option maxHeartbeats 4000000 in
theorem wfX1_copies_b2 {E : mm_E} (C : mm_Cx E RX1 cX1_copies 3 none 0 0) {K : mm_K} {rg0 : Nat} {x0 : Nat} {n0 : Nat} {rg1 : Nat} {x1 : Nat} {n1 : Nat} {o0 : Nat} {o1 : Nat} (hx0 : mm_reg K rg0 x0 o0 0 n0) (wx0 : mm_ro (K.1 x0) = false) (hx1 : mm_reg K rg1 x1 o1 0 n1) (wx1 : mm_ro (K.1 x1) = false) {nx sl : Nat} : ∀ (n : Nat), ∀ (x2 : Int32) (P : mm_P), mm_V E (mm_wwV K nx sl) 2 [some (.ref (x0 + o0)), some (.ref (x1 + o1)), some (.int x2)] [] K P nx sl (fX1_copies_b2 rg0 x0 n0 rg1 x1 n1 n x2 P) := by
  intro n
  induction n with
  | zero => intro x2 P; exact r_none
  | succ n ih =>
    intro x2 P
    rw [fX1_copies_b2]
    refine r_iload_n C dX1_copies_2 rfl rfl ?_
    refine r_aload_n C dX1_copies_3 rfl rfl ?_
    refine r_alen (v := Int32.ofNat n1) C hx1 rfl rfl dX1_copies_4 ?_
    refine r_icmpge (tgt := 20) C dX1_copies_5 (by decide) (fun h1 => ?_) (fun h1 => ?_)
    · exact r_vret C dX1_copies_20 rfl
    · refine r_aload_n C dX1_copies_8 rfl rfl ?_
      refine r_iload_n C dX1_copies_9 rfl rfl ?_
      refine r_aload_n C dX1_copies_10 rfl rfl ?_
      refine r_iload_n C dX1_copies_11 rfl rfl ?_
      refine r_iald C hx0 rfl dX1_copies_12 fun h2 => ?_
      refine r_iast C hx1 wx1 rfl dX1_copies_13 fun h3 => ?_
      refine r_ltP fun P4 => ?_
      refine r_iinc (v := 1) (ls' := [some (.ref (x0 + o0)), some (.ref (x1 + o1)), some (.int (x2 + (1 : Int32)))]) C dX1_copies_14 rfl rfl (Nat.le_of_ble_eq_true rfl) rfl rfl ?_
      refine r_goto (tgt := 2) C dX1_copies_17 (by decide) ?_
      exact ih (x2 + (1 : Int32)) P4
def fX1_copies (rg0 : Nat) (x0 : Nat) (n0 : Nat) (rg1 : Nat) (x1 : Nat) (n1 : Nat)  (P : mm_P) : Option mm_P :=
  fX1_copies_b2 rg0 x0 n0 rg1 x1 n1 mm_NF (0 : Int32) P
set_option maxHeartbeats 4000000 in
theorem mc_X1_copies {l : Launch} {K : mm_K} {P : mm_P} {rg0 : Nat} {x0 : Nat} {n0 : Nat} {rg1 : Nat} {x1 : Nat} {n1 : Nat} {o0 : Nat} {o1 : Nat}  {nx sl : Nat} {r : mm_P} (hx0 : mm_reg K rg0 x0 o0 0 n0) (wx0 : mm_ro (K.1 x0) = false) (hx1 : mm_reg K rg1 x1 o1 0 n1) (wx1 : mm_ro (K.1 x1) = false) (h : fX1_copies rg0 x0 n0 rg1 x1 n1 P = some r) : mm_C l yX1_copies (ws_ yX1_copies cX1_copies 3 none) 0 0 [.ref (x0 + o0), .ref (x1 + o1)] K P nx sl (mm_wwV K nx sl r) :=
  mm_start (ls := [some (.ref (x0 + o0)), some (.ref (x1 + o1)), none]) h (by decide) (Nat.le_of_ble_eq_true rfl) rfl (Nat.le_refl _) (Nat.le_refl _) rfl fun E hl9 _ _ _ C => by
  have C : mm_Cx E RX1 cX1_copies 3 none 0 0 := C
  unfold fX1_copies
  refine r_iconst (v := 0) C dX1_copies_0 rfl ?_
  refine r_istore_n (ls' := [some (.ref (x0 + o0)), some (.ref (x1 + o1)), some (.int (0 : Int32))]) C dX1_copies_1 rfl (Nat.le_of_ble_eq_true rfl) rfl rfl ?_
  exact wfX1_copies_b2 C hx0 wx0 hx1 wx1 mm_NF (0 : Int32) P
theorem rg_512 {K : mm_K} {a : Nat} (h : K.1 a = 4) : mm_reg K 512 a 1 0 8 := Or.inl ⟨4, 0, rfl, h, by decide, rfl⟩
theorem rg_513 {K : mm_K} {a : Nat} (h : K.1 a = 4) : mm_reg K 513 a 2 0 8 := Or.inl ⟨4, 1, rfl, h, by decide, rfl⟩
theorem rg_514 {K : mm_K} {a : Nat} (h : K.1 a = 4) : mm_reg K 514 a 3 0 6 := Or.inl ⟨4, 2, rfl, h, by decide, rfl⟩
theorem rg_515 {K : mm_K} {a : Nat} (h : K.1 a = 4) : mm_reg K 515 a 4 0 6 := Or.inl ⟨4, 3, rfl, h, by decide, rfl⟩
theorem fl_X4_15 : mm_FL RX4 15 4 1 (mm_a 2 0 8) (tyX4 1) true := ⟨RX4, TX4, 6, _, tyX4, rfl, in_X4, rfl, rfl, Nat.le_of_ble_eq_true rfl, Or.inl q310, tyX4_ok, nmX4, rfl, rfl⟩
theorem fl_X4_18 : mm_FL RX4 18 4 2 (mm_a 3 0 6) (tyX4 2) true := ⟨RX4, TX4, 6, _, tyX4, rfl, in_X4, rfl, rfl, Nat.le_of_ble_eq_true rfl, Or.inl q312, tyX4_ok, nmX4, rfl, rfl⟩
theorem fl_X4_21 : mm_FL RX4 21 4 3 (mm_a 4 0 6) (tyX4 3) true := ⟨RX4, TX4, 6, _, tyX4, rfl, in_X4, rfl, rfl, Nat.le_of_ble_eq_true rfl, Or.inl q315, tyX4_ok, nmX4, rfl, rfl⟩
theorem fl_X4_28 : mm_FL RX4 28 4 4 mm_i .int false := ⟨RX4, TX4, 6, _, tyX4, rfl, in_X4, rfl, rfl, Nat.le_of_ble_eq_true rfl, Or.inl q318, tyX4_ok, nmX4, rfl, rfl⟩
theorem fl_X4_32 : mm_FL RX4 32 4 5 mm_i .int false := ⟨RX4, TX4, 6, _, tyX4, rfl, in_X4, rfl, rfl, Nat.le_of_ble_eq_true rfl, Or.inl q321, tyX4_ok, nmX4, rfl, rfl⟩
theorem fl_X4_9 : mm_FL RX4 9 4 0 (mm_a 1 0 8) (tyX4 0) true := ⟨RX4, TX4, 6, _, tyX4, rfl, in_X4, rfl, rfl, Nat.le_of_ble_eq_true rfl, Or.inl q307, tyX4_ok, nmX4, rfl, rfl⟩
theorem cv_X4_24 : mm_CSN RX4 24 yX1_copies cX1_copies 3 none 2 := ⟨⟨⟨_, nw_in q1316 rfl⟩, q1318, q133, ⟨by decide +kernel, by decide +kernel, by decide +kernel⟩⟩, q1317⟩
/-! X4 be -/
def fX4_be (K : mm_K) (th : Nat) (x1 : Nat) (P : mm_P) : Option mm_P :=
  mm_gd (K.1 x1 = 4) <|
  mm_bd (fX1_copies 512 x1 8 512 th 8 P) fun r2 =>
  mm_bd (fX1_copies 513 x1 8 513 th 8 r2) fun r4 =>
  mm_bd (fX1_copies 514 x1 6 514 th 6 r4) fun r6 =>
  mm_bd (fX1_copies 515 x1 6 515 th 6 r6) fun r8 =>
  mm_lt (sI r8 516 th (gI r8 516 x1)) fun P10 =>
  mm_lt (sI P10 517 th (gI P10 517 x1)) fun P11 =>
  some P11
set_option maxHeartbeats 4000000 in
theorem mc_X4_be {l : Launch} {K : mm_K} {P : mm_P} {th : Nat} {x1 : Nat} {nx sl : Nat} {r : mm_P} (hk : K.1 th = 4) (h : fX4_be K th x1 P = some r) : mm_C l yX4_be (ws_ yX4_be cX4_be 2 none) 1 22 [.ref th, .ref x1] K P nx sl (mm_wwV K nx sl r) :=
  mm_start (ls := [some (.ref th), some (.ref x1)]) h (by decide) (Nat.le_of_ble_eq_true rfl) rfl (Nat.le_refl _) (Nat.le_refl _) rfl fun E hl9 _ _ _ C => by
  have C : mm_Cx E RX4 cX4_be 2 none 1 22 := C
  unfold fX4_be
  refine r_aload_n C dX4_be_0 rfl rfl ?_
  refine r_gd fun hK1 => ?_
  refine r_getA C fl_X4_9 hK1 dX4_be_1 ?_
  refine r_aload_n C dX4_be_4 rfl rfl ?_
  refine r_getA C fl_X4_9 hk dX4_be_5 ?_
  refine r_bd fun r2 h3 => ?_
  refine r_callSNv (As := [.ref (x1 + 1), .ref (th + 1)]) (st := []) C (mc_X1_copies (rg_512 hK1) (mm_ro_of (k := 4) hK1 rfl) (rg_512 hk) (mm_ro_of (k := 4) hk rfl) h3) cv_X4_24  rfl (Nat.le_of_ble_eq_true rfl) (Nat.le_of_ble_eq_true rfl) rfl (Nat.le_of_ble_eq_true rfl) dX4_be_8 ?_
  refine r_aload_n C dX4_be_11 rfl rfl ?_
  refine r_getA C fl_X4_15 hK1 dX4_be_12 ?_
  refine r_aload_n C dX4_be_15 rfl rfl ?_
  refine r_getA C fl_X4_15 hk dX4_be_16 ?_
  refine r_bd fun r4 h5 => ?_
  refine r_callSNv (As := [.ref (x1 + 2), .ref (th + 2)]) (st := []) C (mc_X1_copies (rg_513 hK1) (mm_ro_of (k := 4) hK1 rfl) (rg_513 hk) (mm_ro_of (k := 4) hk rfl) h5) cv_X4_24  rfl (Nat.le_of_ble_eq_true rfl) (Nat.le_of_ble_eq_true rfl) rfl (Nat.le_of_ble_eq_true rfl) dX4_be_19 ?_
  refine r_aload_n C dX4_be_22 rfl rfl ?_
  refine r_getA C fl_X4_18 hK1 dX4_be_23 ?_
  refine r_aload_n C dX4_be_26 rfl rfl ?_
  refine r_getA C fl_X4_18 hk dX4_be_27 ?_
  refine r_bd fun r6 h7 => ?_
  refine r_callSNv (As := [.ref (x1 + 3), .ref (th + 3)]) (st := []) C (mc_X1_copies (rg_514 hK1) (mm_ro_of (k := 4) hK1 rfl) (rg_514 hk) (mm_ro_of (k := 4) hk rfl) h7) cv_X4_24  rfl (Nat.le_of_ble_eq_true rfl) (Nat.le_of_ble_eq_true rfl) rfl (Nat.le_of_ble_eq_true rfl) dX4_be_30 ?_
  refine r_aload_n C dX4_be_33 rfl rfl ?_
  refine r_getA C fl_X4_21 hK1 dX4_be_34 ?_
  refine r_aload_n C dX4_be_37 rfl rfl ?_
  refine r_getA C fl_X4_21 hk dX4_be_38 ?_
  refine r_bd fun r8 h9 => ?_
  refine r_callSNv (As := [.ref (x1 + 4), .ref (th + 4)]) (st := []) C (mc_X1_copies (rg_515 hK1) (mm_ro_of (k := 4) hK1 rfl) (rg_515 hk) (mm_ro_of (k := 4) hk rfl) h9) cv_X4_24  rfl (Nat.le_of_ble_eq_true rfl) (Nat.le_of_ble_eq_true rfl) rfl (Nat.le_of_ble_eq_true rfl) dX4_be_41 ?_
  refine r_aload_n C dX4_be_44 rfl rfl ?_
  refine r_aload_n C dX4_be_45 rfl rfl ?_
  refine r_getI (code := 516) C fl_X4_28 hK1 rfl dX4_be_46 ?_
  refine r_putI (code := 516) C fl_X4_28 hk rfl rfl dX4_be_49 ?_
  refine r_ltP fun P10 => ?_
  refine r_aload_n C dX4_be_52 rfl rfl ?_
  refine r_aload_n C dX4_be_53 rfl rfl ?_
  refine r_getI (code := 517) C fl_X4_32 hK1 rfl dX4_be_54 ?_
  refine r_putI (code := 517) C fl_X4_32 hk rfl rfl dX4_be_57 ?_
  refine r_ltP fun P11 => ?_
  exact r_vret C dX4_be_60 rfl
theorem rg_385 {K : mm_K} {a : Nat} (h : K.1 a = 3) : mm_reg K 385 a 3 0 8 := Or.inl ⟨3, 1, rfl, h, by decide, rfl⟩
theorem fl_X4_35 : mm_FL RX4 35 3 4 mm_i .int false := ⟨RX3, TX3, 11, _, tyX3, rfl, in_X3, rfl, rfl, Nat.le_of_ble_eq_true rfl, Or.inr (Or.inl ⟨_, nw_in q260 rfl⟩), tyX3_ok, nmX3, rfl, rfl⟩
theorem fl_X4_38 : mm_FL RX4 38 3 1 (mm_a 3 0 8) (tyX3 1) true := ⟨RX3, TX3, 11, _, tyX3, rfl, in_X3, rfl, rfl, Nat.le_of_ble_eq_true rfl, Or.inr (Or.inl ⟨_, nw_in q253 rfl⟩), tyX3_ok, nmX3, rfl, rfl⟩
/-! X4 begin -/
def fX4_begin_b47 (K : mm_K) (th : Nat)  : Nat → Nat → Int32 → mm_P → Option mm_P
  | 0, _, _, _ => none
  | n + 1, x1, x2, P =>
  if (6 : Int32) ≤ x2 then
  (mm_lt (sI P 516 th (0 : Int32)) fun P2 =>
  mm_gd (K.1 x1 = 3) <|
  mm_lt (sI P2 517 th (gI P2 388 x1)) fun P4 =>
  some P4)
  else
  (mm_gd (mm_in x2 6) <|
  mm_lt (sA P 514 th x2.toNatClampNeg (0 : Int32)) fun P6 =>
  mm_gd (mm_in x2 6) <|
  mm_lt (sA P6 515 th x2.toNatClampNeg (0 : Int32)) fun P8 =>
  fX4_begin_b47 K th n x1 (x2 + (1 : Int32)) P8)
set_option maxHeartbeats 4000000 in
theorem wfX4_begin_b47 {E : mm_E} (C : mm_Cx E RX4 cX4_begin 3 none 0 0) {K : mm_K} {th : Nat} (hk : K.1 th = 4) {nx sl : Nat} : ∀ (n : Nat), ∀ (x1 : Nat) (x2 : Int32) (P : mm_P), mm_V E (mm_wwV K nx sl) 47 [some (.ref th), some (.ref x1), some (.int x2)] [] K P nx sl (fX4_begin_b47 K th n x1 x2 P) := by
  intro n
  induction n with
  | zero => intro x1 x2 P; exact r_none
  | succ n ih =>
    intro x1 x2 P
    rw [fX4_begin_b47]
    refine r_iload_n C dX4_begin_47 rfl rfl ?_
    refine r_bipush (v := 6) C dX4_begin_48 rfl ?_
    refine r_icmpge (tgt := 73) C dX4_begin_50 (by decide) (fun h1 => ?_) (fun h1 => ?_)
    · refine r_aload_n C dX4_begin_73 rfl rfl ?_
      refine r_iconst (v := 0) C dX4_begin_74 rfl ?_
      refine r_putI (code := 516) C fl_X4_28 hk rfl rfl dX4_begin_75 ?_
      refine r_ltP fun P2 => ?_
      refine r_aload_n C dX4_begin_78 rfl rfl ?_
      refine r_aload_n C dX4_begin_79 rfl rfl ?_
      refine r_gd fun hK3 => ?_
      refine r_getI (code := 388) C fl_X4_35 hK3 rfl dX4_begin_80 ?_
      refine r_putI (code := 517) C fl_X4_32 hk rfl rfl dX4_begin_83 ?_
      refine r_ltP fun P4 => ?_
      exact r_vret C dX4_begin_86 rfl
    · refine r_aload_n C dX4_begin_53 rfl rfl ?_
      refine r_getA C fl_X4_18 hk dX4_begin_54 ?_
      refine r_iload_n C dX4_begin_57 rfl rfl ?_
      refine r_iconst (v := 0) C dX4_begin_58 rfl ?_
      refine r_iast C (rg_514 hk) (mm_ro_of (k := 4) hk rfl) rfl dX4_begin_59 fun h5 => ?_
      refine r_ltP fun P6 => ?_
      refine r_aload_n C dX4_begin_60 rfl rfl ?_
      refine r_getA C fl_X4_21 hk dX4_begin_61 ?_
      refine r_iload_n C dX4_begin_64 rfl rfl ?_
      refine r_iconst (v := 0) C dX4_begin_65 rfl ?_
      refine r_iast C (rg_515 hk) (mm_ro_of (k := 4) hk rfl) rfl dX4_begin_66 fun h7 => ?_
      refine r_ltP fun P8 => ?_
      refine r_iinc (v := 1) (ls' := [some (.ref th), some (.ref x1), some (.int (x2 + (1 : Int32)))]) C dX4_begin_67 rfl rfl (Nat.le_of_ble_eq_true rfl) rfl rfl ?_
      refine r_goto (tgt := 47) C dX4_begin_70 (by decide) ?_
      exact ih x1 (x2 + (1 : Int32)) P8
def fX4_begin_b31 (K : mm_K) (th : Nat) (k2 : Nat → Int32 → mm_P → Option mm_P) (x1 : Nat) (x2 : Int32) (s1 : Int32) (s2 : Int32) (P : mm_P) : Option mm_P :=
  mm_gd (mm_in s1 8) <|
  mm_lt (sA P 512 th s1.toNatClampNeg s2) fun P2 =>
  mm_gd (mm_in x2 8) <|
  mm_lt (sA P2 513 th x2.toNatClampNeg (-1 : Int32)) fun P4 =>
  k2 x1 (x2 + (1 : Int32)) P4
set_option maxHeartbeats 4000000 in
theorem wfX4_begin_b31 {E : mm_E} (C : mm_Cx E RX4 cX4_begin 3 none 0 0) {K : mm_K} {th : Nat} (hk : K.1 th = 4) {nx sl : Nat} {k2 : Nat → Int32 → mm_P → Option mm_P} (hk2 : ∀ (x1 : Nat) (x2 : Int32) (P : mm_P), mm_V E (mm_wwV K nx sl) 2 [some (.ref th), some (.ref x1), some (.int x2)] [] K P nx sl (k2 x1 x2 P)) (x1 : Nat) (x2 : Int32) (s1 : Int32) (s2 : Int32) (P : mm_P) : mm_V E (mm_wwV K nx sl) 31 [some (.ref th), some (.ref x1), some (.int x2)] [.int s2, .int s1, .ref (th + 1)] K P nx sl (fX4_begin_b31 K th k2 x1 x2 s1 s2 P) := by
  unfold fX4_begin_b31
  refine r_iast C (rg_512 hk) (mm_ro_of (k := 4) hk rfl) rfl dX4_begin_31 fun h1 => ?_
  refine r_ltP fun P2 => ?_
  refine r_aload_n C dX4_begin_32 rfl rfl ?_
  refine r_getA C fl_X4_15 hk dX4_begin_33 ?_
  refine r_iload_n C dX4_begin_36 rfl rfl ?_
  refine r_iconst (v := -1) C dX4_begin_37 rfl ?_
  refine r_iast C (rg_513 hk) (mm_ro_of (k := 4) hk rfl) rfl dX4_begin_38 fun h3 => ?_
  refine r_ltP fun P4 => ?_
  refine r_iinc (v := 1) (ls' := [some (.ref th), some (.ref x1), some (.int (x2 + (1 : Int32)))]) C dX4_begin_39 rfl rfl (Nat.le_of_ble_eq_true rfl) rfl rfl ?_
  refine r_goto (tgt := 2) C dX4_begin_42 (by decide) ?_
  exact hk2 x1 (x2 + (1 : Int32)) P4
def fX4_begin_b2 (K : mm_K) (th : Nat)  : Nat → Nat → Int32 → mm_P → Option mm_P
  | 0, _, _, _ => none
  | n + 1, x1, x2, P =>
  if (8 : Int32) ≤ x2 then
  (fX4_begin_b47 K th mm_NF x1 (0 : Int32) P)
  else
  (mm_gd (K.1 x1 = 3) <|
  if (gI P 388 x1) ≤ x2 then
  (fX4_begin_b31 K th (fX4_begin_b2 K th n) x1 x2 x2 (0 : Int32) P)
  else
  (mm_gd (mm_in x2 8) <|
  fX4_begin_b31 K th (fX4_begin_b2 K th n) x1 x2 x2 (gA P 385 x1 x2.toNatClampNeg) P))
set_option maxHeartbeats 4000000 in
theorem wfX4_begin_b2 {E : mm_E} (C : mm_Cx E RX4 cX4_begin 3 none 0 0) {K : mm_K} {th : Nat} (hk : K.1 th = 4) {nx sl : Nat} : ∀ (n : Nat), ∀ (x1 : Nat) (x2 : Int32) (P : mm_P), mm_V E (mm_wwV K nx sl) 2 [some (.ref th), some (.ref x1), some (.int x2)] [] K P nx sl (fX4_begin_b2 K th n x1 x2 P) := by
  intro n
  induction n with
  | zero => intro x1 x2 P; exact r_none
  | succ n ih =>
    intro x1 x2 P
    rw [fX4_begin_b2]
    refine r_iload_n C dX4_begin_2 rfl rfl ?_
    refine r_bipush (v := 8) C dX4_begin_3 rfl ?_
    refine r_icmpge (tgt := 45) C dX4_begin_5 (by decide) (fun h1 => ?_) (fun h1 => ?_)
    · refine r_iconst (v := 0) C dX4_begin_45 rfl ?_
      refine r_istore_n (ls' := [some (.ref th), some (.ref x1), some (.int (0 : Int32))]) C dX4_begin_46 rfl (Nat.le_of_ble_eq_true rfl) rfl rfl ?_
      exact wfX4_begin_b47 C hk mm_NF x1 (0 : Int32) P
    · refine r_aload_n C dX4_begin_8 rfl rfl ?_
      refine r_getA C fl_X4_9 hk dX4_begin_9 ?_
      refine r_iload_n C dX4_begin_12 rfl rfl ?_
      refine r_iload_n C dX4_begin_13 rfl rfl ?_
      refine r_aload_n C dX4_begin_14 rfl rfl ?_
      refine r_gd fun hK2 => ?_
      refine r_getI (code := 388) C fl_X4_35 hK2 rfl dX4_begin_15 ?_
      refine r_icmpge (tgt := 30) C dX4_begin_18 (by decide) (fun h3 => ?_) (fun h3 => ?_)
      · refine r_iconst (v := 0) C dX4_begin_30 rfl ?_
        exact wfX4_begin_b31 C hk ih x1 x2 x2 (0 : Int32) P
      · refine r_aload_n C dX4_begin_21 rfl rfl ?_
        refine r_getA C fl_X4_38 hK2 dX4_begin_22 ?_
        refine r_iload_n C dX4_begin_25 rfl rfl ?_
        refine r_iald C (rg_385 hK2) rfl dX4_begin_26 fun h4 => ?_
        refine r_goto (tgt := 31) C dX4_begin_27 (by decide) ?_
        exact wfX4_begin_b31 C hk ih x1 x2 x2 (gA P 385 x1 x2.toNatClampNeg) P
def fX4_begin (K : mm_K) (th : Nat) (x1 : Nat) (P : mm_P) : Option mm_P :=
  fX4_begin_b2 K th mm_NF x1 (0 : Int32) P
set_option maxHeartbeats 4000000 in
theorem mc_X4_begin {l : Launch} {K : mm_K} {P : mm_P} {th : Nat} {x1 : Nat} {nx sl : Nat} {r : mm_P} (hk : K.1 th = 4) (h : fX4_begin K th x1 P = some r) : mm_C l yX4_begin (ws_ yX4_begin cX4_begin 3 none) 0 0 [.ref th, .ref x1] K P nx sl (mm_wwV K nx sl r) :=
  mm_start (ls := [some (.ref th), some (.ref x1), none]) h (by decide) (Nat.le_of_ble_eq_true rfl) rfl (Nat.le_refl _) (Nat.le_refl _) rfl fun E hl9 _ _ _ C => by
  have C : mm_Cx E RX4 cX4_begin 3 none 0 0 := C
  unfold fX4_begin
  refine r_iconst (v := 0) C dX4_begin_0 rfl ?_
  refine r_istore_n (ls' := [some (.ref th), some (.ref x1), some (.int (0 : Int32))]) C dX4_begin_1 rfl (Nat.le_of_ble_eq_true rfl) rfl rfl ?_
  exact wfX4_begin_b2 C hk mm_NF x1 (0 : Int32) P
/-! X4 by -/
def fX4_by_b4 (th : Nat) (P : mm_P)  : Nat → Int32 → Int32 → Int32 → Option Int32
  | 0, _, _, _ => none
  | n + 1, x1, x2, x3 =>
  if (8 : Int32) ≤ x3 then
  (some (x2))
  else
  (mm_gd (mm_in x3 8) <|
  if (gA P 513 th x3.toNatClampNeg) ≠ x1 then
  (fX4_by_b4 th P n x1 x2 (x3 + (1 : Int32)))
  else
  (mm_lt (x2 ||| (mm_shl (1 : Int32) x3)) fun v4 =>
  fX4_by_b4 th P n x1 v4 (x3 + (1 : Int32))))
set_option maxHeartbeats 4000000 in
theorem wfX4_by_b4 {E : mm_E} (C : mm_Cx E RX4 cX4_by 4 (some .int) 0 0) {K : mm_K} {th : Nat} (hk : K.1 th = 4) {P : mm_P} {nx sl : Nat} : ∀ (n : Nat), ∀ (x1 : Int32) (x2 : Int32) (x3 : Int32), mm_V E (mm_wrI K P nx sl) 4 [some (.ref th), some (.int x1), some (.int x2), some (.int x3)] [] K P nx sl (fX4_by_b4 th P n x1 x2 x3) := by
  intro n
  induction n with
  | zero => intro x1 x2 x3; exact r_none
  | succ n ih =>
    intro x1 x2 x3
    rw [fX4_by_b4]
    refine r_iload_n C dX4_by_4 rfl rfl ?_
    refine r_bipush (v := 8) C dX4_by_5 rfl ?_
    refine r_icmpge (tgt := 32) C dX4_by_7 (by decide) (fun h1 => ?_) (fun h1 => ?_)
    · refine r_iload_n C dX4_by_32 rfl rfl ?_
      exact r_iret C dX4_by_33 rfl
    · refine r_aload_n C dX4_by_10 rfl rfl ?_
      refine r_getA C fl_X4_15 hk dX4_by_11 ?_
      refine r_iload_n C dX4_by_14 rfl rfl ?_
      refine r_iald C (rg_513 hk) rfl dX4_by_15 fun h2 => ?_
      refine r_iload_n C dX4_by_16 rfl rfl ?_
      refine r_icmpne (tgt := 26) C dX4_by_17 (by decide) (fun h3 => ?_) (fun h3 => ?_)
      · refine r_iinc (v := 1) (ls' := [some (.ref th), some (.int x1), some (.int x2), some (.int (x3 + (1 : Int32)))]) C dX4_by_26 rfl rfl (Nat.le_of_ble_eq_true rfl) rfl rfl ?_
        refine r_goto (tgt := 4) C dX4_by_29 (by decide) ?_
        exact ih x1 x2 (x3 + (1 : Int32))
      · refine r_iload_n C dX4_by_20 rfl rfl ?_
        refine r_iconst (v := 1) C dX4_by_21 rfl ?_
        refine r_iload_n C dX4_by_22 rfl rfl ?_
        refine r_ishl C dX4_by_23 ?_
        refine r_ior C dX4_by_24 ?_
        refine r_ltI fun v4 => ?_
        refine r_istore_n (ls' := [some (.ref th), some (.int x1), some (.int v4), some (.int x3)]) C dX4_by_25 rfl (Nat.le_of_ble_eq_true rfl) rfl rfl ?_
        refine r_iinc (v := 1) (ls' := [some (.ref th), some (.int x1), some (.int v4), some (.int (x3 + (1 : Int32)))]) C dX4_by_26 rfl rfl (Nat.le_of_ble_eq_true rfl) rfl rfl ?_
        refine r_goto (tgt := 4) C dX4_by_29 (by decide) ?_
        exact ih x1 v4 (x3 + (1 : Int32))
def fX4_by (th : Nat) (P : mm_P) (x1 : Int32) : Option Int32 :=
  fX4_by_b4 th P mm_NF x1 (0 : Int32) (0 : Int32)
set_option maxHeartbeats 4000000 in
theorem mc_X4_by {l : Launch} {K : mm_K} {P : mm_P} {th : Nat} {x1 : Int32} {nx sl : Nat} {r : Int32} (hk : K.1 th = 4) (h : fX4_by th P x1 = some r) : mm_C l yX4_by (ws_ yX4_by cX4_by 4 (some .int)) 0 0 [.ref th, .int x1] K P nx sl (mm_wrI K P nx sl r) :=
  mm_start (ls := [some (.ref th), some (.int x1), none, none]) h (by decide) (Nat.le_of_ble_eq_true rfl) rfl (Nat.le_refl _) (Nat.le_refl _) rfl fun E hl9 _ _ _ C => by
  have C : mm_Cx E RX4 cX4_by 4 (some .int) 0 0 := C
  unfold fX4_by
  refine r_iconst (v := 0) C dX4_by_0 rfl ?_
  refine r_istore_n (ls' := [some (.ref th), some (.int x1), some (.int (0 : Int32)), none]) C dX4_by_1 rfl (Nat.le_of_ble_eq_true rfl) rfl rfl ?_
  refine r_iconst (v := 0) C dX4_by_2 rfl ?_
  refine r_istore_n (ls' := [some (.ref th), some (.int x1), some (.int (0 : Int32)), some (.int (0 : Int32))]) C dX4_by_3 rfl (Nat.le_of_ble_eq_true rfl) rfl rfl ?_
  exact wfX4_by_b4 C hk mm_NF x1 (0 : Int32) (0 : Int32)
theorem cv_X4_41 : mm_CSN RX4 41 yX1_isIn cX1_isIn 2 (some .boolean) 2 := ⟨⟨⟨_, nw_in q1323 rfl⟩, q1006, q133, ⟨by decide +kernel, by decide +kernel, by decide +kernel⟩⟩, q1005⟩
/-! X4 grips -/
def fX4_grips_b4 (th : Nat) (P : mm_P)  : Nat → Int32 → Int32 → Int32 → Option Int32
  | 0, _, _, _ => none
  | n + 1, x1, x2, x3 =>
  if (8 : Int32) ≤ x3 then
  (some (x2))
  else
  (mm_bd (fX1_isIn x1 x3) fun r2 =>
  if r2 = 0 then
  (fX4_grips_b4 th P n x1 x2 (x3 + (1 : Int32)))
  else
  (mm_gd (mm_in x3 8) <|
  mm_lt (x2 + (gA P 512 th x3.toNatClampNeg)) fun v6 =>
  fX4_grips_b4 th P n x1 v6 (x3 + (1 : Int32))))
set_option maxHeartbeats 4000000 in
theorem wfX4_grips_b4 {E : mm_E} (C : mm_Cx E RX4 cX4_grips 4 (some .int) 1 21) {K : mm_K} {th : Nat} (hk : K.1 th = 4) {P : mm_P} {nx sl : Nat} : ∀ (n : Nat), ∀ (x1 : Int32) (x2 : Int32) (x3 : Int32), mm_V E (mm_wrI K P nx sl) 4 [some (.ref th), some (.int x1), some (.int x2), some (.int x3)] [] K P nx sl (fX4_grips_b4 th P n x1 x2 x3) := by
  intro n
  induction n with
  | zero => intro x1 x2 x3; exact r_none
  | succ n ih =>
    intro x1 x2 x3
    rw [fX4_grips_b4]
    refine r_iload_n C dX4_grips_4 rfl rfl ?_
    refine r_bipush (v := 8) C dX4_grips_5 rfl ?_
    refine r_icmpge (tgt := 33) C dX4_grips_7 (by decide) (fun h1 => ?_) (fun h1 => ?_)
    · refine r_iload_n C dX4_grips_33 rfl rfl ?_
      exact r_iret C dX4_grips_34 rfl
    · refine r_iload_n C dX4_grips_10 rfl rfl ?_
      refine r_iload_n C dX4_grips_11 rfl rfl ?_
      refine r_bd fun r2 h3 => ?_
      refine r_callSN (As := [.int x1, .int x3]) (st := []) C (mc_X1_isIn h3) cv_X4_41  rfl (Nat.le_of_ble_eq_true rfl) (Nat.le_of_ble_eq_true rfl) rfl (Nat.le_of_ble_eq_true rfl) dX4_grips_12 ?_
      refine r_ifeq (tgt := 27) C dX4_grips_15 (by decide) (fun h4 => ?_) (fun h4 => ?_)
      · refine r_iinc (v := 1) (ls' := [some (.ref th), some (.int x1), some (.int x2), some (.int (x3 + (1 : Int32)))]) C dX4_grips_27 rfl rfl (Nat.le_of_ble_eq_true rfl) rfl rfl ?_
        refine r_goto (tgt := 4) C dX4_grips_30 (by decide) ?_
        exact ih x1 x2 (x3 + (1 : Int32))
      · refine r_iload_n C dX4_grips_18 rfl rfl ?_
        refine r_aload_n C dX4_grips_19 rfl rfl ?_
        refine r_getA C fl_X4_9 hk dX4_grips_20 ?_
        refine r_iload_n C dX4_grips_23 rfl rfl ?_
        refine r_iald C (rg_512 hk) rfl dX4_grips_24 fun h5 => ?_
        refine r_iadd C dX4_grips_25 ?_
        refine r_ltI fun v6 => ?_
        refine r_istore_n (ls' := [some (.ref th), some (.int x1), some (.int v6), some (.int x3)]) C dX4_grips_26 rfl (Nat.le_of_ble_eq_true rfl) rfl rfl ?_
        refine r_iinc (v := 1) (ls' := [some (.ref th), some (.int x1), some (.int v6), some (.int (x3 + (1 : Int32)))]) C dX4_grips_27 rfl rfl (Nat.le_of_ble_eq_true rfl) rfl rfl ?_
        refine r_goto (tgt := 4) C dX4_grips_30 (by decide) ?_
        exact ih x1 v6 (x3 + (1 : Int32))
def fX4_grips (th : Nat) (P : mm_P) (x1 : Int32) : Option Int32 :=
  fX4_grips_b4 th P mm_NF x1 (0 : Int32) (0 : Int32)
set_option maxHeartbeats 4000000 in
theorem mc_X4_grips {l : Launch} {K : mm_K} {P : mm_P} {th : Nat} {x1 : Int32} {nx sl : Nat} {r : Int32} (hk : K.1 th = 4) (h : fX4_grips th P x1 = some r) : mm_C l yX4_grips (ws_ yX4_grips cX4_grips 4 (some .int)) 1 21 [.ref th, .int x1] K P nx sl (mm_wrI K P nx sl r) :=
  mm_start (ls := [some (.ref th), some (.int x1), none, none]) h (by decide) (Nat.le_of_ble_eq_true rfl) rfl (Nat.le_refl _) (Nat.le_refl _) rfl fun E hl9 _ _ _ C => by
  have C : mm_Cx E RX4 cX4_grips 4 (some .int) 1 21 := C
  unfold fX4_grips
  refine r_iconst (v := 0) C dX4_grips_0 rfl ?_
  refine r_istore_n (ls' := [some (.ref th), some (.int x1), some (.int (0 : Int32)), none]) C dX4_grips_1 rfl (Nat.le_of_ble_eq_true rfl) rfl rfl ?_
  refine r_iconst (v := 0) C dX4_grips_2 rfl ?_
  refine r_istore_n (ls' := [some (.ref th), some (.int x1), some (.int (0 : Int32)), some (.int (0 : Int32))]) C dX4_grips_3 rfl (Nat.le_of_ble_eq_true rfl) rfl rfl ?_
  exact wfX4_grips_b4 C hk mm_NF x1 (0 : Int32) (0 : Int32)
/-! X4 free -/
def fX4_free_b4 (th : Nat) (P : mm_P)  : Nat → Int32 → Int32 → Option Int32
  | 0, _, _ => none
  | n + 1, x1, x2 =>
  if (gI P 517 th) ≤ x2 then
  (some (x1))
  else
  (mm_gd (mm_in x2 8) <|
  if 0 ≤ (gA P 513 th x2.toNatClampNeg) then
  (fX4_free_b4 th P n x1 (x2 + (1 : Int32)))
  else
  (mm_gd (mm_in x2 8) <|
  if (gA P 512 th x2.toNatClampNeg) ≤ 0 then
  (fX4_free_b4 th P n x1 (x2 + (1 : Int32)))
  else
  (mm_lt (x1 ||| (mm_shl (1 : Int32) x2)) fun v6 =>
  fX4_free_b4 th P n v6 (x2 + (1 : Int32)))))
set_option maxHeartbeats 4000000 in
theorem wfX4_free_b4 {E : mm_E} (C : mm_Cx E RX4 cX4_free 3 (some .int) 0 0) {K : mm_K} {th : Nat} (hk : K.1 th = 4) {P : mm_P} {nx sl : Nat} : ∀ (n : Nat), ∀ (x1 : Int32) (x2 : Int32), mm_V E (mm_wrI K P nx sl) 4 [some (.ref th), some (.int x1), some (.int x2)] [] K P nx sl (fX4_free_b4 th P n x1 x2) := by
  intro n
  induction n with
  | zero => intro x1 x2; exact r_none
  | succ n ih =>
    intro x1 x2
    rw [fX4_free_b4]
    refine r_iload_n C dX4_free_4 rfl rfl ?_
    refine r_aload_n C dX4_free_5 rfl rfl ?_
    refine r_getI (code := 517) C fl_X4_32 hk rfl dX4_free_6 ?_
    refine r_icmpge (tgt := 42) C dX4_free_9 (by decide) (fun h1 => ?_) (fun h1 => ?_)
    · refine r_iload_n C dX4_free_42 rfl rfl ?_
      exact r_iret C dX4_free_43 rfl
    · refine r_aload_n C dX4_free_12 rfl rfl ?_
      refine r_getA C fl_X4_15 hk dX4_free_13 ?_
      refine r_iload_n C dX4_free_16 rfl rfl ?_
      refine r_iald C (rg_513 hk) rfl dX4_free_17 fun h2 => ?_
      refine r_ifge (tgt := 36) C dX4_free_18 (by decide) (fun h3 => ?_) (fun h3 => ?_)
      · refine r_iinc (v := 1) (ls' := [some (.ref th), some (.int x1), some (.int (x2 + (1 : Int32)))]) C dX4_free_36 rfl rfl (Nat.le_of_ble_eq_true rfl) rfl rfl ?_
        refine r_goto (tgt := 4) C dX4_free_39 (by decide) ?_
        exact ih x1 (x2 + (1 : Int32))
      · refine r_aload_n C dX4_free_21 rfl rfl ?_
        refine r_getA C fl_X4_9 hk dX4_free_22 ?_
        refine r_iload_n C dX4_free_25 rfl rfl ?_
        refine r_iald C (rg_512 hk) rfl dX4_free_26 fun h4 => ?_
        refine r_ifle (tgt := 36) C dX4_free_27 (by decide) (fun h5 => ?_) (fun h5 => ?_)
        · refine r_iinc (v := 1) (ls' := [some (.ref th), some (.int x1), some (.int (x2 + (1 : Int32)))]) C dX4_free_36 rfl rfl (Nat.le_of_ble_eq_true rfl) rfl rfl ?_
          refine r_goto (tgt := 4) C dX4_free_39 (by decide) ?_
          exact ih x1 (x2 + (1 : Int32))
        · refine r_iload_n C dX4_free_30 rfl rfl ?_
          refine r_iconst (v := 1) C dX4_free_31 rfl ?_
          refine r_iload_n C dX4_free_32 rfl rfl ?_
          refine r_ishl C dX4_free_33 ?_
          refine r_ior C dX4_free_34 ?_
          refine r_ltI fun v6 => ?_
          refine r_istore_n (ls' := [some (.ref th), some (.int v6), some (.int x2)]) C dX4_free_35 rfl (Nat.le_of_ble_eq_true rfl) rfl rfl ?_
          refine r_iinc (v := 1) (ls' := [some (.ref th), some (.int v6), some (.int (x2 + (1 : Int32)))]) C dX4_free_36 rfl rfl (Nat.le_of_ble_eq_true rfl) rfl rfl ?_
          refine r_goto (tgt := 4) C dX4_free_39 (by decide) ?_
          exact ih v6 (x2 + (1 : Int32))
def fX4_free (th : Nat) (P : mm_P)  : Option Int32 :=
  fX4_free_b4 th P mm_NF (0 : Int32) (0 : Int32)
set_option maxHeartbeats 4000000 in
theorem mc_X4_free {l : Launch} {K : mm_K} {P : mm_P} {th : Nat}  {nx sl : Nat} {r : Int32} (hk : K.1 th = 4) (h : fX4_free th P = some r) : mm_C l yX4_free (ws_ yX4_free cX4_free 3 (some .int)) 0 0 [.ref th] K P nx sl (mm_wrI K P nx sl r) :=
  mm_start (ls := [some (.ref th), none, none]) h (by decide) (Nat.le_of_ble_eq_true rfl) rfl (Nat.le_refl _) (Nat.le_refl _) rfl fun E hl9 _ _ _ C => by
  have C : mm_Cx E RX4 cX4_free 3 (some .int) 0 0 := C
  unfold fX4_free
  refine r_iconst (v := 0) C dX4_free_0 rfl ?_
  refine r_istore_n (ls' := [some (.ref th), some (.int (0 : Int32)), none]) C dX4_free_1 rfl (Nat.le_of_ble_eq_true rfl) rfl rfl ?_
  refine r_iconst (v := 0) C dX4_free_2 rfl ?_
  refine r_istore_n (ls' := [some (.ref th), some (.int (0 : Int32)), some (.int (0 : Int32))]) C dX4_free_3 rfl (Nat.le_of_ble_eq_true rfl) rfl rfl ?_
  exact wfX4_free_b4 C hk mm_NF (0 : Int32) (0 : Int32)
/-! X4 hangs -/
def fX4_hangs_b2 (th : Nat)  : Nat → Int32 → Int32 → Int32 → mm_P → Option mm_P
  | 0, _, _, _, _ => none
  | n + 1, x1, x2, x3, P =>
  if (8 : Int32) ≤ x3 then
  (some P)
  else
  (mm_bd (fX1_isIn x2 x3) fun r2 =>
  if r2 = 0 then
  (fX4_hangs_b2 th n x1 x2 (x3 + (1 : Int32)) P)
  else
  (mm_gd (mm_in x3 8) <|
  mm_lt (sA P 513 th x3.toNatClampNeg x1) fun P6 =>
  fX4_hangs_b2 th n x1 x2 (x3 + (1 : Int32)) P6))
set_option maxHeartbeats 4000000 in
theorem wfX4_hangs_b2 {E : mm_E} (C : mm_Cx E RX4 cX4_hangs 4 none 1 21) {K : mm_K} {th : Nat} (hk : K.1 th = 4) {nx sl : Nat} : ∀ (n : Nat), ∀ (x1 : Int32) (x2 : Int32) (x3 : Int32) (P : mm_P), mm_V E (mm_wwV K nx sl) 2 [some (.ref th), some (.int x1), some (.int x2), some (.int x3)] [] K P nx sl (fX4_hangs_b2 th n x1 x2 x3 P) := by
  intro n
  induction n with
  | zero => intro x1 x2 x3 P; exact r_none
  | succ n ih =>
    intro x1 x2 x3 P
    rw [fX4_hangs_b2]
    refine r_iload_n C dX4_hangs_2 rfl rfl ?_
    refine r_bipush (v := 8) C dX4_hangs_3 rfl ?_
    refine r_icmpge (tgt := 29) C dX4_hangs_5 (by decide) (fun h1 => ?_) (fun h1 => ?_)
    · exact r_vret C dX4_hangs_29 rfl
    · refine r_iload_n C dX4_hangs_8 rfl rfl ?_
      refine r_iload_n C dX4_hangs_9 rfl rfl ?_
      refine r_bd fun r2 h3 => ?_
      refine r_callSN (As := [.int x2, .int x3]) (st := []) C (mc_X1_isIn h3) cv_X4_41  rfl (Nat.le_of_ble_eq_true rfl) (Nat.le_of_ble_eq_true rfl) rfl (Nat.le_of_ble_eq_true rfl) dX4_hangs_10 ?_
      refine r_ifeq (tgt := 23) C dX4_hangs_13 (by decide) (fun h4 => ?_) (fun h4 => ?_)
      · refine r_iinc (v := 1) (ls' := [some (.ref th), some (.int x1), some (.int x2), some (.int (x3 + (1 : Int32)))]) C dX4_hangs_23 rfl rfl (Nat.le_of_ble_eq_true rfl) rfl rfl ?_
        refine r_goto (tgt := 2) C dX4_hangs_26 (by decide) ?_
        exact ih x1 x2 (x3 + (1 : Int32)) P
      · refine r_aload_n C dX4_hangs_16 rfl rfl ?_
        refine r_getA C fl_X4_15 hk dX4_hangs_17 ?_
        refine r_iload_n C dX4_hangs_20 rfl rfl ?_
        refine r_iload_n C dX4_hangs_21 rfl rfl ?_
        refine r_iast C (rg_513 hk) (mm_ro_of (k := 4) hk rfl) rfl dX4_hangs_22 fun h5 => ?_
        refine r_ltP fun P6 => ?_
        refine r_iinc (v := 1) (ls' := [some (.ref th), some (.int x1), some (.int x2), some (.int (x3 + (1 : Int32)))]) C dX4_hangs_23 rfl rfl (Nat.le_of_ble_eq_true rfl) rfl rfl ?_
        refine r_goto (tgt := 2) C dX4_hangs_26 (by decide) ?_
        exact ih x1 x2 (x3 + (1 : Int32)) P6
def fX4_hangs (th : Nat) (x1 : Int32) (x2 : Int32) (P : mm_P) : Option mm_P :=
  fX4_hangs_b2 th mm_NF x1 x2 (0 : Int32) P
set_option maxHeartbeats 4000000 in
theorem mc_X4_hangs {l : Launch} {K : mm_K} {P : mm_P} {th : Nat} {x1 : Int32} {x2 : Int32} {nx sl : Nat} {r : mm_P} (hk : K.1 th = 4) (h : fX4_hangs th x1 x2 P = some r) : mm_C l yX4_hangs (ws_ yX4_hangs cX4_hangs 4 none) 1 21 [.ref th, .int x1, .int x2] K P nx sl (mm_wwV K nx sl r) :=
  mm_start (ls := [some (.ref th), some (.int x1), some (.int x2), none]) h (by decide) (Nat.le_of_ble_eq_true rfl) rfl (Nat.le_refl _) (Nat.le_refl _) rfl fun E hl9 _ _ _ C => by
  have C : mm_Cx E RX4 cX4_hangs 4 none 1 21 := C
  unfold fX4_hangs
  refine r_iconst (v := 0) C dX4_hangs_0 rfl ?_
  refine r_istore_n (ls' := [some (.ref th), some (.int x1), some (.int x2), some (.int (0 : Int32))]) C dX4_hangs_1 rfl (Nat.le_of_ble_eq_true rfl) rfl rfl ?_
  exact wfX4_hangs_b2 C hk mm_NF x1 x2 (0 : Int32) P
/-! X4 comesIn -/
def fX4_comesIn_b2 (th : Nat)  : Nat → Int32 → Int32 → mm_P → Option mm_P
  | 0, _, _, _ => none
  | n + 1, x1, x2, P =>
  if (8 : Int32) ≤ x2 then
  (some P)
  else
  (mm_gd (mm_in x2 8) <|
  if (gA P 513 th x2.toNatClampNeg) ≠ x1 then
  (fX4_comesIn_b2 th n x1 (x2 + (1 : Int32)) P)
  else
  (mm_gd (mm_in x2 8) <|
  mm_lt (sA P 513 th x2.toNatClampNeg (-1 : Int32)) fun P5 =>
  fX4_comesIn_b2 th n x1 (x2 + (1 : Int32)) P5))
set_option maxHeartbeats 4000000 in
theorem wfX4_comesIn_b2 {E : mm_E} (C : mm_Cx E RX4 cX4_comesIn 3 none 0 0) {K : mm_K} {th : Nat} (hk : K.1 th = 4) {nx sl : Nat} : ∀ (n : Nat), ∀ (x1 : Int32) (x2 : Int32) (P : mm_P), mm_V E (mm_wwV K nx sl) 2 [some (.ref th), some (.int x1), some (.int x2)] [] K P nx sl (fX4_comesIn_b2 th n x1 x2 P) := by
  intro n
  induction n with
  | zero => intro x1 x2 P; exact r_none
  | succ n ih =>
    intro x1 x2 P
    rw [fX4_comesIn_b2]
    refine r_iload_n C dX4_comesIn_2 rfl rfl ?_
    refine r_bipush (v := 8) C dX4_comesIn_3 rfl ?_
    refine r_icmpge (tgt := 31) C dX4_comesIn_5 (by decide) (fun h1 => ?_) (fun h1 => ?_)
    · exact r_vret C dX4_comesIn_31 rfl
    · refine r_aload_n C dX4_comesIn_8 rfl rfl ?_
      refine r_getA C fl_X4_15 hk dX4_comesIn_9 ?_
      refine r_iload_n C dX4_comesIn_12 rfl rfl ?_
      refine r_iald C (rg_513 hk) rfl dX4_comesIn_13 fun h2 => ?_
      refine r_iload_n C dX4_comesIn_14 rfl rfl ?_
      refine r_icmpne (tgt := 25) C dX4_comesIn_15 (by decide) (fun h3 => ?_) (fun h3 => ?_)
      · refine r_iinc (v := 1) (ls' := [some (.ref th), some (.int x1), some (.int (x2 + (1 : Int32)))]) C dX4_comesIn_25 rfl rfl (Nat.le_of_ble_eq_true rfl) rfl rfl ?_
        refine r_goto (tgt := 2) C dX4_comesIn_28 (by decide) ?_
        exact ih x1 (x2 + (1 : Int32)) P
      · refine r_aload_n C dX4_comesIn_18 rfl rfl ?_
        refine r_getA C fl_X4_15 hk dX4_comesIn_19 ?_
        refine r_iload_n C dX4_comesIn_22 rfl rfl ?_
        refine r_iconst (v := -1) C dX4_comesIn_23 rfl ?_
        refine r_iast C (rg_513 hk) (mm_ro_of (k := 4) hk rfl) rfl dX4_comesIn_24 fun h4 => ?_
        refine r_ltP fun P5 => ?_
        refine r_iinc (v := 1) (ls' := [some (.ref th), some (.int x1), some (.int (x2 + (1 : Int32)))]) C dX4_comesIn_25 rfl rfl (Nat.le_of_ble_eq_true rfl) rfl rfl ?_
        refine r_goto (tgt := 2) C dX4_comesIn_28 (by decide) ?_
        exact ih x1 (x2 + (1 : Int32)) P5
def fX4_comesIn (th : Nat) (x1 : Int32) (P : mm_P) : Option mm_P :=
  fX4_comesIn_b2 th mm_NF x1 (0 : Int32) P
set_option maxHeartbeats 4000000 in
theorem mc_X4_comesIn {l : Launch} {K : mm_K} {P : mm_P} {th : Nat} {x1 : Int32} {nx sl : Nat} {r : mm_P} (hk : K.1 th = 4) (h : fX4_comesIn th x1 P = some r) : mm_C l yX4_comesIn (ws_ yX4_comesIn cX4_comesIn 3 none) 0 0 [.ref th, .int x1] K P nx sl (mm_wwV K nx sl r) :=
  mm_start (ls := [some (.ref th), some (.int x1), none]) h (by decide) (Nat.le_of_ble_eq_true rfl) rfl (Nat.le_refl _) (Nat.le_refl _) rfl fun E hl9 _ _ _ C => by
  have C : mm_Cx E RX4 cX4_comesIn 3 none 0 0 := C
  unfold fX4_comesIn
  refine r_iconst (v := 0) C dX4_comesIn_0 rfl ?_
  refine r_istore_n (ls' := [some (.ref th), some (.int x1), some (.int (0 : Int32))]) C dX4_comesIn_1 rfl (Nat.le_of_ble_eq_true rfl) rfl rfl ?_
  exact wfX4_comesIn_b2 C hk mm_NF x1 (0 : Int32) P
/-! X4 wears -/
def fX4_wears_b2 (th : Nat)  : Nat → Int32 → Int32 → mm_P → Option mm_P
  | 0, _, _, _ => none
  | n + 1, x1, x2, P =>
  if (8 : Int32) ≤ x2 then
  (some P)
  else
  (mm_gd (mm_in x2 8) <|
  if (gA P 513 th x2.toNatClampNeg) = x1 then
  (mm_gd (mm_in x2 8) <|
  mm_gd (mm_in x2 8) <|
  mm_lt (sA P 512 th x2.toNatClampNeg (mm_max (0 : Int32) ((gA P 512 th x2.toNatClampNeg) - (1 : Int32)))) fun P6 =>
  mm_gd (mm_in x2 8) <|
  if (gA P6 512 th x2.toNatClampNeg) ≠ 0 then
  (fX4_wears_b2 th n x1 (x2 + (1 : Int32)) P6)
  else
  (mm_gd (mm_in x2 8) <|
  mm_lt (sA P6 513 th x2.toNatClampNeg (-1 : Int32)) fun P10 =>
  fX4_wears_b2 th n x1 (x2 + (1 : Int32)) P10))
  else
  (fX4_wears_b2 th n x1 (x2 + (1 : Int32)) P))
set_option maxHeartbeats 4000000 in
theorem wfX4_wears_b2 {E : mm_E} (C : mm_Cx E RX4 cX4_wears 3 none 1 21) {K : mm_K} {th : Nat} (hk : K.1 th = 4) {nx sl : Nat} : ∀ (n : Nat), ∀ (x1 : Int32) (x2 : Int32) (P : mm_P), mm_V E (mm_wwV K nx sl) 2 [some (.ref th), some (.int x1), some (.int x2)] [] K P nx sl (fX4_wears_b2 th n x1 x2 P) := by
  intro n
  induction n with
  | zero => intro x1 x2 P; exact r_none
  | succ n ih =>
    intro x1 x2 P
    rw [fX4_wears_b2]
    refine r_iload_n C dX4_wears_2 rfl rfl ?_
    refine r_bipush (v := 8) C dX4_wears_3 rfl ?_
    refine r_icmpge (tgt := 61) C dX4_wears_5 (by decide) (fun h1 => ?_) (fun h1 => ?_)
    · exact r_vret C dX4_wears_61 rfl
    · refine r_aload_n C dX4_wears_8 rfl rfl ?_
      refine r_getA C fl_X4_15 hk dX4_wears_9 ?_
      refine r_iload_n C dX4_wears_12 rfl rfl ?_
      refine r_iald C (rg_513 hk) rfl dX4_wears_13 fun h2 => ?_
      refine r_iload_n C dX4_wears_14 rfl rfl ?_
      refine r_icmpeq (tgt := 21) C dX4_wears_15 (by decide) (fun h3 => ?_) (fun h3 => ?_)
      · refine r_aload_n C dX4_wears_21 rfl rfl ?_
        refine r_getA C fl_X4_9 hk dX4_wears_22 ?_
        refine r_iload_n C dX4_wears_25 rfl rfl ?_
        refine r_iconst (v := 0) C dX4_wears_26 rfl ?_
        refine r_aload_n C dX4_wears_27 rfl rfl ?_
        refine r_getA C fl_X4_9 hk dX4_wears_28 ?_
        refine r_iload_n C dX4_wears_31 rfl rfl ?_
        refine r_iald C (rg_512 hk) rfl dX4_wears_32 fun h4 => ?_
        refine r_iconst (v := 1) C dX4_wears_33 rfl ?_
        refine r_isub C dX4_wears_34 ?_
        refine r_mmax C q1360 q483 q143 q484 (Nat.le_of_ble_eq_true rfl) (Nat.le_of_ble_eq_true rfl) (Nat.le_of_ble_eq_true rfl) dX4_wears_35 ?_
        refine r_iast C (rg_512 hk) (mm_ro_of (k := 4) hk rfl) rfl dX4_wears_38 fun h5 => ?_
        refine r_ltP fun P6 => ?_
        refine r_aload_n C dX4_wears_39 rfl rfl ?_
        refine r_getA C fl_X4_9 hk dX4_wears_40 ?_
        refine r_iload_n C dX4_wears_43 rfl rfl ?_
        refine r_iald C (rg_512 hk) rfl dX4_wears_44 fun h7 => ?_
        refine r_ifne (tgt := 55) C dX4_wears_45 (by decide) (fun h8 => ?_) (fun h8 => ?_)
        · refine r_iinc (v := 1) (ls' := [some (.ref th), some (.int x1), some (.int (x2 + (1 : Int32)))]) C dX4_wears_55 rfl rfl (Nat.le_of_ble_eq_true rfl) rfl rfl ?_
          refine r_goto (tgt := 2) C dX4_wears_58 (by decide) ?_
          exact ih x1 (x2 + (1 : Int32)) P6
        · refine r_aload_n C dX4_wears_48 rfl rfl ?_
          refine r_getA C fl_X4_15 hk dX4_wears_49 ?_
          refine r_iload_n C dX4_wears_52 rfl rfl ?_
          refine r_iconst (v := -1) C dX4_wears_53 rfl ?_
          refine r_iast C (rg_513 hk) (mm_ro_of (k := 4) hk rfl) rfl dX4_wears_54 fun h9 => ?_
          refine r_ltP fun P10 => ?_
          refine r_iinc (v := 1) (ls' := [some (.ref th), some (.int x1), some (.int (x2 + (1 : Int32)))]) C dX4_wears_55 rfl rfl (Nat.le_of_ble_eq_true rfl) rfl rfl ?_
          refine r_goto (tgt := 2) C dX4_wears_58 (by decide) ?_
          exact ih x1 (x2 + (1 : Int32)) P10
      · refine r_goto (tgt := 55) C dX4_wears_18 (by decide) ?_
        refine r_iinc (v := 1) (ls' := [some (.ref th), some (.int x1), some (.int (x2 + (1 : Int32)))]) C dX4_wears_55 rfl rfl (Nat.le_of_ble_eq_true rfl) rfl rfl ?_
        refine r_goto (tgt := 2) C dX4_wears_58 (by decide) ?_
        exact ih x1 (x2 + (1 : Int32)) P
def fX4_wears (th : Nat) (x1 : Int32) (P : mm_P) : Option mm_P :=
  fX4_wears_b2 th mm_NF x1 (0 : Int32) P
set_option maxHeartbeats 4000000 in
theorem mc_X4_wears {l : Launch} {K : mm_K} {P : mm_P} {th : Nat} {x1 : Int32} {nx sl : Nat} {r : mm_P} (hk : K.1 th = 4) (h : fX4_wears th x1 P = some r) : mm_C l yX4_wears (ws_ yX4_wears cX4_wears 3 none) 1 21 [.ref th, .int x1] K P nx sl (mm_wwV K nx sl r) :=
  mm_start (ls := [some (.ref th), some (.int x1), none]) h (by decide) (Nat.le_of_ble_eq_true rfl) rfl (Nat.le_refl _) (Nat.le_refl _) rfl fun E hl9 _ _ _ C => by
  have C : mm_Cx E RX4 cX4_wears 3 none 1 21 := C
  unfold fX4_wears
  refine r_iconst (v := 0) C dX4_wears_0 rfl ?_
  refine r_istore_n (ls' := [some (.ref th), some (.int x1), some (.int (0 : Int32))]) C dX4_wears_1 rfl (Nat.le_of_ble_eq_true rfl) rfl rfl ?_
  exact wfX4_wears_b2 C hk mm_NF x1 (0 : Int32) P
theorem cv_X4_51 : mm_CV RX4 51 yX4_comesIn cX4_comesIn 3 none 1 4 := ⟨RX4, TX4, 6, _, lw_V q1365 q1329 q1330 q139 q1331, ⟨rfl, by decide +kernel, by decide +kernel, by decide +kernel⟩, rfl, rfl⟩
/-! X4 falls -/
def fX4_falls (th : Nat) (x1 : Int32) (P : mm_P) : Option mm_P :=
  mm_bd (fX4_comesIn th x1 P) fun r1 =>
  mm_gd (mm_in x1 6) <|
  mm_lt (sA r1 514 th x1.toNatClampNeg (9 : Int32)) fun P4 =>
  mm_gd (mm_in x1 6) <|
  mm_gd (mm_in x1 6) <|
  mm_lt (sA P4 515 th x1.toNatClampNeg (mm_min (9 : Int32) ((gA P4 515 th x1.toNatClampNeg) + (1 : Int32)))) fun P7 =>
  some P7
set_option maxHeartbeats 4000000 in
theorem mc_X4_falls {l : Launch} {K : mm_K} {P : mm_P} {th : Nat} {x1 : Int32} {nx sl : Nat} {r : mm_P} (hk : K.1 th = 4) (h : fX4_falls th x1 P = some r) : mm_C l yX4_falls (ws_ yX4_falls cX4_falls 2 none) 1 22 [.ref th, .int x1] K P nx sl (mm_wwV K nx sl r) :=
  mm_start (ls := [some (.ref th), some (.int x1)]) h (by decide) (Nat.le_of_ble_eq_true rfl) rfl (Nat.le_refl _) (Nat.le_refl _) rfl fun E hl9 _ _ _ C => by
  have C : mm_Cx E RX4 cX4_falls 2 none 1 22 := C
  unfold fX4_falls
  refine r_aload_n C dX4_falls_0 rfl rfl ?_
  refine r_iload_n C dX4_falls_1 rfl rfl ?_
  refine r_bd fun r1 h2 => ?_
  refine r_callVv (As := [.int x1]) (st := []) C (mc_X4_comesIn hk h2) cv_X4_51 hk rfl (Nat.le_of_ble_eq_true rfl) (Nat.le_of_ble_eq_true rfl) rfl (Nat.le_of_ble_eq_true rfl) dX4_falls_2 ?_
  refine r_aload_n C dX4_falls_5 rfl rfl ?_
  refine r_getA C fl_X4_18 hk dX4_falls_6 ?_
  refine r_iload_n C dX4_falls_9 rfl rfl ?_
  refine r_bipush (v := 9) C dX4_falls_10 rfl ?_
  refine r_iast C (rg_514 hk) (mm_ro_of (k := 4) hk rfl) rfl dX4_falls_12 fun h3 => ?_
  refine r_ltP fun P4 => ?_
  refine r_aload_n C dX4_falls_13 rfl rfl ?_
  refine r_getA C fl_X4_21 hk dX4_falls_14 ?_
  refine r_iload_n C dX4_falls_17 rfl rfl ?_
  refine r_bipush (v := 9) C dX4_falls_18 rfl ?_
  refine r_aload_n C dX4_falls_20 rfl rfl ?_
  refine r_getA C fl_X4_21 hk dX4_falls_21 ?_
  refine r_iload_n C dX4_falls_24 rfl rfl ?_
  refine r_iald C (rg_515 hk) rfl dX4_falls_25 fun h5 => ?_
  refine r_iconst (v := 1) C dX4_falls_26 rfl ?_
  refine r_iadd C dX4_falls_27 ?_
  refine r_mmin C q1366 q486 q143 q487 (Nat.le_of_ble_eq_true rfl) (Nat.le_of_ble_eq_true rfl) (Nat.le_of_ble_eq_true rfl) dX4_falls_28 ?_
  refine r_iast C (rg_515 hk) (mm_ro_of (k := 4) hk rfl) rfl dX4_falls_31 fun h6 => ?_
  refine r_ltP fun P7 => ?_
  exact r_vret C dX4_falls_32 rfl
