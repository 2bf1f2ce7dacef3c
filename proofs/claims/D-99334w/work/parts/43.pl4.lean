/-! printed by gen_pl.py: Strings, StringBuilders, lists that grow -/
set_option maxRecDepth 100000
/-! J14 newLength -/
def fJ14_newLength_b21   (x0 : Int32) (x1 : Int32) : Option Int32 :=
  none
set_option maxHeartbeats 4000000 in
theorem wfJ14_newLength_b21 {E : mm_E} (C : mm_Cx E RJ14 cJ14_newLength 4 (some .int) 1 21) {K : mm_K} {P : mm_P} {nx sl : Nat} (x0 : Int32) (x1 : Int32) : mm_V E (mm_wrI K P nx sl) 21 [some (.int x0), some (.int x1), none, none] [] K P nx sl (fJ14_newLength_b21 x0 x1) := by
  unfold fJ14_newLength_b21
  refine r_iload_n C dJ14_newLength_21 rfl rfl ?_
  refine r_iload_n C dJ14_newLength_22 rfl rfl ?_
  exact r_none
def fJ14_newLength  (x0 : Int32) (x1 : Int32) (x2 : Int32) : Option Int32 :=
  mm_lt (x0 + (mm_max x1 x2)) fun v1 =>
  if v1 ≤ (0 : Int32) then
  (fJ14_newLength_b21 x0 x1)
  else
  (if (2147483639 : Int32) < v1 then
  (fJ14_newLength_b21 x0 x1)
  else
  (some (v1)))
set_option maxHeartbeats 4000000 in
theorem mc_J14_newLength {l : Launch} {K : mm_K} {P : mm_P} {x0 : Int32} {x1 : Int32} {x2 : Int32} {nx sl : Nat} {r : Int32} (h : fJ14_newLength x0 x1 x2 = some r) : mm_C l yJ14_newLength (ws_ yJ14_newLength cJ14_newLength 4 (some .int)) 1 21 [.int x0, .int x1, .int x2] K P nx sl (mm_wrI K P nx sl r) :=
  mm_startF (ls := [some (.int x0), some (.int x1), some (.int x2), none]) h (by decide) (Nat.le_of_ble_eq_true rfl) rfl (Nat.le_refl _) (Nat.le_refl _) rfl fun E hl9 _ _ _ C => by
  have C : mm_Cx E RJ14 cJ14_newLength 4 (some .int) 1 21 := C
  unfold fJ14_newLength
  refine r_iload_n C dJ14_newLength_0 rfl rfl ?_
  refine r_iload_n C dJ14_newLength_1 rfl rfl ?_
  refine r_iload_n C dJ14_newLength_2 rfl rfl ?_
  refine r_mmax C q715 q483 q143 q484 (Nat.le_of_ble_eq_true rfl) (Nat.le_of_ble_eq_true rfl) (Nat.le_of_ble_eq_true rfl) dJ14_newLength_3 ?_
  refine r_iadd C dJ14_newLength_6 ?_
  refine r_ltI fun v1 => ?_
  refine r_istore_n (ls' := [some (.int x0), some (.int x1), some (.int x2), some (.int v1)]) C dJ14_newLength_7 rfl (Nat.le_of_ble_eq_true rfl) rfl rfl ?_
  refine r_iconst (v := 0) C dJ14_newLength_8 rfl ?_
  refine r_iload_n C dJ14_newLength_9 rfl rfl ?_
  refine r_icmpge (tgt := 21) C dJ14_newLength_10 (by decide) (fun h2 => ?_) (fun h2 => ?_)
  · refine r_mask [true, true, false, false] (ls' := [some (.int x0), some (.int x1), none, none]) rfl ?_
    exact wfJ14_newLength_b21 C x0 x1
  · refine r_iload_n C dJ14_newLength_13 rfl rfl ?_
    refine r_ldc (v := 2147483639) C dJ14_newLength_14 q716 ?_
    refine r_icmpgt (tgt := 21) C dJ14_newLength_16 (by decide) (fun h3 => ?_) (fun h3 => ?_)
    · refine r_mask [true, true, false, false] (ls' := [some (.int x0), some (.int x1), none, none]) rfl ?_
      exact wfJ14_newLength_b21 C x0 x1
    · refine r_iload_n C dJ14_newLength_19 rfl rfl ?_
      exact r_iret C dJ14_newLength_20 rfl
theorem cs_4_CL {k : Nat} (h : mm_isC k ∨ mm_isL k) : mm_CS2 4 k := by
  rcases h with h | h
  · rcases mm_isC_or h with rfl | rfl | rfl | rfl
    · exact ⟨RX7, TX7, 4, _, rfl, rfl, Or.inr (nw_in q2222 rfl)⟩
    · exact ⟨RX8, TX8, 4, _, rfl, rfl, Or.inr (nw_in q2223 rfl)⟩
    · exact ⟨RX9, TX9, 4, _, rfl, rfl, Or.inr (nw_in q2224 rfl)⟩
    · exact ⟨RX10, TX10, 4, _, rfl, rfl, Or.inr (nw_in q2225 rfl)⟩
  · rcases mm_isL_or h with rfl | rfl | rfl | rfl | rfl
    · exact ⟨RX17, mm_T0, 0, _, rfl, rfl, Or.inr (nw_in q2230 rfl)⟩
    · exact ⟨RX18, TX18, 1, _, rfl, rfl, Or.inr (nw_in q2231 rfl)⟩
    · exact ⟨RX19, TX19, 1, _, rfl, rfl, Or.inr (nw_in q2232 rfl)⟩
    · exact ⟨RX20, TX20, 1, _, rfl, rfl, Or.inr (nw_in q2233 rfl)⟩
    · exact ⟨RX21, TX21, 2, _, rfl, rfl, Or.inr (nw_in q2234 rfl)⟩
/-! J15 copyOf_3 -/
def fJ15_copyOf_3_b24   (x0 : Nat) (x1 : Int32) (s0 : Nat) (K : mm_K) (P : mm_P) (nx : Nat) (sl : Nat) : Option (Nat × mm_S) :=
  mm_gd (K.1 x0 = 68) <|
  mm_gd (K.1 s0 = 68) <|
  mm_gd (mm_cpc (K.2 x0) (K.2 s0) (0 : Int32) (0 : Int32) (mm_min (Int32.ofNat (K.2 x0)) x1)) <|
  mm_gd (mm_cpo K P 8196 x0 (0 : Int32).toNatClampNeg (mm_min (Int32.ofNat (K.2 x0)) x1).toNatClampNeg = true) <|
  mm_lt (mm_cpB P 8196 x0 8196 s0 (0 : Int32).toNatClampNeg (0 : Int32).toNatClampNeg (mm_min (Int32.ofNat (K.2 x0)) x1).toNatClampNeg) fun P5 =>
  some (s0, K, P5, nx, sl)
set_option maxHeartbeats 4000000 in
theorem wfJ15_copyOf_3_b24 {E : mm_E} (C : mm_Cx E RJ15 cJ15_copyOf_3 4 (some (.array (.object "java/lang/Object"))) 1 40) (x0 : Nat) (x1 : Int32) (s0 : Nat) (K : mm_K) (P : mm_P) (nx : Nat) (sl : Nat) : mm_V E (mm_waR) 24 [some (.ref x0), some (.int x1), none, none] [.ref s0] K P nx sl (fJ15_copyOf_3_b24 x0 x1 s0 K P nx sl) := by
  unfold fJ15_copyOf_3_b24
  refine r_astore_n (ls' := [some (.ref x0), some (.int x1), none, some (.ref s0)]) C dJ15_copyOf_3_24 rfl (Nat.le_of_ble_eq_true rfl) rfl rfl ?_
  refine r_aload_n C dJ15_copyOf_3_25 rfl rfl ?_
  refine r_iconst (v := 0) C dJ15_copyOf_3_26 rfl ?_
  refine r_aload_n C dJ15_copyOf_3_27 rfl rfl ?_
  refine r_iconst (v := 0) C dJ15_copyOf_3_28 rfl ?_
  refine r_aload_n C dJ15_copyOf_3_29 rfl rfl ?_
  refine r_gd fun hK1 => ?_
  refine r_alen (v := Int32.ofNat (K.2 x0)) C (rg_sa (ek := 4) hK1) rfl rfl dJ15_copyOf_3_30 ?_
  refine r_iload_n C dJ15_copyOf_3_31 rfl rfl ?_
  refine r_mmin C q731 q486 q143 q487 (Nat.le_of_ble_eq_true rfl) (Nat.le_of_ble_eq_true rfl) (Nat.le_of_ble_eq_true rfl) dJ15_copyOf_3_32 ?_
  refine r_gd fun hK2 => ?_
  refine r_copyO C (fun _ hz => cs_4_CL hz) q732 q734 q733 q155 (rg_sa (ek := 4) hK1)  (rg_sa (ek := 4) hK2) (mm_ro_of (k := 68) hK2 rfl) rfl rfl (Nat.le_of_ble_eq_true rfl) (Nat.le_of_ble_eq_true rfl) (Nat.le_of_ble_eq_true rfl) dJ15_copyOf_3_35 (fun h3 => ?_)
  refine r_ltP fun P5 => ?_
  refine r_aload_n C dJ15_copyOf_3_38 rfl rfl ?_
  exact r_aretR C (Or.inr ⟨_, rfl⟩) dJ15_copyOf_3_39 rfl
def fJ15_copyOf_3  (x0 : Nat) (x1 : Int32) (x2 : Option Nat) (K : mm_K) (P : mm_P) (nx : Nat) (sl : Nat) : Option (Nat × mm_S) :=
  mm_mo mm_waR nx sl <|
  if x2 ≠ gR P 5 0 then
  (none)
  else
  (mm_gd (¬ x1 < 0 ∧ x1.toNatClampNeg * 4 ≤ 536870912) <|
  mm_mo mm_waR (nx + 1) (sl + x1.toNatClampNeg) <|
  mm_lt (mm_kn K nx 68 x1.toNatClampNeg) fun K2 =>
  mm_lt (mm_fresh P nx) fun P3 =>
  fJ15_copyOf_3_b24 x0 x1 nx K2 P3 (nx + 1) (sl + x1.toNatClampNeg))
set_option maxHeartbeats 4000000 in
theorem mc_J15_copyOf_3 {l : Launch} {K : mm_K} {P : mm_P} {x0 : Nat} {x1 : Int32} {x2 : Option Nat} {nx sl : Nat} {r : (Nat × mm_S)} (h : fJ15_copyOf_3 x0 x1 x2 K P nx sl = some r) : mm_C l yJ15_copyOf_3 (ws_ yJ15_copyOf_3 cJ15_copyOf_3 4 (some (.array (.object "java/lang/Object")))) 1 40 [.ref x0, .int x1, va_rf x2] K P nx sl (mm_waR r) :=
  mm_startF (ls := [some (.ref x0), some (.int x1), some (va_rf x2), none]) h (by decide) (by cases x2 <;> exact (Nat.le_of_ble_eq_true rfl)) (by cases x2 <;> exact rfl) (mm_mo_some h).2.1 (mm_mo_some h).2.2 rfl fun E hl9 _ _ _ C => by
  have C : mm_Cx E RJ15 cJ15_copyOf_3 4 (some (.array (.object "java/lang/Object"))) 1 40 := C
  unfold fJ15_copyOf_3
  refine r_mo ?_
  refine r_aload_nO C dJ15_copyOf_3_0 rfl rfl ?_
  refine r_ldcM C q982 dJ15_copyOf_3_1 ?_
  refine r_acmpne (x := x2) (y := gR P 5 0) (tgt := 13) C rfl rfl dJ15_copyOf_3_3 (by decide) (fun h1 => ?_) (fun h1 => ?_)
  · refine r_aload_nO C dJ15_copyOf_3_13 rfl rfl ?_
    exact r_none
  · refine r_iload_n C dJ15_copyOf_3_6 rfl rfl ?_
    refine r_gd fun h5 => ?_
    refine mm_anewa (ek := 4) C (by decide) q983 h5.1 (N := x1.toNatClampNeg) rfl h5.2 dJ15_copyOf_3_7 ?_
    refine r_ltK fun K2 e4 => ?_
    refine r_ltP fun P3 => ?_
    refine r_goto (tgt := 24) C dJ15_copyOf_3_10 (by decide) ?_
    refine r_mask [true, true, false, true] (ls' := [some (.ref x0), some (.int x1), none, none]) rfl ?_
    exact wfJ15_copyOf_3_b24 C x0 x1 nx K2 P3 (nx + 1) (sl + x1.toNatClampNeg)
theorem cv_J15_300 : mm_CS RJ15 300 yJ15_copyOf_3 cJ15_copyOf_3 4 (some (.array (.object "java/lang/Object"))) 3 := ⟨lw_S q979 q980 q154 q981, by decide +kernel, by decide +kernel, by decide +kernel⟩
/-! J15 copyOf_2 -/
def fJ15_copyOf_2  (x0 : Nat) (x1 : Int32) (K : mm_K) (P : mm_P) (nx : Nat) (sl : Nat) : Option (Nat × mm_S) :=
  mm_mo mm_waR nx sl <|
  mm_gd (K.1 x0 = 68) <|
  mm_bd (fJ15_copyOf_3 x0 x1 (gR P 5 0) K P nx sl) fun r2 =>
  mm_mo mm_waR r2.2.2.2.1 r2.2.2.2.2 <|
  some (r2.1, r2.2.1, r2.2.2.1, r2.2.2.2.1, r2.2.2.2.2)
set_option maxHeartbeats 4000000 in
theorem mc_J15_copyOf_2 {l : Launch} {K : mm_K} {P : mm_P} {x0 : Nat} {x1 : Int32} {nx sl : Nat} {r : (Nat × mm_S)} (h : fJ15_copyOf_2 x0 x1 K P nx sl = some r) : mm_C l yJ15_copyOf_2 (ws_ yJ15_copyOf_2 cJ15_copyOf_2 2 (some (.array (.object "java/lang/Object")))) 2 63 [.ref x0, .int x1] K P nx sl (mm_waR r) :=
  mm_startF (ls := [some (.ref x0), some (.int x1)]) h (by decide) (Nat.le_of_ble_eq_true rfl) rfl (mm_mo_some h).2.1 (mm_mo_some h).2.2 rfl fun E hl9 _ _ _ C => by
  have C : mm_Cx E RJ15 cJ15_copyOf_2 2 (some (.array (.object "java/lang/Object"))) 2 63 := C
  unfold fJ15_copyOf_2
  refine r_mo ?_
  refine r_aload_n C dJ15_copyOf_2_0 rfl rfl ?_
  refine r_iload_n C dJ15_copyOf_2_1 rfl rfl ?_
  refine r_aload_n C dJ15_copyOf_2_2 rfl rfl ?_
  refine r_gd fun hK1 => ?_
  refine r_getC C q951 (nw_in q2239 rfl) q2238 q952 q978 hK1 (Nat.le_of_ble_eq_true rfl) (Nat.le_of_ble_eq_true rfl) (Nat.le_of_ble_eq_true rfl) dJ15_copyOf_2_3 ?_
  refine r_bd fun r2 h3 => ?_
  refine r_acallS (As := [.ref x0, .int x1, va_rf (gR P 5 0)]) (st := []) C (mc_J15_copyOf_3 h3) cv_J15_300  rfl (Nat.le_of_ble_eq_true rfl) (Nat.le_of_ble_eq_true rfl) rfl (Nat.le_of_ble_eq_true rfl) dJ15_copyOf_2_6 ?_
  exact r_aretR C (Or.inr ⟨_, rfl⟩) dJ15_copyOf_2_9 rfl
theorem cv_J2_66 : mm_CS RJ2 66 yJ15_copyOf_2 cJ15_copyOf_2 2 (some (.array (.object "java/lang/Object"))) 2 := ⟨lw_S q948 q949 q154 q950, by decide +kernel, by decide +kernel, by decide +kernel⟩
theorem cv_J2_73 : mm_CS RJ2 73 yJ14_newLength cJ14_newLength 4 (some .int) 3 := ⟨lw_S q947 q713 q153 q714, by decide +kernel, by decide +kernel, by decide +kernel⟩
/-! J2 grow_2 -/
def fJ2_grow_2_b20 (th : Nat)  (x1 : Int32) (x2 : Int32) (K : mm_K) (P : mm_P) (nx : Nat) (sl : Nat) : Option (Nat × mm_S) :=
  mm_bd (fJ14_newLength x2 (x1 - x2) (mm_shr x2 (1 : Int32))) fun r1 =>
  mm_gd (K.1 th = 21) <|
  mm_bd (gR P 2689 th) fun b4 =>
  mm_bd (fJ15_copyOf_2 b4 r1 K P nx sl) fun r6 =>
  mm_mo mm_waR r6.2.2.2.1 r6.2.2.2.2 <|
  mm_gd (r6.2.1.1 th = 21) <|
  mm_lt (sR r6.2.2.1 2689 th (some r6.1)) fun P9 =>
  some (r6.1, r6.2.1, P9, r6.2.2.2.1, r6.2.2.2.2)
set_option maxHeartbeats 4000000 in
theorem wfJ2_grow_2_b20 {E : mm_E} (C : mm_Cx E RJ2 cJ2_grow_2 4 (some (.array (.object "java/lang/Object"))) 3 84) {th : Nat} (x1 : Int32) (x2 : Int32) (K : mm_K) (P : mm_P) (nx : Nat) (sl : Nat) : mm_V E (mm_waR) 20 [some (.ref th), some (.int x1), some (.int x2), none] [] K P nx sl (fJ2_grow_2_b20 th x1 x2 K P nx sl) := by
  unfold fJ2_grow_2_b20
  refine r_iload_n C dJ2_grow_2_20 rfl rfl ?_
  refine r_iload_n C dJ2_grow_2_21 rfl rfl ?_
  refine r_iload_n C dJ2_grow_2_22 rfl rfl ?_
  refine r_isub C dJ2_grow_2_23 ?_
  refine r_iload_n C dJ2_grow_2_24 rfl rfl ?_
  refine r_iconst (v := 1) C dJ2_grow_2_25 rfl ?_
  refine r_ishr C dJ2_grow_2_26 ?_
  refine r_bd fun r1 h2 => ?_
  refine r_callS (As := [.int x2, .int (x1 - x2), .int (mm_shr x2 (1 : Int32))]) (st := []) C (mc_J14_newLength h2) cv_J2_73  rfl (Nat.le_of_ble_eq_true rfl) (Nat.le_of_ble_eq_true rfl) rfl (Nat.le_of_ble_eq_true rfl) dJ2_grow_2_27 ?_
  refine r_istore_n (ls' := [some (.ref th), some (.int x1), some (.int x2), some (.int r1)]) C dJ2_grow_2_30 rfl (Nat.le_of_ble_eq_true rfl) rfl rfl ?_
  refine r_aload_n C dJ2_grow_2_31 rfl rfl ?_
  refine r_aload_n C dJ2_grow_2_32 rfl rfl ?_
  refine r_gd fun hK3 => ?_
  refine r_getRn (code := 2689) C fl_J2_9 hK3 rfl dJ2_grow_2_33 fun b4 h5 => ?_
  refine r_iload_n C dJ2_grow_2_36 rfl rfl ?_
  refine r_bd fun r6 h7 => ?_
  refine r_acallS (As := [.ref b4, .int r1]) (st := [.ref th]) C (mc_J15_copyOf_2 h7) cv_J2_66  rfl (Nat.le_of_ble_eq_true rfl) (Nat.le_of_ble_eq_true rfl) rfl (Nat.le_of_ble_eq_true rfl) dJ2_grow_2_37 ?_
  refine r_dup_x1 C dJ2_grow_2_40 rfl rfl ?_
  refine r_gd fun hK8 => ?_
  refine r_putR (code := 2689) (x := (some r6.1)) C fl_J2_9 hK8 rfl rfl rfl (mm_nrA _) (mm_ftA _) dJ2_grow_2_41 ?_
  refine r_ltP fun P9 => ?_
  exact r_aretR C (Or.inr ⟨_, rfl⟩) dJ2_grow_2_44 rfl
def fJ2_grow_2 (th : Nat) (x1 : Int32) (K : mm_K) (P : mm_P) (nx : Nat) (sl : Nat) : Option (Nat × mm_S) :=
  mm_mo mm_waR nx sl <|
  mm_bd (gR P 2689 th) fun b1 =>
  mm_gd (K.1 b1 = 68) <|
  mm_lt ((Int32.ofNat (K.2 b1))) fun v4 =>
  if 0 < v4 then
  (fJ2_grow_2_b20 th x1 v4 K P nx sl)
  else
  (mm_bd (gR P 2689 th) fun b6 =>
  if (some b6) = gR P 2 0 then
  (mm_lt (mm_max (10 : Int32) x1) fun v12 =>
  mm_gd (¬ v12 < 0 ∧ v12.toNatClampNeg * 4 ≤ 536870912) <|
  mm_mo mm_waR (nx + 1) (sl + v12.toNatClampNeg) <|
  mm_lt (mm_kn K nx 68 v12.toNatClampNeg) fun K9 =>
  mm_lt (mm_fresh P nx) fun P10 =>
  mm_gd (K9.1 th = 21) <|
  mm_lt (sR P10 2689 th (some nx)) fun P15 =>
  some (nx, K9, P15, nx + 1, sl + v12.toNatClampNeg))
  else
  (fJ2_grow_2_b20 th x1 v4 K P nx sl))
set_option maxHeartbeats 4000000 in
theorem mc_J2_grow_2 {l : Launch} {K : mm_K} {P : mm_P} {th : Nat} {x1 : Int32} {nx sl : Nat} {r : (Nat × mm_S)} (hk : K.1 th = 21) (h : fJ2_grow_2 th x1 K P nx sl = some r) : mm_C l yJ2_grow_2 (ws_ yJ2_grow_2 cJ2_grow_2 4 (some (.array (.object "java/lang/Object")))) 3 84 [.ref th, .int x1] K P nx sl (mm_waR r) :=
  mm_startF (ls := [some (.ref th), some (.int x1), none, none]) h (by decide) (Nat.le_of_ble_eq_true rfl) rfl (mm_mo_some h).2.1 (mm_mo_some h).2.2 rfl fun E hl9 _ _ _ C => by
  have C : mm_Cx E RJ2 cJ2_grow_2 4 (some (.array (.object "java/lang/Object"))) 3 84 := C
  unfold fJ2_grow_2
  refine r_mo ?_
  refine r_aload_n C dJ2_grow_2_0 rfl rfl ?_
  refine r_getRn (code := 2689) C fl_J2_9 hk rfl dJ2_grow_2_1 fun b1 h2 => ?_
  refine r_gd fun hK3 => ?_
  refine r_alen (v := Int32.ofNat (K.2 b1)) C (rg_sa (ek := 4) hK3) rfl rfl dJ2_grow_2_4 ?_
  refine r_ltI fun v4 => ?_
  refine r_istore_n (ls' := [some (.ref th), some (.int x1), some (.int v4), none]) C dJ2_grow_2_5 rfl (Nat.le_of_ble_eq_true rfl) rfl rfl ?_
  refine r_iload_n C dJ2_grow_2_6 rfl rfl ?_
  refine r_ifgt (tgt := 20) C dJ2_grow_2_7 (by decide) (fun h5 => ?_) (fun h5 => ?_)
  · exact wfJ2_grow_2_b20 C x1 v4 K P nx sl
  · refine r_aload_n C dJ2_grow_2_10 rfl rfl ?_
    refine r_getRn (code := 2689) C fl_J2_9 hk rfl dJ2_grow_2_11 fun b6 h7 => ?_
    refine r_getsR C C.zs.2.1 (by decide) q945 dJ2_grow_2_14 ?_
    refine r_acmpeq (x := (some b6)) (y := gR P 2 0) (tgt := 45) C rfl rfl dJ2_grow_2_17 (by decide) (fun h8 => ?_) (fun h8 => ?_)
    · refine r_aload_n C dJ2_grow_2_45 rfl rfl ?_
      refine r_bipush (v := 10) C dJ2_grow_2_46 rfl ?_
      refine r_iload_n C dJ2_grow_2_48 rfl rfl ?_
      refine r_mmax C q984 q483 q143 q484 (Nat.le_of_ble_eq_true rfl) (Nat.le_of_ble_eq_true rfl) (Nat.le_of_ble_eq_true rfl) dJ2_grow_2_49 ?_
      refine r_ltI fun v12 => ?_
      refine r_gd fun h13 => ?_
      refine mm_anewa (ek := 4) C (by decide) q233 h13.1 (N := v12.toNatClampNeg) rfl h13.2 dJ2_grow_2_52 ?_
      refine r_ltK fun K9 e11 => ?_
      refine r_ltP fun P10 => ?_
      refine r_dup_x1 C dJ2_grow_2_55 rfl rfl ?_
      refine r_gd fun hK14 => ?_
      refine r_putR (code := 2689) (x := (some nx)) C fl_J2_9 hK14 rfl rfl rfl (mm_nrA _) (mm_ftA _) dJ2_grow_2_56 ?_
      refine r_ltP fun P15 => ?_
      exact r_aretR C (Or.inr ⟨_, rfl⟩) dJ2_grow_2_59 rfl
    · exact wfJ2_grow_2_b20 C x1 v4 K P nx sl
theorem cv_J2_69 : mm_CV RJ2 69 yJ2_grow_2 cJ2_grow_2 4 (some (.array (.object "java/lang/Object"))) 1 21 := ⟨RJ2, TJ2, 3, _, lw_V q941 q943 qs16 q138 q944, ⟨rfl, by decide +kernel, by decide +kernel, by decide +kernel⟩, rfl, rfl⟩
/-! J2 grow -/
def fJ2_grow (th : Nat)  (K : mm_K) (P : mm_P) (nx : Nat) (sl : Nat) : Option (Nat × mm_S) :=
  mm_mo mm_waR nx sl <|
  mm_bd (fJ2_grow_2 th ((gI P 2690 th) + (1 : Int32)) K P nx sl) fun r1 =>
  mm_mo mm_waR r1.2.2.2.1 r1.2.2.2.2 <|
  some (r1.1, r1.2.1, r1.2.2.1, r1.2.2.2.1, r1.2.2.2.2)
set_option maxHeartbeats 4000000 in
theorem mc_J2_grow {l : Launch} {K : mm_K} {P : mm_P} {th : Nat}  {nx sl : Nat} {r : (Nat × mm_S)} (hk : K.1 th = 21) (h : fJ2_grow th K P nx sl = some r) : mm_C l yJ2_grow (ws_ yJ2_grow cJ2_grow 1 (some (.array (.object "java/lang/Object")))) 4 107 [.ref th] K P nx sl (mm_waR r) :=
  mm_startF (ls := [some (.ref th)]) h (by decide) (Nat.le_of_ble_eq_true rfl) rfl (mm_mo_some h).2.1 (mm_mo_some h).2.2 rfl fun E hl9 _ _ _ C => by
  have C : mm_Cx E RJ2 cJ2_grow 1 (some (.array (.object "java/lang/Object"))) 4 107 := C
  unfold fJ2_grow
  refine r_mo ?_
  refine r_aload_n C dJ2_grow_0 rfl rfl ?_
  refine r_aload_n C dJ2_grow_1 rfl rfl ?_
  refine r_getI (code := 2690) C fl_J2_48 hk rfl dJ2_grow_2 ?_
  refine r_iconst (v := 1) C dJ2_grow_5 rfl ?_
  refine r_iadd C dJ2_grow_6 ?_
  refine r_bd fun r1 h2 => ?_
  refine r_acallV (As := [.int ((gI P 2690 th) + (1 : Int32))]) (st := []) C (mc_J2_grow_2 hk h2) cv_J2_69 hk rfl (Nat.le_of_ble_eq_true rfl) (Nat.le_of_ble_eq_true rfl) rfl (Nat.le_of_ble_eq_true rfl) dJ2_grow_7 ?_
  exact r_aretR C (Or.inr ⟨_, rfl⟩) dJ2_grow_10 rfl
theorem cv_J2_129 : mm_CV RJ2 129 yJ2_grow cJ2_grow 1 (some (.array (.object "java/lang/Object"))) 0 21 := ⟨RJ2, TJ2, 3, _, lw_V q937 q939 qs15 q138 q940, ⟨rfl, by decide +kernel, by decide +kernel, by decide +kernel⟩, rfl, rfl⟩
/-! J2 add_2 -/
def fJ2_add_2_b11 (th : Nat)  (x1 : Nat) (x2 : Nat) (x3 : Int32) (K : mm_K) (P : mm_P) (nx : Nat) (sl : Nat) : Option mm_S :=
  mm_gd (K.1 x2 = 68) <|
  mm_gd (mm_isC (K.1 x1) ∨ mm_isL (K.1 x1)) <|
  mm_gd (mm_in x3 (K.2 x2)) <|
  mm_lt (sB P 8196 x2 x3.toNatClampNeg (some x1)) fun P3 =>
  mm_gd (K.1 th = 21) <|
  mm_lt (sI P3 2690 th (x3 + (1 : Int32))) fun P6 =>
  some (K, P6, nx, sl)
set_option maxHeartbeats 4000000 in
theorem wfJ2_add_2_b11 {E : mm_E} (C : mm_Cx E RJ2 cJ2_add_2 4 none 5 127) {th : Nat} (x1 : Nat) (x2 : Nat) (x3 : Int32) (K : mm_K) (P : mm_P) (nx : Nat) (sl : Nat) : mm_V E (mm_waV) 11 [some (.ref th), some (.ref x1), some (.ref x2), some (.int x3)] [] K P nx sl (fJ2_add_2_b11 th x1 x2 x3 K P nx sl) := by
  unfold fJ2_add_2_b11
  refine r_aload_n C dJ2_add_2_11 rfl rfl ?_
  refine r_iload_n C dJ2_add_2_12 rfl rfl ?_
  refine r_aload_n C dJ2_add_2_13 rfl rfl ?_
  refine r_gd fun hK1 => ?_
  refine r_gd fun hK4 => ?_
  refine r_aast C (by decide) (cs_4_CL hK4) (rg_sa (ek := 4) hK1) (mm_ro_of (k := 68) hK1 rfl) rfl rfl dJ2_add_2_14 fun h2 => ?_
  refine r_ltP fun P3 => ?_
  refine r_aload_n C dJ2_add_2_15 rfl rfl ?_
  refine r_iload_n C dJ2_add_2_16 rfl rfl ?_
  refine r_iconst (v := 1) C dJ2_add_2_17 rfl ?_
  refine r_iadd C dJ2_add_2_18 ?_
  refine r_gd fun hK5 => ?_
  refine r_putI (code := 2690) C fl_J2_48 hK5 rfl rfl dJ2_add_2_19 ?_
  refine r_ltP fun P6 => ?_
  exact r_vret C dJ2_add_2_22 rfl
def fJ2_add_2 (th : Nat) (x1 : Nat) (x2 : Nat) (x3 : Int32) (K : mm_K) (P : mm_P) (nx : Nat) (sl : Nat) : Option mm_S :=
  mm_mo mm_waV nx sl <|
  mm_gd (K.1 x2 = 68) <|
  if x3 ≠ (Int32.ofNat (K.2 x2)) then
  (fJ2_add_2_b11 th x1 x2 x3 K P nx sl)
  else
  (mm_bd (fJ2_grow th K P nx sl) fun r3 =>
  mm_mo mm_waV r3.2.2.2.1 r3.2.2.2.2 <|
  fJ2_add_2_b11 th x1 r3.1 x3 r3.2.1 r3.2.2.1 r3.2.2.2.1 r3.2.2.2.2)
set_option maxHeartbeats 4000000 in
theorem mc_J2_add_2 {l : Launch} {K : mm_K} {P : mm_P} {th : Nat} {x1 : Nat} {x2 : Nat} {x3 : Int32} {nx sl : Nat} {r : mm_S} (hk : K.1 th = 21) (h : fJ2_add_2 th x1 x2 x3 K P nx sl = some r) : mm_C l yJ2_add_2 (ws_ yJ2_add_2 cJ2_add_2 4 none) 5 127 [.ref th, .ref x1, .ref x2, .int x3] K P nx sl (mm_waV r) :=
  mm_startF (ls := [some (.ref th), some (.ref x1), some (.ref x2), some (.int x3)]) h (by decide) (Nat.le_of_ble_eq_true rfl) rfl (mm_mo_some h).2.1 (mm_mo_some h).2.2 rfl fun E hl9 _ _ _ C => by
  have C : mm_Cx E RJ2 cJ2_add_2 4 none 5 127 := C
  unfold fJ2_add_2
  refine r_mo ?_
  refine r_iload_n C dJ2_add_2_0 rfl rfl ?_
  refine r_aload_n C dJ2_add_2_1 rfl rfl ?_
  refine r_gd fun hK1 => ?_
  refine r_alen (v := Int32.ofNat (K.2 x2)) C (rg_sa (ek := 4) hK1) rfl rfl dJ2_add_2_2 ?_
  refine r_icmpne (tgt := 11) C dJ2_add_2_3 (by decide) (fun h2 => ?_) (fun h2 => ?_)
  · exact wfJ2_add_2_b11 C x1 x2 x3 K P nx sl
  · refine r_aload_n C dJ2_add_2_6 rfl rfl ?_
    refine r_bd fun r3 h4 => ?_
    refine r_acallV (As := []) (st := []) C (mc_J2_grow hk h4) cv_J2_129 hk rfl (Nat.le_of_ble_eq_true rfl) (Nat.le_of_ble_eq_true rfl) rfl (Nat.le_of_ble_eq_true rfl) dJ2_add_2_7 ?_
    refine r_astore_n (ls' := [some (.ref th), some (.ref x1), some (.ref r3.1), some (.int x3)]) C dJ2_add_2_10 rfl (Nat.le_of_ble_eq_true rfl) rfl rfl ?_
    exact wfJ2_add_2_b11 C x1 r3.1 x3 r3.2.1 r3.2.2.1 r3.2.2.2.1 r3.2.2.2.2
theorem fl_J2_63 : mm_FL RJ2 63 21 0 mm_i .int false := ⟨RJ2, TJ2, 3, _, tyJ2, rfl, in_J2, rfl, rfl, Nat.le_of_ble_eq_true rfl, Or.inr (Or.inr ⟨_, q240, q241⟩), tyJ2_ok, nmJ2, rfl, rfl⟩
theorem cv_J2_131 : mm_CV RJ2 131 yJ2_add_2 cJ2_add_2 4 none 3 21 := ⟨RJ2, TJ2, 3, _, lw_V q933 q935 qs14 q138 q936, ⟨rfl, by decide +kernel, by decide +kernel, by decide +kernel⟩, rfl, rfl⟩
/-! J2 add -/
def fJ2_add (th : Nat) (x1 : Nat) (K : mm_K) (P : mm_P) (nx : Nat) (sl : Nat) : Option (Int32 × mm_S) :=
  mm_mo mm_waI nx sl <|
  mm_lt (sI P 2688 th ((gI P 2688 th) + (1 : Int32))) fun P1 =>
  mm_bd (gR P1 2689 th) fun b2 =>
  mm_bd (fJ2_add_2 th x1 b2 (gI P1 2690 th) K P1 nx sl) fun r4 =>
  mm_mo mm_waI r4.2.2.1 r4.2.2.2 <|
  some ((1 : Int32), r4.1, r4.2.1, r4.2.2.1, r4.2.2.2)
set_option maxHeartbeats 4000000 in
theorem mc_J2_add {l : Launch} {K : mm_K} {P : mm_P} {th : Nat} {x1 : Nat} {nx sl : Nat} {r : (Int32 × mm_S)} (hk : K.1 th = 21) (h : fJ2_add th x1 K P nx sl = some r) : mm_C l yJ2_add (ws_ yJ2_add cJ2_add 2 (some .boolean)) 6 150 [.ref th, .ref x1] K P nx sl (mm_waI r) :=
  mm_startF (ls := [some (.ref th), some (.ref x1)]) h (by decide) (Nat.le_of_ble_eq_true rfl) rfl (mm_mo_some h).2.1 (mm_mo_some h).2.2 rfl fun E hl9 _ _ _ C => by
  have C : mm_Cx E RJ2 cJ2_add 2 (some .boolean) 6 150 := C
  unfold fJ2_add
  refine r_mo ?_
  refine r_aload_n C dJ2_add_0 rfl rfl ?_
  refine r_dup C dJ2_add_1 rfl ?_
  refine r_getI (code := 2688) C fl_J2_63 hk rfl dJ2_add_2 ?_
  refine r_iconst (v := 1) C dJ2_add_5 rfl ?_
  refine r_iadd C dJ2_add_6 ?_
  refine r_putI (code := 2688) C fl_J2_63 hk rfl rfl dJ2_add_7 ?_
  refine r_ltP fun P1 => ?_
  refine r_aload_n C dJ2_add_10 rfl rfl ?_
  refine r_aload_n C dJ2_add_11 rfl rfl ?_
  refine r_aload_n C dJ2_add_12 rfl rfl ?_
  refine r_getRn (code := 2689) C fl_J2_9 hk rfl dJ2_add_13 fun b2 h3 => ?_
  refine r_aload_n C dJ2_add_16 rfl rfl ?_
  refine r_getI (code := 2690) C fl_J2_48 hk rfl dJ2_add_17 ?_
  refine r_bd fun r4 h5 => ?_
  refine r_acallVv (As := [.ref x1, .ref b2, .int (gI P1 2690 th)]) (st := []) C (mc_J2_add_2 hk h5) cv_J2_131 hk rfl (Nat.le_of_ble_eq_true rfl) (Nat.le_of_ble_eq_true rfl) rfl (Nat.le_of_ble_eq_true rfl) dJ2_add_20 ?_
  refine r_iconst (v := 1) C dJ2_add_23 rfl ?_
  exact r_zret C dJ2_add_24 rfl rfl
/-! J15 checkLength -/
def fJ15_checkLength  (x0 : Int32) (x1 : Int32) (P : mm_P) : Option mm_P :=
  if x0 ≤ x1 then
  (some P)
  else
  (none)
set_option maxHeartbeats 4000000 in
theorem mc_J15_checkLength {l : Launch} {K : mm_K} {P : mm_P} {x0 : Int32} {x1 : Int32} {nx sl : Nat} {r : mm_P} (h : fJ15_checkLength x0 x1 P = some r) : mm_C l yJ15_checkLength (ws_ yJ15_checkLength cJ15_checkLength 2 none) 0 0 [.int x0, .int x1] K P nx sl (mm_wwV K nx sl r) :=
  mm_startF (ls := [some (.int x0), some (.int x1)]) h (by decide) (Nat.le_of_ble_eq_true rfl) rfl (Nat.le_refl _) (Nat.le_refl _) rfl fun E hl9 _ _ _ C => by
  have C : mm_Cx E RJ15 cJ15_checkLength 2 none 0 0 := C
  unfold fJ15_checkLength
  refine r_iload_n C dJ15_checkLength_0 rfl rfl ?_
  refine r_iload_n C dJ15_checkLength_1 rfl rfl ?_
  refine r_icmpge (tgt := 37) C dJ15_checkLength_2 (by decide) (fun h1 => ?_) (fun h1 => ?_)
  · exact r_vret C dJ15_checkLength_37 rfl
  · exact r_none
theorem cv_J15_343 : mm_CS RJ15 343 yJ15_checkLength cJ15_checkLength 2 none 2 := ⟨lw_S q801 q802 q154 q803, by decide +kernel, by decide +kernel, by decide +kernel⟩
/-! J15 copyOfRangeByte -/
def fJ15_copyOfRangeByte  (x0 : Nat) (x1 : Int32) (x2 : Int32) (K : mm_K) (P : mm_P) (nx : Nat) (sl : Nat) : Option (Nat × mm_S) :=
  mm_mo mm_waR nx sl <|
  mm_bd (fJ15_checkLength x1 x2 P) fun r1 =>
  mm_lt (x2 - x1) fun v3 =>
  mm_gd (¬ v3 < 0 ∧ v3.toNatClampNeg * 8 ≤ 536870912) <|
  mm_mo mm_waR (nx + 1) (sl + v3.toNatClampNeg) <|
  mm_lt (mm_kn K nx 65 v3.toNatClampNeg) fun K4 =>
  mm_lt (mm_fresh r1 nx) fun P5 =>
  mm_gd (mm_isA K4 x0 1) <|
  mm_gd (K4.1 x0 = 65) <|
  mm_gd (mm_cpc (K4.2 x0) (K4.2 nx) x1 (0 : Int32) (mm_min ((Int32.ofNat (K4.2 x0)) - x1) v3)) <|
  mm_gd (mm_fit P5 8193 x0 x1.toNatClampNeg (mm_min ((Int32.ofNat (K4.2 x0)) - x1) v3).toNatClampNeg) <|
  mm_lt (mm_cpA P5 8193 x0 8193 nx x1.toNatClampNeg (0 : Int32).toNatClampNeg (mm_min ((Int32.ofNat (K4.2 x0)) - x1) v3).toNatClampNeg) fun P12 =>
  some (nx, K4, P12, nx + 1, sl + v3.toNatClampNeg)
set_option maxHeartbeats 4000000 in
theorem mc_J15_copyOfRangeByte {l : Launch} {K : mm_K} {P : mm_P} {x0 : Nat} {x1 : Int32} {x2 : Int32} {nx sl : Nat} {r : (Nat × mm_S)} (h : fJ15_copyOfRangeByte x0 x1 x2 K P nx sl = some r) : mm_C l yJ15_copyOfRangeByte (ws_ yJ15_copyOfRangeByte cJ15_copyOfRangeByte 5 (some (.array .byte))) 1 40 [.ref x0, .int x1, .int x2] K P nx sl (mm_waR r) :=
  mm_startF (ls := [some (.ref x0), some (.int x1), some (.int x2), none, none]) h (by decide) (Nat.le_of_ble_eq_true rfl) rfl (mm_mo_some h).2.1 (mm_mo_some h).2.2 rfl fun E hl9 _ _ _ C => by
  have C : mm_Cx E RJ15 cJ15_copyOfRangeByte 5 (some (.array .byte)) 1 40 := C
  unfold fJ15_copyOfRangeByte
  refine r_mo ?_
  refine r_iload_n C dJ15_copyOfRangeByte_0 rfl rfl ?_
  refine r_iload_n C dJ15_copyOfRangeByte_1 rfl rfl ?_
  refine r_bd fun r1 h2 => ?_
  refine r_callSv (As := [.int x1, .int x2]) (st := []) C (mc_J15_checkLength h2) cv_J15_343  rfl (Nat.le_of_ble_eq_true rfl) (Nat.le_of_ble_eq_true rfl) rfl (Nat.le_of_ble_eq_true rfl) dJ15_copyOfRangeByte_2 ?_
  refine r_iload_n C dJ15_copyOfRangeByte_5 rfl rfl ?_
  refine r_iload_n C dJ15_copyOfRangeByte_6 rfl rfl ?_
  refine r_isub C dJ15_copyOfRangeByte_7 ?_
  refine r_ltI fun v3 => ?_
  refine r_istore_n (ls' := [some (.ref x0), some (.int x1), some (.int x2), some (.int v3), none]) C dJ15_copyOfRangeByte_8 rfl (Nat.le_of_ble_eq_true rfl) rfl rfl ?_
  refine r_iload_n C dJ15_copyOfRangeByte_9 rfl rfl ?_
  refine r_gd fun h7 => ?_
  refine mm_newa (ek := 1) C (by decide) q214 rfl h7.1 (N := v3.toNatClampNeg) rfl h7.2 dJ15_copyOfRangeByte_10 ?_
  refine r_ltK fun K4 e6 => ?_
  refine r_ltP fun P5 => ?_
  refine r_astore (ls' := [some (.ref x0), some (.int x1), some (.int x2), some (.int v3), some (.ref nx)]) C dJ15_copyOfRangeByte_12 (Nat.le_of_ble_eq_true rfl) rfl rfl ?_
  refine r_aload_n C dJ15_copyOfRangeByte_14 rfl rfl ?_
  refine r_iload_n C dJ15_copyOfRangeByte_15 rfl rfl ?_
  refine r_aload C dJ15_copyOfRangeByte_16 rfl ?_
  refine r_iconst (v := 0) C dJ15_copyOfRangeByte_18 rfl ?_
  refine r_aload_n C dJ15_copyOfRangeByte_19 rfl rfl ?_
  refine r_gd fun hK8 => ?_
  refine r_alen (v := Int32.ofNat (K4.2 x0)) C (rg_ra hK8) rfl rfl dJ15_copyOfRangeByte_20 ?_
  refine r_iload_n C dJ15_copyOfRangeByte_21 rfl rfl ?_
  refine r_isub C dJ15_copyOfRangeByte_22 ?_
  refine r_iload_n C dJ15_copyOfRangeByte_23 rfl rfl ?_
  refine r_mmin C q731 q486 q143 q487 (Nat.le_of_ble_eq_true rfl) (Nat.le_of_ble_eq_true rfl) (Nat.le_of_ble_eq_true rfl) dJ15_copyOfRangeByte_24 ?_
  refine r_gd fun hK9 => ?_
  refine r_copyB C q732 q734 q733 q155 (rg_sa (ek := 1) hK9) (mm_ro_of (k := 65) hK9 rfl) (rg_sa (ek := 1) (by rw [e6]; exact mm_kn_1)) (mm_ro_of (k := 65) (by rw [e6]; exact mm_kn_1) rfl) rfl rfl (Nat.le_of_ble_eq_true rfl) (Nat.le_of_ble_eq_true rfl) (Nat.le_of_ble_eq_true rfl) dJ15_copyOfRangeByte_27 (fun h10 => ?_)
  refine r_ltP fun P12 => ?_
  refine r_aload C dJ15_copyOfRangeByte_30 rfl ?_
  exact r_aretR C (Or.inr ⟨_, rfl⟩) dJ15_copyOfRangeByte_32 rfl
theorem cv_J15_339 : mm_CS RJ15 339 yJ15_copyOfRangeByte cJ15_copyOfRangeByte 5 (some (.array .byte)) 3 := ⟨lw_S q798 q799 q154 q800, by decide +kernel, by decide +kernel, by decide +kernel⟩
/-! J15 copyOfRange -/
def fJ15_copyOfRange_b10   (x0 : Nat) (x1 : Int32) (x2 : Int32) (K : mm_K) (P : mm_P) (nx : Nat) (sl : Nat) : Option (Nat × mm_S) :=
  mm_bd (fJ15_copyOfRangeByte x0 x1 x2 K P nx sl) fun r1 =>
  mm_mo mm_waR r1.2.2.2.1 r1.2.2.2.2 <|
  some (r1.1, r1.2.1, r1.2.2.1, r1.2.2.2.1, r1.2.2.2.2)
set_option maxHeartbeats 4000000 in
theorem wfJ15_copyOfRange_b10 {E : mm_E} (C : mm_Cx E RJ15 cJ15_copyOfRange 3 (some (.array .byte)) 2 64) (x0 : Nat) (x1 : Int32) (x2 : Int32) (K : mm_K) (P : mm_P) (nx : Nat) (sl : Nat) : mm_V E (mm_waR) 10 [some (.ref x0), some (.int x1), some (.int x2)] [] K P nx sl (fJ15_copyOfRange_b10 x0 x1 x2 K P nx sl) := by
  unfold fJ15_copyOfRange_b10
  refine r_aload_n C dJ15_copyOfRange_10 rfl rfl ?_
  refine r_iload_n C dJ15_copyOfRange_11 rfl rfl ?_
  refine r_iload_n C dJ15_copyOfRange_12 rfl rfl ?_
  refine r_bd fun r1 h2 => ?_
  refine r_acallS (As := [.ref x0, .int x1, .int x2]) (st := []) C (mc_J15_copyOfRangeByte h2) cv_J15_339  rfl (Nat.le_of_ble_eq_true rfl) (Nat.le_of_ble_eq_true rfl) rfl (Nat.le_of_ble_eq_true rfl) dJ15_copyOfRange_13 ?_
  exact r_aretR C (Or.inr ⟨_, rfl⟩) dJ15_copyOfRange_16 rfl
def fJ15_copyOfRange  (x0 : Nat) (x1 : Int32) (x2 : Int32) (K : mm_K) (P : mm_P) (nx : Nat) (sl : Nat) : Option (Nat × mm_S) :=
  mm_mo mm_waR nx sl <|
  if x1 ≠ 0 then
  (fJ15_copyOfRange_b10 x0 x1 x2 K P nx sl)
  else
  (mm_gd (mm_isA K x0 1) <|
  if x2 = (Int32.ofNat (K.2 x0)) then
  (mm_gd (K.1 x0 = 65) <|
  mm_gd (mm_fit P 8193 x0 0 (K.2 x0)) <|
  mm_mo mm_waR (nx + 1) (sl + (K.2 x0)) <|
  mm_lt (mm_kn K nx 65 (K.2 x0)) fun K5 =>
  mm_lt (mm_clP P 8193 x0 nx) fun P6 =>
  some (nx, K5, P6, nx + 1, sl + (K.2 x0)))
  else
  (fJ15_copyOfRange_b10 x0 x1 x2 K P nx sl))
set_option maxHeartbeats 4000000 in
theorem mc_J15_copyOfRange {l : Launch} {K : mm_K} {P : mm_P} {x0 : Nat} {x1 : Int32} {x2 : Int32} {nx sl : Nat} {r : (Nat × mm_S)} (h : fJ15_copyOfRange x0 x1 x2 K P nx sl = some r) : mm_C l yJ15_copyOfRange (ws_ yJ15_copyOfRange cJ15_copyOfRange 3 (some (.array .byte))) 2 64 [.ref x0, .int x1, .int x2] K P nx sl (mm_waR r) :=
  mm_startF (ls := [some (.ref x0), some (.int x1), some (.int x2)]) h (by decide) (Nat.le_of_ble_eq_true rfl) rfl (mm_mo_some h).2.1 (mm_mo_some h).2.2 rfl fun E hl9 _ _ _ C => by
  have C : mm_Cx E RJ15 cJ15_copyOfRange 3 (some (.array .byte)) 2 64 := C
  unfold fJ15_copyOfRange
  refine r_mo ?_
  refine r_iload_n C dJ15_copyOfRange_0 rfl rfl ?_
  refine r_ifne (tgt := 10) C dJ15_copyOfRange_1 (by decide) (fun h1 => ?_) (fun h1 => ?_)
  · exact wfJ15_copyOfRange_b10 C x0 x1 x2 K P nx sl
  · refine r_iload_n C dJ15_copyOfRange_4 rfl rfl ?_
    refine r_aload_n C dJ15_copyOfRange_5 rfl rfl ?_
    refine r_gd fun hK2 => ?_
    refine r_alen (v := Int32.ofNat (K.2 x0)) C (rg_ra hK2) rfl rfl dJ15_copyOfRange_6 ?_
    refine r_icmpeq (tgt := 17) C dJ15_copyOfRange_7 (by decide) (fun h3 => ?_) (fun h3 => ?_)
    · refine r_aload_n C dJ15_copyOfRange_17 rfl rfl ?_
      refine r_gd fun hK4 => ?_
      refine r_cloneB C q724 q725 q726 q727 q728 (nw_in q729 rfl) (rg_sa (ek := 1) hK4) (mm_ro_of (k := 65) hK4 rfl) rfl (Nat.le_of_ble_eq_true rfl) (Nat.le_of_ble_eq_true rfl) (Nat.le_of_ble_eq_true rfl) dJ15_copyOfRange_18 ?_
      refine r_ltK fun K5 e7 => ?_
      refine r_ltP fun P6 => ?_
      refine r_castB C q730 (rg_sa (ek := 1) (by rw [e7]; exact mm_kn_1)) (mm_ro_of (k := 65) (by rw [e7]; exact mm_kn_1) rfl) rfl dJ15_copyOfRange_21 ?_
      exact r_aretR C (Or.inr ⟨_, rfl⟩) dJ15_copyOfRange_24 rfl
    · exact wfJ15_copyOfRange_b10 C x0 x1 x2 K P nx sl
theorem fl_J3_15_S {k : Nat} (h : mm_isS k) : mm_FL RJ3 15 k 1 mm_i .byte true := by
  rcases h with rfl | rfl
  · exact ⟨RJ3, TJ3, 4, _, tyJ3, rfl, in_J3, rfl, rfl, Nat.le_of_ble_eq_true rfl, Or.inl q815, tyJ3_ok, nmJ3, rfl, rfl⟩
  · exact ⟨RJ3, TJ3, 2, _, tyJ3, rfl, in_J32, rfl, rfl, Nat.le_of_ble_eq_true rfl, Or.inl q815, fun k h => tyJ3_ok k (Nat.lt_of_lt_of_le h (by decide)), fun a ha b hb => nmJ3 a (Nat.lt_of_lt_of_le ha (by decide)) b (Nat.lt_of_lt_of_le hb (by decide)), rfl, rfl⟩
/-! J3 isLatin1 -/
def fJ3_isLatin1 (th : Nat) (P : mm_P)  : Option Int32 :=
  if (1 : Int32) = 0 then
  (some ((0 : Int32)))
  else
  (if (gI P 2817 th) ≠ 0 then
  (some ((0 : Int32)))
  else
  (some ((1 : Int32))))
set_option maxHeartbeats 4000000 in
theorem mc_J3_isLatin1 {l : Launch} {K : mm_K} {P : mm_P} {th : Nat}  {nx sl : Nat} {r : Int32} (hk : mm_isS (K.1 th)) (h : fJ3_isLatin1 th P = some r) : mm_C l yJ3_isLatin1 (ws_ yJ3_isLatin1 cJ3_isLatin1 1 (some .boolean)) 0 0 [.ref th] K P nx sl (mm_wrI K P nx sl r) :=
  mm_startF (ls := [some (.ref th)]) h (by decide) (Nat.le_of_ble_eq_true rfl) rfl (Nat.le_refl _) (Nat.le_refl _) rfl fun E hl9 _ _ _ C => by
  have C : mm_Cx E RJ3 cJ3_isLatin1 1 (some .boolean) 0 0 := C
  unfold fJ3_isLatin1
  refine r_gets C C.zs.2.2.2.2.1 q466 dJ3_isLatin1_0 ?_
  refine r_ifeq (tgt := 17) C dJ3_isLatin1_3 (by decide) (fun h1 => ?_) (fun h1 => ?_)
  · refine r_iconst (v := 0) C dJ3_isLatin1_17 rfl ?_
    exact r_zret C dJ3_isLatin1_18 rfl rfl
  · refine r_aload_n C dJ3_isLatin1_6 rfl rfl ?_
    refine r_getI (code := 2817) C (fl_J3_15_S hk) rfl (mm_bsS hk _) dJ3_isLatin1_7 ?_
    refine r_ifne (tgt := 17) C dJ3_isLatin1_10 (by decide) (fun h2 => ?_) (fun h2 => ?_)
    · refine r_iconst (v := 0) C dJ3_isLatin1_17 rfl ?_
      exact r_zret C dJ3_isLatin1_18 rfl rfl
    · refine r_iconst (v := 1) C dJ3_isLatin1_13 rfl ?_
      refine r_goto (tgt := 18) C dJ3_isLatin1_14 (by decide) ?_
      exact r_zret C dJ3_isLatin1_18 rfl rfl
/-! J3 coder -/
def fJ3_coder (th : Nat) (P : mm_P)  : Option Int32 :=
  if (1 : Int32) = 0 then
  (mm_gd (mm_nB (1 : Int32) = (1 : Int32)) <|
  some ((1 : Int32)))
  else
  (mm_gd (mm_nB (gI P 2817 th) = (gI P 2817 th)) <|
  some (gI P 2817 th))
set_option maxHeartbeats 4000000 in
theorem mc_J3_coder {l : Launch} {K : mm_K} {P : mm_P} {th : Nat}  {nx sl : Nat} {r : Int32} (hk : mm_isS (K.1 th)) (h : fJ3_coder th P = some r) : mm_C l yJ3_coder (ws_ yJ3_coder cJ3_coder 1 (some .byte)) 0 0 [.ref th] K P nx sl (mm_wrI K P nx sl r) :=
  mm_startF (ls := [some (.ref th)]) h (by decide) (Nat.le_of_ble_eq_true rfl) rfl (Nat.le_refl _) (Nat.le_refl _) rfl fun E hl9 _ _ _ C => by
  have C : mm_Cx E RJ3 cJ3_coder 1 (some .byte) 0 0 := C
  unfold fJ3_coder
  refine r_gets C C.zs.2.2.2.2.1 q466 dJ3_coder_0 ?_
  refine r_ifeq (tgt := 13) C dJ3_coder_3 (by decide) (fun h1 => ?_) (fun h1 => ?_)
  · refine r_iconst (v := 1) C dJ3_coder_13 rfl ?_
    refine r_gd fun h2 => ?_
    exact r_zret C dJ3_coder_14 (mm_nB_n h2) rfl
  · refine r_aload_n C dJ3_coder_6 rfl rfl ?_
    refine r_getI (code := 2817) C (fl_J3_15_S hk) rfl (mm_bsS hk _) dJ3_coder_7 ?_
    refine r_goto (tgt := 14) C dJ3_coder_10 (by decide) ?_
    refine r_gd fun h3 => ?_
    exact r_zret C dJ3_coder_14 (mm_nB_n h3) rfl
theorem fl_J3_9_S {k : Nat} (h : mm_isS k) : mm_FL RJ3 9 k 0 mm_r (tyJ3 0) true := by
  rcases h with rfl | rfl
  · exact ⟨RJ3, TJ3, 4, _, tyJ3, rfl, in_J3, rfl, rfl, Nat.le_of_ble_eq_true rfl, Or.inl q814, tyJ3_ok, nmJ3, rfl, rfl⟩
  · exact ⟨RJ3, TJ3, 2, _, tyJ3, rfl, in_J32, rfl, rfl, Nat.le_of_ble_eq_true rfl, Or.inl q814, fun k h => tyJ3_ok k (Nat.lt_of_lt_of_le h (by decide)), fun a ha b hb => nmJ3 a (Nat.lt_of_lt_of_le ha (by decide)) b (Nat.lt_of_lt_of_le hb (by decide)), rfl, rfl⟩
theorem cv_J3_335 {k : Nat} (h : mm_isS k) : mm_CV RJ3 335 yJ3_coder cJ3_coder 1 (some .byte) 0 k := by
  rcases h with rfl | rfl
  · exact ⟨RJ3, TJ3, 4, _, lw_V q472 q473 q474 q141 q475, ⟨rfl, by decide +kernel, by decide +kernel, by decide +kernel⟩, rfl, rfl⟩
  · exact ⟨RJ3, TJ3, 2, _, lw_V q472 q473 q474 q141 q475, ⟨rfl, by decide +kernel, by decide +kernel, by decide +kernel⟩, rfl, rfl⟩
/-! J3 length -/
def fJ3_length (K : mm_K) (th : Nat) (P : mm_P)  : Option Int32 :=
  mm_bd (gR P 2816 th) fun b1 =>
  mm_gd (mm_isA K b1 1) <|
  mm_bd (fJ3_coder th P) fun r4 =>
  some (mm_shr (Int32.ofNat (K.2 b1)) r4)
set_option maxHeartbeats 4000000 in
theorem mc_J3_length {l : Launch} {K : mm_K} {P : mm_P} {th : Nat}  {nx sl : Nat} {r : Int32} (hk : mm_isS (K.1 th)) (h : fJ3_length K th P = some r) : mm_C l yJ3_length (ws_ yJ3_length cJ3_length 1 (some .int)) 1 20 [.ref th] K P nx sl (mm_wrI K P nx sl r) :=
  mm_startF (ls := [some (.ref th)]) h (by decide) (Nat.le_of_ble_eq_true rfl) rfl (Nat.le_refl _) (Nat.le_refl _) rfl fun E hl9 _ _ _ C => by
  have C : mm_Cx E RJ3 cJ3_length 1 (some .int) 1 20 := C
  unfold fJ3_length
  refine r_aload_n C dJ3_length_0 rfl rfl ?_
  refine r_getRn (code := 2816) C (fl_J3_9_S hk) rfl (mm_bsS hk _) dJ3_length_1 fun b1 h2 => ?_
  refine r_gd fun hK3 => ?_
  refine r_alen (v := Int32.ofNat (K.2 b1)) C (rg_ra hK3) rfl rfl dJ3_length_4 ?_
  refine r_aload_n C dJ3_length_5 rfl rfl ?_
  refine r_bd fun r4 h5 => ?_
  refine r_callV (As := []) (st := [.int (Int32.ofNat (K.2 b1))]) C (mc_J3_coder hk h5) (cv_J3_335 hk) rfl rfl (Nat.le_of_ble_eq_true rfl) (Nat.le_of_ble_eq_true rfl) rfl (Nat.le_of_ble_eq_true rfl) dJ3_length_6 ?_
  refine r_ishr C dJ3_length_9 ?_
  exact r_iret C dJ3_length_10 rfl
theorem cv_J3_1059 : mm_CS RJ3 1059 yJ7_checkIndex cJ7_checkIndex 3 (some .int) 3 := ⟨lw_S q563 q564 q145 q565, by decide +kernel, by decide +kernel, by decide +kernel⟩
/-! J3 checkIndex -/
def fJ3_checkIndex  (x0 : Int32) (x1 : Int32) (P : mm_P) : Option mm_P :=
  mm_bd (fJ7_checkIndex x0 x1 (gR P 6 0)) fun r1 =>
  some P
set_option maxHeartbeats 4000000 in
theorem mc_J3_checkIndex {l : Launch} {K : mm_K} {P : mm_P} {x0 : Int32} {x1 : Int32} {nx sl : Nat} {r : mm_P} (h : fJ3_checkIndex x0 x1 P = some r) : mm_C l yJ3_checkIndex (ws_ yJ3_checkIndex cJ3_checkIndex 2 none) 1 22 [.int x0, .int x1] K P nx sl (mm_wwV K nx sl r) :=
  mm_startF (ls := [some (.int x0), some (.int x1)]) h (by decide) (Nat.le_of_ble_eq_true rfl) rfl (Nat.le_refl _) (Nat.le_refl _) rfl fun E hl9 _ _ _ C => by
  have C : mm_Cx E RJ3 cJ3_checkIndex 2 none 1 22 := C
  unfold fJ3_checkIndex
  refine r_iload_n C dJ3_checkIndex_0 rfl rfl ?_
  refine r_iload_n C dJ3_checkIndex_1 rfl rfl ?_
  refine r_getsR C C.zs.2.2.2.2.2.1 (by decide) q509 dJ3_checkIndex_2 ?_
  refine r_bd fun r1 h2 => ?_
  refine r_callS (As := [.int x0, .int x1, va_rf (gR P 6 0)]) (st := []) C (mc_J7_checkIndex h2) cv_J3_1059  rfl (Nat.le_of_ble_eq_true rfl) (Nat.le_of_ble_eq_true rfl) rfl (Nat.le_of_ble_eq_true rfl) dJ3_checkIndex_5 ?_
  refine r_pop C dJ3_checkIndex_8 rfl ?_
  exact r_vret C dJ3_checkIndex_9 rfl
/-! J4 canEncode -/
def fJ4_canEncode  (x0 : Int32) : Option Int32 :=
  if x0 < 0 then
  (some ((0 : Int32)))
  else
  (if (255 : Int32) < x0 then
  (some ((0 : Int32)))
  else
  (some ((1 : Int32))))
set_option maxHeartbeats 4000000 in
theorem mc_J4_canEncode {l : Launch} {K : mm_K} {P : mm_P} {x0 : Int32} {nx sl : Nat} {r : Int32} (h : fJ4_canEncode x0 = some r) : mm_C l yJ4_canEncode (ws_ yJ4_canEncode cJ4_canEncode 1 (some .boolean)) 0 0 [.int x0] K P nx sl (mm_wrI K P nx sl r) :=
  mm_startF (ls := [some (.int x0)]) h (by decide) (Nat.le_of_ble_eq_true rfl) rfl (Nat.le_refl _) (Nat.le_refl _) rfl fun E hl9 _ _ _ C => by
  have C : mm_Cx E RJ4 cJ4_canEncode 1 (some .boolean) 0 0 := C
  unfold fJ4_canEncode
  refine r_iload_n C dJ4_canEncode_0 rfl rfl ?_
  refine r_iflt (tgt := 15) C dJ4_canEncode_1 (by decide) (fun h1 => ?_) (fun h1 => ?_)
  · refine r_iconst (v := 0) C dJ4_canEncode_15 rfl ?_
    exact r_zret C dJ4_canEncode_16 rfl rfl
  · refine r_iload_n C dJ4_canEncode_4 rfl rfl ?_
    refine r_sipush (v := 255) C dJ4_canEncode_5 rfl ?_
    refine r_icmpgt (tgt := 15) C dJ4_canEncode_8 (by decide) (fun h2 => ?_) (fun h2 => ?_)
    · refine r_iconst (v := 0) C dJ4_canEncode_15 rfl ?_
      exact r_zret C dJ4_canEncode_16 rfl rfl
    · refine r_iconst (v := 1) C dJ4_canEncode_11 rfl ?_
      refine r_goto (tgt := 16) C dJ4_canEncode_12 (by decide) ?_
      exact r_zret C dJ4_canEncode_16 rfl rfl
/-! J4 canEncode_2 -/
def fJ4_canEncode_2  (x0 : Int32) : Option Int32 :=
  if (255 : Int32) < x0 then
  (some ((0 : Int32)))
  else
  (some ((1 : Int32)))
set_option maxHeartbeats 4000000 in
theorem mc_J4_canEncode_2 {l : Launch} {K : mm_K} {P : mm_P} {x0 : Int32} {nx sl : Nat} {r : Int32} (h : fJ4_canEncode_2 x0 = some r) : mm_C l yJ4_canEncode_2 (ws_ yJ4_canEncode_2 cJ4_canEncode_2 1 (some .boolean)) 0 0 [.int x0] K P nx sl (mm_wrI K P nx sl r) :=
  mm_startF (ls := [some (.int x0)]) h (by decide) (Nat.le_of_ble_eq_true rfl) rfl (Nat.le_refl _) (Nat.le_refl _) rfl fun E hl9 _ _ _ C => by
  have C : mm_Cx E RJ4 cJ4_canEncode_2 1 (some .boolean) 0 0 := C
  unfold fJ4_canEncode_2
  refine r_iload_n C dJ4_canEncode_2_0 rfl rfl ?_
  refine r_sipush (v := 255) C dJ4_canEncode_2_1 rfl ?_
  refine r_icmpgt (tgt := 11) C dJ4_canEncode_2_4 (by decide) (fun h1 => ?_) (fun h1 => ?_)
  · refine r_iconst (v := 0) C dJ4_canEncode_2_11 rfl ?_
    exact r_zret C dJ4_canEncode_2_12 rfl rfl
  · refine r_iconst (v := 1) C dJ4_canEncode_2_7 rfl ?_
    refine r_goto (tgt := 12) C dJ4_canEncode_2_8 (by decide) ?_
    exact r_zret C dJ4_canEncode_2_12 rfl rfl
/-! J4 indexOfChar -/
def fJ4_indexOfChar_b7 (K : mm_K) (P : mm_P)  : Nat → Nat → Int32 → Int32 → Int32 → Option Int32
  | 0, _, _, _, _ => none
  | n + 1, x0, x3, x4, x5 =>
  if x3 ≤ x5 then
  (some ((-1 : Int32)))
  else
  (mm_gd (mm_isA K x0 1) <|
  mm_gd (mm_in x5 (K.2 x0)) <|
  if (gA P 8193 x0 x5.toNatClampNeg) ≠ x4 then
  (fJ4_indexOfChar_b7 K P n x0 x3 x4 (x5 + (1 : Int32)))
  else
  (some (x5)))
set_option maxHeartbeats 4000000 in
theorem wfJ4_indexOfChar_b7 {E : mm_E} (C : mm_Cx E RJ4 cJ4_indexOfChar 6 (some .int) 0 0) {K : mm_K} {P : mm_P} {nx sl : Nat} : ∀ (n : Nat), ∀ (x0 : Nat) (x3 : Int32) (x4 : Int32) (x5 : Int32), mm_V E (mm_wrI K P nx sl) 7 [some (.ref x0), none, none, some (.int x3), some (.int x4), some (.int x5)] [] K P nx sl (fJ4_indexOfChar_b7 K P n x0 x3 x4 x5) := by
  intro n
  induction n with
  | zero => intro x0 x3 x4 x5; exact r_none
  | succ n ih =>
    intro x0 x3 x4 x5
    rw [fJ4_indexOfChar_b7]
    refine r_iload C dJ4_indexOfChar_7 rfl ?_
    refine r_iload_n C dJ4_indexOfChar_9 rfl rfl ?_
    refine r_icmpge (tgt := 31) C dJ4_indexOfChar_10 (by decide) (fun h1 => ?_) (fun h1 => ?_)
    · refine r_iconst (v := -1) C dJ4_indexOfChar_31 rfl ?_
      exact r_iret C dJ4_indexOfChar_32 rfl
    · refine r_aload_n C dJ4_indexOfChar_13 rfl rfl ?_
      refine r_iload C dJ4_indexOfChar_14 rfl ?_
      refine r_gd fun hK2 => ?_
      refine r_bald C (rg_ra hK2) rfl dJ4_indexOfChar_16 fun h3 => ?_
      refine r_iload C dJ4_indexOfChar_17 rfl ?_
      refine r_icmpne (tgt := 25) C dJ4_indexOfChar_19 (by decide) (fun h4 => ?_) (fun h4 => ?_)
      · refine r_iinc (v := 1) (ls' := [some (.ref x0), none, none, some (.int x3), some (.int x4), some (.int (x5 + (1 : Int32)))]) C dJ4_indexOfChar_25 rfl rfl (Nat.le_of_ble_eq_true rfl) rfl rfl ?_
        refine r_goto (tgt := 7) C dJ4_indexOfChar_28 (by decide) ?_
        exact ih x0 x3 x4 (x5 + (1 : Int32))
      · refine r_iload C dJ4_indexOfChar_22 rfl ?_
        exact r_iret C dJ4_indexOfChar_24 rfl
def fJ4_indexOfChar (K : mm_K) (P : mm_P) (x0 : Nat) (x1 : Int32) (x2 : Int32) (x3 : Int32) : Option Int32 :=
  fJ4_indexOfChar_b7 K P mm_NF x0 x3 x1.toInt8.toInt32 x2
set_option maxHeartbeats 4000000 in
theorem mc_J4_indexOfChar {l : Launch} {K : mm_K} {P : mm_P} {x0 : Nat} {x1 : Int32} {x2 : Int32} {x3 : Int32} {nx sl : Nat} {r : Int32} (h : fJ4_indexOfChar K P x0 x1 x2 x3 = some r) : mm_C l yJ4_indexOfChar (ws_ yJ4_indexOfChar cJ4_indexOfChar 6 (some .int)) 0 0 [.ref x0, .int x1, .int x2, .int x3] K P nx sl (mm_wrI K P nx sl r) :=
  mm_startF (ls := [some (.ref x0), some (.int x1), some (.int x2), some (.int x3), none, none]) h (by decide) (Nat.le_of_ble_eq_true rfl) rfl (Nat.le_refl _) (Nat.le_refl _) rfl fun E hl9 _ _ _ C => by
  have C : mm_Cx E RJ4 cJ4_indexOfChar 6 (some .int) 0 0 := C
  unfold fJ4_indexOfChar
  refine r_iload_n C dJ4_indexOfChar_0 rfl rfl ?_
  refine r_i2b C dJ4_indexOfChar_1 ?_
  refine r_istore (ls' := [some (.ref x0), some (.int x1), some (.int x2), some (.int x3), some (.int x1.toInt8.toInt32), none]) C dJ4_indexOfChar_2 (Nat.le_of_ble_eq_true rfl) rfl rfl ?_
  refine r_iload_n C dJ4_indexOfChar_4 rfl rfl ?_
  refine r_istore (ls' := [some (.ref x0), some (.int x1), some (.int x2), some (.int x3), some (.int x1.toInt8.toInt32), some (.int x2)]) C dJ4_indexOfChar_5 (Nat.le_of_ble_eq_true rfl) rfl rfl ?_
  refine r_mask [true, false, false, true, true, true] (ls' := [some (.ref x0), none, none, some (.int x3), some (.int x1.toInt8.toInt32), some (.int x2)]) rfl ?_
  exact wfJ4_indexOfChar_b7 C mm_NF x0 x3 x1.toInt8.toInt32 x2
theorem cv_J4_88 : mm_CS RJ4 88 yJ4_canEncode cJ4_canEncode 1 (some .boolean) 1 := ⟨lw_S q479 q480 q142 q481, by decide +kernel, by decide +kernel, by decide +kernel⟩
theorem cv_J4_95 : mm_CS RJ4 95 yJ4_indexOfChar cJ4_indexOfChar 6 (some .int) 4 := ⟨lw_S q488 q489 q142 q490, by decide +kernel, by decide +kernel, by decide +kernel⟩
/-! J4 indexOf -/
def fJ4_indexOf (K : mm_K) (P : mm_P) (x0 : Nat) (x1 : Int32) (x2 : Int32) (x3 : Int32) : Option Int32 :=
  mm_bd (fJ4_canEncode x1) fun r1 =>
  if r1 ≠ 0 then
  (mm_lt (mm_max x2 (0 : Int32)) fun v4 =>
  mm_gd (mm_isA K x0 1) <|
  mm_lt (mm_min x3 (Int32.ofNat (K.2 x0))) fun v6 =>
  if v4 < v6 then
  (mm_bd (fJ4_indexOfChar K P x0 x1 v4 v6) fun r8 =>
  some (r8))
  else
  (some ((-1 : Int32))))
  else
  (some ((-1 : Int32)))
set_option maxHeartbeats 4000000 in
theorem mc_J4_indexOf {l : Launch} {K : mm_K} {P : mm_P} {x0 : Nat} {x1 : Int32} {x2 : Int32} {x3 : Int32} {nx sl : Nat} {r : Int32} (h : fJ4_indexOf K P x0 x1 x2 x3 = some r) : mm_C l yJ4_indexOf (ws_ yJ4_indexOf cJ4_indexOf 4 (some .int)) 1 25 [.ref x0, .int x1, .int x2, .int x3] K P nx sl (mm_wrI K P nx sl r) :=
  mm_startF (ls := [some (.ref x0), some (.int x1), some (.int x2), some (.int x3)]) h (by decide) (Nat.le_of_ble_eq_true rfl) rfl (Nat.le_refl _) (Nat.le_refl _) rfl fun E hl9 _ _ _ C => by
  have C : mm_Cx E RJ4 cJ4_indexOf 4 (some .int) 1 25 := C
  unfold fJ4_indexOf
  refine r_iload_n C dJ4_indexOf_0 rfl rfl ?_
  refine r_bd fun r1 h2 => ?_
  refine r_callS (As := [.int x1]) (st := []) C (mc_J4_canEncode h2) cv_J4_88  rfl (Nat.le_of_ble_eq_true rfl) (Nat.le_of_ble_eq_true rfl) rfl (Nat.le_of_ble_eq_true rfl) dJ4_indexOf_1 ?_
  refine r_ifne (tgt := 9) C dJ4_indexOf_4 (by decide) (fun h3 => ?_) (fun h3 => ?_)
  · refine r_iload_n C dJ4_indexOf_9 rfl rfl ?_
    refine r_iconst (v := 0) C dJ4_indexOf_10 rfl ?_
    refine r_mmax C q482 q483 q143 q484 (Nat.le_of_ble_eq_true rfl) (Nat.le_of_ble_eq_true rfl) (Nat.le_of_ble_eq_true rfl) dJ4_indexOf_11 ?_
    refine r_ltI fun v4 => ?_
    refine r_istore_n (ls' := [some (.ref x0), some (.int x1), some (.int v4), some (.int x3)]) C dJ4_indexOf_14 rfl (Nat.le_of_ble_eq_true rfl) rfl rfl ?_
    refine r_iload_n C dJ4_indexOf_15 rfl rfl ?_
    refine r_aload_n C dJ4_indexOf_16 rfl rfl ?_
    refine r_gd fun hK5 => ?_
    refine r_alen (v := Int32.ofNat (K.2 x0)) C (rg_ra hK5) rfl rfl dJ4_indexOf_17 ?_
    refine r_mmin C q485 q486 q143 q487 (Nat.le_of_ble_eq_true rfl) (Nat.le_of_ble_eq_true rfl) (Nat.le_of_ble_eq_true rfl) dJ4_indexOf_18 ?_
    refine r_ltI fun v6 => ?_
    refine r_istore_n (ls' := [some (.ref x0), some (.int x1), some (.int v4), some (.int v6)]) C dJ4_indexOf_21 rfl (Nat.le_of_ble_eq_true rfl) rfl rfl ?_
    refine r_iload_n C dJ4_indexOf_22 rfl rfl ?_
    refine r_iload_n C dJ4_indexOf_23 rfl rfl ?_
    refine r_icmplt (tgt := 29) C dJ4_indexOf_24 (by decide) (fun h7 => ?_) (fun h7 => ?_)
    · refine r_aload_n C dJ4_indexOf_29 rfl rfl ?_
      refine r_iload_n C dJ4_indexOf_30 rfl rfl ?_
      refine r_iload_n C dJ4_indexOf_31 rfl rfl ?_
      refine r_iload_n C dJ4_indexOf_32 rfl rfl ?_
      refine r_bd fun r8 h9 => ?_
      refine r_callS (As := [.ref x0, .int x1, .int v4, .int v6]) (st := []) C (mc_J4_indexOfChar h9) cv_J4_95  rfl (Nat.le_of_ble_eq_true rfl) (Nat.le_of_ble_eq_true rfl) rfl (Nat.le_of_ble_eq_true rfl) dJ4_indexOf_33 ?_
      exact r_iret C dJ4_indexOf_36 rfl
    · refine r_iconst (v := -1) C dJ4_indexOf_27 rfl ?_
      exact r_iret C dJ4_indexOf_28 rfl
  · refine r_iconst (v := -1) C dJ4_indexOf_7 rfl ?_
    exact r_iret C dJ4_indexOf_8 rfl
theorem cv_J4_9 : mm_CS RJ4 9 yJ3_checkIndex cJ3_checkIndex 2 none 2 := ⟨lw_S q560 q561 q141 q562, by decide +kernel, by decide +kernel, by decide +kernel⟩
/-! J4 charAt -/
def fJ4_charAt (K : mm_K) (x0 : Nat) (x1 : Int32) (P : mm_P) : Option (Int32 × mm_P) :=
  mm_gd (mm_isA K x0 1) <|
  mm_bd (fJ3_checkIndex x1 (Int32.ofNat (K.2 x0)) P) fun r2 =>
  mm_gd (mm_in x1 (K.2 x0)) <|
  mm_gd (mm_nC (mm_chr ((gA r2 8193 x0 x1.toNatClampNeg) &&& (255 : Int32))) = (mm_chr ((gA r2 8193 x0 x1.toNatClampNeg) &&& (255 : Int32)))) <|
  some (mm_chr ((gA r2 8193 x0 x1.toNatClampNeg) &&& (255 : Int32)), r2)
set_option maxHeartbeats 4000000 in
theorem mc_J4_charAt {l : Launch} {K : mm_K} {P : mm_P} {x0 : Nat} {x1 : Int32} {nx sl : Nat} {r : (Int32 × mm_P)} (h : fJ4_charAt K x0 x1 P = some r) : mm_C l yJ4_charAt (ws_ yJ4_charAt cJ4_charAt 2 (some .char)) 2 43 [.ref x0, .int x1] K P nx sl (mm_wwI K nx sl r) :=
  mm_startF (ls := [some (.ref x0), some (.int x1)]) h (by decide) (Nat.le_of_ble_eq_true rfl) rfl (Nat.le_refl _) (Nat.le_refl _) rfl fun E hl9 _ _ _ C => by
  have C : mm_Cx E RJ4 cJ4_charAt 2 (some .char) 2 43 := C
  unfold fJ4_charAt
  refine r_iload_n C dJ4_charAt_0 rfl rfl ?_
  refine r_aload_n C dJ4_charAt_1 rfl rfl ?_
  refine r_gd fun hK1 => ?_
  refine r_alen (v := Int32.ofNat (K.2 x0)) C (rg_ra hK1) rfl rfl dJ4_charAt_2 ?_
  refine r_bd fun r2 h3 => ?_
  refine r_callSv (As := [.int x1, .int (Int32.ofNat (K.2 x0))]) (st := []) C (mc_J3_checkIndex h3) cv_J4_9  rfl (Nat.le_of_ble_eq_true rfl) (Nat.le_of_ble_eq_true rfl) rfl (Nat.le_of_ble_eq_true rfl) dJ4_charAt_3 ?_
  refine r_aload_n C dJ4_charAt_6 rfl rfl ?_
  refine r_iload_n C dJ4_charAt_7 rfl rfl ?_
  refine r_bald C (rg_ra hK1) rfl dJ4_charAt_8 fun h4 => ?_
  refine r_sipush (v := 255) C dJ4_charAt_9 rfl ?_
  refine r_iand C dJ4_charAt_12 ?_
  refine r_i2c C dJ4_charAt_13 ?_
  refine r_gd fun h5 => ?_
  exact r_zret C dJ4_charAt_14 (mm_nC_n h5) rfl
/-! J4 equals -/
def fJ4_equals_b9 (K : mm_K) (P : mm_P)  : Nat → Nat → Nat → Int32 → Option Int32
  | 0, _, _, _ => none
  | n + 1, x0, x1, x2 =>
  mm_gd (mm_isA K x0 1) <|
  if (Int32.ofNat (K.2 x0)) ≤ x2 then
  (some ((1 : Int32)))
  else
  (mm_gd (mm_in x2 (K.2 x0)) <|
  mm_gd (mm_isA K x1 1) <|
  mm_gd (mm_in x2 (K.2 x1)) <|
  if (gA P 8193 x0 x2.toNatClampNeg) = (gA P 8193 x1 x2.toNatClampNeg) then
  (fJ4_equals_b9 K P n x0 x1 (x2 + (1 : Int32)))
  else
  (some ((0 : Int32))))
set_option maxHeartbeats 4000000 in
theorem wfJ4_equals_b9 {E : mm_E} (C : mm_Cx E RJ4 cJ4_equals 3 (some .boolean) 0 0) {K : mm_K} {P : mm_P} {nx sl : Nat} : ∀ (n : Nat), ∀ (x0 : Nat) (x1 : Nat) (x2 : Int32), mm_V E (mm_wrI K P nx sl) 9 [some (.ref x0), some (.ref x1), some (.int x2)] [] K P nx sl (fJ4_equals_b9 K P n x0 x1 x2) := by
  intro n
  induction n with
  | zero => intro x0 x1 x2; exact r_none
  | succ n ih =>
    intro x0 x1 x2
    rw [fJ4_equals_b9]
    refine r_iload_n C dJ4_equals_9 rfl rfl ?_
    refine r_aload_n C dJ4_equals_10 rfl rfl ?_
    refine r_gd fun hK1 => ?_
    refine r_alen (v := Int32.ofNat (K.2 x0)) C (rg_ra hK1) rfl rfl dJ4_equals_11 ?_
    refine r_icmpge (tgt := 32) C dJ4_equals_12 (by decide) (fun h2 => ?_) (fun h2 => ?_)
    · refine r_iconst (v := 1) C dJ4_equals_32 rfl ?_
      exact r_zret C dJ4_equals_33 rfl rfl
    · refine r_aload_n C dJ4_equals_15 rfl rfl ?_
      refine r_iload_n C dJ4_equals_16 rfl rfl ?_
      refine r_bald C (rg_ra hK1) rfl dJ4_equals_17 fun h3 => ?_
      refine r_aload_n C dJ4_equals_18 rfl rfl ?_
      refine r_iload_n C dJ4_equals_19 rfl rfl ?_
      refine r_gd fun hK4 => ?_
      refine r_bald C (rg_ra hK4) rfl dJ4_equals_20 fun h5 => ?_
      refine r_icmpeq (tgt := 26) C dJ4_equals_21 (by decide) (fun h6 => ?_) (fun h6 => ?_)
      · refine r_iinc (v := 1) (ls' := [some (.ref x0), some (.ref x1), some (.int (x2 + (1 : Int32)))]) C dJ4_equals_26 rfl rfl (Nat.le_of_ble_eq_true rfl) rfl rfl ?_
        refine r_goto (tgt := 9) C dJ4_equals_29 (by decide) ?_
        exact ih x0 x1 (x2 + (1 : Int32))
      · refine r_iconst (v := 0) C dJ4_equals_24 rfl ?_
        exact r_zret C dJ4_equals_25 rfl rfl
def fJ4_equals (K : mm_K) (P : mm_P) (x0 : Nat) (x1 : Nat) : Option Int32 :=
  mm_gd (mm_isA K x0 1) <|
  mm_gd (mm_isA K x1 1) <|
  if (Int32.ofNat (K.2 x0)) ≠ (Int32.ofNat (K.2 x1)) then
  (some ((0 : Int32)))
  else
  (fJ4_equals_b9 K P mm_NF x0 x1 (0 : Int32))
set_option maxHeartbeats 4000000 in
theorem mc_J4_equals {l : Launch} {K : mm_K} {P : mm_P} {x0 : Nat} {x1 : Nat} {nx sl : Nat} {r : Int32} (h : fJ4_equals K P x0 x1 = some r) : mm_C l yJ4_equals (ws_ yJ4_equals cJ4_equals 3 (some .boolean)) 0 0 [.ref x0, .ref x1] K P nx sl (mm_wrI K P nx sl r) :=
  mm_startF (ls := [some (.ref x0), some (.ref x1), none]) h (by decide) (Nat.le_of_ble_eq_true rfl) rfl (Nat.le_refl _) (Nat.le_refl _) rfl fun E hl9 _ _ _ C => by
  have C : mm_Cx E RJ4 cJ4_equals 3 (some .boolean) 0 0 := C
  unfold fJ4_equals
  refine r_aload_n C dJ4_equals_0 rfl rfl ?_
  refine r_gd fun hK1 => ?_
  refine r_alen (v := Int32.ofNat (K.2 x0)) C (rg_ra hK1) rfl rfl dJ4_equals_1 ?_
  refine r_aload_n C dJ4_equals_2 rfl rfl ?_
  refine r_gd fun hK2 => ?_
  refine r_alen (v := Int32.ofNat (K.2 x1)) C (rg_ra hK2) rfl rfl dJ4_equals_3 ?_
  refine r_icmpne (tgt := 34) C dJ4_equals_4 (by decide) (fun h3 => ?_) (fun h3 => ?_)
  · refine r_iconst (v := 0) C dJ4_equals_34 rfl ?_
    exact r_zret C dJ4_equals_35 rfl rfl
  · refine r_iconst (v := 0) C dJ4_equals_7 rfl ?_
    refine r_istore_n (ls' := [some (.ref x0), some (.ref x1), some (.int (0 : Int32))]) C dJ4_equals_8 rfl (Nat.le_of_ble_eq_true rfl) rfl rfl ?_
    exact wfJ4_equals_b9 C mm_NF x0 x1 (0 : Int32)
theorem cv_J3_492 {k : Nat} (h : mm_isS k) : mm_CV RJ3 492 yJ3_isLatin1 cJ3_isLatin1 1 (some .boolean) 0 k := by
  rcases h with rfl | rfl
  · exact ⟨RJ3, TJ3, 4, _, lw_V q462 q463 q464 q141 q465, ⟨rfl, by decide +kernel, by decide +kernel, by decide +kernel⟩, rfl, rfl⟩
  · exact ⟨RJ3, TJ3, 2, _, lw_V q462 q463 q464 q141 q465, ⟨rfl, by decide +kernel, by decide +kernel, by decide +kernel⟩, rfl, rfl⟩
theorem cv_J3_505 {k : Nat} (h : mm_isS k) : mm_CV RJ3 505 yJ3_length cJ3_length 1 (some .int) 0 k := by
  rcases h with rfl | rfl
  · exact ⟨RJ3, TJ3, 4, _, lw_V q468 q469 q470 q141 q471, ⟨rfl, by decide +kernel, by decide +kernel, by decide +kernel⟩, rfl, rfl⟩
  · exact ⟨RJ3, TJ3, 2, _, lw_V q468 q469 q470 q141 q471, ⟨rfl, by decide +kernel, by decide +kernel, by decide +kernel⟩, rfl, rfl⟩
theorem cv_J3_637 : mm_CS RJ3 637 yJ4_indexOf cJ4_indexOf 4 (some .int) 4 := ⟨lw_S q476 q477 q142 q478, by decide +kernel, by decide +kernel, by decide +kernel⟩
/-! J3 indexOf_2 -/
def fJ3_indexOf_2 (K : mm_K) (th : Nat) (P : mm_P) (x1 : Int32) (x2 : Int32) : Option Int32 :=
  mm_bd (fJ3_isLatin1 th P) fun r1 =>
  if r1 = 0 then
  (mm_bd (gR P 2816 th) fun b4 =>
  mm_bd (fJ3_length K th P) fun r6 =>
  none)
  else
  (mm_bd (gR P 2816 th) fun b8 =>
  mm_bd (fJ3_length K th P) fun r10 =>
  mm_bd (fJ4_indexOf K P b8 x1 x2 r10) fun r12 =>
  some (r12))
set_option maxHeartbeats 4000000 in
theorem mc_J3_indexOf_2 {l : Launch} {K : mm_K} {P : mm_P} {th : Nat} {x1 : Int32} {x2 : Int32} {nx sl : Nat} {r : Int32} (hk : mm_isS (K.1 th)) (h : fJ3_indexOf_2 K th P x1 x2 = some r) : mm_C l yJ3_indexOf_2 (ws_ yJ3_indexOf_2 cJ3_indexOf_2 3 (some .int)) 2 48 [.ref th, .int x1, .int x2] K P nx sl (mm_wrI K P nx sl r) :=
  mm_startF (ls := [some (.ref th), some (.int x1), some (.int x2)]) h (by decide) (Nat.le_of_ble_eq_true rfl) rfl (Nat.le_refl _) (Nat.le_refl _) rfl fun E hl9 _ _ _ C => by
  have C : mm_Cx E RJ3 cJ3_indexOf_2 3 (some .int) 2 48 := C
  unfold fJ3_indexOf_2
  refine r_aload_n C dJ3_indexOf_2_0 rfl rfl ?_
  refine r_bd fun r1 h2 => ?_
  refine r_callV (As := []) (st := []) C (mc_J3_isLatin1 hk h2) (cv_J3_492 hk) rfl rfl (Nat.le_of_ble_eq_true rfl) (Nat.le_of_ble_eq_true rfl) rfl (Nat.le_of_ble_eq_true rfl) dJ3_indexOf_2_1 ?_
  refine r_ifeq (tgt := 23) C dJ3_indexOf_2_4 (by decide) (fun h3 => ?_) (fun h3 => ?_)
  · refine r_aload_n C dJ3_indexOf_2_23 rfl rfl ?_
    refine r_getRn (code := 2816) C (fl_J3_9_S hk) rfl (mm_bsS hk _) dJ3_indexOf_2_24 fun b4 h5 => ?_
    refine r_iload_n C dJ3_indexOf_2_27 rfl rfl ?_
    refine r_iload_n C dJ3_indexOf_2_28 rfl rfl ?_
    refine r_aload_n C dJ3_indexOf_2_29 rfl rfl ?_
    refine r_bd fun r6 h7 => ?_
    refine r_callV (As := []) (st := [.int x2, .int x1, .ref b4]) C (mc_J3_length hk h7) (cv_J3_505 hk) rfl rfl (Nat.le_of_ble_eq_true rfl) (Nat.le_of_ble_eq_true rfl) rfl (Nat.le_of_ble_eq_true rfl) dJ3_indexOf_2_30 ?_
    exact r_none
  · refine r_aload_n C dJ3_indexOf_2_7 rfl rfl ?_
    refine r_getRn (code := 2816) C (fl_J3_9_S hk) rfl (mm_bsS hk _) dJ3_indexOf_2_8 fun b8 h9 => ?_
    refine r_iload_n C dJ3_indexOf_2_11 rfl rfl ?_
    refine r_iload_n C dJ3_indexOf_2_12 rfl rfl ?_
    refine r_aload_n C dJ3_indexOf_2_13 rfl rfl ?_
    refine r_bd fun r10 h11 => ?_
    refine r_callV (As := []) (st := [.int x2, .int x1, .ref b8]) C (mc_J3_length hk h11) (cv_J3_505 hk) rfl rfl (Nat.le_of_ble_eq_true rfl) (Nat.le_of_ble_eq_true rfl) rfl (Nat.le_of_ble_eq_true rfl) dJ3_indexOf_2_14 ?_
    refine r_bd fun r12 h13 => ?_
    refine r_callS (As := [.ref b8, .int x1, .int x2, .int r10]) (st := []) C (mc_J4_indexOf h13) cv_J3_637  rfl (Nat.le_of_ble_eq_true rfl) (Nat.le_of_ble_eq_true rfl) rfl (Nat.le_of_ble_eq_true rfl) dJ3_indexOf_2_17 ?_
    refine r_goto (tgt := 36) C dJ3_indexOf_2_20 (by decide) ?_
    exact r_iret C dJ3_indexOf_2_36 rfl
theorem cv_J3_633 {k : Nat} (h : mm_isS k) : mm_CV RJ3 633 yJ3_indexOf_2 cJ3_indexOf_2 3 (some .int) 2 k := by
  rcases h with rfl | rfl
  · exact ⟨RJ3, TJ3, 4, _, lw_V q458 q459 q460 q141 q461, ⟨rfl, by decide +kernel, by decide +kernel, by decide +kernel⟩, rfl, rfl⟩
  · exact ⟨RJ3, TJ3, 2, _, lw_V q458 q459 q460 q141 q461, ⟨rfl, by decide +kernel, by decide +kernel, by decide +kernel⟩, rfl, rfl⟩
/-! J3 indexOf -/
def fJ3_indexOf (K : mm_K) (th : Nat) (P : mm_P) (x1 : Int32) : Option Int32 :=
  mm_bd (fJ3_indexOf_2 K th P x1 (0 : Int32)) fun r1 =>
  some (r1)
set_option maxHeartbeats 4000000 in
theorem mc_J3_indexOf {l : Launch} {K : mm_K} {P : mm_P} {th : Nat} {x1 : Int32} {nx sl : Nat} {r : Int32} (hk : mm_isS (K.1 th)) (h : fJ3_indexOf K th P x1 = some r) : mm_C l yJ3_indexOf (ws_ yJ3_indexOf cJ3_indexOf 2 (some .int)) 3 70 [.ref th, .int x1] K P nx sl (mm_wrI K P nx sl r) :=
  mm_startF (ls := [some (.ref th), some (.int x1)]) h (by decide) (Nat.le_of_ble_eq_true rfl) rfl (Nat.le_refl _) (Nat.le_refl _) rfl fun E hl9 _ _ _ C => by
  have C : mm_Cx E RJ3 cJ3_indexOf 2 (some .int) 3 70 := C
  unfold fJ3_indexOf
  refine r_aload_n C dJ3_indexOf_0 rfl rfl ?_
  refine r_iload_n C dJ3_indexOf_1 rfl rfl ?_
  refine r_iconst (v := 0) C dJ3_indexOf_2 rfl ?_
  refine r_bd fun r1 h2 => ?_
  refine r_callV (As := [.int x1, .int (0 : Int32)]) (st := []) C (mc_J3_indexOf_2 hk h2) (cv_J3_633 hk) rfl rfl (Nat.le_of_ble_eq_true rfl) (Nat.le_of_ble_eq_true rfl) rfl (Nat.le_of_ble_eq_true rfl) dJ3_indexOf_3 ?_
  exact r_iret C dJ3_indexOf_6 rfl
theorem cv_J3_495 : mm_CS RJ3 495 yJ4_charAt cJ4_charAt 2 (some .char) 2 := ⟨lw_S q557 q558 q142 q559, by decide +kernel, by decide +kernel, by decide +kernel⟩
/-! J3 charAt -/
def fJ3_charAt (K : mm_K) (th : Nat) (x1 : Int32) (P : mm_P) : Option (Int32 × mm_P) :=
  mm_bd (fJ3_isLatin1 th P) fun r1 =>
  if r1 = 0 then
  (mm_bd (gR P 2816 th) fun b4 =>
  none)
  else
  (mm_bd (gR P 2816 th) fun b6 =>
  mm_bd (fJ4_charAt K b6 x1 P) fun r8 =>
  mm_gd (mm_nC r8.1 = r8.1) <|
  some (r8.1, r8.2))
set_option maxHeartbeats 4000000 in
theorem mc_J3_charAt {l : Launch} {K : mm_K} {P : mm_P} {th : Nat} {x1 : Int32} {nx sl : Nat} {r : (Int32 × mm_P)} (hk : mm_isS (K.1 th)) (h : fJ3_charAt K th x1 P = some r) : mm_C l yJ3_charAt (ws_ yJ3_charAt cJ3_charAt 2 (some .char)) 3 64 [.ref th, .int x1] K P nx sl (mm_wwI K nx sl r) :=
  mm_startF (ls := [some (.ref th), some (.int x1)]) h (by decide) (Nat.le_of_ble_eq_true rfl) rfl (Nat.le_refl _) (Nat.le_refl _) rfl fun E hl9 _ _ _ C => by
  have C : mm_Cx E RJ3 cJ3_charAt 2 (some .char) 3 64 := C
  unfold fJ3_charAt
  refine r_aload_n C dJ3_charAt_0 rfl rfl ?_
  refine r_bd fun r1 h2 => ?_
  refine r_callV (As := []) (st := []) C (mc_J3_isLatin1 hk h2) (cv_J3_492 hk) rfl rfl (Nat.le_of_ble_eq_true rfl) (Nat.le_of_ble_eq_true rfl) rfl (Nat.le_of_ble_eq_true rfl) dJ3_charAt_1 ?_
  refine r_ifeq (tgt := 16) C dJ3_charAt_4 (by decide) (fun h3 => ?_) (fun h3 => ?_)
  · refine r_aload_n C dJ3_charAt_16 rfl rfl ?_
    refine r_getRn (code := 2816) C (fl_J3_9_S hk) rfl (mm_bsS hk _) dJ3_charAt_17 fun b4 h5 => ?_
    refine r_iload_n C dJ3_charAt_20 rfl rfl ?_
    exact r_none
  · refine r_aload_n C dJ3_charAt_7 rfl rfl ?_
    refine r_getRn (code := 2816) C (fl_J3_9_S hk) rfl (mm_bsS hk _) dJ3_charAt_8 fun b6 h7 => ?_
    refine r_iload_n C dJ3_charAt_11 rfl rfl ?_
    refine r_bd fun r8 h9 => ?_
    refine r_callS (As := [.ref b6, .int x1]) (st := []) C (mc_J4_charAt h9) cv_J3_495  rfl (Nat.le_of_ble_eq_true rfl) (Nat.le_of_ble_eq_true rfl) rfl (Nat.le_of_ble_eq_true rfl) dJ3_charAt_12 ?_
    refine r_gd fun h10 => ?_
    exact r_zret C dJ3_charAt_15 (mm_nC_n h10) rfl
theorem cv_J3_541 : mm_CS RJ3 541 yJ4_equals cJ4_equals 3 (some .boolean) 2 := ⟨lw_S q848 q849 q142 q850, by decide +kernel, by decide +kernel, by decide +kernel⟩
theorem ca_J3_10 {k : Nat} (h : mm_isS k) : mm_CA RJ3 10 k := by
  rcases h with rfl | rfl
  · exact ⟨RJ3, _, TJ3, 4, _, q847, rfl, rfl, Or.inl rfl⟩
  · exact ⟨RJ3, _, TJ3, 2, _, q847, rfl, rfl, Or.inl rfl⟩
/-! J3 equals -/
def fJ3_equals_b36 (K : mm_K) (th : Nat) (P : mm_P)  (x2 : Nat) : Option Int32 :=
  mm_bd (gR P 2816 th) fun b1 =>
  mm_gd (mm_isS (K.1 x2)) <|
  mm_bd (gR P 2816 x2) fun b4 =>
  mm_bd (fJ4_equals K P b1 b4) fun r6 =>
  if r6 = 0 then
  (some ((0 : Int32)))
  else
  (some ((1 : Int32)))
set_option maxHeartbeats 4000000 in
theorem wfJ3_equals_b36 {E : mm_E} (C : mm_Cx E RJ3 cJ3_equals 3 (some .boolean) 1 22) {K : mm_K} {th : Nat} (hk : mm_isS (K.1 th)) {P : mm_P} {nx sl : Nat} (x2 : Nat) : mm_V E (mm_wrI K P nx sl) 36 [some (.ref th), none, some (.ref x2)] [] K P nx sl (fJ3_equals_b36 K th P x2) := by
  unfold fJ3_equals_b36
  refine r_aload_n C dJ3_equals_36 rfl rfl ?_
  refine r_getRn (code := 2816) C (fl_J3_9_S hk) rfl (mm_bsS hk _) dJ3_equals_37 fun b1 h2 => ?_
  refine r_aload_n C dJ3_equals_40 rfl rfl ?_
  refine r_gd fun hK3 => ?_
  refine r_getRn (code := 2816) C (fl_J3_9_S hK3) rfl (mm_bsS hK3 _) dJ3_equals_41 fun b4 h5 => ?_
  refine r_bd fun r6 h7 => ?_
  refine r_callS (As := [.ref b1, .ref b4]) (st := []) C (mc_J4_equals h7) cv_J3_541  rfl (Nat.le_of_ble_eq_true rfl) (Nat.le_of_ble_eq_true rfl) rfl (Nat.le_of_ble_eq_true rfl) dJ3_equals_44 ?_
  refine r_ifeq (tgt := 54) C dJ3_equals_47 (by decide) (fun h8 => ?_) (fun h8 => ?_)
  · refine r_iconst (v := 0) C dJ3_equals_54 rfl ?_
    exact r_zret C dJ3_equals_55 rfl rfl
  · refine r_iconst (v := 1) C dJ3_equals_50 rfl ?_
    refine r_goto (tgt := 55) C dJ3_equals_51 (by decide) ?_
    exact r_zret C dJ3_equals_55 rfl rfl
def fJ3_equals (K : mm_K) (th : Nat) (P : mm_P) (x1 : Nat) : Option Int32 :=
  if (some th) ≠ (some x1) then
  (mm_gd (mm_isS (K.1 x1)) <|
  if (1 : Int32) = 0 then
  (some ((0 : Int32)))
  else
  (if (1 : Int32) = 0 then
  (fJ3_equals_b36 K th P x1)
  else
  (if (gI P 2817 th) ≠ (gI P 2817 x1) then
  (some ((0 : Int32)))
  else
  (fJ3_equals_b36 K th P x1))))
  else
  (some ((1 : Int32)))
set_option maxHeartbeats 4000000 in
theorem mc_J3_equals {l : Launch} {K : mm_K} {P : mm_P} {th : Nat} {x1 : Nat} {nx sl : Nat} {r : Int32} (hk : mm_isS (K.1 th)) (h : fJ3_equals K th P x1 = some r) : mm_C l yJ3_equals (ws_ yJ3_equals cJ3_equals 3 (some .boolean)) 1 22 [.ref th, .ref x1] K P nx sl (mm_wrI K P nx sl r) :=
  mm_startF (ls := [some (.ref th), some (.ref x1), none]) h (by decide) (Nat.le_of_ble_eq_true rfl) rfl (Nat.le_refl _) (Nat.le_refl _) rfl fun E hl9 _ _ _ C => by
  have C : mm_Cx E RJ3 cJ3_equals 3 (some .boolean) 1 22 := C
  unfold fJ3_equals
  refine r_aload_n C dJ3_equals_0 rfl rfl ?_
  refine r_aload_n C dJ3_equals_1 rfl rfl ?_
  refine r_acmpne (x := (some th)) (y := (some x1)) (tgt := 7) C rfl rfl dJ3_equals_2 (by decide) (fun h1 => ?_) (fun h1 => ?_)
  · refine r_aload_n C dJ3_equals_7 rfl rfl ?_
    refine r_gd fun hK2 => ?_
    refine r_instS C q847 hK2 dJ3_equals_8 ?_
    refine r_ifeq (tgt := 54) C dJ3_equals_11 (by decide) (fun h3 => ?_) (fun h3 => ?_)
    · refine r_iconst (v := 0) C dJ3_equals_54 rfl ?_
      exact r_zret C dJ3_equals_55 rfl rfl
    · refine r_aload_n C dJ3_equals_14 rfl rfl ?_
      refine r_cast C (ca_J3_10 hK2) rfl dJ3_equals_15 ?_
      refine r_astore_n (ls' := [some (.ref th), some (.ref x1), some (.ref x1)]) C dJ3_equals_18 rfl (Nat.le_of_ble_eq_true rfl) rfl rfl ?_
      refine r_gets C C.zs.2.2.2.2.1 q466 dJ3_equals_19 ?_
      refine r_ifeq (tgt := 36) C dJ3_equals_22 (by decide) (fun h4 => ?_) (fun h4 => ?_)
      · refine r_mask [true, false, true] (ls' := [some (.ref th), none, some (.ref x1)]) rfl ?_
        exact wfJ3_equals_b36 C hk x1
      · refine r_aload_n C dJ3_equals_25 rfl rfl ?_
        refine r_getI (code := 2817) C (fl_J3_15_S hk) rfl (mm_bsS hk _) dJ3_equals_26 ?_
        refine r_aload_n C dJ3_equals_29 rfl rfl ?_
        refine r_getI (code := 2817) C (fl_J3_15_S hK2) rfl (mm_bsS hK2 _) dJ3_equals_30 ?_
        refine r_icmpne (tgt := 54) C dJ3_equals_33 (by decide) (fun h5 => ?_) (fun h5 => ?_)
        · refine r_iconst (v := 0) C dJ3_equals_54 rfl ?_
          exact r_zret C dJ3_equals_55 rfl rfl
        · refine r_mask [true, false, true] (ls' := [some (.ref th), none, some (.ref x1)]) rfl ?_
          exact wfJ3_equals_b36 C hk x1
  · refine r_iconst (v := 1) C dJ3_equals_5 rfl ?_
    exact r_zret C dJ3_equals_6 rfl rfl
theorem fl_J12_15_23 : mm_FL RJ12 15 23 0 mm_r (tyJ13 0) false := ⟨RJ13, TJ13, 4, _, tyJ13, rfl, in_J13, rfl, rfl, Nat.le_of_ble_eq_true rfl, Or.inl q684, tyJ13_ok, nmJ13, rfl, rfl⟩
theorem fl_J12_22_23 : mm_FL RJ12 22 23 1 mm_i .byte false := ⟨RJ13, TJ13, 4, _, tyJ13, rfl, in_J13, rfl, rfl, Nat.le_of_ble_eq_true rfl, Or.inl q685, tyJ13_ok, nmJ13, rfl, rfl⟩
/-! J12 init -/
def fJ12_init (th : Nat) (x1 : Int32) (K : mm_K) (P : mm_P) (nx : Nat) (sl : Nat) : Option mm_S :=
  mm_mo mm_waV nx sl <|
  if (1 : Int32) = 0 then
  (none)
  else
  (mm_gd (¬ x1 < 0 ∧ x1.toNatClampNeg * 8 ≤ 536870912) <|
  mm_mo mm_waV (nx + 1) (sl + x1.toNatClampNeg) <|
  mm_lt (mm_kn K nx 65 x1.toNatClampNeg) fun K2 =>
  mm_lt (mm_fresh P nx) fun P3 =>
  mm_gd (K2.1 th = 23) <|
  mm_lt (sR P3 2944 th (some nx)) fun P7 =>
  mm_gd (mm_nB (0 : Int32) = (0 : Int32)) <|
  mm_lt (sI P7 2945 th (0 : Int32)) fun P8 =>
  some (K2, P8, nx + 1, sl + x1.toNatClampNeg))
set_option maxHeartbeats 4000000 in
theorem mc_J12_init {l : Launch} {K : mm_K} {P : mm_P} {th : Nat} {x1 : Int32} {nx sl : Nat} {r : mm_S} (hk : K.1 th = 23) (h : fJ12_init th x1 K P nx sl = some r) : mm_C l yJ12_init (ws_ yJ12_init cJ12_init 2 none) 1 20 [.ref th, .int x1] K P nx sl (mm_waV r) :=
  mm_startF (ls := [some (.ref th), some (.int x1)]) h (by decide) (Nat.le_of_ble_eq_true rfl) rfl (mm_mo_some h).2.1 (mm_mo_some h).2.2 rfl fun E hl9 _ _ hin C => by
  have hin := hin rfl
  have C : mm_Cx E RJ12 cJ12_init 2 none 1 20 := C
  unfold fJ12_init
  refine r_mo ?_
  refine r_aload_n C dJ12_init_0 rfl rfl ?_
  refine r_objinit C q675 q181 q182 (Nat.le_of_ble_eq_true rfl) (Nat.le_of_ble_eq_true rfl) (Nat.le_of_ble_eq_true rfl) dJ12_init_1 ?_
  refine r_gets C C.zs.2.2.2.2.1 q676 dJ12_init_4 ?_
  refine r_ifeq (tgt := 25) C dJ12_init_7 (by decide) (fun h1 => ?_) (fun h1 => ?_)
  · refine r_aload_n C dJ12_init_25 rfl rfl ?_
    refine r_iload_n C dJ12_init_26 rfl rfl ?_
    exact r_none
  · refine r_aload_n C dJ12_init_10 rfl rfl ?_
    refine r_iload_n C dJ12_init_11 rfl rfl ?_
    refine r_gd fun h5 => ?_
    refine mm_newa (ek := 1) C (by decide) q214 rfl h5.1 (N := x1.toNatClampNeg) rfl h5.2 dJ12_init_12 ?_
    refine r_ltK fun K2 e4 => ?_
    refine r_ltP fun P3 => ?_
    refine r_gd fun hK6 => ?_
    refine r_putR (code := 2944) (x := (some nx)) C fl_J12_15_23 hK6 rfl rfl rfl (mm_nrA _) (mm_ftA _) dJ12_init_14 ?_
    refine r_ltP fun P7 => ?_
    refine r_aload_n C dJ12_init_17 rfl rfl ?_
    refine r_iconst (v := 0) C dJ12_init_18 rfl ?_
    refine r_gd fun h9 => ?_
    refine r_putIT (code := 2945) C fl_J12_22_23 hK6 rfl rfl (mm_nB_n h9) (mm_nB_f h9) dJ12_init_19 ?_
    refine r_ltP fun P8 => ?_
    refine r_goto (tgt := 38) C dJ12_init_22 (by decide) ?_
    exact r_vret C dJ12_init_38 rfl
theorem cv_J13_1 : mm_CI RJ13 1 yJ12_init cJ12_init 2 1 := ⟨q674, q151, q672, q673, rfl, ⟨by decide +kernel, by decide +kernel, by decide +kernel⟩⟩
/-! J13 init -/
def fJ13_init (th : Nat) (x1 : Int32) (K : mm_K) (P : mm_P) (nx : Nat) (sl : Nat) : Option mm_S :=
  mm_mo mm_waV nx sl <|
  mm_bd (fJ12_init th x1 K P nx sl) fun r1 =>
  mm_mo mm_waV r1.2.2.1 r1.2.2.2 <|
  some (r1.1, r1.2.1, r1.2.2.1, r1.2.2.2)
set_option maxHeartbeats 4000000 in
theorem mc_J13_init {l : Launch} {K : mm_K} {P : mm_P} {th : Nat} {x1 : Int32} {nx sl : Nat} {r : mm_S} (hk : K.1 th = 23) (h : fJ13_init th x1 K P nx sl = some r) : mm_C l yJ13_init (ws_ yJ13_init cJ13_init 2 none) 2 41 [.ref th, .int x1] K P nx sl (mm_waV r) :=
  mm_startF (ls := [some (.ref th), some (.int x1)]) h (by decide) (Nat.le_of_ble_eq_true rfl) rfl (mm_mo_some h).2.1 (mm_mo_some h).2.2 rfl fun E hl9 _ _ hin C => by
  have hin := hin rfl
  have C : mm_Cx E RJ13 cJ13_init 2 none 2 41 := C
  unfold fJ13_init
  refine r_mo ?_
  refine r_aload_n C dJ13_init_0 rfl rfl ?_
  refine r_iload_n C dJ13_init_1 rfl rfl ?_
  refine r_bd fun r1 h2 => ?_
  refine r_acallIv (As := [.int x1]) (st := []) C (mc_J12_init hk h2) cv_J13_1  rfl (Nat.le_of_ble_eq_true rfl) (Nat.le_of_ble_eq_true rfl) rfl (Nat.le_of_ble_eq_true rfl) dJ13_init_2 ?_
  exact r_vret C dJ13_init_5 rfl
/-! J12 isLatin1 -/
def fJ12_isLatin1 (th : Nat) (P : mm_P)  : Option Int32 :=
  if (1 : Int32) = 0 then
  (some ((0 : Int32)))
  else
  (if (gI P 2945 th) ≠ 0 then
  (some ((0 : Int32)))
  else
  (some ((1 : Int32))))
set_option maxHeartbeats 4000000 in
theorem mc_J12_isLatin1 {l : Launch} {K : mm_K} {P : mm_P} {th : Nat}  {nx sl : Nat} {r : Int32} (hk : K.1 th = 23) (h : fJ12_isLatin1 th P = some r) : mm_C l yJ12_isLatin1 (ws_ yJ12_isLatin1 cJ12_isLatin1 1 (some .boolean)) 0 0 [.ref th] K P nx sl (mm_wrI K P nx sl r) :=
  mm_startF (ls := [some (.ref th)]) h (by decide) (Nat.le_of_ble_eq_true rfl) rfl (Nat.le_refl _) (Nat.le_refl _) rfl fun E hl9 _ _ _ C => by
  have C : mm_Cx E RJ12 cJ12_isLatin1 1 (some .boolean) 0 0 := C
  unfold fJ12_isLatin1
  refine r_gets C C.zs.2.2.2.2.1 q676 dJ12_isLatin1_0 ?_
  refine r_ifeq (tgt := 17) C dJ12_isLatin1_3 (by decide) (fun h1 => ?_) (fun h1 => ?_)
  · refine r_iconst (v := 0) C dJ12_isLatin1_17 rfl ?_
    exact r_zret C dJ12_isLatin1_18 rfl rfl
  · refine r_aload_n C dJ12_isLatin1_6 rfl rfl ?_
    refine r_getI (code := 2945) C fl_J12_22_23 hk rfl dJ12_isLatin1_7 ?_
    refine r_ifne (tgt := 17) C dJ12_isLatin1_10 (by decide) (fun h2 => ?_) (fun h2 => ?_)
    · refine r_iconst (v := 0) C dJ12_isLatin1_17 rfl ?_
      exact r_zret C dJ12_isLatin1_18 rfl rfl
    · refine r_iconst (v := 1) C dJ12_isLatin1_13 rfl ?_
      refine r_goto (tgt := 18) C dJ12_isLatin1_14 (by decide) ?_
      exact r_zret C dJ12_isLatin1_18 rfl rfl
/-! J12 getValue -/
def fJ12_getValue (th : Nat) (P : mm_P)  : Option Nat :=
  mm_bd (gR P 2944 th) fun b1 =>
  some (b1)
set_option maxHeartbeats 4000000 in
theorem mc_J12_getValue {l : Launch} {K : mm_K} {P : mm_P} {th : Nat}  {nx sl : Nat} {r : Nat} (hk : K.1 th = 23) (h : fJ12_getValue th P = some r) : mm_C l yJ12_getValue (ws_ yJ12_getValue cJ12_getValue 1 (some (.array .byte))) 0 0 [.ref th] K P nx sl (mm_wrR K P nx sl r) :=
  mm_startF (ls := [some (.ref th)]) h (by decide) (Nat.le_of_ble_eq_true rfl) rfl (Nat.le_refl _) (Nat.le_refl _) rfl fun E hl9 _ _ _ C => by
  have C : mm_Cx E RJ12 cJ12_getValue 1 (some (.array .byte)) 0 0 := C
  unfold fJ12_getValue
  refine r_aload_n C dJ12_getValue_0 rfl rfl ?_
  refine r_getRn (code := 2944) C fl_J12_15_23 hk rfl dJ12_getValue_1 fun b1 h2 => ?_
  exact r_aretR C (Or.inr ⟨_, rfl⟩) dJ12_getValue_4 rfl
theorem fl_J12_79_23 : mm_FL RJ12 79 23 3 mm_i .int false := ⟨RJ13, TJ13, 4, _, tyJ13, rfl, in_J13, rfl, rfl, Nat.le_of_ble_eq_true rfl, Or.inl q687, tyJ13_ok, nmJ13, rfl, rfl⟩
/-! J12 length -/
def fJ12_length (th : Nat) (P : mm_P)  : Option Int32 :=
  some (gI P 2947 th)
set_option maxHeartbeats 4000000 in
theorem mc_J12_length {l : Launch} {K : mm_K} {P : mm_P} {th : Nat}  {nx sl : Nat} {r : Int32} (hk : K.1 th = 23) (h : fJ12_length th P = some r) : mm_C l yJ12_length (ws_ yJ12_length cJ12_length 1 (some .int)) 0 0 [.ref th] K P nx sl (mm_wrI K P nx sl r) :=
  mm_startF (ls := [some (.ref th)]) h (by decide) (Nat.le_of_ble_eq_true rfl) rfl (Nat.le_refl _) (Nat.le_refl _) rfl fun E hl9 _ _ _ C => by
  have C : mm_Cx E RJ12 cJ12_length 1 (some .int) 0 0 := C
  unfold fJ12_length
  refine r_aload_n C dJ12_length_0 rfl rfl ?_
  refine r_getI (code := 2947) C fl_J12_79_23 hk rfl dJ12_length_1 ?_
  exact r_iret C dJ12_length_4 rfl
theorem cv_J13_343 : mm_CSU RJ13 343 yJ12_length cJ12_length 1 (some .int) 0 23 := ⟨RJ13, TJ13, 4, _, ⟨by decide +kernel, by decide +kernel⟩, rfl, rfl, lw_in _ [792, 788, 696, 787, 151] (by decide +kernel) (by decide +kernel), q793⟩
/-! J13 length -/
def fJ13_length (th : Nat) (P : mm_P)  : Option Int32 :=
  mm_bd (fJ12_length th P) fun r1 =>
  some (r1)
set_option maxHeartbeats 4000000 in
theorem mc_J13_length {l : Launch} {K : mm_K} {P : mm_P} {th : Nat}  {nx sl : Nat} {r : Int32} (hk : K.1 th = 23) (h : fJ13_length th P = some r) : mm_C l yJ13_length (ws_ yJ13_length cJ13_length 1 (some .int)) 1 20 [.ref th] K P nx sl (mm_wrI K P nx sl r) :=
  mm_startF (ls := [some (.ref th)]) h (by decide) (Nat.le_of_ble_eq_true rfl) rfl (Nat.le_refl _) (Nat.le_refl _) rfl fun E hl9 _ _ _ C => by
  have C : mm_Cx E RJ13 cJ13_length 1 (some .int) 1 20 := C
  unfold fJ13_length
  refine r_aload_n C dJ13_length_0 rfl rfl ?_
  refine r_bd fun r1 h2 => ?_
  refine r_callSU (As := []) (st := []) C (mc_J12_length hk h2) cv_J13_343 hk rfl (Nat.le_of_ble_eq_true rfl) (Nat.le_of_ble_eq_true rfl) rfl (Nat.le_of_ble_eq_true rfl) dJ13_length_1 ?_
  exact r_iret C dJ13_length_4 rfl
/-! J12 ensureCapacityInternal -/
def fJ12_ensureCapacityInternal (K : mm_K) (th : Nat) (x1 : Int32) (P : mm_P) : Option mm_P :=
  mm_bd (gR P 2944 th) fun b1 =>
  mm_gd (mm_isA K b1 1) <|
  mm_lt (mm_shr (Int32.ofNat (K.2 b1)) (gI P 2945 th)) fun v4 =>
  if (x1 - v4) ≤ 0 then
  (some P)
  else
  (mm_bd (gR P 2944 th) fun b6 =>
  none)
set_option maxHeartbeats 4000000 in
theorem mc_J12_ensureCapacityInternal {l : Launch} {K : mm_K} {P : mm_P} {th : Nat} {x1 : Int32} {nx sl : Nat} {r : mm_P} (hk : K.1 th = 23) (h : fJ12_ensureCapacityInternal K th x1 P = some r) : mm_C l yJ12_ensureCapacityInternal (ws_ yJ12_ensureCapacityInternal cJ12_ensureCapacityInternal 3 none) 0 0 [.ref th, .int x1] K P nx sl (mm_wwV K nx sl r) :=
  mm_startF (ls := [some (.ref th), some (.int x1), none]) h (by decide) (Nat.le_of_ble_eq_true rfl) rfl (Nat.le_refl _) (Nat.le_refl _) rfl fun E hl9 _ _ _ C => by
  have C : mm_Cx E RJ12 cJ12_ensureCapacityInternal 3 none 0 0 := C
  unfold fJ12_ensureCapacityInternal
  refine r_aload_n C dJ12_ensureCapacityInternal_0 rfl rfl ?_
  refine r_getRn (code := 2944) C fl_J12_15_23 hk rfl dJ12_ensureCapacityInternal_1 fun b1 h2 => ?_
  refine r_gd fun hK3 => ?_
  refine r_alen (v := Int32.ofNat (K.2 b1)) C (rg_ra hK3) rfl rfl dJ12_ensureCapacityInternal_4 ?_
  refine r_aload_n C dJ12_ensureCapacityInternal_5 rfl rfl ?_
  refine r_getI (code := 2945) C fl_J12_22_23 hk rfl dJ12_ensureCapacityInternal_6 ?_
  refine r_ishr C dJ12_ensureCapacityInternal_9 ?_
  refine r_ltI fun v4 => ?_
  refine r_istore_n (ls' := [some (.ref th), some (.int x1), some (.int v4)]) C dJ12_ensureCapacityInternal_10 rfl (Nat.le_of_ble_eq_true rfl) rfl rfl ?_
  refine r_iload_n C dJ12_ensureCapacityInternal_11 rfl rfl ?_
  refine r_iload_n C dJ12_ensureCapacityInternal_12 rfl rfl ?_
  refine r_isub C dJ12_ensureCapacityInternal_13 ?_
  refine r_ifle (tgt := 38) C dJ12_ensureCapacityInternal_14 (by decide) (fun h5 => ?_) (fun h5 => ?_)
  · exact r_vret C dJ12_ensureCapacityInternal_38 rfl
  · refine r_aload_n C dJ12_ensureCapacityInternal_17 rfl rfl ?_
    refine r_aload_n C dJ12_ensureCapacityInternal_18 rfl rfl ?_
    refine r_getRn (code := 2944) C fl_J12_15_23 hk rfl dJ12_ensureCapacityInternal_19 fun b6 h7 => ?_
    refine r_aload_n C dJ12_ensureCapacityInternal_22 rfl rfl ?_
    refine r_iload_n C dJ12_ensureCapacityInternal_23 rfl rfl ?_
    exact r_none
theorem cv_J12_100 : mm_CP RJ12 100 yJ12_ensureCapacityInternal cJ12_ensureCapacityInternal 3 none 1 23 := ⟨RJ13, TJ13, 4, _, yJ12_isLatin1, ⟨by decide +kernel, by decide +kernel, by decide +kernel⟩, rfl, rfl, rfl, q738, nw_in q705 rfl, lw_in _ [704, 2200, 706, 151] (by decide +kernel) (by decide +kernel), q707⟩
theorem cv_J12_191 : mm_CS RJ12 191 yJ4_canEncode_2 cJ4_canEncode_2 1 (some .boolean) 1 := ⟨lw_S q740 q741 q142 q742, by decide +kernel, by decide +kernel, by decide +kernel⟩
theorem cv_J12_83_23 : mm_CU RJ12 83 ⟨"java/lang/AbstractStringBuilder", "isLatin1", "()Z"⟩ yJ12_isLatin1 cJ12_isLatin1 1 (some .boolean) 0 23 := ⟨RJ13, "java/lang/AbstractStringBuilder", TJ13, 4, _, ⟨by decide +kernel, by decide +kernel, by decide +kernel⟩, rfl, rfl, Or.inl ⟨lw_app (lw_in _ [735, 737, 738, 736, 151] (by decide +kernel) (by decide +kernel)) (lw_meth q739), Or.inl rfl⟩⟩
/-! J12 append -/
def fJ12_append_b56 (K : mm_K) (th : Nat)  (x1 : Int32) (P : mm_P) : Option (Nat × mm_P) :=
  mm_bd (gR P 2944 th) fun b1 =>
  mm_lt (gI P 2947 th) fun v3 =>
  mm_lt (sI P 2947 th (v3 + (1 : Int32))) fun P4 =>
  none
set_option maxHeartbeats 4000000 in
theorem wfJ12_append_b56 {E : mm_E} (C : mm_Cx E RJ12 cJ12_append 2 (some (.object "java/lang/AbstractStringBuilder")) 1 22) {K : mm_K} {th : Nat} (hk : K.1 th = 23) {nx sl : Nat} (x1 : Int32) (P : mm_P) : mm_V E (mm_wwR K nx sl) 56 [some (.ref th), some (.int x1)] [] K P nx sl (fJ12_append_b56 K th x1 P) := by
  unfold fJ12_append_b56
  refine r_aload_n C dJ12_append_56 rfl rfl ?_
  refine r_getRn (code := 2944) C fl_J12_15_23 hk rfl dJ12_append_57 fun b1 h2 => ?_
  refine r_aload_n C dJ12_append_60 rfl rfl ?_
  refine r_dup C dJ12_append_61 rfl ?_
  refine r_getI (code := 2947) C fl_J12_79_23 hk rfl dJ12_append_62 ?_
  refine r_ltI fun v3 => ?_
  refine r_dup_x1 C dJ12_append_65 rfl rfl ?_
  refine r_iconst (v := 1) C dJ12_append_66 rfl ?_
  refine r_iadd C dJ12_append_67 ?_
  refine r_putI (code := 2947) C fl_J12_79_23 hk rfl rfl dJ12_append_68 ?_
  refine r_ltP fun P4 => ?_
  refine r_iload_n C dJ12_append_71 rfl rfl ?_
  exact r_none
def fJ12_append_b45 (K : mm_K) (th : Nat)  (x1 : Int32) (P : mm_P) : Option (Nat × mm_P) :=
  mm_bd (fJ12_isLatin1 th P) fun r1 =>
  if r1 = 0 then
  (fJ12_append_b56 K th x1 P)
  else
  (none)
set_option maxHeartbeats 4000000 in
theorem wfJ12_append_b45 {E : mm_E} (C : mm_Cx E RJ12 cJ12_append 2 (some (.object "java/lang/AbstractStringBuilder")) 1 22) {K : mm_K} {th : Nat} (hk : K.1 th = 23) {nx sl : Nat} (x1 : Int32) (P : mm_P) : mm_V E (mm_wwR K nx sl) 45 [some (.ref th), some (.int x1)] [] K P nx sl (fJ12_append_b45 K th x1 P) := by
  unfold fJ12_append_b45
  refine r_aload_n C dJ12_append_45 rfl rfl ?_
  refine r_bd fun r1 h2 => ?_
  refine r_callU (As := []) (st := []) C (mc_J12_isLatin1 hk h2) cv_J12_83_23 hk rfl (Nat.le_of_ble_eq_true rfl) (Nat.le_of_ble_eq_true rfl) rfl (Nat.le_of_ble_eq_true rfl) dJ12_append_46 ?_
  refine r_ifeq (tgt := 56) C dJ12_append_49 (by decide) (fun h3 => ?_) (fun h3 => ?_)
  · exact wfJ12_append_b56 C hk x1 P
  · refine r_aload_n C dJ12_append_52 rfl rfl ?_
    exact r_none
def fJ12_append (K : mm_K) (th : Nat) (x1 : Int32) (P : mm_P) : Option (Nat × mm_P) :=
  mm_bd (fJ12_ensureCapacityInternal K th ((gI P 2947 th) + (1 : Int32)) P) fun r1 =>
  mm_bd (fJ12_isLatin1 th r1) fun r3 =>
  if r3 = 0 then
  (fJ12_append_b45 K th x1 r1)
  else
  (mm_bd (fJ4_canEncode_2 x1) fun r6 =>
  if r6 = 0 then
  (fJ12_append_b45 K th x1 r1)
  else
  (mm_bd (gR r1 2944 th) fun b9 =>
  mm_lt (gI r1 2947 th) fun v11 =>
  mm_lt (sI r1 2947 th (v11 + (1 : Int32))) fun P12 =>
  mm_gd (K.1 b9 = 65) <|
  mm_gd (mm_in v11 (K.2 b9)) <|
  mm_lt (sA P12 8193 b9 v11.toNatClampNeg x1.toInt8.toInt32.toInt8.toInt32) fun P15 =>
  some (th, P15)))
set_option maxHeartbeats 4000000 in
theorem mc_J12_append {l : Launch} {K : mm_K} {P : mm_P} {th : Nat} {x1 : Int32} {nx sl : Nat} {r : (Nat × mm_P)} (hk : K.1 th = 23) (h : fJ12_append K th x1 P = some r) : mm_C l yJ12_append (ws_ yJ12_append cJ12_append 2 (some (.object "java/lang/AbstractStringBuilder"))) 1 22 [.ref th, .int x1] K P nx sl (mm_wwR K nx sl r) :=
  mm_startF (ls := [some (.ref th), some (.int x1)]) h (by decide) (Nat.le_of_ble_eq_true rfl) rfl (Nat.le_refl _) (Nat.le_refl _) rfl fun E hl9 _ _ _ C => by
  have C : mm_Cx E RJ12 cJ12_append 2 (some (.object "java/lang/AbstractStringBuilder")) 1 22 := C
  unfold fJ12_append
  refine r_aload_n C dJ12_append_0 rfl rfl ?_
  refine r_aload_n C dJ12_append_1 rfl rfl ?_
  refine r_getI (code := 2947) C fl_J12_79_23 hk rfl dJ12_append_2 ?_
  refine r_iconst (v := 1) C dJ12_append_5 rfl ?_
  refine r_iadd C dJ12_append_6 ?_
  refine r_bd fun r1 h2 => ?_
  refine r_callPv (As := [.int ((gI P 2947 th) + (1 : Int32))]) (st := []) C (mc_J12_ensureCapacityInternal hk h2) cv_J12_100 hk rfl (Nat.le_of_ble_eq_true rfl) (Nat.le_of_ble_eq_true rfl) rfl (Nat.le_of_ble_eq_true rfl) dJ12_append_7 ?_
  refine r_aload_n C dJ12_append_10 rfl rfl ?_
  refine r_bd fun r3 h4 => ?_
  refine r_callU (As := []) (st := []) C (mc_J12_isLatin1 hk h4) cv_J12_83_23 hk rfl (Nat.le_of_ble_eq_true rfl) (Nat.le_of_ble_eq_true rfl) rfl (Nat.le_of_ble_eq_true rfl) dJ12_append_11 ?_
  refine r_ifeq (tgt := 45) C dJ12_append_14 (by decide) (fun h5 => ?_) (fun h5 => ?_)
  · exact wfJ12_append_b45 C hk x1 r1
  · refine r_iload_n C dJ12_append_17 rfl rfl ?_
    refine r_bd fun r6 h7 => ?_
    refine r_callS (As := [.int x1]) (st := []) C (mc_J4_canEncode_2 h7) cv_J12_191  rfl (Nat.le_of_ble_eq_true rfl) (Nat.le_of_ble_eq_true rfl) rfl (Nat.le_of_ble_eq_true rfl) dJ12_append_18 ?_
    refine r_ifeq (tgt := 45) C dJ12_append_21 (by decide) (fun h8 => ?_) (fun h8 => ?_)
    · exact wfJ12_append_b45 C hk x1 r1
    · refine r_aload_n C dJ12_append_24 rfl rfl ?_
      refine r_getRn (code := 2944) C fl_J12_15_23 hk rfl dJ12_append_25 fun b9 h10 => ?_
      refine r_aload_n C dJ12_append_28 rfl rfl ?_
      refine r_dup C dJ12_append_29 rfl ?_
      refine r_getI (code := 2947) C fl_J12_79_23 hk rfl dJ12_append_30 ?_
      refine r_ltI fun v11 => ?_
      refine r_dup_x1 C dJ12_append_33 rfl rfl ?_
      refine r_iconst (v := 1) C dJ12_append_34 rfl ?_
      refine r_iadd C dJ12_append_35 ?_
      refine r_putI (code := 2947) C fl_J12_79_23 hk rfl rfl dJ12_append_36 ?_
      refine r_ltP fun P12 => ?_
      refine r_iload_n C dJ12_append_39 rfl rfl ?_
      refine r_i2b C dJ12_append_40 ?_
      refine r_gd fun hK13 => ?_
      refine r_bast C (rg_sa (ek := 1) hK13) (mm_ro_of (k := 65) hK13 rfl) rfl dJ12_append_41 fun h14 => ?_
      refine r_ltP fun P15 => ?_
      refine r_goto (tgt := 75) C dJ12_append_42 (by decide) ?_
      refine r_aload_n C dJ12_append_75 rfl rfl ?_
      exact r_aretR C (Or.inl ⟨_, rfl⟩) dJ12_append_76 rfl
theorem cv_J13_50 : mm_CSU RJ13 50 yJ12_append cJ12_append 2 (some (.object "java/lang/AbstractStringBuilder")) 1 23 := ⟨RJ13, TJ13, 4, _, ⟨by decide +kernel, by decide +kernel⟩, rfl, rfl, lw_in _ [701, 2199, 696, 702, 151] (by decide +kernel) (by decide +kernel), q703⟩
/-! J13 append -/
def fJ13_append (K : mm_K) (th : Nat) (x1 : Int32) (P : mm_P) : Option (Nat × mm_P) :=
  mm_bd (fJ12_append K th x1 P) fun r1 =>
  some (th, r1.2)
set_option maxHeartbeats 4000000 in
theorem mc_J13_append {l : Launch} {K : mm_K} {P : mm_P} {th : Nat} {x1 : Int32} {nx sl : Nat} {r : (Nat × mm_P)} (hk : K.1 th = 23) (h : fJ13_append K th x1 P = some r) : mm_C l yJ13_append (ws_ yJ13_append cJ13_append 2 (some (.object "java/lang/StringBuilder"))) 2 43 [.ref th, .int x1] K P nx sl (mm_wwR K nx sl r) :=
  mm_startF (ls := [some (.ref th), some (.int x1)]) h (by decide) (Nat.le_of_ble_eq_true rfl) rfl (Nat.le_refl _) (Nat.le_refl _) rfl fun E hl9 _ _ _ C => by
  have C : mm_Cx E RJ13 cJ13_append 2 (some (.object "java/lang/StringBuilder")) 2 43 := C
  unfold fJ13_append
  refine r_aload_n C dJ13_append_0 rfl rfl ?_
  refine r_iload_n C dJ13_append_1 rfl rfl ?_
  refine r_bd fun r1 h2 => ?_
  refine r_callSU (As := [.int x1]) (st := []) C (mc_J12_append hk h2) cv_J13_50 hk rfl (Nat.le_of_ble_eq_true rfl) (Nat.le_of_ble_eq_true rfl) rfl (Nat.le_of_ble_eq_true rfl) dJ13_append_2 ?_
  refine r_pop C dJ13_append_5 rfl ?_
  refine r_aload_n C dJ13_append_6 rfl rfl ?_
  exact r_aretR C (Or.inl ⟨_, rfl⟩) dJ13_append_7 rfl
theorem ff_J3_15 : mm_FF RJ3 15 22 1 mm_i .byte := ⟨RJ3, TJ3, 4, _, tyJ3, rfl, in_J3, rfl, rfl, Nat.le_of_ble_eq_true rfl, q815, tyJ3_ok, nmJ3, rfl, rfl, rfl⟩
theorem ff_J3_9 : mm_FF RJ3 9 22 0 mm_r (tyJ3 0) := ⟨RJ3, TJ3, 4, _, tyJ3, rfl, in_J3, rfl, rfl, Nat.le_of_ble_eq_true rfl, q814, tyJ3_ok, nmJ3, rfl, rfl, rfl⟩
theorem fl_J3_1048_23 : mm_FL RJ3 1048 23 2 mm_i .boolean false := ⟨RJ13, TJ13, 4, _, tyJ13, rfl, in_J13, rfl, rfl, Nat.le_of_ble_eq_true rfl, Or.inl q686, tyJ13_ok, nmJ13, rfl, rfl⟩
theorem cv_J3_1047_23 : mm_CU RJ3 1047 ⟨"java/lang/AbstractStringBuilder", "isLatin1", "()Z"⟩ yJ12_isLatin1 cJ12_isLatin1 1 (some .boolean) 0 23 := ⟨RJ13, "java/lang/AbstractStringBuilder", TJ13, 4, _, ⟨by decide +kernel, by decide +kernel, by decide +kernel⟩, rfl, rfl, Or.inl ⟨lw_app (lw_in _ [794, 737, 738, 736, 151] (by decide +kernel) (by decide +kernel)) (lw_meth q739), Or.inl rfl⟩⟩
theorem cv_J3_54 : mm_CS RJ3 54 yJ15_copyOfRange cJ15_copyOfRange 3 (some (.array .byte)) 3 := ⟨lw_S q795 q796 q154 q797, by decide +kernel, by decide +kernel, by decide +kernel⟩
theorem cv_J3_549_23 : mm_CU RJ3 549 ⟨"java/lang/AbstractStringBuilder", "length", "()I"⟩ yJ13_length cJ13_length 1 (some .int) 0 23 := ⟨RJ13, "java/lang/AbstractStringBuilder", TJ13, 4, _, ⟨by decide +kernel, by decide +kernel, by decide +kernel⟩, rfl, rfl, Or.inr ⟨lw_app (lw_in _ [786, 788, 787, 789, 790, 152] (by decide +kernel) (by decide +kernel)) (lw_meth q791), _, _, _, q793⟩⟩
theorem cv_J3_552_23 : mm_CU RJ3 552 ⟨"java/lang/AbstractStringBuilder", "getValue", "()[B"⟩ yJ12_getValue cJ12_getValue 1 (some (.array .byte)) 0 23 := ⟨RJ13, "java/lang/AbstractStringBuilder", TJ13, 4, _, ⟨by decide +kernel, by decide +kernel, by decide +kernel⟩, rfl, rfl, Or.inl ⟨lw_app (lw_in _ [781, 783, 784, 782, 151] (by decide +kernel) (by decide +kernel)) (lw_meth q785), Or.inl rfl⟩⟩
/-! J3 init_2 -/
def fJ3_init_2_b79 (th : Nat)  (x3 : Nat) (x4 : Int32) (K : mm_K) (P : mm_P) (nx : Nat) (sl : Nat) : Option mm_S :=
  mm_gd (K.1 th = 22) <|
  mm_gd (mm_nB (1 : Int32) = (1 : Int32)) <|
  mm_lt (sI P 2817 th (1 : Int32)) fun P2 =>
  mm_bd (fJ15_copyOfRange x3 (0 : Int32) (mm_shl x4 (1 : Int32)) K P2 nx sl) fun r4 =>
  mm_mo mm_waV r4.2.2.2.1 r4.2.2.2.2 <|
  mm_gd (r4.2.1.1 th = 22) <|
  mm_lt (sR r4.2.2.1 2816 th (some r4.1)) fun P7 =>
  some (r4.2.1, P7, r4.2.2.2.1, r4.2.2.2.2)
set_option maxHeartbeats 4000000 in
theorem wfJ3_init_2_b79 {E : mm_E} (C : mm_Cx E RJ3 cJ3_init_2 5 none 3 86) {th : Nat} (hin : (eT E).name = "<init>") (x3 : Nat) (x4 : Int32) (K : mm_K) (P : mm_P) (nx : Nat) (sl : Nat) : mm_V E (mm_waV) 79 [some (.ref th), none, none, some (.ref x3), some (.int x4)] [] K P nx sl (fJ3_init_2_b79 th x3 x4 K P nx sl) := by
  unfold fJ3_init_2_b79
  refine r_aload_n C dJ3_init_2_79 rfl rfl ?_
  refine r_iconst (v := 1) C dJ3_init_2_80 rfl ?_
  refine r_gd fun hK1 => ?_
  refine r_gd fun h3 => ?_
  refine r_putIF (code := 2817) C hin ff_J3_15 hK1 rfl rfl (mm_nB_n h3) (mm_nB_f h3) dJ3_init_2_81 ?_
  refine r_ltP fun P2 => ?_
  refine r_aload_n C dJ3_init_2_84 rfl rfl ?_
  refine r_aload_n C dJ3_init_2_85 rfl rfl ?_
  refine r_iconst (v := 0) C dJ3_init_2_86 rfl ?_
  refine r_iload C dJ3_init_2_87 rfl ?_
  refine r_iconst (v := 1) C dJ3_init_2_89 rfl ?_
  refine r_ishl C dJ3_init_2_90 ?_
  refine r_bd fun r4 h5 => ?_
  refine r_acallS (As := [.ref x3, .int (0 : Int32), .int (mm_shl x4 (1 : Int32))]) (st := [.ref th]) C (mc_J15_copyOfRange h5) cv_J3_54  rfl (Nat.le_of_ble_eq_true rfl) (Nat.le_of_ble_eq_true rfl) rfl (Nat.le_of_ble_eq_true rfl) dJ3_init_2_91 ?_
  refine r_gd fun hK6 => ?_
  refine r_putRF (code := 2816) (x := (some r4.1)) C hin ff_J3_9 hK6 rfl rfl rfl (mm_nrA _) (mm_ftA _) dJ3_init_2_94 ?_
  refine r_ltP fun P7 => ?_
  exact r_vret C dJ3_init_2_97 rfl
def fJ3_init_2 (th : Nat) (x1 : Nat) (x2 : Option Nat) (K : mm_K) (P : mm_P) (nx : Nat) (sl : Nat) : Option mm_S :=
  mm_mo mm_waV nx sl <|
  mm_gd (K.1 x1 = 23) <|
  mm_bd (fJ12_getValue x1 P) fun r1 =>
  mm_bd (fJ13_length x1 P) fun r4 =>
  mm_bd (fJ12_isLatin1 x1 P) fun r6 =>
  if r6 = 0 then
  (if (1 : Int32) = 0 then
  (fJ3_init_2_b79 th r1 r4 K P nx sl)
  else
  (if (gI P 2946 x1) = 0 then
  (fJ3_init_2_b79 th r1 r4 K P nx sl)
  else
  (none)))
  else
  (mm_gd (mm_nB (0 : Int32) = (0 : Int32)) <|
  mm_lt (sI P 2817 th (0 : Int32)) fun P11 =>
  mm_bd (fJ15_copyOfRange r1 (0 : Int32) r4 K P11 nx sl) fun r13 =>
  mm_mo mm_waV r13.2.2.2.1 r13.2.2.2.2 <|
  mm_gd (r13.2.1.1 th = 22) <|
  mm_lt (sR r13.2.2.1 2816 th (some r13.1)) fun P16 =>
  some (r13.2.1, P16, r13.2.2.2.1, r13.2.2.2.2))
set_option maxHeartbeats 4000000 in
theorem mc_J3_init_2 {l : Launch} {K : mm_K} {P : mm_P} {th : Nat} {x1 : Nat} {x2 : Option Nat} {nx sl : Nat} {r : mm_S} (hk : K.1 th = 22) (h : fJ3_init_2 th x1 x2 K P nx sl = some r) : mm_C l yJ3_init_2 (ws_ yJ3_init_2 cJ3_init_2 5 none) 3 86 [.ref th, .ref x1, va_rf x2] K P nx sl (mm_waV r) :=
  mm_startF (ls := [some (.ref th), some (.ref x1), some (va_rf x2), none, none]) h (by decide) (by cases x2 <;> exact (Nat.le_of_ble_eq_true rfl)) (by cases x2 <;> exact rfl) (mm_mo_some h).2.1 (mm_mo_some h).2.2 rfl fun E hl9 _ _ hin C => by
  have hin := hin rfl
  have C : mm_Cx E RJ3 cJ3_init_2 5 none 3 86 := C
  unfold fJ3_init_2
  refine r_mo ?_
  refine r_aload_n C dJ3_init_2_0 rfl rfl ?_
  refine r_objinit C q780 q181 q182 (Nat.le_of_ble_eq_true rfl) (Nat.le_of_ble_eq_true rfl) (Nat.le_of_ble_eq_true rfl) dJ3_init_2_1 ?_
  refine r_aload_n C dJ3_init_2_4 rfl rfl ?_
  refine r_gd fun hK3 => ?_
  refine r_bd fun r1 h2 => ?_
  refine r_callU (As := []) (st := []) C (mc_J12_getValue hK3 h2) cv_J3_552_23 hK3 rfl (Nat.le_of_ble_eq_true rfl) (Nat.le_of_ble_eq_true rfl) rfl (Nat.le_of_ble_eq_true rfl) dJ3_init_2_5 ?_
  refine r_astore_n (ls' := [some (.ref th), some (.ref x1), some (va_rf x2), some (.ref r1), none]) C dJ3_init_2_8 rfl (Nat.le_of_ble_eq_true rfl) (by cases x2 <;> rfl) rfl ?_
  refine r_aload_n C dJ3_init_2_9 rfl rfl ?_
  refine r_bd fun r4 h5 => ?_
  refine r_callU (As := []) (st := []) C (mc_J13_length hK3 h5) cv_J3_549_23 hK3 rfl (Nat.le_of_ble_eq_true rfl) (Nat.le_of_ble_eq_true rfl) rfl (Nat.le_of_ble_eq_true rfl) dJ3_init_2_10 ?_
  refine r_istore (ls' := [some (.ref th), some (.ref x1), some (va_rf x2), some (.ref r1), some (.int r4)]) C dJ3_init_2_13 (Nat.le_of_ble_eq_true rfl) (by cases x2 <;> rfl) rfl ?_
  refine r_aload_n C dJ3_init_2_15 rfl rfl ?_
  refine r_bd fun r6 h7 => ?_
  refine r_callU (As := []) (st := []) C (mc_J12_isLatin1 hK3 h7) cv_J3_1047_23 hK3 rfl (Nat.le_of_ble_eq_true rfl) (Nat.le_of_ble_eq_true rfl) rfl (Nat.le_of_ble_eq_true rfl) dJ3_init_2_16 ?_
  refine r_ifeq (tgt := 41) C dJ3_init_2_19 (by decide) (fun h8 => ?_) (fun h8 => ?_)
  · refine r_gets C C.zs.2.2.2.2.1 q466 dJ3_init_2_41 ?_
    refine r_ifeq (tgt := 79) C dJ3_init_2_44 (by decide) (fun h9 => ?_) (fun h9 => ?_)
    · refine r_mask [true, false, false, true, true] (ls' := [some (.ref th), none, none, some (.ref r1), some (.int r4)]) rfl ?_
      exact wfJ3_init_2_b79 C hin r1 r4 K P nx sl
    · refine r_aload_n C dJ3_init_2_47 rfl rfl ?_
      refine r_getI (code := 2946) C fl_J3_1048_23 hK3 rfl dJ3_init_2_48 ?_
      refine r_ifeq (tgt := 79) C dJ3_init_2_51 (by decide) (fun h10 => ?_) (fun h10 => ?_)
      · refine r_mask [true, false, false, true, true] (ls' := [some (.ref th), none, none, some (.ref r1), some (.int r4)]) rfl ?_
        exact wfJ3_init_2_b79 C hin r1 r4 K P nx sl
      · refine r_aload_n C dJ3_init_2_54 rfl rfl ?_
        refine r_aload_n C dJ3_init_2_55 rfl rfl ?_
        refine r_iconst (v := 0) C dJ3_init_2_56 rfl ?_
        refine r_iload C dJ3_init_2_57 rfl ?_
        exact r_none
  · refine r_aload_n C dJ3_init_2_22 rfl rfl ?_
    refine r_iconst (v := 0) C dJ3_init_2_23 rfl ?_
    refine r_gd fun h12 => ?_
    refine r_putIF (code := 2817) C hin ff_J3_15 hk rfl rfl (mm_nB_n h12) (mm_nB_f h12) dJ3_init_2_24 ?_
    refine r_ltP fun P11 => ?_
    refine r_aload_n C dJ3_init_2_27 rfl rfl ?_
    refine r_aload_n C dJ3_init_2_28 rfl rfl ?_
    refine r_iconst (v := 0) C dJ3_init_2_29 rfl ?_
    refine r_iload C dJ3_init_2_30 rfl ?_
    refine r_bd fun r13 h14 => ?_
    refine r_acallS (As := [.ref r1, .int (0 : Int32), .int r4]) (st := [.ref th]) C (mc_J15_copyOfRange h14) cv_J3_54  rfl (Nat.le_of_ble_eq_true rfl) (Nat.le_of_ble_eq_true rfl) rfl (Nat.le_of_ble_eq_true rfl) dJ3_init_2_32 ?_
    refine r_gd fun hK15 => ?_
    refine r_putRF (code := 2816) (x := (some r13.1)) C hin ff_J3_9 hK15 rfl rfl rfl (mm_nrA _) (mm_ftA _) dJ3_init_2_35 ?_
    refine r_ltP fun P16 => ?_
    refine r_goto (tgt := 97) C dJ3_init_2_38 (by decide) ?_
    exact r_vret C dJ3_init_2_97 rfl
theorem cv_J3_489 : mm_CI RJ3 489 yJ3_init_2 cJ3_init_2 5 2 := ⟨q779, q141, q777, q778, rfl, ⟨by decide +kernel, by decide +kernel, by decide +kernel⟩⟩
/-! J3 init -/
def fJ3_init (th : Nat) (x1 : Nat) (K : mm_K) (P : mm_P) (nx : Nat) (sl : Nat) : Option mm_S :=
  mm_mo mm_waV nx sl <|
  mm_bd (fJ3_init_2 th x1 none K P nx sl) fun r1 =>
  mm_mo mm_waV r1.2.2.1 r1.2.2.2 <|
  some (r1.1, r1.2.1, r1.2.2.1, r1.2.2.2)
set_option maxHeartbeats 4000000 in
theorem mc_J3_init {l : Launch} {K : mm_K} {P : mm_P} {th : Nat} {x1 : Nat} {nx sl : Nat} {r : mm_S} (hk : K.1 th = 22) (h : fJ3_init th x1 K P nx sl = some r) : mm_C l yJ3_init (ws_ yJ3_init cJ3_init 2 none) 4 110 [.ref th, .ref x1] K P nx sl (mm_waV r) :=
  mm_startF (ls := [some (.ref th), some (.ref x1)]) h (by decide) (Nat.le_of_ble_eq_true rfl) rfl (mm_mo_some h).2.1 (mm_mo_some h).2.2 rfl fun E hl9 _ _ hin C => by
  have hin := hin rfl
  have C : mm_Cx E RJ3 cJ3_init 2 none 4 110 := C
  unfold fJ3_init
  refine r_mo ?_
  refine r_aload_n C dJ3_init_0 rfl rfl ?_
  refine r_aload_n C dJ3_init_1 rfl rfl ?_
  refine r_null C dJ3_init_2 ?_
  refine r_bd fun r1 h2 => ?_
  refine r_acallIv (As := [.ref x1, .null]) (st := []) C (mc_J3_init_2 hk h2) cv_J3_489  rfl (Nat.le_of_ble_eq_true rfl) (Nat.le_of_ble_eq_true rfl) rfl (Nat.le_of_ble_eq_true rfl) dJ3_init_3 ?_
  exact r_vret C dJ3_init_6 rfl
theorem nl_J13_18 : mm_NL RJ13 18 22 4 := ⟨RJ3, TJ3, _, tyJ3, rfl, in_J3, rfl, by decide +kernel, q772, q773, q141, tyJ3_ok, rfl⟩
theorem cv_J13_137 : mm_CI RJ13 137 yJ3_init cJ3_init 2 1 := ⟨q776, q141, q774, q775, rfl, ⟨by decide +kernel, by decide +kernel, by decide +kernel⟩⟩
/-! J13 toString -/
def fJ13_toString (th : Nat)  (K : mm_K) (P : mm_P) (nx : Nat) (sl : Nat) : Option (Nat × mm_S) :=
  mm_mo mm_waR nx sl <|
  mm_mo mm_waR (nx + 1) (sl + 4) <|
  mm_lt (mm_kn K nx 22 0) fun K1 =>
  mm_lt (mm_fresh P nx) fun P2 =>
  mm_bd (fJ3_init nx th K1 P2 (nx + 1) (sl + 4)) fun r4 =>
  mm_mo mm_waR r4.2.2.1 r4.2.2.2 <|
  some (nx, r4.1, r4.2.1, r4.2.2.1, r4.2.2.2)
set_option maxHeartbeats 4000000 in
theorem mc_J13_toString {l : Launch} {K : mm_K} {P : mm_P} {th : Nat}  {nx sl : Nat} {r : (Nat × mm_S)} (hk : K.1 th = 23) (h : fJ13_toString th K P nx sl = some r) : mm_C l yJ13_toString (ws_ yJ13_toString cJ13_toString 1 (some (.object "java/lang/String"))) 5 131 [.ref th] K P nx sl (mm_waR r) :=
  mm_startF (ls := [some (.ref th)]) h (by decide) (Nat.le_of_ble_eq_true rfl) rfl (mm_mo_some h).2.1 (mm_mo_some h).2.2 rfl fun E hl9 _ _ _ C => by
  have C : mm_Cx E RJ13 cJ13_toString 1 (some (.object "java/lang/String")) 5 131 := C
  unfold fJ13_toString
  refine r_mo ?_
  refine r_new C nl_J13_18 dJ13_toString_0 ?_
  refine r_ltK fun K1 e3 => ?_
  refine r_ltP fun P2 => ?_
  refine r_dup C dJ13_toString_3 rfl ?_
  refine r_aload_n C dJ13_toString_4 rfl rfl ?_
  refine r_bd fun r4 h5 => ?_
  refine r_acallIv (As := [.ref th]) (st := [.ref nx]) C (mc_J3_init (by rw [e3]; exact mm_kn_1) h5) cv_J13_137  rfl (Nat.le_of_ble_eq_true rfl) (Nat.le_of_ble_eq_true rfl) rfl (Nat.le_of_ble_eq_true rfl) dJ13_toString_5 ?_
  exact r_aretR C (Or.inl ⟨_, rfl⟩) dJ13_toString_8 rfl
theorem fl_X3_14 : mm_FL RX3 14 3 0 mm_r (tyX3 0) true := ⟨RX3, TX3, 11, _, tyX3, rfl, in_X3, rfl, rfl, Nat.le_of_ble_eq_true rfl, Or.inl q249, tyX3_ok, nmX3, rfl, rfl⟩
theorem fl_X3_47 {k : Nat} (h : mm_isC k) : mm_FL RX3 47 k 0 mm_r (tyX7 0) true := by
  rcases mm_isC_or h with rfl | rfl | rfl | rfl
  · exact ⟨RX7, TX7, 4, _, tyX7, rfl, in_X7, rfl, rfl, Nat.le_of_ble_eq_true rfl, Or.inl q863, tyX7_ok, nmX7, rfl, rfl⟩
  · exact ⟨RX8, TX8, 4, _, tyX8, rfl, in_X8, rfl, rfl, Nat.le_of_ble_eq_true rfl, Or.inl q863, tyX8_ok, nmX8, rfl, rfl⟩
  · exact ⟨RX9, TX9, 4, _, tyX9, rfl, in_X9, rfl, rfl, Nat.le_of_ble_eq_true rfl, Or.inl q863, tyX9_ok, nmX9, rfl, rfl⟩
  · exact ⟨RX10, TX10, 4, _, tyX10, rfl, in_X10, rfl, rfl, Nat.le_of_ble_eq_true rfl, Or.inl q863, tyX10_ok, nmX10, rfl, rfl⟩
theorem cv_X3_37 : mm_CV RX3 37 yJ2_size cJ2_size 1 (some .int) 0 21 := ⟨RJ2, TJ2, 3, _, lw_V q829 q651 q652 q138 q653, ⟨rfl, by decide +kernel, by decide +kernel, by decide +kernel⟩, rfl, rfl⟩
theorem cv_X3_41 : mm_CV RX3 41 yJ2_get cJ2_get 2 (some (.object "java/lang/Object")) 1 21 := ⟨RJ2, TJ2, 3, _, lw_V q830 q831 q832 q138 q833, ⟨rfl, by decide +kernel, by decide +kernel, by decide +kernel⟩, rfl, rfl⟩
theorem cv_X3_51 {k : Nat} (h : mm_isS k) : mm_CV RX3 51 yJ3_equals cJ3_equals 3 (some .boolean) 1 k := by
  rcases h with rfl | rfl
  · exact ⟨RJ3, TJ3, 4, _, lw_V q843 q844 q845 q141 q846, ⟨rfl, by decide +kernel, by decide +kernel, by decide +kernel⟩, rfl, rfl⟩
  · exact ⟨RJ3, TJ3, 2, _, lw_V q843 q844 q845 q141 q846, ⟨rfl, by decide +kernel, by decide +kernel, by decide +kernel⟩, rfl, rfl⟩
theorem ca_X3_45 {k : Nat} (h : mm_isC k) : mm_CA RX3 45 k := by
  rcases mm_isC_or h with rfl | rfl | rfl | rfl
  · exact ⟨RX7, _, TX7, 4, _, q842, rfl, rfl, Or.inl rfl⟩
  · exact ⟨RX8, _, TX8, 4, _, q842, rfl, rfl, Or.inr (nw_in q2205 rfl)⟩
  · exact ⟨RX9, _, TX9, 4, _, q842, rfl, rfl, Or.inr (nw_in q2204 rfl)⟩
  · exact ⟨RX10, _, TX10, 4, _, q842, rfl, rfl, Or.inr (nw_in q2206 rfl)⟩
/-! X3 cloth -/
def fX3_cloth_b2 (K : mm_K) (th : Nat) (P : mm_P)  : Nat → Nat → Int32 → Option Int32
  | 0, _, _ => none
  | n + 1, x1, x2 =>
  mm_bd (gR P 384 th) fun b1 =>
  mm_gd (K.1 b1 = 21) <|
  mm_bd (fJ2_size b1 P) fun r3 =>
  if r3 ≤ x2 then
  (some ((-1 : Int32)))
  else
  (mm_bd (gR P 384 th) fun b7 =>
  mm_gd (K.1 b7 = 21) <|
  mm_bd (fJ2_get K b7 P x2) fun r9 =>
  mm_gd (mm_isC (K.1 r9)) <|
  mm_bd (gR P 896 r9) fun b13 =>
  mm_gd (mm_isS (K.1 b13)) <|
  mm_bd (fJ3_equals K b13 P x1) fun r15 =>
  if r15 = 0 then
  (fX3_cloth_b2 K th P n x1 (x2 + (1 : Int32)))
  else
  (some (x2)))
set_option maxHeartbeats 4000000 in
theorem wfX3_cloth_b2 {E : mm_E} (C : mm_Cx E RX3 cX3_cloth 3 (some .int) 3 64) {K : mm_K} {th : Nat} (hk : K.1 th = 3) {P : mm_P} {nx sl : Nat} : ∀ (n : Nat), ∀ (x1 : Nat) (x2 : Int32), mm_V E (mm_wrI K P nx sl) 2 [some (.ref th), some (.ref x1), some (.int x2)] [] K P nx sl (fX3_cloth_b2 K th P n x1 x2) := by
  intro n
  induction n with
  | zero => intro x1 x2; exact r_none
  | succ n ih =>
    intro x1 x2
    rw [fX3_cloth_b2]
    refine r_iload_n C dX3_cloth_2 rfl rfl ?_
    refine r_aload_n C dX3_cloth_3 rfl rfl ?_
    refine r_getRn (code := 384) C fl_X3_14 hk rfl dX3_cloth_4 fun b1 h2 => ?_
    refine r_gd fun hK5 => ?_
    refine r_bd fun r3 h4 => ?_
    refine r_callV (As := []) (st := [.int x2]) C (mc_J2_size hK5 h4) cv_X3_37 hK5 rfl (Nat.le_of_ble_eq_true rfl) (Nat.le_of_ble_eq_true rfl) rfl (Nat.le_of_ble_eq_true rfl) dX3_cloth_7 ?_
    refine r_icmpge (tgt := 42) C dX3_cloth_10 (by decide) (fun h6 => ?_) (fun h6 => ?_)
    · refine r_iconst (v := -1) C dX3_cloth_42 rfl ?_
      exact r_iret C dX3_cloth_43 rfl
    · refine r_aload_n C dX3_cloth_13 rfl rfl ?_
      refine r_getRn (code := 384) C fl_X3_14 hk rfl dX3_cloth_14 fun b7 h8 => ?_
      refine r_iload_n C dX3_cloth_17 rfl rfl ?_
      refine r_gd fun hK11 => ?_
      refine r_bd fun r9 h10 => ?_
      refine r_callV (As := [.int x2]) (st := []) C (mc_J2_get hK11 h10) cv_X3_41 hK11 rfl (Nat.le_of_ble_eq_true rfl) (Nat.le_of_ble_eq_true rfl) rfl (Nat.le_of_ble_eq_true rfl) dX3_cloth_18 ?_
      refine r_gd fun hK12 => ?_
      refine r_cast C (ca_X3_45 hK12) rfl dX3_cloth_21 ?_
      refine r_getRn (code := 896) C (fl_X3_47 hK12) rfl (mm_bsC hK12 _) dX3_cloth_24 fun b13 h14 => ?_
      refine r_aload_n C dX3_cloth_27 rfl rfl ?_
      refine r_gd fun hK17 => ?_
      refine r_bd fun r15 h16 => ?_
      refine r_callV (As := [.ref x1]) (st := []) C (mc_J3_equals hK17 h16) (cv_X3_51 hK17) rfl rfl (Nat.le_of_ble_eq_true rfl) (Nat.le_of_ble_eq_true rfl) rfl (Nat.le_of_ble_eq_true rfl) dX3_cloth_28 ?_
      refine r_ifeq (tgt := 36) C dX3_cloth_31 (by decide) (fun h18 => ?_) (fun h18 => ?_)
      · refine r_iinc (v := 1) (ls' := [some (.ref th), some (.ref x1), some (.int (x2 + (1 : Int32)))]) C dX3_cloth_36 rfl rfl (Nat.le_of_ble_eq_true rfl) rfl rfl ?_
        refine r_goto (tgt := 2) C dX3_cloth_39 (by decide) ?_
        exact ih x1 (x2 + (1 : Int32))
      · refine r_iload_n C dX3_cloth_34 rfl rfl ?_
        exact r_iret C dX3_cloth_35 rfl
def fX3_cloth (K : mm_K) (th : Nat) (P : mm_P) (x1 : Nat) : Option Int32 :=
  fX3_cloth_b2 K th P mm_NF x1 (0 : Int32)
set_option maxHeartbeats 4000000 in
theorem mc_X3_cloth {l : Launch} {K : mm_K} {P : mm_P} {th : Nat} {x1 : Nat} {nx sl : Nat} {r : Int32} (hk : K.1 th = 3) (h : fX3_cloth K th P x1 = some r) : mm_C l yX3_cloth (ws_ yX3_cloth cX3_cloth 3 (some .int)) 3 64 [.ref th, .ref x1] K P nx sl (mm_wrI K P nx sl r) :=
  mm_start (ls := [some (.ref th), some (.ref x1), none]) h (by decide) (Nat.le_of_ble_eq_true rfl) rfl (Nat.le_refl _) (Nat.le_refl _) rfl fun E hl9 _ _ _ C => by
  have C : mm_Cx E RX3 cX3_cloth 3 (some .int) 3 64 := C
  unfold fX3_cloth
  refine r_iconst (v := 0) C dX3_cloth_0 rfl ?_
  refine r_istore_n (ls' := [some (.ref th), some (.ref x1), some (.int (0 : Int32))]) C dX3_cloth_1 rfl (Nat.le_of_ble_eq_true rfl) rfl rfl ?_
  exact wfX3_cloth_b2 C hk mm_NF x1 (0 : Int32)
