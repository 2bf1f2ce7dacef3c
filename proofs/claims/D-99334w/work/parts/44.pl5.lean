/-! printed by gen_pl.py: the Reader -/
set_option maxRecDepth 100000
theorem fl_J9_17_6 : mm_FL RJ9 17 6 1 mm_r (tyX6 1) false := ⟨RX6, TX6, 7, _, tyX6, rfl, in_X6, rfl, rfl, Nat.le_of_ble_eq_true rfl, Or.inl q634, tyX6_ok, nmX6, rfl, rfl⟩
theorem fl_J9_24_6 : mm_FL RJ9 24 6 2 mm_r (tyX6 2) false := ⟨RX6, TX6, 7, _, tyX6, rfl, in_X6, rfl, rfl, Nat.le_of_ble_eq_true rfl, Or.inl q635, tyX6_ok, nmX6, rfl, rfl⟩
theorem fl_J9_31_6 : mm_FL RJ9 31 6 3 mm_r (tyX6 3) false := ⟨RX6, TX6, 7, _, tyX6, rfl, in_X6, rfl, rfl, Nat.le_of_ble_eq_true rfl, Or.inl q632, tyX6_ok, nmX6, rfl, rfl⟩
theorem fl_J9_7_6 : mm_FL RJ9 7 6 0 mm_r (tyX6 0) false := ⟨RX6, TX6, 7, _, tyX6, rfl, in_X6, rfl, rfl, Nat.le_of_ble_eq_true rfl, Or.inl q633, tyX6_ok, nmX6, rfl, rfl⟩
/-! J9 init_2 -/
def fJ9_init_2_b41 (th : Nat)  (x1 : Option Nat) (x2 : Option Nat) (x3 : Int32) (P : mm_P) : Option mm_P :=
  mm_lt (sR P 771 th x1) fun P1 =>
  mm_lt (sR P1 768 th x2) fun P2 =>
  if x3 ≠ 0 then
  (some P2)
  else
  (mm_lt (sR P2 770 th none) fun P4 =>
  some P4)
set_option maxHeartbeats 4000000 in
theorem wfJ9_init_2_b41 {E : mm_E} (C : mm_Cx E RJ9 cJ9_init_2 5 none 1 20) {K : mm_K} {th : Nat} (hk : K.1 th = 6) {nx sl : Nat} (hin : (eT E).name = "<init>") (x1 : Option Nat) (x2 : Option Nat) (x3 : Int32) (P : mm_P) : mm_V E (mm_wwV K nx sl) 41 [some (.ref th), some (va_rf x1), some (va_rf x2), some (.int x3), none] [] K P nx sl (fJ9_init_2_b41 th x1 x2 x3 P) := by
  unfold fJ9_init_2_b41
  refine r_aload_n C dJ9_init_2_41 rfl rfl ?_
  refine r_aload_nO C dJ9_init_2_42 rfl rfl ?_
  refine r_putR (code := 771) (x := x1) C fl_J9_31_6 hk rfl rfl rfl (mm_nrO _) (mm_ftO _) dJ9_init_2_43 ?_
  refine r_ltP fun P1 => ?_
  refine r_aload_n C dJ9_init_2_46 rfl rfl ?_
  refine r_aload_nO C dJ9_init_2_47 rfl rfl ?_
  refine r_putR (code := 768) (x := x2) C fl_J9_7_6 hk rfl rfl rfl (mm_nrO _) (mm_ftO _) dJ9_init_2_48 ?_
  refine r_ltP fun P2 => ?_
  refine r_iload_n C dJ9_init_2_51 rfl rfl ?_
  refine r_ifne (tgt := 60) C dJ9_init_2_52 (by decide) (fun h3 => ?_) (fun h3 => ?_)
  · exact r_vret C dJ9_init_2_60 rfl
  · refine r_aload_n C dJ9_init_2_55 rfl rfl ?_
    refine r_null C dJ9_init_2_56 ?_
    refine r_putR (code := 770) (x := none) C fl_J9_24_6 hk rfl rfl rfl (mm_nrO _) (mm_ftO _) dJ9_init_2_57 ?_
    refine r_ltP fun P4 => ?_
    exact r_vret C dJ9_init_2_60 rfl
def fJ9_init_2 (th : Nat) (x1 : Option Nat) (x2 : Option Nat) (x3 : Int32) (x4 : Int32) (P : mm_P) : Option mm_P :=
  mm_lt (sR P 768 th (some th)) fun P1 =>
  mm_lt (sR P1 769 th (gR P1 3 0)) fun P2 =>
  mm_lt (sR P2 770 th (gR P2 4 0)) fun P3 =>
  if x4 = 0 then
  (mm_lt (sR P3 769 th none) fun P5 =>
  fJ9_init_2_b41 th x1 x2 x3 P5)
  else
  (none)
set_option maxHeartbeats 4000000 in
theorem mc_J9_init_2 {l : Launch} {K : mm_K} {P : mm_P} {th : Nat} {x1 : Option Nat} {x2 : Option Nat} {x3 : Int32} {x4 : Int32} {nx sl : Nat} {r : mm_P} (hk : K.1 th = 6) (h : fJ9_init_2 th x1 x2 x3 x4 P = some r) : mm_C l yJ9_init_2 (ws_ yJ9_init_2 cJ9_init_2 5 none) 1 20 [.ref th, va_rf x1, va_rf x2, .int x3, .int x4] K P nx sl (mm_wwV K nx sl r) :=
  mm_startF (ls := [some (.ref th), some (va_rf x1), some (va_rf x2), some (.int x3), some (.int x4)]) h (by decide) (by cases x1 <;> cases x2 <;> exact (Nat.le_of_ble_eq_true rfl)) (by cases x1 <;> cases x2 <;> exact rfl) (Nat.le_refl _) (Nat.le_refl _) rfl fun E hl9 _ _ hin C => by
  have hin := hin rfl
  have C : mm_Cx E RJ9 cJ9_init_2 5 none 1 20 := C
  unfold fJ9_init_2
  refine r_aload_n C dJ9_init_2_0 rfl rfl ?_
  refine r_objinit C q602 q181 q182 (Nat.le_of_ble_eq_true rfl) (Nat.le_of_ble_eq_true rfl) (Nat.le_of_ble_eq_true rfl) dJ9_init_2_1 ?_
  refine r_aload_n C dJ9_init_2_4 rfl rfl ?_
  refine r_aload_n C dJ9_init_2_5 rfl rfl ?_
  refine r_putR (code := 768) (x := (some th)) C fl_J9_7_6 hk rfl rfl rfl (mm_nrO _) (mm_ftO _) dJ9_init_2_6 ?_
  refine r_ltP fun P1 => ?_
  refine r_aload_n C dJ9_init_2_9 rfl rfl ?_
  refine r_getsR C C.zs.2.2.1 (by decide) q603 dJ9_init_2_10 ?_
  refine r_putR (code := 769) (x := gR P1 3 0) C fl_J9_17_6 hk rfl rfl rfl (mm_nrA _) (mm_ftA _) dJ9_init_2_13 ?_
  refine r_ltP fun P2 => ?_
  refine r_aload_n C dJ9_init_2_16 rfl rfl ?_
  refine r_getsR C C.zs.2.2.2.1 (by decide) q605 dJ9_init_2_17 ?_
  refine r_putR (code := 770) (x := gR P2 4 0) C fl_J9_24_6 hk rfl rfl rfl (mm_nrO _) (mm_ftO _) dJ9_init_2_20 ?_
  refine r_ltP fun P3 => ?_
  refine r_iload C dJ9_init_2_23 rfl ?_
  refine r_ifeq (tgt := 36) C dJ9_init_2_25 (by decide) (fun h4 => ?_) (fun h4 => ?_)
  · refine r_aload_n C dJ9_init_2_36 rfl rfl ?_
    refine r_null C dJ9_init_2_37 ?_
    refine r_putR (code := 769) (x := none) C fl_J9_17_6 hk rfl rfl rfl (mm_nrA _) (mm_ftA _) dJ9_init_2_38 ?_
    refine r_ltP fun P5 => ?_
    refine r_mask [true, true, true, true, false] (ls' := [some (.ref th), some (va_rf x1), some (va_rf x2), some (.int x3), none]) rfl ?_
    exact wfJ9_init_2_b41 C hk hin x1 x2 x3 P5
  · refine r_aload_n C dJ9_init_2_28 rfl rfl ?_
    exact r_none
theorem cv_J10_16 : mm_CI RJ10 16 yJ9_init_2 cJ9_init_2 5 4 := ⟨q628, q147, q626, q627, rfl, ⟨by decide +kernel, by decide +kernel, by decide +kernel⟩⟩
/-! J10 init -/
def fJ10_init (th : Nat) (x1 : Option Nat) (x2 : Option Nat) (x3 : Int32) (x4 : Int32) (P : mm_P) : Option mm_P :=
  mm_bd (fJ9_init_2 th x1 x2 x3 x4 P) fun r1 =>
  some r1
set_option maxHeartbeats 4000000 in
theorem mc_J10_init {l : Launch} {K : mm_K} {P : mm_P} {th : Nat} {x1 : Option Nat} {x2 : Option Nat} {x3 : Int32} {x4 : Int32} {nx sl : Nat} {r : mm_P} (hk : K.1 th = 6) (h : fJ10_init th x1 x2 x3 x4 P = some r) : mm_C l yJ10_init (ws_ yJ10_init cJ10_init 5 none) 2 44 [.ref th, va_rf x1, va_rf x2, .int x3, .int x4] K P nx sl (mm_wwV K nx sl r) :=
  mm_startF (ls := [some (.ref th), some (va_rf x1), some (va_rf x2), some (.int x3), some (.int x4)]) h (by decide) (by cases x1 <;> cases x2 <;> exact (Nat.le_of_ble_eq_true rfl)) (by cases x1 <;> cases x2 <;> exact rfl) (Nat.le_refl _) (Nat.le_refl _) rfl fun E hl9 _ _ hin C => by
  have hin := hin rfl
  have C : mm_Cx E RJ10 cJ10_init 5 none 2 44 := C
  unfold fJ10_init
  refine r_aload_n C dJ10_init_0 rfl rfl ?_
  refine r_aload_nO C dJ10_init_1 rfl rfl ?_
  refine r_aload_nO C dJ10_init_2 rfl rfl ?_
  refine r_iload_n C dJ10_init_3 rfl rfl ?_
  refine r_iload C dJ10_init_4 rfl ?_
  refine r_bd fun r1 h2 => ?_
  refine r_callIv (As := [va_rf x1, va_rf x2, .int x3, .int x4]) (st := []) C (mc_J9_init_2 hk h2) cv_J10_16  rfl (Nat.le_of_ble_eq_true rfl) (Nat.le_of_ble_eq_true rfl) rfl (Nat.le_of_ble_eq_true rfl) dJ10_init_6 ?_
  exact r_vret C dJ10_init_9 rfl
theorem cv_J11_16 : mm_CI RJ11 16 yJ10_init cJ10_init 5 4 := ⟨q625, q148, q623, q624, rfl, ⟨by decide +kernel, by decide +kernel, by decide +kernel⟩⟩
/-! J11 init -/
def fJ11_init (th : Nat) (x1 : Option Nat) (x2 : Option Nat) (x3 : Int32) (x4 : Int32) (P : mm_P) : Option mm_P :=
  mm_bd (fJ10_init th x1 x2 x3 x4 P) fun r1 =>
  some r1
set_option maxHeartbeats 4000000 in
theorem mc_J11_init {l : Launch} {K : mm_K} {P : mm_P} {th : Nat} {x1 : Option Nat} {x2 : Option Nat} {x3 : Int32} {x4 : Int32} {nx sl : Nat} {r : mm_P} (hk : K.1 th = 6) (h : fJ11_init th x1 x2 x3 x4 P = some r) : mm_C l yJ11_init (ws_ yJ11_init cJ11_init 5 none) 3 68 [.ref th, va_rf x1, va_rf x2, .int x3, .int x4] K P nx sl (mm_wwV K nx sl r) :=
  mm_startF (ls := [some (.ref th), some (va_rf x1), some (va_rf x2), some (.int x3), some (.int x4)]) h (by decide) (by cases x1 <;> cases x2 <;> exact (Nat.le_of_ble_eq_true rfl)) (by cases x1 <;> cases x2 <;> exact rfl) (Nat.le_refl _) (Nat.le_refl _) rfl fun E hl9 _ _ hin C => by
  have hin := hin rfl
  have C : mm_Cx E RJ11 cJ11_init 5 none 3 68 := C
  unfold fJ11_init
  refine r_aload_n C dJ11_init_0 rfl rfl ?_
  refine r_aload_nO C dJ11_init_1 rfl rfl ?_
  refine r_aload_nO C dJ11_init_2 rfl rfl ?_
  refine r_iload_n C dJ11_init_3 rfl rfl ?_
  refine r_iload C dJ11_init_4 rfl ?_
  refine r_bd fun r1 h2 => ?_
  refine r_callIv (As := [va_rf x1, va_rf x2, .int x3, .int x4]) (st := []) C (mc_J10_init hk h2) cv_J11_16  rfl (Nat.le_of_ble_eq_true rfl) (Nat.le_of_ble_eq_true rfl) rfl (Nat.le_of_ble_eq_true rfl) dJ11_init_6 ?_
  exact r_vret C dJ11_init_9 rfl
theorem ff_X6_7 : mm_FF RX6 7 6 6 mm_i .int := ⟨RX6, TX6, 7, _, tyX6, rfl, in_X6, rfl, rfl, Nat.le_of_ble_eq_true rfl, q629, tyX6_ok, nmX6, rfl, rfl, rfl⟩
theorem cv_X6_1 : mm_CI RX6 1 yJ11_init cJ11_init 5 4 := ⟨q622, q149, q620, q621, rfl, ⟨by decide +kernel, by decide +kernel, by decide +kernel⟩⟩
/-! X6 init -/
def fX6_init (th : Nat) (x1 : Int32) (x2 : Int32) (P : mm_P) : Option mm_P :=
  mm_bd (fJ11_init th none none (0 : Int32) (0 : Int32) P) fun r1 =>
  mm_lt (sI r1 774 th (x1 + ((16 : Int32) * x2))) fun P3 =>
  some P3
set_option maxHeartbeats 4000000 in
theorem mc_X6_init {l : Launch} {K : mm_K} {P : mm_P} {th : Nat} {x1 : Int32} {x2 : Int32} {nx sl : Nat} {r : mm_P} (hk : K.1 th = 6) (h : fX6_init th x1 x2 P = some r) : mm_C l yX6_init (ws_ yX6_init cX6_init 3 none) 4 92 [.ref th, .int x1, .int x2] K P nx sl (mm_wwV K nx sl r) :=
  mm_start (ls := [some (.ref th), some (.int x1), some (.int x2)]) h (by decide) (Nat.le_of_ble_eq_true rfl) rfl (Nat.le_refl _) (Nat.le_refl _) rfl fun E hl9 _ _ hin C => by
  have hin := hin rfl
  have C : mm_Cx E RX6 cX6_init 3 none 4 92 := C
  unfold fX6_init
  refine r_aload_n C dX6_init_0 rfl rfl ?_
  refine r_null C dX6_init_1 ?_
  refine r_null C dX6_init_2 ?_
  refine r_iconst (v := 0) C dX6_init_3 rfl ?_
  refine r_iconst (v := 0) C dX6_init_4 rfl ?_
  refine r_bd fun r1 h2 => ?_
  refine r_callIv (As := [.null, .null, .int (0 : Int32), .int (0 : Int32)]) (st := []) C (mc_J11_init hk h2) cv_X6_1  rfl (Nat.le_of_ble_eq_true rfl) (Nat.le_of_ble_eq_true rfl) rfl (Nat.le_of_ble_eq_true rfl) dX6_init_5 ?_
  refine r_aload_n C dX6_init_8 rfl rfl ?_
  refine r_iload_n C dX6_init_9 rfl rfl ?_
  refine r_bipush (v := 16) C dX6_init_10 rfl ?_
  refine r_iload_n C dX6_init_12 rfl rfl ?_
  refine r_imul C dX6_init_13 ?_
  refine r_iadd C dX6_init_14 ?_
  refine r_putIF (code := 774) C hin ff_X6_7 hk rfl rfl rfl rfl dX6_init_15 ?_
  refine r_ltP fun P3 => ?_
  exact r_vret C dX6_init_18 rfl
theorem fl_X2_15 : mm_FL RX2 15 2 1 mm_i .int false := ⟨RX2, TX2, 8, _, tyX2, rfl, in_X2, rfl, rfl, Nat.le_of_ble_eq_true rfl, Or.inl q190, tyX2_ok, nmX2, rfl, rfl⟩
theorem fl_X2_9 : mm_FL RX2 9 2 0 (4, 1, 0, 0) (tyX2 0) false := ⟨RX2, TX2, 8, _, tyX2, rfl, in_X2, rfl, rfl, Nat.le_of_ble_eq_true rfl, Or.inl q189, tyX2_ok, nmX2, rfl, rfl⟩
/-! X2 at -/
def fX2_at (K : mm_K) (th : Nat) (P : mm_P) (x1 : Int32) : Option Int32 :=
  if (gI P 257 th) ≤ x1 then
  (some ((0 : Int32)))
  else
  (mm_bd (gR P 256 th) fun b2 =>
  mm_gd (K.1 b2 = 1) <|
  mm_gd (mm_in x1 1000) <|
  some (gA P 128 b2 x1.toNatClampNeg))
set_option maxHeartbeats 4000000 in
theorem mc_X2_at {l : Launch} {K : mm_K} {P : mm_P} {th : Nat} {x1 : Int32} {nx sl : Nat} {r : Int32} (hk : K.1 th = 2) (h : fX2_at K th P x1 = some r) : mm_C l yX2_at (ws_ yX2_at cX2_at 2 (some .int)) 0 0 [.ref th, .int x1] K P nx sl (mm_wrI K P nx sl r) :=
  mm_start (ls := [some (.ref th), some (.int x1)]) h (by decide) (Nat.le_of_ble_eq_true rfl) rfl (Nat.le_refl _) (Nat.le_refl _) rfl fun E hl9 _ _ _ C => by
  have C : mm_Cx E RX2 cX2_at 2 (some .int) 0 0 := C
  unfold fX2_at
  refine r_iload_n C dX2_at_0 rfl rfl ?_
  refine r_aload_n C dX2_at_1 rfl rfl ?_
  refine r_getI (code := 257) C fl_X2_15 hk rfl dX2_at_2 ?_
  refine r_icmpge (tgt := 17) C dX2_at_5 (by decide) (fun h1 => ?_) (fun h1 => ?_)
  · refine r_iconst (v := 0) C dX2_at_17 rfl ?_
    exact r_iret C dX2_at_18 rfl
  · refine r_aload_n C dX2_at_8 rfl rfl ?_
    refine r_getT (code := 256) C fl_X2_9 hk rfl dX2_at_9 fun b2 h3 => ?_
    refine r_iload_n C dX2_at_12 rfl rfl ?_
    refine r_gd fun hK4 => ?_
    refine r_bald C (rg_128 hK4) rfl dX2_at_13 fun h5 => ?_
    refine r_goto (tgt := 18) C dX2_at_14 (by decide) ?_
    exact r_iret C dX2_at_18 rfl
/-! X2 isLetter -/
def fX2_isLetter  (x0 : Int32) : Option Int32 :=
  if x0 < (97 : Int32) then
  (some ((0 : Int32)))
  else
  (if (122 : Int32) < x0 then
  (some ((0 : Int32)))
  else
  (some ((1 : Int32))))
set_option maxHeartbeats 4000000 in
theorem mc_X2_isLetter {l : Launch} {K : mm_K} {P : mm_P} {x0 : Int32} {nx sl : Nat} {r : Int32} (h : fX2_isLetter x0 = some r) : mm_C l yX2_isLetter (ws_ yX2_isLetter cX2_isLetter 1 (some .boolean)) 0 0 [.int x0] K P nx sl (mm_wrI K P nx sl r) :=
  mm_start (ls := [some (.int x0)]) h (by decide) (Nat.le_of_ble_eq_true rfl) rfl (Nat.le_refl _) (Nat.le_refl _) rfl fun E hl9 _ _ _ C => by
  have C : mm_Cx E RX2 cX2_isLetter 1 (some .boolean) 0 0 := C
  unfold fX2_isLetter
  refine r_iload_n C dX2_isLetter_0 rfl rfl ?_
  refine r_bipush (v := 97) C dX2_isLetter_1 rfl ?_
  refine r_icmplt (tgt := 16) C dX2_isLetter_3 (by decide) (fun h1 => ?_) (fun h1 => ?_)
  · refine r_iconst (v := 0) C dX2_isLetter_16 rfl ?_
    exact r_zret C dX2_isLetter_17 rfl rfl
  · refine r_iload_n C dX2_isLetter_6 rfl rfl ?_
    refine r_bipush (v := 122) C dX2_isLetter_7 rfl ?_
    refine r_icmpgt (tgt := 16) C dX2_isLetter_9 (by decide) (fun h2 => ?_) (fun h2 => ?_)
    · refine r_iconst (v := 0) C dX2_isLetter_16 rfl ?_
      exact r_zret C dX2_isLetter_17 rfl rfl
    · refine r_iconst (v := 1) C dX2_isLetter_12 rfl ?_
      refine r_goto (tgt := 17) C dX2_isLetter_13 (by decide) ?_
      exact r_zret C dX2_isLetter_17 rfl rfl
/-! X2 isDigit -/
def fX2_isDigit  (x0 : Int32) : Option Int32 :=
  if x0 < (48 : Int32) then
  (some ((0 : Int32)))
  else
  (if (57 : Int32) < x0 then
  (some ((0 : Int32)))
  else
  (some ((1 : Int32))))
set_option maxHeartbeats 4000000 in
theorem mc_X2_isDigit {l : Launch} {K : mm_K} {P : mm_P} {x0 : Int32} {nx sl : Nat} {r : Int32} (h : fX2_isDigit x0 = some r) : mm_C l yX2_isDigit (ws_ yX2_isDigit cX2_isDigit 1 (some .boolean)) 0 0 [.int x0] K P nx sl (mm_wrI K P nx sl r) :=
  mm_start (ls := [some (.int x0)]) h (by decide) (Nat.le_of_ble_eq_true rfl) rfl (Nat.le_refl _) (Nat.le_refl _) rfl fun E hl9 _ _ _ C => by
  have C : mm_Cx E RX2 cX2_isDigit 1 (some .boolean) 0 0 := C
  unfold fX2_isDigit
  refine r_iload_n C dX2_isDigit_0 rfl rfl ?_
  refine r_bipush (v := 48) C dX2_isDigit_1 rfl ?_
  refine r_icmplt (tgt := 16) C dX2_isDigit_3 (by decide) (fun h1 => ?_) (fun h1 => ?_)
  · refine r_iconst (v := 0) C dX2_isDigit_16 rfl ?_
    exact r_zret C dX2_isDigit_17 rfl rfl
  · refine r_iload_n C dX2_isDigit_6 rfl rfl ?_
    refine r_bipush (v := 57) C dX2_isDigit_7 rfl ?_
    refine r_icmpgt (tgt := 16) C dX2_isDigit_9 (by decide) (fun h2 => ?_) (fun h2 => ?_)
    · refine r_iconst (v := 0) C dX2_isDigit_16 rfl ?_
      exact r_zret C dX2_isDigit_17 rfl rfl
    · refine r_iconst (v := 1) C dX2_isDigit_12 rfl ?_
      refine r_goto (tgt := 17) C dX2_isDigit_13 (by decide) ?_
      exact r_zret C dX2_isDigit_17 rfl rfl
theorem fl_X2_19 : mm_FL RX2 19 2 2 mm_i .int false := ⟨RX2, TX2, 8, _, tyX2, rfl, in_X2, rfl, rfl, Nat.le_of_ble_eq_true rfl, Or.inl q191, tyX2_ok, nmX2, rfl, rfl⟩
theorem fl_X2_28 : mm_FL RX2 28 2 4 mm_i .int false := ⟨RX2, TX2, 8, _, tyX2, rfl, in_X2, rfl, rfl, Nat.le_of_ble_eq_true rfl, Or.inl q193, tyX2_ok, nmX2, rfl, rfl⟩
theorem fl_X2_31 : mm_FL RX2 31 2 3 mm_i .int false := ⟨RX2, TX2, 8, _, tyX2, rfl, in_X2, rfl, rfl, Nat.le_of_ble_eq_true rfl, Or.inl q192, tyX2_ok, nmX2, rfl, rfl⟩
theorem fl_X2_45 : mm_FL RX2 45 2 5 mm_i .int false := ⟨RX2, TX2, 8, _, tyX2, rfl, in_X2, rfl, rfl, Nat.le_of_ble_eq_true rfl, Or.inl q194, tyX2_ok, nmX2, rfl, rfl⟩
theorem cv_X2_34 : mm_CV RX2 34 yX2_at cX2_at 2 (some .int) 1 2 := ⟨RX2, TX2, 8, _, lw_V q443 q445 qs2 q134 q446, ⟨rfl, by decide +kernel, by decide +kernel, by decide +kernel⟩, rfl, rfl⟩
theorem cv_X2_38 : mm_CS RX2 38 yX2_isLetter cX2_isLetter 1 (some .boolean) 1 := ⟨lw_S q447 q448 q134 q449, by decide +kernel, by decide +kernel, by decide +kernel⟩
theorem cv_X2_42 : mm_CS RX2 42 yX2_isDigit cX2_isDigit 1 (some .boolean) 1 := ⟨lw_S q450 q451 q134 q452, by decide +kernel, by decide +kernel, by decide +kernel⟩
theorem cv_X2_50 {k : Nat} (h : mm_isS k) : mm_CV RX2 50 yJ3_indexOf cJ3_indexOf 2 (some .int) 1 k := by
  rcases h with rfl | rfl
  · exact ⟨RJ3, TJ3, 4, _, lw_V q454 q455 q456 q141 q457, ⟨rfl, by decide +kernel, by decide +kernel, by decide +kernel⟩, rfl, rfl⟩
  · exact ⟨RJ3, TJ3, 2, _, lw_V q454 q455 q456 q141 q457, ⟨rfl, by decide +kernel, by decide +kernel, by decide +kernel⟩, rfl, rfl⟩
/-! X2 next -/
def fX2_next_b283 (K : mm_K) (th : Nat)  (s1 : Int32) (P : mm_P) : Option mm_P :=
  mm_lt (sI P 259 th s1) fun P1 =>
  mm_lt (sI P1 258 th ((gI P1 258 th) + (1 : Int32))) fun P2 =>
  some P2
set_option maxHeartbeats 4000000 in
theorem wfX2_next_b283 {E : mm_E} (C : mm_Cx E RX2 cX2_next 1 none 4 91) {K : mm_K} {th : Nat} (hk : K.1 th = 2) {nx sl : Nat} (s1 : Int32) (P : mm_P) : mm_V E (mm_wwV K nx sl) 283 [some (.ref th)] [.int s1, .ref th] K P nx sl (fX2_next_b283 K th s1 P) := by
  unfold fX2_next_b283
  refine r_putI (code := 259) C fl_X2_31 hk rfl rfl dX2_next_283 ?_
  refine r_ltP fun P1 => ?_
  refine r_aload_n C dX2_next_286 rfl rfl ?_
  refine r_dup C dX2_next_287 rfl ?_
  refine r_getI (code := 258) C fl_X2_19 hk rfl dX2_next_288 ?_
  refine r_iconst (v := 1) C dX2_next_291 rfl ?_
  refine r_iadd C dX2_next_292 ?_
  refine r_putI (code := 258) C fl_X2_19 hk rfl rfl dX2_next_293 ?_
  refine r_ltP fun P2 => ?_
  exact r_vret C dX2_next_296 rfl
def fX2_next_b219 (K : mm_K) (th : Nat) (k165 : mm_P → Option mm_P) (s1 : Int32) (P : mm_P) : Option mm_P :=
  mm_lt (sI P 261 th s1) fun P1 =>
  mm_lt (sI P1 258 th ((gI P1 258 th) + (1 : Int32))) fun P2 =>
  k165 P2
set_option maxHeartbeats 4000000 in
theorem wfX2_next_b219 {E : mm_E} (C : mm_Cx E RX2 cX2_next 1 none 4 91) {K : mm_K} {th : Nat} (hk : K.1 th = 2) {nx sl : Nat} {k165 : mm_P → Option mm_P} (hk165 : ∀ (P : mm_P), mm_V E (mm_wwV K nx sl) 165 [some (.ref th)] [] K P nx sl (k165 P)) (s1 : Int32) (P : mm_P) : mm_V E (mm_wwV K nx sl) 219 [some (.ref th)] [.int s1, .ref th] K P nx sl (fX2_next_b219 K th k165 s1 P) := by
  unfold fX2_next_b219
  refine r_putI (code := 261) C fl_X2_45 hk rfl rfl dX2_next_219 ?_
  refine r_ltP fun P1 => ?_
  refine r_aload_n C dX2_next_222 rfl rfl ?_
  refine r_dup C dX2_next_223 rfl ?_
  refine r_getI (code := 258) C fl_X2_19 hk rfl dX2_next_224 ?_
  refine r_iconst (v := 1) C dX2_next_227 rfl ?_
  refine r_iadd C dX2_next_228 ?_
  refine r_putI (code := 258) C fl_X2_19 hk rfl rfl dX2_next_229 ?_
  refine r_ltP fun P2 => ?_
  refine r_goto (tgt := 165) C dX2_next_232 (by decide) ?_
  exact hk165 P2
def fX2_next_b165 (K : mm_K) (th : Nat)  : Nat → mm_P → Option mm_P
  | 0, _ => none
  | n + 1, P =>
  mm_bd (fX2_at K th P (gI P 258 th)) fun r1 =>
  mm_bd (fX2_isDigit r1) fun r3 =>
  if r3 = 0 then
  (if ((gI P 258 th) - (gI P 260 th)) ≤ (4 : Int32) then
  (mm_lt (sI P 259 th (2 : Int32)) fun P7 =>
  some P7)
  else
  (mm_lt (sI P 259 th (4 : Int32)) fun P8 =>
  some P8))
  else
  (if (4 : Int32) ≤ ((gI P 258 th) - (gI P 260 th)) then
  (fX2_next_b219 K th (fX2_next_b165 K th n) (gI P 261 th) P)
  else
  (mm_bd (fX2_at K th P (gI P 258 th)) fun r10 =>
  fX2_next_b219 K th (fX2_next_b165 K th n) ((((10 : Int32) * (gI P 261 th)) + r10) - (48 : Int32)) P))
set_option maxHeartbeats 4000000 in
theorem wfX2_next_b165 {E : mm_E} (C : mm_Cx E RX2 cX2_next 1 none 4 91) {K : mm_K} {th : Nat} (hk : K.1 th = 2) {nx sl : Nat} : ∀ (n : Nat), ∀ (P : mm_P), mm_V E (mm_wwV K nx sl) 165 [some (.ref th)] [] K P nx sl (fX2_next_b165 K th n P) := by
  intro n
  induction n with
  | zero => intro P; exact r_none
  | succ n ih =>
    intro P
    rw [fX2_next_b165]
    refine r_aload_n C dX2_next_165 rfl rfl ?_
    refine r_aload_n C dX2_next_166 rfl rfl ?_
    refine r_getI (code := 258) C fl_X2_19 hk rfl dX2_next_167 ?_
    refine r_bd fun r1 h2 => ?_
    refine r_callV (As := [.int (gI P 258 th)]) (st := []) C (mc_X2_at hk h2) cv_X2_34 hk rfl (Nat.le_of_ble_eq_true rfl) (Nat.le_of_ble_eq_true rfl) rfl (Nat.le_of_ble_eq_true rfl) dX2_next_170 ?_
    refine r_bd fun r3 h4 => ?_
    refine r_callS (As := [.int r1]) (st := []) C (mc_X2_isDigit h4) cv_X2_42  rfl (Nat.le_of_ble_eq_true rfl) (Nat.le_of_ble_eq_true rfl) rfl (Nat.le_of_ble_eq_true rfl) dX2_next_173 ?_
    refine r_ifeq (tgt := 235) C dX2_next_176 (by decide) (fun h5 => ?_) (fun h5 => ?_)
    · refine r_aload_n C dX2_next_235 rfl rfl ?_
      refine r_aload_n C dX2_next_236 rfl rfl ?_
      refine r_getI (code := 258) C fl_X2_19 hk rfl dX2_next_237 ?_
      refine r_aload_n C dX2_next_240 rfl rfl ?_
      refine r_getI (code := 260) C fl_X2_28 hk rfl dX2_next_241 ?_
      refine r_isub C dX2_next_244 ?_
      refine r_iconst (v := 4) C dX2_next_245 rfl ?_
      refine r_icmple (tgt := 253) C dX2_next_246 (by decide) (fun h6 => ?_) (fun h6 => ?_)
      · refine r_iconst (v := 2) C dX2_next_253 rfl ?_
        refine r_putI (code := 259) C fl_X2_31 hk rfl rfl dX2_next_254 ?_
        refine r_ltP fun P7 => ?_
        refine r_goto (tgt := 296) C dX2_next_257 (by decide) ?_
        exact r_vret C dX2_next_296 rfl
      · refine r_iconst (v := 4) C dX2_next_249 rfl ?_
        refine r_goto (tgt := 254) C dX2_next_250 (by decide) ?_
        refine r_putI (code := 259) C fl_X2_31 hk rfl rfl dX2_next_254 ?_
        refine r_ltP fun P8 => ?_
        refine r_goto (tgt := 296) C dX2_next_257 (by decide) ?_
        exact r_vret C dX2_next_296 rfl
    · refine r_aload_n C dX2_next_179 rfl rfl ?_
      refine r_aload_n C dX2_next_180 rfl rfl ?_
      refine r_getI (code := 258) C fl_X2_19 hk rfl dX2_next_181 ?_
      refine r_aload_n C dX2_next_184 rfl rfl ?_
      refine r_getI (code := 260) C fl_X2_28 hk rfl dX2_next_185 ?_
      refine r_isub C dX2_next_188 ?_
      refine r_iconst (v := 4) C dX2_next_189 rfl ?_
      refine r_icmpge (tgt := 215) C dX2_next_190 (by decide) (fun h9 => ?_) (fun h9 => ?_)
      · refine r_aload_n C dX2_next_215 rfl rfl ?_
        refine r_getI (code := 261) C fl_X2_45 hk rfl dX2_next_216 ?_
        exact wfX2_next_b219 C hk ih (gI P 261 th) P
      · refine r_bipush (v := 10) C dX2_next_193 rfl ?_
        refine r_aload_n C dX2_next_195 rfl rfl ?_
        refine r_getI (code := 261) C fl_X2_45 hk rfl dX2_next_196 ?_
        refine r_imul C dX2_next_199 ?_
        refine r_aload_n C dX2_next_200 rfl rfl ?_
        refine r_aload_n C dX2_next_201 rfl rfl ?_
        refine r_getI (code := 258) C fl_X2_19 hk rfl dX2_next_202 ?_
        refine r_bd fun r10 h11 => ?_
        refine r_callV (As := [.int (gI P 258 th)]) (st := [.int ((10 : Int32) * (gI P 261 th)), .ref th]) C (mc_X2_at hk h11) cv_X2_34 hk rfl (Nat.le_of_ble_eq_true rfl) (Nat.le_of_ble_eq_true rfl) rfl (Nat.le_of_ble_eq_true rfl) dX2_next_205 ?_
        refine r_iadd C dX2_next_208 ?_
        refine r_bipush (v := 48) C dX2_next_209 rfl ?_
        refine r_isub C dX2_next_211 ?_
        refine r_goto (tgt := 219) C dX2_next_212 (by decide) ?_
        exact wfX2_next_b219 C hk ih ((((10 : Int32) * (gI P 261 th)) + r10) - (48 : Int32)) P
def fX2_next_b93 (K : mm_K) (th : Nat)  : Nat → mm_P → Option mm_P
  | 0, _ => none
  | n + 1, P =>
  mm_bd (fX2_at K th P (gI P 258 th)) fun r1 =>
  mm_bd (fX2_isLetter r1) fun r3 =>
  if r3 = 0 then
  (if ((gI P 258 th) - (gI P 260 th)) ≤ (8 : Int32) then
  (mm_lt (sI P 259 th (1 : Int32)) fun P7 =>
  some P7)
  else
  (mm_lt (sI P 259 th (4 : Int32)) fun P8 =>
  some P8))
  else
  (mm_lt (sI P 258 th ((gI P 258 th) + (1 : Int32))) fun P9 =>
  fX2_next_b93 K th n P9)
set_option maxHeartbeats 4000000 in
theorem wfX2_next_b93 {E : mm_E} (C : mm_Cx E RX2 cX2_next 1 none 4 91) {K : mm_K} {th : Nat} (hk : K.1 th = 2) {nx sl : Nat} : ∀ (n : Nat), ∀ (P : mm_P), mm_V E (mm_wwV K nx sl) 93 [some (.ref th)] [] K P nx sl (fX2_next_b93 K th n P) := by
  intro n
  induction n with
  | zero => intro P; exact r_none
  | succ n ih =>
    intro P
    rw [fX2_next_b93]
    refine r_aload_n C dX2_next_93 rfl rfl ?_
    refine r_aload_n C dX2_next_94 rfl rfl ?_
    refine r_getI (code := 258) C fl_X2_19 hk rfl dX2_next_95 ?_
    refine r_bd fun r1 h2 => ?_
    refine r_callV (As := [.int (gI P 258 th)]) (st := []) C (mc_X2_at hk h2) cv_X2_34 hk rfl (Nat.le_of_ble_eq_true rfl) (Nat.le_of_ble_eq_true rfl) rfl (Nat.le_of_ble_eq_true rfl) dX2_next_98 ?_
    refine r_bd fun r3 h4 => ?_
    refine r_callS (As := [.int r1]) (st := []) C (mc_X2_isLetter h4) cv_X2_38  rfl (Nat.le_of_ble_eq_true rfl) (Nat.le_of_ble_eq_true rfl) rfl (Nat.le_of_ble_eq_true rfl) dX2_next_101 ?_
    refine r_ifeq (tgt := 120) C dX2_next_104 (by decide) (fun h5 => ?_) (fun h5 => ?_)
    · refine r_aload_n C dX2_next_120 rfl rfl ?_
      refine r_aload_n C dX2_next_121 rfl rfl ?_
      refine r_getI (code := 258) C fl_X2_19 hk rfl dX2_next_122 ?_
      refine r_aload_n C dX2_next_125 rfl rfl ?_
      refine r_getI (code := 260) C fl_X2_28 hk rfl dX2_next_126 ?_
      refine r_isub C dX2_next_129 ?_
      refine r_bipush (v := 8) C dX2_next_130 rfl ?_
      refine r_icmple (tgt := 139) C dX2_next_132 (by decide) (fun h6 => ?_) (fun h6 => ?_)
      · refine r_iconst (v := 1) C dX2_next_139 rfl ?_
        refine r_putI (code := 259) C fl_X2_31 hk rfl rfl dX2_next_140 ?_
        refine r_ltP fun P7 => ?_
        refine r_goto (tgt := 296) C dX2_next_143 (by decide) ?_
        exact r_vret C dX2_next_296 rfl
      · refine r_iconst (v := 4) C dX2_next_135 rfl ?_
        refine r_goto (tgt := 140) C dX2_next_136 (by decide) ?_
        refine r_putI (code := 259) C fl_X2_31 hk rfl rfl dX2_next_140 ?_
        refine r_ltP fun P8 => ?_
        refine r_goto (tgt := 296) C dX2_next_143 (by decide) ?_
        exact r_vret C dX2_next_296 rfl
    · refine r_aload_n C dX2_next_107 rfl rfl ?_
      refine r_dup C dX2_next_108 rfl ?_
      refine r_getI (code := 258) C fl_X2_19 hk rfl dX2_next_109 ?_
      refine r_iconst (v := 1) C dX2_next_112 rfl ?_
      refine r_iadd C dX2_next_113 ?_
      refine r_putI (code := 258) C fl_X2_19 hk rfl rfl dX2_next_114 ?_
      refine r_ltP fun P9 => ?_
      refine r_goto (tgt := 93) C dX2_next_117 (by decide) ?_
      exact ih P9
def fX2_next_b52 (K : mm_K) (th : Nat)  (P : mm_P) : Option mm_P :=
  mm_lt (sI P 260 th (gI P 258 th)) fun P1 =>
  if (gI P1 258 th) ≠ (gI P1 257 th) then
  (mm_bd (fX2_at K th P1 (gI P1 258 th)) fun r3 =>
  mm_bd (fX2_isLetter r3) fun r5 =>
  if r5 = 0 then
  (mm_bd (fX2_at K th P1 (gI P1 258 th)) fun r8 =>
  mm_bd (fX2_isDigit r8) fun r10 =>
  if r10 = 0 then
  (mm_bd (gR P1 10 0) fun b13 =>
  mm_bd (fX2_at K th P1 (gI P1 258 th)) fun r15 =>
  mm_gd (mm_isS (K.1 b13)) <|
  mm_bd (fJ3_indexOf K b13 P1 (mm_chr r15)) fun r17 =>
  if r17 < 0 then
  (fX2_next_b283 K th (4 : Int32) P1)
  else
  (fX2_next_b283 K th (3 : Int32) P1))
  else
  (mm_lt (sI P1 261 th (0 : Int32)) fun P21 =>
  fX2_next_b165 K th mm_NF P21))
  else
  (fX2_next_b93 K th mm_NF P1))
  else
  (mm_lt (sI P1 259 th (0 : Int32)) fun P22 =>
  some P22)
set_option maxHeartbeats 4000000 in
theorem wfX2_next_b52 {E : mm_E} (C : mm_Cx E RX2 cX2_next 1 none 4 91) {K : mm_K} {th : Nat} (hk : K.1 th = 2) {nx sl : Nat} (P : mm_P) : mm_V E (mm_wwV K nx sl) 52 [some (.ref th)] [] K P nx sl (fX2_next_b52 K th P) := by
  unfold fX2_next_b52
  refine r_aload_n C dX2_next_52 rfl rfl ?_
  refine r_aload_n C dX2_next_53 rfl rfl ?_
  refine r_getI (code := 258) C fl_X2_19 hk rfl dX2_next_54 ?_
  refine r_putI (code := 260) C fl_X2_28 hk rfl rfl dX2_next_57 ?_
  refine r_ltP fun P1 => ?_
  refine r_aload_n C dX2_next_60 rfl rfl ?_
  refine r_getI (code := 258) C fl_X2_19 hk rfl dX2_next_61 ?_
  refine r_aload_n C dX2_next_64 rfl rfl ?_
  refine r_getI (code := 257) C fl_X2_15 hk rfl dX2_next_65 ?_
  refine r_icmpne (tgt := 79) C dX2_next_68 (by decide) (fun h2 => ?_) (fun h2 => ?_)
  · refine r_aload_n C dX2_next_79 rfl rfl ?_
    refine r_aload_n C dX2_next_80 rfl rfl ?_
    refine r_getI (code := 258) C fl_X2_19 hk rfl dX2_next_81 ?_
    refine r_bd fun r3 h4 => ?_
    refine r_callV (As := [.int (gI P1 258 th)]) (st := []) C (mc_X2_at hk h4) cv_X2_34 hk rfl (Nat.le_of_ble_eq_true rfl) (Nat.le_of_ble_eq_true rfl) rfl (Nat.le_of_ble_eq_true rfl) dX2_next_84 ?_
    refine r_bd fun r5 h6 => ?_
    refine r_callS (As := [.int r3]) (st := []) C (mc_X2_isLetter h6) cv_X2_38  rfl (Nat.le_of_ble_eq_true rfl) (Nat.le_of_ble_eq_true rfl) rfl (Nat.le_of_ble_eq_true rfl) dX2_next_87 ?_
    refine r_ifeq (tgt := 146) C dX2_next_90 (by decide) (fun h7 => ?_) (fun h7 => ?_)
    · refine r_aload_n C dX2_next_146 rfl rfl ?_
      refine r_aload_n C dX2_next_147 rfl rfl ?_
      refine r_getI (code := 258) C fl_X2_19 hk rfl dX2_next_148 ?_
      refine r_bd fun r8 h9 => ?_
      refine r_callV (As := [.int (gI P1 258 th)]) (st := []) C (mc_X2_at hk h9) cv_X2_34 hk rfl (Nat.le_of_ble_eq_true rfl) (Nat.le_of_ble_eq_true rfl) rfl (Nat.le_of_ble_eq_true rfl) dX2_next_151 ?_
      refine r_bd fun r10 h11 => ?_
      refine r_callS (As := [.int r8]) (st := []) C (mc_X2_isDigit h11) cv_X2_42  rfl (Nat.le_of_ble_eq_true rfl) (Nat.le_of_ble_eq_true rfl) rfl (Nat.le_of_ble_eq_true rfl) dX2_next_154 ?_
      refine r_ifeq (tgt := 260) C dX2_next_157 (by decide) (fun h12 => ?_) (fun h12 => ?_)
      · refine r_aload_n C dX2_next_260 rfl rfl ?_
        refine r_ldcS (i := 0) (tx := "()<=+-*;") C (by decide) (by decide) dX2_next_261 fun b13 h14 => ?_
        refine r_aload_n C dX2_next_263 rfl rfl ?_
        refine r_aload_n C dX2_next_264 rfl rfl ?_
        refine r_getI (code := 258) C fl_X2_19 hk rfl dX2_next_265 ?_
        refine r_bd fun r15 h16 => ?_
        refine r_callV (As := [.int (gI P1 258 th)]) (st := [.ref b13, .ref th]) C (mc_X2_at hk h16) cv_X2_34 hk rfl (Nat.le_of_ble_eq_true rfl) (Nat.le_of_ble_eq_true rfl) rfl (Nat.le_of_ble_eq_true rfl) dX2_next_268 ?_
        refine r_i2c C dX2_next_271 ?_
        refine r_gd fun hK19 => ?_
        refine r_bd fun r17 h18 => ?_
        refine r_callV (As := [.int (mm_chr r15)]) (st := [.ref th]) C (mc_J3_indexOf hK19 h18) (cv_X2_50 hK19) rfl rfl (Nat.le_of_ble_eq_true rfl) (Nat.le_of_ble_eq_true rfl) rfl (Nat.le_of_ble_eq_true rfl) dX2_next_272 ?_
        refine r_iflt (tgt := 282) C dX2_next_275 (by decide) (fun h20 => ?_) (fun h20 => ?_)
        · refine r_iconst (v := 4) C dX2_next_282 rfl ?_
          exact wfX2_next_b283 C hk (4 : Int32) P1
        · refine r_iconst (v := 3) C dX2_next_278 rfl ?_
          refine r_goto (tgt := 283) C dX2_next_279 (by decide) ?_
          exact wfX2_next_b283 C hk (3 : Int32) P1
      · refine r_aload_n C dX2_next_160 rfl rfl ?_
        refine r_iconst (v := 0) C dX2_next_161 rfl ?_
        refine r_putI (code := 261) C fl_X2_45 hk rfl rfl dX2_next_162 ?_
        refine r_ltP fun P21 => ?_
        exact wfX2_next_b165 C hk mm_NF P21
    · exact wfX2_next_b93 C hk mm_NF P1
  · refine r_aload_n C dX2_next_71 rfl rfl ?_
    refine r_iconst (v := 0) C dX2_next_72 rfl ?_
    refine r_putI (code := 259) C fl_X2_31 hk rfl rfl dX2_next_73 ?_
    refine r_ltP fun P22 => ?_
    refine r_goto (tgt := 296) C dX2_next_76 (by decide) ?_
    exact r_vret C dX2_next_296 rfl
def fX2_next_b39 (K : mm_K) (th : Nat) (k0 : mm_P → Option mm_P) (P : mm_P) : Option mm_P :=
  mm_lt (sI P 258 th ((gI P 258 th) + (1 : Int32))) fun P1 =>
  k0 P1
set_option maxHeartbeats 4000000 in
theorem wfX2_next_b39 {E : mm_E} (C : mm_Cx E RX2 cX2_next 1 none 4 91) {K : mm_K} {th : Nat} (hk : K.1 th = 2) {nx sl : Nat} {k0 : mm_P → Option mm_P} (hk0 : ∀ (P : mm_P), mm_V E (mm_wwV K nx sl) 0 [some (.ref th)] [] K P nx sl (k0 P)) (P : mm_P) : mm_V E (mm_wwV K nx sl) 39 [some (.ref th)] [] K P nx sl (fX2_next_b39 K th k0 P) := by
  unfold fX2_next_b39
  refine r_aload_n C dX2_next_39 rfl rfl ?_
  refine r_dup C dX2_next_40 rfl ?_
  refine r_getI (code := 258) C fl_X2_19 hk rfl dX2_next_41 ?_
  refine r_iconst (v := 1) C dX2_next_44 rfl ?_
  refine r_iadd C dX2_next_45 ?_
  refine r_putI (code := 258) C fl_X2_19 hk rfl rfl dX2_next_46 ?_
  refine r_ltP fun P1 => ?_
  refine r_goto (tgt := 0) C dX2_next_49 (by decide) ?_
  exact hk0 P1
def fX2_next_b0 (K : mm_K) (th : Nat)  : Nat → mm_P → Option mm_P
  | 0, _ => none
  | n + 1, P =>
  if (gI P 257 th) ≤ (gI P 258 th) then
  (fX2_next_b52 K th P)
  else
  (mm_bd (gR P 256 th) fun b2 =>
  mm_gd (K.1 b2 = 1) <|
  mm_gd (mm_in (gI P 258 th) 1000) <|
  if (gA P 128 b2 (gI P 258 th).toNatClampNeg) = (10 : Int32) then
  (fX2_next_b39 K th (fX2_next_b0 K th n) P)
  else
  (mm_bd (gR P 256 th) fun b7 =>
  mm_gd (K.1 b7 = 1) <|
  mm_gd (mm_in (gI P 258 th) 1000) <|
  if (gA P 128 b7 (gI P 258 th).toNatClampNeg) ≠ (32 : Int32) then
  (fX2_next_b52 K th P)
  else
  (fX2_next_b39 K th (fX2_next_b0 K th n) P)))
set_option maxHeartbeats 4000000 in
theorem wfX2_next_b0 {E : mm_E} (C : mm_Cx E RX2 cX2_next 1 none 4 91) {K : mm_K} {th : Nat} (hk : K.1 th = 2) {nx sl : Nat} : ∀ (n : Nat), ∀ (P : mm_P), mm_V E (mm_wwV K nx sl) 0 [some (.ref th)] [] K P nx sl (fX2_next_b0 K th n P) := by
  intro n
  induction n with
  | zero => intro P; exact r_none
  | succ n ih =>
    intro P
    rw [fX2_next_b0]
    refine r_aload_n C dX2_next_0 rfl rfl ?_
    refine r_getI (code := 258) C fl_X2_19 hk rfl dX2_next_1 ?_
    refine r_aload_n C dX2_next_4 rfl rfl ?_
    refine r_getI (code := 257) C fl_X2_15 hk rfl dX2_next_5 ?_
    refine r_icmpge (tgt := 52) C dX2_next_8 (by decide) (fun h1 => ?_) (fun h1 => ?_)
    · exact wfX2_next_b52 C hk P
    · refine r_aload_n C dX2_next_11 rfl rfl ?_
      refine r_getT (code := 256) C fl_X2_9 hk rfl dX2_next_12 fun b2 h3 => ?_
      refine r_aload_n C dX2_next_15 rfl rfl ?_
      refine r_getI (code := 258) C fl_X2_19 hk rfl dX2_next_16 ?_
      refine r_gd fun hK4 => ?_
      refine r_bald C (rg_128 hK4) rfl dX2_next_19 fun h5 => ?_
      refine r_bipush (v := 10) C dX2_next_20 rfl ?_
      refine r_icmpeq (tgt := 39) C dX2_next_22 (by decide) (fun h6 => ?_) (fun h6 => ?_)
      · exact wfX2_next_b39 C hk ih P
      · refine r_aload_n C dX2_next_25 rfl rfl ?_
        refine r_getT (code := 256) C fl_X2_9 hk rfl dX2_next_26 fun b7 h8 => ?_
        refine r_aload_n C dX2_next_29 rfl rfl ?_
        refine r_getI (code := 258) C fl_X2_19 hk rfl dX2_next_30 ?_
        refine r_gd fun hK9 => ?_
        refine r_bald C (rg_128 hK9) rfl dX2_next_33 fun h10 => ?_
        refine r_bipush (v := 32) C dX2_next_34 rfl ?_
        refine r_icmpne (tgt := 52) C dX2_next_36 (by decide) (fun h11 => ?_) (fun h11 => ?_)
        · exact wfX2_next_b52 C hk P
        · exact wfX2_next_b39 C hk ih P
def fX2_next (K : mm_K) (th : Nat)  (P : mm_P) : Option mm_P :=
  fX2_next_b0 K th mm_NF P
set_option maxHeartbeats 4000000 in
theorem mc_X2_next {l : Launch} {K : mm_K} {P : mm_P} {th : Nat}  {nx sl : Nat} {r : mm_P} (hk : K.1 th = 2) (h : fX2_next K th P = some r) : mm_C l yX2_next (ws_ yX2_next cX2_next 1 none) 4 91 [.ref th] K P nx sl (mm_wwV K nx sl r) :=
  mm_start (ls := [some (.ref th)]) h (by decide) (Nat.le_of_ble_eq_true rfl) rfl (Nat.le_refl _) (Nat.le_refl _) rfl fun E hl9 _ _ _ C => by
  have C : mm_Cx E RX2 cX2_next 1 none 4 91 := C
  unfold fX2_next
  exact wfX2_next_b0 C hk mm_NF P
theorem fl_X2_22 : mm_FL RX2 22 2 6 mm_i .int false := ⟨RX2, TX2, 8, _, tyX2, rfl, in_X2, rfl, rfl, Nat.le_of_ble_eq_true rfl, Or.inl q195, tyX2_ok, nmX2, rfl, rfl⟩
theorem cv_X2_25 : mm_CV RX2 25 yX2_next cX2_next 1 none 0 2 := ⟨RX2, TX2, 8, _, lw_V q439 q441 qs1 q134 q442, ⟨rfl, by decide +kernel, by decide +kernel, by decide +kernel⟩, rfl, rfl⟩
/-! X2 begin -/
def fX2_begin (K : mm_K) (th : Nat) (x1 : Nat) (x2 : Int32) (P : mm_P) : Option mm_P :=
  mm_lt (sR P 256 th (some x1)) fun P1 =>
  mm_lt (sI P1 257 th x2) fun P2 =>
  mm_lt (sI P2 258 th (0 : Int32)) fun P3 =>
  mm_lt (sI P3 262 th (0 : Int32)) fun P4 =>
  mm_bd (fX2_next K th P4) fun r5 =>
  some r5
set_option maxHeartbeats 4000000 in
theorem mc_X2_begin {l : Launch} {K : mm_K} {P : mm_P} {th : Nat} {x1 : Nat} {x2 : Int32} {nx sl : Nat} {r : mm_P} (hk : K.1 th = 2) (hx1 : K.1 x1 = 1) (h : fX2_begin K th x1 x2 P = some r) : mm_C l yX2_begin (ws_ yX2_begin cX2_begin 3 none) 5 111 [.ref th, .ref (x1 + 1), .int x2] K P nx sl (mm_wwV K nx sl r) :=
  mm_start (ls := [some (.ref th), some (.ref (x1 + 1)), some (.int x2)]) h (by decide) (Nat.le_of_ble_eq_true rfl) rfl (Nat.le_refl _) (Nat.le_refl _) rfl fun E hl9 _ _ _ C => by
  have C : mm_Cx E RX2 cX2_begin 3 none 5 111 := C
  unfold fX2_begin
  refine r_aload_n C dX2_begin_0 rfl rfl ?_
  refine r_aload_n C dX2_begin_1 rfl rfl ?_
  refine r_putT (code := 256) C fl_X2_9 hk rfl rfl (mm_nrA _) (mm_ftA _) dX2_begin_2 ?_
  refine r_ltP fun P1 => ?_
  refine r_aload_n C dX2_begin_5 rfl rfl ?_
  refine r_iload_n C dX2_begin_6 rfl rfl ?_
  refine r_putI (code := 257) C fl_X2_15 hk rfl rfl dX2_begin_7 ?_
  refine r_ltP fun P2 => ?_
  refine r_aload_n C dX2_begin_10 rfl rfl ?_
  refine r_iconst (v := 0) C dX2_begin_11 rfl ?_
  refine r_putI (code := 258) C fl_X2_19 hk rfl rfl dX2_begin_12 ?_
  refine r_ltP fun P3 => ?_
  refine r_aload_n C dX2_begin_15 rfl rfl ?_
  refine r_iconst (v := 0) C dX2_begin_16 rfl ?_
  refine r_putI (code := 262) C fl_X2_22 hk rfl rfl dX2_begin_17 ?_
  refine r_ltP fun P4 => ?_
  refine r_aload_n C dX2_begin_20 rfl rfl ?_
  refine r_bd fun r5 h6 => ?_
  refine r_callVv (As := []) (st := []) C (mc_X2_next hk h6) cv_X2_25 hk rfl (Nat.le_of_ble_eq_true rfl) (Nat.le_of_ble_eq_true rfl) rfl (Nat.le_of_ble_eq_true rfl) dX2_begin_21 ?_
  exact r_vret C dX2_begin_24 rfl
theorem cv_X2_60 {k : Nat} (h : mm_isS k) : mm_CV RX2 60 yJ3_length cJ3_length 1 (some .int) 0 k := by
  rcases h with rfl | rfl
  · exact ⟨RJ3, TJ3, 4, _, lw_V q551 q469 q470 q141 q471, ⟨rfl, by decide +kernel, by decide +kernel, by decide +kernel⟩, rfl, rfl⟩
  · exact ⟨RJ3, TJ3, 2, _, lw_V q551 q469 q470 q141 q471, ⟨rfl, by decide +kernel, by decide +kernel, by decide +kernel⟩, rfl, rfl⟩
theorem cv_X2_64 {k : Nat} (h : mm_isS k) : mm_CV RX2 64 yJ3_indexOf_2 cJ3_indexOf_2 3 (some .int) 2 k := by
  rcases h with rfl | rfl
  · exact ⟨RJ3, TJ3, 4, _, lw_V q552 q459 q460 q141 q461, ⟨rfl, by decide +kernel, by decide +kernel, by decide +kernel⟩, rfl, rfl⟩
  · exact ⟨RJ3, TJ3, 2, _, lw_V q552 q459 q460 q141 q461, ⟨rfl, by decide +kernel, by decide +kernel, by decide +kernel⟩, rfl, rfl⟩
theorem cv_X2_67 {k : Nat} (h : mm_isS k) : mm_CV RX2 67 yJ3_charAt cJ3_charAt 2 (some .char) 1 k := by
  rcases h with rfl | rfl
  · exact ⟨RJ3, TJ3, 4, _, lw_V q553 q554 q555 q141 q556, ⟨rfl, by decide +kernel, by decide +kernel, by decide +kernel⟩, rfl, rfl⟩
  · exact ⟨RJ3, TJ3, 2, _, lw_V q553 q554 q555 q141 q556, ⟨rfl, by decide +kernel, by decide +kernel, by decide +kernel⟩, rfl, rfl⟩
/-! X2 which -/
def fX2_which_b103 (K : mm_K) (th : Nat) (k4 : Nat → Int32 → Int32 → mm_P → Option (Int32 × mm_P)) (x1 : Nat) (x2 : Int32) (x3 : Int32) (x4 : Int32) (x5 : Int32) (P : mm_P) : Option (Int32 × mm_P) :=
  if x5 = 0 then
  (mm_lt (x3 + (x4 + (1 : Int32))) fun v2 =>
  k4 x1 (x2 + (1 : Int32)) v2 P)
  else
  (some (x2, P))
set_option maxHeartbeats 4000000 in
theorem wfX2_which_b103 {E : mm_E} (C : mm_Cx E RX2 cX2_which 7 (some .int) 4 85) {K : mm_K} {th : Nat} (hk : K.1 th = 2) {nx sl : Nat} {k4 : Nat → Int32 → Int32 → mm_P → Option (Int32 × mm_P)} (hk4 : ∀ (x1 : Nat) (x2 : Int32) (x3 : Int32) (P : mm_P), mm_V E (mm_wwI K nx sl) 4 [some (.ref th), some (.ref x1), some (.int x2), some (.int x3), none, none, none] [] K P nx sl (k4 x1 x2 x3 P)) (x1 : Nat) (x2 : Int32) (x3 : Int32) (x4 : Int32) (x5 : Int32) (P : mm_P) : mm_V E (mm_wwI K nx sl) 103 [some (.ref th), some (.ref x1), some (.int x2), some (.int x3), some (.int x4), some (.int x5), none] [] K P nx sl (fX2_which_b103 K th k4 x1 x2 x3 x4 x5 P) := by
  unfold fX2_which_b103
  refine r_iload C dX2_which_103 rfl ?_
  refine r_ifeq (tgt := 110) C dX2_which_105 (by decide) (fun h1 => ?_) (fun h1 => ?_)
  · refine r_iload_n C dX2_which_110 rfl rfl ?_
    refine r_iload C dX2_which_111 rfl ?_
    refine r_iconst (v := 1) C dX2_which_113 rfl ?_
    refine r_iadd C dX2_which_114 ?_
    refine r_iadd C dX2_which_115 ?_
    refine r_ltI fun v2 => ?_
    refine r_istore_n (ls' := [some (.ref th), some (.ref x1), some (.int x2), some (.int v2), some (.int x4), some (.int x5), none]) C dX2_which_116 rfl (Nat.le_of_ble_eq_true rfl) rfl rfl ?_
    refine r_iinc (v := 1) (ls' := [some (.ref th), some (.ref x1), some (.int (x2 + (1 : Int32))), some (.int v2), some (.int x4), some (.int x5), none]) C dX2_which_117 rfl rfl (Nat.le_of_ble_eq_true rfl) rfl rfl ?_
    refine r_goto (tgt := 4) C dX2_which_120 (by decide) ?_
    refine r_mask [true, true, true, true, false, false, true] (ls' := [some (.ref th), some (.ref x1), some (.int (x2 + (1 : Int32))), some (.int v2), none, none, none]) rfl ?_
    exact hk4 x1 (x2 + (1 : Int32)) v2 P
  · refine r_iload_n C dX2_which_108 rfl rfl ?_
    exact r_iret C dX2_which_109 rfl
def fX2_which_b55 (K : mm_K) (th : Nat) (k4 : Nat → Int32 → Int32 → mm_P → Option (Int32 × mm_P)) : Nat → Nat → Int32 → Int32 → Int32 → Int32 → Int32 → mm_P → Option (Int32 × mm_P)
  | 0, _, _, _, _, _, _, _ => none
  | n + 1, x1, x2, x3, x4, x5, x6, P =>
  if x5 = 0 then
  (fX2_which_b103 K th k4 x1 x2 x3 x4 x5 P)
  else
  (if x4 ≤ x6 then
  (fX2_which_b103 K th k4 x1 x2 x3 x4 x5 P)
  else
  (mm_bd (gR P 256 th) fun b3 =>
  mm_gd (K.1 b3 = 1) <|
  mm_gd (mm_in ((gI P 260 th) + x6) 1000) <|
  mm_gd (mm_isS (K.1 x1)) <|
  mm_bd (fJ3_charAt K x1 (x3 + x6) P) fun r7 =>
  if (gA P 128 b3 ((gI P 260 th) + x6).toNatClampNeg) ≠ r7.1 then
  (fX2_which_b55 K th k4 n x1 x2 x3 x4 (0 : Int32) (x6 + (1 : Int32)) r7.2)
  else
  (fX2_which_b55 K th k4 n x1 x2 x3 x4 (1 : Int32) (x6 + (1 : Int32)) r7.2)))
set_option maxHeartbeats 4000000 in
theorem wfX2_which_b55 {E : mm_E} (C : mm_Cx E RX2 cX2_which 7 (some .int) 4 85) {K : mm_K} {th : Nat} (hk : K.1 th = 2) {nx sl : Nat} {k4 : Nat → Int32 → Int32 → mm_P → Option (Int32 × mm_P)} (hk4 : ∀ (x1 : Nat) (x2 : Int32) (x3 : Int32) (P : mm_P), mm_V E (mm_wwI K nx sl) 4 [some (.ref th), some (.ref x1), some (.int x2), some (.int x3), none, none, none] [] K P nx sl (k4 x1 x2 x3 P)) : ∀ (n : Nat), ∀ (x1 : Nat) (x2 : Int32) (x3 : Int32) (x4 : Int32) (x5 : Int32) (x6 : Int32) (P : mm_P), mm_V E (mm_wwI K nx sl) 55 [some (.ref th), some (.ref x1), some (.int x2), some (.int x3), some (.int x4), some (.int x5), some (.int x6)] [] K P nx sl (fX2_which_b55 K th k4 n x1 x2 x3 x4 x5 x6 P) := by
  intro n
  induction n with
  | zero => intro x1 x2 x3 x4 x5 x6 P; exact r_none
  | succ n ih =>
    intro x1 x2 x3 x4 x5 x6 P
    rw [fX2_which_b55]
    refine r_iload C dX2_which_55 rfl ?_
    refine r_ifeq (tgt := 103) C dX2_which_57 (by decide) (fun h1 => ?_) (fun h1 => ?_)
    · refine r_mask [true, true, true, true, true, true, false] (ls' := [some (.ref th), some (.ref x1), some (.int x2), some (.int x3), some (.int x4), some (.int x5), none]) rfl ?_
      exact wfX2_which_b103 C hk hk4 x1 x2 x3 x4 x5 P
    · refine r_iload C dX2_which_60 rfl ?_
      refine r_iload C dX2_which_62 rfl ?_
      refine r_icmpge (tgt := 103) C dX2_which_64 (by decide) (fun h2 => ?_) (fun h2 => ?_)
      · refine r_mask [true, true, true, true, true, true, false] (ls' := [some (.ref th), some (.ref x1), some (.int x2), some (.int x3), some (.int x4), some (.int x5), none]) rfl ?_
        exact wfX2_which_b103 C hk hk4 x1 x2 x3 x4 x5 P
      · refine r_aload_n C dX2_which_67 rfl rfl ?_
        refine r_getT (code := 256) C fl_X2_9 hk rfl dX2_which_68 fun b3 h4 => ?_
        refine r_aload_n C dX2_which_71 rfl rfl ?_
        refine r_getI (code := 260) C fl_X2_28 hk rfl dX2_which_72 ?_
        refine r_iload C dX2_which_75 rfl ?_
        refine r_iadd C dX2_which_77 ?_
        refine r_gd fun hK5 => ?_
        refine r_bald C (rg_128 hK5) rfl dX2_which_78 fun h6 => ?_
        refine r_aload_n C dX2_which_79 rfl rfl ?_
        refine r_iload_n C dX2_which_80 rfl rfl ?_
        refine r_iload C dX2_which_81 rfl ?_
        refine r_iadd C dX2_which_83 ?_
        refine r_gd fun hK9 => ?_
        refine r_bd fun r7 h8 => ?_
        refine r_callV (As := [.int (x3 + x6)]) (st := [.int (gA P 128 b3 ((gI P 260 th) + x6).toNatClampNeg)]) C (mc_J3_charAt hK9 h8) (cv_X2_67 hK9) rfl rfl (Nat.le_of_ble_eq_true rfl) (Nat.le_of_ble_eq_true rfl) rfl (Nat.le_of_ble_eq_true rfl) dX2_which_84 ?_
        refine r_icmpne (tgt := 94) C dX2_which_87 (by decide) (fun h10 => ?_) (fun h10 => ?_)
        · refine r_iconst (v := 0) C dX2_which_94 rfl ?_
          refine r_istore (ls' := [some (.ref th), some (.ref x1), some (.int x2), some (.int x3), some (.int x4), some (.int (0 : Int32)), some (.int x6)]) C dX2_which_95 (Nat.le_of_ble_eq_true rfl) rfl rfl ?_
          refine r_iinc (v := 1) (ls' := [some (.ref th), some (.ref x1), some (.int x2), some (.int x3), some (.int x4), some (.int (0 : Int32)), some (.int (x6 + (1 : Int32)))]) C dX2_which_97 rfl rfl (Nat.le_of_ble_eq_true rfl) rfl rfl ?_
          refine r_goto (tgt := 55) C dX2_which_100 (by decide) ?_
          exact ih x1 x2 x3 x4 (0 : Int32) (x6 + (1 : Int32)) r7.2
        · refine r_iconst (v := 1) C dX2_which_90 rfl ?_
          refine r_goto (tgt := 95) C dX2_which_91 (by decide) ?_
          refine r_istore (ls' := [some (.ref th), some (.ref x1), some (.int x2), some (.int x3), some (.int x4), some (.int (1 : Int32)), some (.int x6)]) C dX2_which_95 (Nat.le_of_ble_eq_true rfl) rfl rfl ?_
          refine r_iinc (v := 1) (ls' := [some (.ref th), some (.ref x1), some (.int x2), some (.int x3), some (.int x4), some (.int (1 : Int32)), some (.int (x6 + (1 : Int32)))]) C dX2_which_97 rfl rfl (Nat.le_of_ble_eq_true rfl) rfl rfl ?_
          refine r_goto (tgt := 55) C dX2_which_100 (by decide) ?_
          exact ih x1 x2 x3 x4 (1 : Int32) (x6 + (1 : Int32)) r7.2
def fX2_which_b4 (K : mm_K) (th : Nat)  : Nat → Nat → Int32 → Int32 → mm_P → Option (Int32 × mm_P)
  | 0, _, _, _, _ => none
  | n + 1, x1, x2, x3, P =>
  mm_gd (mm_isS (K.1 x1)) <|
  mm_bd (fJ3_length K x1 P) fun r1 =>
  if r1 ≤ x3 then
  (some ((-1 : Int32), P))
  else
  (if (gI P 259 th) ≠ (1 : Int32) then
  (some ((-1 : Int32), P))
  else
  (mm_bd (fJ3_indexOf_2 K x1 P (32 : Int32) x3) fun r6 =>
  mm_lt (r6 - x3) fun v8 =>
  if ((gI P 258 th) - (gI P 260 th)) ≠ v8 then
  (fX2_which_b55 K th (fX2_which_b4 K th n) mm_NF x1 x2 x3 v8 (0 : Int32) (0 : Int32) P)
  else
  (fX2_which_b55 K th (fX2_which_b4 K th n) mm_NF x1 x2 x3 v8 (1 : Int32) (0 : Int32) P)))
set_option maxHeartbeats 4000000 in
theorem wfX2_which_b4 {E : mm_E} (C : mm_Cx E RX2 cX2_which 7 (some .int) 4 85) {K : mm_K} {th : Nat} (hk : K.1 th = 2) {nx sl : Nat} : ∀ (n : Nat), ∀ (x1 : Nat) (x2 : Int32) (x3 : Int32) (P : mm_P), mm_V E (mm_wwI K nx sl) 4 [some (.ref th), some (.ref x1), some (.int x2), some (.int x3), none, none, none] [] K P nx sl (fX2_which_b4 K th n x1 x2 x3 P) := by
  intro n
  induction n with
  | zero => intro x1 x2 x3 P; exact r_none
  | succ n ih =>
    intro x1 x2 x3 P
    rw [fX2_which_b4]
    refine r_iload_n C dX2_which_4 rfl rfl ?_
    refine r_aload_n C dX2_which_5 rfl rfl ?_
    refine r_gd fun hK3 => ?_
    refine r_bd fun r1 h2 => ?_
    refine r_callV (As := []) (st := [.int x3]) C (mc_J3_length hK3 h2) (cv_X2_60 hK3) rfl rfl (Nat.le_of_ble_eq_true rfl) (Nat.le_of_ble_eq_true rfl) rfl (Nat.le_of_ble_eq_true rfl) dX2_which_6 ?_
    refine r_icmpge (tgt := 123) C dX2_which_9 (by decide) (fun h4 => ?_) (fun h4 => ?_)
    · refine r_iconst (v := -1) C dX2_which_123 rfl ?_
      exact r_iret C dX2_which_124 rfl
    · refine r_aload_n C dX2_which_12 rfl rfl ?_
      refine r_getI (code := 259) C fl_X2_31 hk rfl dX2_which_13 ?_
      refine r_iconst (v := 1) C dX2_which_16 rfl ?_
      refine r_icmpne (tgt := 123) C dX2_which_17 (by decide) (fun h5 => ?_) (fun h5 => ?_)
      · refine r_iconst (v := -1) C dX2_which_123 rfl ?_
        exact r_iret C dX2_which_124 rfl
      · refine r_aload_n C dX2_which_20 rfl rfl ?_
        refine r_bipush (v := 32) C dX2_which_21 rfl ?_
        refine r_iload_n C dX2_which_23 rfl rfl ?_
        refine r_bd fun r6 h7 => ?_
        refine r_callV (As := [.int (32 : Int32), .int x3]) (st := []) C (mc_J3_indexOf_2 hK3 h7) (cv_X2_64 hK3) rfl rfl (Nat.le_of_ble_eq_true rfl) (Nat.le_of_ble_eq_true rfl) rfl (Nat.le_of_ble_eq_true rfl) dX2_which_24 ?_
        refine r_iload_n C dX2_which_27 rfl rfl ?_
        refine r_isub C dX2_which_28 ?_
        refine r_ltI fun v8 => ?_
        refine r_istore (ls' := [some (.ref th), some (.ref x1), some (.int x2), some (.int x3), some (.int v8), none, none]) C dX2_which_29 (Nat.le_of_ble_eq_true rfl) rfl rfl ?_
        refine r_aload_n C dX2_which_31 rfl rfl ?_
        refine r_getI (code := 258) C fl_X2_19 hk rfl dX2_which_32 ?_
        refine r_aload_n C dX2_which_35 rfl rfl ?_
        refine r_getI (code := 260) C fl_X2_28 hk rfl dX2_which_36 ?_
        refine r_isub C dX2_which_39 ?_
        refine r_iload C dX2_which_40 rfl ?_
        refine r_icmpne (tgt := 49) C dX2_which_42 (by decide) (fun h9 => ?_) (fun h9 => ?_)
        · refine r_iconst (v := 0) C dX2_which_49 rfl ?_
          refine r_istore (ls' := [some (.ref th), some (.ref x1), some (.int x2), some (.int x3), some (.int v8), some (.int (0 : Int32)), none]) C dX2_which_50 (Nat.le_of_ble_eq_true rfl) rfl rfl ?_
          refine r_iconst (v := 0) C dX2_which_52 rfl ?_
          refine r_istore (ls' := [some (.ref th), some (.ref x1), some (.int x2), some (.int x3), some (.int v8), some (.int (0 : Int32)), some (.int (0 : Int32))]) C dX2_which_53 (Nat.le_of_ble_eq_true rfl) rfl rfl ?_
          exact wfX2_which_b55 C hk ih mm_NF x1 x2 x3 v8 (0 : Int32) (0 : Int32) P
        · refine r_iconst (v := 1) C dX2_which_45 rfl ?_
          refine r_goto (tgt := 50) C dX2_which_46 (by decide) ?_
          refine r_istore (ls' := [some (.ref th), some (.ref x1), some (.int x2), some (.int x3), some (.int v8), some (.int (1 : Int32)), none]) C dX2_which_50 (Nat.le_of_ble_eq_true rfl) rfl rfl ?_
          refine r_iconst (v := 0) C dX2_which_52 rfl ?_
          refine r_istore (ls' := [some (.ref th), some (.ref x1), some (.int x2), some (.int x3), some (.int v8), some (.int (1 : Int32)), some (.int (0 : Int32))]) C dX2_which_53 (Nat.le_of_ble_eq_true rfl) rfl rfl ?_
          exact wfX2_which_b55 C hk ih mm_NF x1 x2 x3 v8 (1 : Int32) (0 : Int32) P
def fX2_which (K : mm_K) (th : Nat) (x1 : Nat) (P : mm_P) : Option (Int32 × mm_P) :=
  fX2_which_b4 K th mm_NF x1 (0 : Int32) (0 : Int32) P
set_option maxHeartbeats 4000000 in
theorem mc_X2_which {l : Launch} {K : mm_K} {P : mm_P} {th : Nat} {x1 : Nat} {nx sl : Nat} {r : (Int32 × mm_P)} (hk : K.1 th = 2) (h : fX2_which K th x1 P = some r) : mm_C l yX2_which (ws_ yX2_which cX2_which 7 (some .int)) 4 85 [.ref th, .ref x1] K P nx sl (mm_wwI K nx sl r) :=
  mm_start (ls := [some (.ref th), some (.ref x1), none, none, none, none, none]) h (by decide) (Nat.le_of_ble_eq_true rfl) rfl (Nat.le_refl _) (Nat.le_refl _) rfl fun E hl9 _ _ _ C => by
  have C : mm_Cx E RX2 cX2_which 7 (some .int) 4 85 := C
  unfold fX2_which
  refine r_iconst (v := 0) C dX2_which_0 rfl ?_
  refine r_istore_n (ls' := [some (.ref th), some (.ref x1), some (.int (0 : Int32)), none, none, none, none]) C dX2_which_1 rfl (Nat.le_of_ble_eq_true rfl) rfl rfl ?_
  refine r_iconst (v := 0) C dX2_which_2 rfl ?_
  refine r_istore_n (ls' := [some (.ref th), some (.ref x1), some (.int (0 : Int32)), some (.int (0 : Int32)), none, none, none]) C dX2_which_3 rfl (Nat.le_of_ble_eq_true rfl) rfl rfl ?_
  exact wfX2_which_b4 C hk mm_NF x1 (0 : Int32) (0 : Int32) P
theorem fl_X2_105 : mm_FL RX2 105 2 7 mm_r (tyX2 7) false := ⟨RX2, TX2, 8, _, tyX2, rfl, in_X2, rfl, rfl, Nat.le_of_ble_eq_true rfl, Or.inl q196, tyX2_ok, nmX2, rfl, rfl⟩
theorem fl_X2_121 : mm_FL RX2 121 3 4 mm_i .int false := ⟨RX3, TX3, 11, _, tyX3, rfl, in_X3, rfl, rfl, Nat.le_of_ble_eq_true rfl, Or.inr (Or.inl ⟨_, nw_in q261 rfl⟩), tyX3_ok, nmX3, rfl, rfl⟩
theorem fl_X2_124 : mm_FL RX2 124 3 5 mm_i .int false := ⟨RX3, TX3, 11, _, tyX3, rfl, in_X3, rfl, rfl, Nat.le_of_ble_eq_true rfl, Or.inr (Or.inl ⟨_, nw_in q263 rfl⟩), tyX3_ok, nmX3, rfl, rfl⟩
theorem fl_X2_127 : mm_FL RX2 127 3 7 mm_i .int false := ⟨RX3, TX3, 11, _, tyX3, rfl, in_X3, rfl, rfl, Nat.le_of_ble_eq_true rfl, Or.inr (Or.inl ⟨_, nw_in q268 rfl⟩), tyX3_ok, nmX3, rfl, rfl⟩
theorem fl_X2_130 : mm_FL RX2 130 3 8 mm_i .int false := ⟨RX3, TX3, 11, _, tyX3, rfl, in_X3, rfl, rfl, Nat.le_of_ble_eq_true rfl, Or.inr (Or.inl ⟨_, nw_in q270 rfl⟩), tyX3_ok, nmX3, rfl, rfl⟩
theorem fl_X2_133 : mm_FL RX2 133 3 9 mm_r (tyX3 9) false := ⟨RX3, TX3, 11, _, tyX3, rfl, in_X3, rfl, rfl, Nat.le_of_ble_eq_true rfl, Or.inr (Or.inl ⟨_, nw_in q271 rfl⟩), tyX3_ok, nmX3, rfl, rfl⟩
theorem fl_X2_137 : mm_FL RX2 137 3 10 mm_r (tyX3 10) false := ⟨RX3, TX3, 11, _, tyX3, rfl, in_X3, rfl, rfl, Nat.le_of_ble_eq_true rfl, Or.inr (Or.inl ⟨_, nw_in q273 rfl⟩), tyX3_ok, nmX3, rfl, rfl⟩
/-! X2 isTold -/
def fX2_isTold (K : mm_K) (th : Nat) (P : mm_P) (x1 : Int32) : Option Int32 :=
  if x1 = (1 : Int32) then
  (mm_bd (gR P 263 th) fun b2 =>
  mm_gd (K.1 b2 = 3) <|
  if (gI P 388 b2) ≤ 0 then
  (some ((0 : Int32)))
  else
  (some ((1 : Int32))))
  else
  (if x1 = (2 : Int32) then
  (mm_bd (gR P 263 th) fun b7 =>
  mm_gd (K.1 b7 = 3) <|
  if (gI P 389 b7) ≤ 0 then
  (some ((0 : Int32)))
  else
  (some ((1 : Int32))))
  else
  (if x1 = (3 : Int32) then
  (mm_bd (gR P 263 th) fun b12 =>
  mm_gd (K.1 b12 = 3) <|
  if (gI P 391 b12) < 0 then
  (some ((0 : Int32)))
  else
  (some ((1 : Int32))))
  else
  (if x1 = (4 : Int32) then
  (mm_bd (gR P 263 th) fun b17 =>
  mm_gd (K.1 b17 = 3) <|
  if (gI P 392 b17) < 0 then
  (some ((0 : Int32)))
  else
  (some ((1 : Int32))))
  else
  (if x1 = (5 : Int32) then
  (some ((0 : Int32)))
  else
  (if x1 = (6 : Int32) then
  (mm_bd (gR P 263 th) fun b23 =>
  mm_gd (K.1 b23 = 3) <|
  mm_on (gR P 393 b23)
  (some ((0 : Int32)))
  fun b27 =>
  (some ((1 : Int32))))
  else
  (if x1 = (7 : Int32) then
  (mm_bd (gR P 263 th) fun b29 =>
  mm_gd (K.1 b29 = 3) <|
  mm_on (gR P 394 b29)
  (some ((0 : Int32)))
  fun b33 =>
  (some ((1 : Int32))))
  else
  (some ((0 : Int32)))))))))
set_option maxHeartbeats 4000000 in
theorem mc_X2_isTold {l : Launch} {K : mm_K} {P : mm_P} {th : Nat} {x1 : Int32} {nx sl : Nat} {r : Int32} (hk : K.1 th = 2) (h : fX2_isTold K th P x1 = some r) : mm_C l yX2_isTold (ws_ yX2_isTold cX2_isTold 2 (some .boolean)) 0 0 [.ref th, .int x1] K P nx sl (mm_wrI K P nx sl r) :=
  mm_start (ls := [some (.ref th), some (.int x1)]) h (by decide) (Nat.le_of_ble_eq_true rfl) rfl (Nat.le_refl _) (Nat.le_refl _) rfl fun E hl9 _ _ _ C => by
  have C : mm_Cx E RX2 cX2_isTold 2 (some .boolean) 0 0 := C
  unfold fX2_isTold
  refine r_iload_n C dX2_isTold_0 rfl rfl ?_
  refine r_if (fun h1 => ?_) (fun h1 => ?_)
  · refine r_tableC (tgt := 44) (off := 43) C dX2_isTold_1 h1 (by decide) (by decide) (by decide) (by decide) ?_
    refine r_aload_n C dX2_isTold_44 rfl rfl ?_
    refine r_getRn (code := 263) C fl_X2_105 hk rfl dX2_isTold_45 fun b2 h3 => ?_
    refine r_gd fun hK4 => ?_
    refine r_getI (code := 388) C fl_X2_121 hK4 rfl dX2_isTold_48 ?_
    refine r_ifle (tgt := 58) C dX2_isTold_51 (by decide) (fun h5 => ?_) (fun h5 => ?_)
    · refine r_iconst (v := 0) C dX2_isTold_58 rfl ?_
      exact r_zret C dX2_isTold_59 rfl rfl
    · refine r_iconst (v := 1) C dX2_isTold_54 rfl ?_
      refine r_goto (tgt := 59) C dX2_isTold_55 (by decide) ?_
      exact r_zret C dX2_isTold_59 rfl rfl
  refine r_if (fun h6 => ?_) (fun h6 => ?_)
  · refine r_tableC (tgt := 60) (off := 59) C dX2_isTold_1 h6 (by decide) (by decide) (by decide) (by decide) ?_
    refine r_aload_n C dX2_isTold_60 rfl rfl ?_
    refine r_getRn (code := 263) C fl_X2_105 hk rfl dX2_isTold_61 fun b7 h8 => ?_
    refine r_gd fun hK9 => ?_
    refine r_getI (code := 389) C fl_X2_124 hK9 rfl dX2_isTold_64 ?_
    refine r_ifle (tgt := 74) C dX2_isTold_67 (by decide) (fun h10 => ?_) (fun h10 => ?_)
    · refine r_iconst (v := 0) C dX2_isTold_74 rfl ?_
      exact r_zret C dX2_isTold_75 rfl rfl
    · refine r_iconst (v := 1) C dX2_isTold_70 rfl ?_
      refine r_goto (tgt := 75) C dX2_isTold_71 (by decide) ?_
      exact r_zret C dX2_isTold_75 rfl rfl
  refine r_if (fun h11 => ?_) (fun h11 => ?_)
  · refine r_tableC (tgt := 76) (off := 75) C dX2_isTold_1 h11 (by decide) (by decide) (by decide) (by decide) ?_
    refine r_aload_n C dX2_isTold_76 rfl rfl ?_
    refine r_getRn (code := 263) C fl_X2_105 hk rfl dX2_isTold_77 fun b12 h13 => ?_
    refine r_gd fun hK14 => ?_
    refine r_getI (code := 391) C fl_X2_127 hK14 rfl dX2_isTold_80 ?_
    refine r_iflt (tgt := 90) C dX2_isTold_83 (by decide) (fun h15 => ?_) (fun h15 => ?_)
    · refine r_iconst (v := 0) C dX2_isTold_90 rfl ?_
      exact r_zret C dX2_isTold_91 rfl rfl
    · refine r_iconst (v := 1) C dX2_isTold_86 rfl ?_
      refine r_goto (tgt := 91) C dX2_isTold_87 (by decide) ?_
      exact r_zret C dX2_isTold_91 rfl rfl
  refine r_if (fun h16 => ?_) (fun h16 => ?_)
  · refine r_tableC (tgt := 92) (off := 91) C dX2_isTold_1 h16 (by decide) (by decide) (by decide) (by decide) ?_
    refine r_aload_n C dX2_isTold_92 rfl rfl ?_
    refine r_getRn (code := 263) C fl_X2_105 hk rfl dX2_isTold_93 fun b17 h18 => ?_
    refine r_gd fun hK19 => ?_
    refine r_getI (code := 392) C fl_X2_130 hK19 rfl dX2_isTold_96 ?_
    refine r_iflt (tgt := 106) C dX2_isTold_99 (by decide) (fun h20 => ?_) (fun h20 => ?_)
    · refine r_iconst (v := 0) C dX2_isTold_106 rfl ?_
      exact r_zret C dX2_isTold_107 rfl rfl
    · refine r_iconst (v := 1) C dX2_isTold_102 rfl ?_
      refine r_goto (tgt := 107) C dX2_isTold_103 (by decide) ?_
      exact r_zret C dX2_isTold_107 rfl rfl
  refine r_if (fun h21 => ?_) (fun h21 => ?_)
  · refine r_tableC (tgt := 140) (off := 139) C dX2_isTold_1 h21 (by decide) (by decide) (by decide) (by decide) ?_
    refine r_iconst (v := 0) C dX2_isTold_140 rfl ?_
    exact r_zret C dX2_isTold_141 rfl rfl
  refine r_if (fun h22 => ?_) (fun h22 => ?_)
  · refine r_tableC (tgt := 108) (off := 107) C dX2_isTold_1 h22 (by decide) (by decide) (by decide) (by decide) ?_
    refine r_aload_n C dX2_isTold_108 rfl rfl ?_
    refine r_getRn (code := 263) C fl_X2_105 hk rfl dX2_isTold_109 fun b23 h24 => ?_
    refine r_gd fun hK25 => ?_
    refine r_getRo (code := 393) C fl_X2_133 hK25 rfl dX2_isTold_112 ?_
    refine r_ifnull (tgt := 122) C dX2_isTold_115 (by decide) (fun h26 => ?_) (fun b27 h26 => ?_)
    · refine r_iconst (v := 0) C dX2_isTold_122 rfl ?_
      exact r_zret C dX2_isTold_123 rfl rfl
    · refine r_iconst (v := 1) C dX2_isTold_118 rfl ?_
      refine r_goto (tgt := 123) C dX2_isTold_119 (by decide) ?_
      exact r_zret C dX2_isTold_123 rfl rfl
  refine r_if (fun h28 => ?_) (fun h28 => ?_)
  · refine r_tableC (tgt := 124) (off := 123) C dX2_isTold_1 h28 (by decide) (by decide) (by decide) (by decide) ?_
    refine r_aload_n C dX2_isTold_124 rfl rfl ?_
    refine r_getRn (code := 263) C fl_X2_105 hk rfl dX2_isTold_125 fun b29 h30 => ?_
    refine r_gd fun hK31 => ?_
    refine r_getRo (code := 394) C fl_X2_137 hK31 rfl dX2_isTold_128 ?_
    refine r_ifnull (tgt := 138) C dX2_isTold_131 (by decide) (fun h32 => ?_) (fun b33 h32 => ?_)
    · refine r_iconst (v := 0) C dX2_isTold_138 rfl ?_
      exact r_zret C dX2_isTold_139 rfl rfl
    · refine r_iconst (v := 1) C dX2_isTold_134 rfl ?_
      refine r_goto (tgt := 139) C dX2_isTold_135 (by decide) ?_
      exact r_zret C dX2_isTold_139 rfl rfl
  refine r_tableD (tgt := 140) (n := 7) C dX2_isTold_1 (mm_fa h1 (mm_fa h6 (mm_fa h11 (mm_fa h16 (mm_fa h21 (mm_fa h22 (mm_fa h28 (mm_fn)))))))) (by decide +kernel) (by decide) (by decide) ?_
  refine r_iconst (v := 0) C dX2_isTold_140 rfl ?_
  exact r_zret C dX2_isTold_141 rfl rfl
/-! X2 isSign -/
def fX2_isSign (K : mm_K) (th : Nat) (P : mm_P) (x1 : Int32) : Option Int32 :=
  if (gI P 259 th) ≠ (3 : Int32) then
  (some ((0 : Int32)))
  else
  (mm_bd (gR P 256 th) fun b2 =>
  mm_gd (K.1 b2 = 1) <|
  mm_gd (mm_in (gI P 260 th) 1000) <|
  if (gA P 128 b2 (gI P 260 th).toNatClampNeg) ≠ x1 then
  (some ((0 : Int32)))
  else
  (some ((1 : Int32))))
set_option maxHeartbeats 4000000 in
theorem mc_X2_isSign {l : Launch} {K : mm_K} {P : mm_P} {th : Nat} {x1 : Int32} {nx sl : Nat} {r : Int32} (hk : K.1 th = 2) (h : fX2_isSign K th P x1 = some r) : mm_C l yX2_isSign (ws_ yX2_isSign cX2_isSign 2 (some .boolean)) 0 0 [.ref th, .int x1] K P nx sl (mm_wrI K P nx sl r) :=
  mm_start (ls := [some (.ref th), some (.int x1)]) h (by decide) (Nat.le_of_ble_eq_true rfl) rfl (Nat.le_refl _) (Nat.le_refl _) rfl fun E hl9 _ _ _ C => by
  have C : mm_Cx E RX2 cX2_isSign 2 (some .boolean) 0 0 := C
  unfold fX2_isSign
  refine r_aload_n C dX2_isSign_0 rfl rfl ?_
  refine r_getI (code := 259) C fl_X2_31 hk rfl dX2_isSign_1 ?_
  refine r_iconst (v := 3) C dX2_isSign_4 rfl ?_
  refine r_icmpne (tgt := 25) C dX2_isSign_5 (by decide) (fun h1 => ?_) (fun h1 => ?_)
  · refine r_iconst (v := 0) C dX2_isSign_25 rfl ?_
    exact r_zret C dX2_isSign_26 rfl rfl
  · refine r_aload_n C dX2_isSign_8 rfl rfl ?_
    refine r_getT (code := 256) C fl_X2_9 hk rfl dX2_isSign_9 fun b2 h3 => ?_
    refine r_aload_n C dX2_isSign_12 rfl rfl ?_
    refine r_getI (code := 260) C fl_X2_28 hk rfl dX2_isSign_13 ?_
    refine r_gd fun hK4 => ?_
    refine r_bald C (rg_128 hK4) rfl dX2_isSign_16 fun h5 => ?_
    refine r_iload_n C dX2_isSign_17 rfl rfl ?_
    refine r_icmpne (tgt := 25) C dX2_isSign_18 (by decide) (fun h6 => ?_) (fun h6 => ?_)
    · refine r_iconst (v := 0) C dX2_isSign_25 rfl ?_
      exact r_zret C dX2_isSign_26 rfl rfl
    · refine r_iconst (v := 1) C dX2_isSign_21 rfl ?_
      refine r_goto (tgt := 26) C dX2_isSign_22 (by decide) ?_
      exact r_zret C dX2_isSign_26 rfl rfl
theorem nl_X2_55 : mm_NL RX2 55 6 7 := ⟨RX6, TX6, _, tyX6, rfl, in_X6, rfl, by decide +kernel, q577, q578, q150, tyX6_ok, rfl⟩
theorem cv_X2_57 : mm_CI RX2 57 yX6_init cX6_init 3 2 := ⟨q619, q150, q617, q618, rfl, ⟨by decide +kernel, by decide +kernel, by decide +kernel⟩⟩
/-! X2 wrong -/
def fX2_wrong (th : Nat) (x1 : Int32) (K : mm_K) (P : mm_P) (nx : Nat) (sl : Nat) : Option (Nat × mm_S) :=
  mm_mo mm_waR nx sl <|
  mm_mo mm_waR (nx + 1) (sl + 7) <|
  mm_lt (mm_kn K nx 6 0) fun K1 =>
  mm_lt (mm_fresh P nx) fun P2 =>
  mm_gd (K1.1 th = 2) <|
  mm_bd (fX6_init nx x1 (gI P2 260 th) P2) fun r5 =>
  some (nx, K1, r5, nx + 1, sl + 7)
set_option maxHeartbeats 4000000 in
theorem mc_X2_wrong {l : Launch} {K : mm_K} {P : mm_P} {th : Nat} {x1 : Int32} {nx sl : Nat} {r : (Nat × mm_S)} (hk : K.1 th = 2) (h : fX2_wrong th x1 K P nx sl = some r) : mm_C l yX2_wrong (ws_ yX2_wrong cX2_wrong 2 (some (.object "PegLaws$Wrong"))) 5 114 [.ref th, .int x1] K P nx sl (mm_waR r) :=
  mm_start (ls := [some (.ref th), some (.int x1)]) h (by decide) (Nat.le_of_ble_eq_true rfl) rfl (mm_mo_some h).2.1 (mm_mo_some h).2.2 rfl fun E hl9 _ _ _ C => by
  have C : mm_Cx E RX2 cX2_wrong 2 (some (.object "PegLaws$Wrong")) 5 114 := C
  unfold fX2_wrong
  refine r_mo ?_
  refine r_new C nl_X2_55 dX2_wrong_0 ?_
  refine r_ltK fun K1 e3 => ?_
  refine r_ltP fun P2 => ?_
  refine r_dup C dX2_wrong_3 rfl ?_
  refine r_iload_n C dX2_wrong_4 rfl rfl ?_
  refine r_aload_n C dX2_wrong_5 rfl rfl ?_
  refine r_gd fun hK4 => ?_
  refine r_getI (code := 260) C fl_X2_28 hK4 rfl dX2_wrong_6 ?_
  refine r_bd fun r5 h6 => ?_
  refine r_callIv (As := [.int x1, .int (gI P2 260 th)]) (st := [.ref nx]) C (mc_X6_init (by rw [e3]; exact mm_kn_1) h6) cv_X2_57  rfl (Nat.le_of_ble_eq_true rfl) (Nat.le_of_ble_eq_true rfl) rfl (Nat.le_of_ble_eq_true rfl) dX2_wrong_9 ?_
  exact r_aretR C (Or.inl ⟨_, rfl⟩) dX2_wrong_12 rfl
theorem nl_X2_85 : mm_NL RX2 85 23 4 := ⟨RJ13, TJ13, _, tyJ13, rfl, in_J13, rfl, by decide +kernel, q667, q668, q152, tyJ13_ok, rfl⟩
theorem cv_X2_71 : mm_CV RX2 71 yX2_which cX2_which 7 (some .int) 1 2 := ⟨RX2, TX2, 8, _, lw_V q547 q549 qs3 q134 q550, ⟨rfl, by decide +kernel, by decide +kernel, by decide +kernel⟩, rfl, rfl⟩
theorem cv_X2_75 : mm_CV RX2 75 yX2_wrong cX2_wrong 2 (some (.object "PegLaws$Wrong")) 1 2 := ⟨RX2, TX2, 8, _, lw_V q573 q575 qs4 q134 q576, ⟨rfl, by decide +kernel, by decide +kernel, by decide +kernel⟩, rfl, rfl⟩
theorem cv_X2_87 : mm_CI RX2 87 yJ13_init cJ13_init 2 1 := ⟨q671, q152, q669, q670, rfl, ⟨by decide +kernel, by decide +kernel, by decide +kernel⟩⟩
theorem cv_X2_90 : mm_CV RX2 90 yJ13_append cJ13_append 2 (some (.object "java/lang/StringBuilder")) 1 23 := ⟨RJ13, TJ13, 4, _, lw_V q697 q698 q699 q152 q700, ⟨rfl, by decide +kernel, by decide +kernel, by decide +kernel⟩, rfl, rfl⟩
theorem cv_X2_94 : mm_CV RX2 94 yJ13_toString cJ13_toString 1 (some (.object "java/lang/String")) 0 23 := ⟨RJ13, TJ13, 4, _, lw_V q768 q769 q770 q152 q771, ⟨rfl, by decide +kernel, by decide +kernel, by decide +kernel⟩, rfl, rfl⟩
/-! X2 name -/
def fX2_name_b38 (th : Nat)  : Nat → Nat → Int32 → mm_K → mm_P → Nat → Nat → Option (mm_X (Nat × mm_S))
  | 0, _, _, _, _, _, _ => none
  | n + 1, x1, x2, K, P, nx, sl =>
  mm_gd (K.1 th = 2) <|
  if (gI P 258 th) ≤ x2 then
  (mm_gd (K.1 x1 = 23) <|
  mm_bd (fJ13_toString x1 K P nx sl) fun r3 =>
  mm_mo (mm_wX mm_waR) r3.2.2.2.1 r3.2.2.2.2 <|
  some (.inl (r3.1, r3.2.1, r3.2.2.1, r3.2.2.2.1, r3.2.2.2.2)))
  else
  (mm_bd (gR P 256 th) fun b6 =>
  mm_gd (K.1 b6 = 1) <|
  mm_gd (mm_in x2 1000) <|
  mm_gd (K.1 x1 = 23) <|
  mm_bd (fJ13_append K x1 (mm_chr (gA P 128 b6 x2.toNatClampNeg)) P) fun r10 =>
  fX2_name_b38 th n x1 (x2 + (1 : Int32)) K r10.2 nx sl)
set_option maxHeartbeats 4000000 in
theorem wfX2_name_b38 {E : mm_E} (C : mm_Cx E RX2 cX2_name 3 (some (.object "java/lang/String")) 6 151) {th : Nat} (hT : ∀ z ∈ (eC E).exceptionTable.toList, False) : ∀ (n : Nat), ∀ (x1 : Nat) (x2 : Int32) (K : mm_K) (P : mm_P) (nx : Nat) (sl : Nat), mm_V E ((mm_wX mm_waR)) 38 [some (.ref th), some (.ref x1), some (.int x2)] [] K P nx sl (fX2_name_b38 th n x1 x2 K P nx sl) := by
  intro n
  induction n with
  | zero => intro x1 x2 K P nx sl; exact r_none
  | succ n ih =>
    intro x1 x2 K P nx sl
    rw [fX2_name_b38]
    refine r_iload_n C dX2_name_38 rfl rfl ?_
    refine r_aload_n C dX2_name_39 rfl rfl ?_
    refine r_gd fun hK1 => ?_
    refine r_getI (code := 258) C fl_X2_19 hK1 rfl dX2_name_40 ?_
    refine r_icmpge (tgt := 64) C dX2_name_43 (by decide) (fun h2 => ?_) (fun h2 => ?_)
    · refine r_aload_n C dX2_name_64 rfl rfl ?_
      refine r_gd fun hK5 => ?_
      refine r_bd fun r3 h4 => ?_
      refine r_acallV (As := []) (st := []) C (mc_J13_toString hK5 h4) cv_X2_94 hK5 rfl (Nat.le_of_ble_eq_true rfl) (Nat.le_of_ble_eq_true rfl) rfl (Nat.le_of_ble_eq_true rfl) dX2_name_65 ?_
      exact r_aretR C (Or.inl ⟨_, rfl⟩) dX2_name_68 rfl
    · refine r_aload_n C dX2_name_46 rfl rfl ?_
      refine r_aload_n C dX2_name_47 rfl rfl ?_
      refine r_getT (code := 256) C fl_X2_9 hK1 rfl dX2_name_48 fun b6 h7 => ?_
      refine r_iload_n C dX2_name_51 rfl rfl ?_
      refine r_gd fun hK8 => ?_
      refine r_bald C (rg_128 hK8) rfl dX2_name_52 fun h9 => ?_
      refine r_i2c C dX2_name_53 ?_
      refine r_gd fun hK12 => ?_
      refine r_bd fun r10 h11 => ?_
      refine r_callV (As := [.int (mm_chr (gA P 128 b6 x2.toNatClampNeg))]) (st := []) C (mc_J13_append hK12 h11) cv_X2_90 hK12 rfl (Nat.le_of_ble_eq_true rfl) (Nat.le_of_ble_eq_true rfl) rfl (Nat.le_of_ble_eq_true rfl) dX2_name_54 ?_
      refine r_pop C dX2_name_57 rfl ?_
      refine r_iinc (v := 1) (ls' := [some (.ref th), some (.ref x1), some (.int (x2 + (1 : Int32)))]) C dX2_name_58 rfl rfl (Nat.le_of_ble_eq_true rfl) rfl rfl ?_
      refine r_goto (tgt := 38) C dX2_name_61 (by decide) ?_
      exact ih x1 (x2 + (1 : Int32)) K r10.2 nx sl
def fX2_name_b17 (th : Nat)  (K : mm_K) (P : mm_P) (nx : Nat) (sl : Nat) : Option (mm_X (Nat × mm_S)) :=
  mm_gd (K.1 th = 2) <|
  mm_bd (fX2_wrong th (1 : Int32) K P nx sl) fun r1 =>
  mm_mo (mm_wX mm_waR) r1.2.2.2.1 r1.2.2.2.2 <|
  some (.inr (r1.1, r1.2.1, r1.2.2.1, r1.2.2.2.1, r1.2.2.2.2))
set_option maxHeartbeats 4000000 in
theorem wfX2_name_b17 {E : mm_E} (C : mm_Cx E RX2 cX2_name 3 (some (.object "java/lang/String")) 6 151) {th : Nat} (hT : ∀ z ∈ (eC E).exceptionTable.toList, False) (K : mm_K) (P : mm_P) (nx : Nat) (sl : Nat) : mm_V E ((mm_wX mm_waR)) 17 [some (.ref th), none, none] [] K P nx sl (fX2_name_b17 th K P nx sl) := by
  unfold fX2_name_b17
  refine r_aload_n C dX2_name_17 rfl rfl ?_
  refine r_iconst (v := 1) C dX2_name_18 rfl ?_
  refine r_gd fun hK3 => ?_
  refine r_bd fun r1 h2 => ?_
  refine r_acallV (As := [.int (1 : Int32)]) (st := []) C (mc_X2_wrong hK3 h2) cv_X2_75 hK3 rfl (Nat.le_of_ble_eq_true rfl) (Nat.le_of_ble_eq_true rfl) rfl (Nat.le_of_ble_eq_true rfl) dX2_name_19 ?_
  exact r_athrow C (fun z hz => (hT z hz).elim) dX2_name_22 rfl
def fX2_name (th : Nat)  (K : mm_K) (P : mm_P) (nx : Nat) (sl : Nat) : Option (mm_X (Nat × mm_S)) :=
  mm_mo (mm_wX mm_waR) nx sl <|
  if (gI P 259 th) ≠ (1 : Int32) then
  (fX2_name_b17 th K P nx sl)
  else
  (mm_bd (gR P 11 0) fun b2 =>
  mm_bd (fX2_which K th b2 P) fun r4 =>
  if r4.1 < 0 then
  (mm_mo (mm_wX mm_waR) (nx + 1) (sl + 4) <|
  mm_lt (mm_kn K nx 23 0) fun K7 =>
  mm_lt (mm_fresh r4.2 nx) fun P8 =>
  mm_bd (fJ13_init nx (8 : Int32) K7 P8 (nx + 1) (sl + 4)) fun r10 =>
  mm_mo (mm_wX mm_waR) r10.2.2.1 r10.2.2.2 <|
  mm_gd (r10.1.1 th = 2) <|
  mm_lt (gI r10.2.1 260 th) fun v13 =>
  fX2_name_b38 th mm_NF nx v13 r10.1 r10.2.1 r10.2.2.1 r10.2.2.2)
  else
  (fX2_name_b17 th K r4.2 nx sl))
set_option maxHeartbeats 4000000 in
theorem mc_X2_name {l : Launch} {K : mm_K} {P : mm_P} {th : Nat}  {nx sl : Nat} {r : (mm_X (Nat × mm_S))} (hk : K.1 th = 2) (h : fX2_name th K P nx sl = some r) : mm_CX l yX2_name (ws_ yX2_name cX2_name 3 (some (.object "java/lang/String"))) 6 151 [.ref th] K P nx sl ((mm_wX mm_waR) r) :=
  mm_startX (ls := [some (.ref th), none, none]) h (by decide) (Nat.le_of_ble_eq_true rfl) rfl (mm_mo_some h).2.1 (mm_mo_some h).2.2 fun E hl9 _ _ hT C => by
  have C : mm_Cx E RX2 cX2_name 3 (some (.object "java/lang/String")) 6 151 := C
  unfold fX2_name
  refine r_mo ?_
  refine r_aload_n C dX2_name_0 rfl rfl ?_
  refine r_getI (code := 259) C fl_X2_31 hk rfl dX2_name_1 ?_
  refine r_iconst (v := 1) C dX2_name_4 rfl ?_
  refine r_icmpne (tgt := 17) C dX2_name_5 (by decide) (fun h1 => ?_) (fun h1 => ?_)
  · exact wfX2_name_b17 C hT K P nx sl
  · refine r_aload_n C dX2_name_8 rfl rfl ?_
    refine r_ldcS (i := 1) (tx := "cloth wide weight worth pegs winds yards gusts clash pulls dries hang take wash buy hour plain sheet flag wool not and or ") C (by decide) (by decide) dX2_name_9 fun b2 h3 => ?_
    refine r_bd fun r4 h5 => ?_
    refine r_callV (As := [.ref b2]) (st := []) C (mc_X2_which hk h5) cv_X2_71 hk rfl (Nat.le_of_ble_eq_true rfl) (Nat.le_of_ble_eq_true rfl) rfl (Nat.le_of_ble_eq_true rfl) dX2_name_11 ?_
    refine r_iflt (tgt := 23) C dX2_name_14 (by decide) (fun h6 => ?_) (fun h6 => ?_)
    · refine r_new C nl_X2_85 dX2_name_23 ?_
      refine r_ltK fun K7 e9 => ?_
      refine r_ltP fun P8 => ?_
      refine r_dup C dX2_name_26 rfl ?_
      refine r_bipush (v := 8) C dX2_name_27 rfl ?_
      refine r_bd fun r10 h11 => ?_
      refine r_acallIv (As := [.int (8 : Int32)]) (st := [.ref nx]) C (mc_J13_init (by rw [e9]; exact mm_kn_1) h11) cv_X2_87  rfl (Nat.le_of_ble_eq_true rfl) (Nat.le_of_ble_eq_true rfl) rfl (Nat.le_of_ble_eq_true rfl) dX2_name_29 ?_
      refine r_astore_n (ls' := [some (.ref th), some (.ref nx), none]) C dX2_name_32 rfl (Nat.le_of_ble_eq_true rfl) rfl rfl ?_
      refine r_aload_n C dX2_name_33 rfl rfl ?_
      refine r_gd fun hK12 => ?_
      refine r_getI (code := 260) C fl_X2_28 hK12 rfl dX2_name_34 ?_
      refine r_ltI fun v13 => ?_
      refine r_istore_n (ls' := [some (.ref th), some (.ref nx), some (.int v13)]) C dX2_name_37 rfl (Nat.le_of_ble_eq_true rfl) rfl rfl ?_
      exact wfX2_name_b38 C hT mm_NF nx v13 r10.1 r10.2.1 r10.2.2.1 r10.2.2.2
    · exact wfX2_name_b17 C hT K r4.2 nx sl
/-! X2 one -/
def fX2_one (th : Nat) (x1 : Nat) (K : mm_K) (P : mm_P) (nx : Nat) (sl : Nat) : Option (mm_X (Int32 × mm_S)) :=
  mm_mo (mm_wX mm_waI) nx sl <|
  mm_bd (fX2_which K th x1 P) fun r1 =>
  if 0 ≤ r1.1 then
  (mm_bd (fX2_next K th r1.2) fun r4 =>
  some (.inl (r1.1, K, r4, nx, sl)))
  else
  (mm_bd (fX2_wrong th (1 : Int32) K r1.2 nx sl) fun r6 =>
  mm_mo (mm_wX mm_waI) r6.2.2.2.1 r6.2.2.2.2 <|
  some (.inr (r6.1, r6.2.1, r6.2.2.1, r6.2.2.2.1, r6.2.2.2.2)))
set_option maxHeartbeats 4000000 in
theorem mc_X2_one {l : Launch} {K : mm_K} {P : mm_P} {th : Nat} {x1 : Nat} {nx sl : Nat} {r : (mm_X (Int32 × mm_S))} (hk : K.1 th = 2) (h : fX2_one th x1 K P nx sl = some r) : mm_CX l yX2_one (ws_ yX2_one cX2_one 3 (some .int)) 6 135 [.ref th, .ref x1] K P nx sl ((mm_wX mm_waI) r) :=
  mm_startX (ls := [some (.ref th), some (.ref x1), none]) h (by decide) (Nat.le_of_ble_eq_true rfl) rfl (mm_mo_some h).2.1 (mm_mo_some h).2.2 fun E hl9 _ _ hT C => by
  have C : mm_Cx E RX2 cX2_one 3 (some .int) 6 135 := C
  unfold fX2_one
  refine r_mo ?_
  refine r_aload_n C dX2_one_0 rfl rfl ?_
  refine r_aload_n C dX2_one_1 rfl rfl ?_
  refine r_bd fun r1 h2 => ?_
  refine r_callV (As := [.ref x1]) (st := []) C (mc_X2_which hk h2) cv_X2_71 hk rfl (Nat.le_of_ble_eq_true rfl) (Nat.le_of_ble_eq_true rfl) rfl (Nat.le_of_ble_eq_true rfl) dX2_one_2 ?_
  refine r_istore_n (ls' := [some (.ref th), some (.ref x1), some (.int r1.1)]) C dX2_one_5 rfl (Nat.le_of_ble_eq_true rfl) rfl rfl ?_
  refine r_iload_n C dX2_one_6 rfl rfl ?_
  refine r_ifge (tgt := 16) C dX2_one_7 (by decide) (fun h3 => ?_) (fun h3 => ?_)
  · refine r_aload_n C dX2_one_16 rfl rfl ?_
    refine r_bd fun r4 h5 => ?_
    refine r_callVv (As := []) (st := []) C (mc_X2_next hk h5) cv_X2_25 hk rfl (Nat.le_of_ble_eq_true rfl) (Nat.le_of_ble_eq_true rfl) rfl (Nat.le_of_ble_eq_true rfl) dX2_one_17 ?_
    refine r_iload_n C dX2_one_20 rfl rfl ?_
    exact r_iret C dX2_one_21 rfl
  · refine r_aload_n C dX2_one_10 rfl rfl ?_
    refine r_iconst (v := 1) C dX2_one_11 rfl ?_
    refine r_bd fun r6 h7 => ?_
    refine r_acallV (As := [.int (1 : Int32)]) (st := []) C (mc_X2_wrong hk h7) cv_X2_75 hk rfl (Nat.le_of_ble_eq_true rfl) (Nat.le_of_ble_eq_true rfl) rfl (Nat.le_of_ble_eq_true rfl) dX2_one_12 ?_
    exact r_athrow C (fun z hz => (hT z hz).elim) dX2_one_15 rfl
/-! X2 need -/
def fX2_need (th : Nat) (x1 : Nat) (K : mm_K) (P : mm_P) (nx : Nat) (sl : Nat) : Option (mm_X mm_S) :=
  mm_mo (mm_wX mm_waV) nx sl <|
  mm_bd (fX2_which K th x1 P) fun r1 =>
  if 0 ≤ r1.1 then
  (mm_bd (fX2_next K th r1.2) fun r4 =>
  some (.inl (K, r4, nx, sl)))
  else
  (mm_bd (fX2_wrong th (1 : Int32) K r1.2 nx sl) fun r6 =>
  mm_mo (mm_wX mm_waV) r6.2.2.2.1 r6.2.2.2.2 <|
  some (.inr (r6.1, r6.2.1, r6.2.2.1, r6.2.2.2.1, r6.2.2.2.2)))
set_option maxHeartbeats 4000000 in
theorem mc_X2_need {l : Launch} {K : mm_K} {P : mm_P} {th : Nat} {x1 : Nat} {nx sl : Nat} {r : (mm_X mm_S)} (hk : K.1 th = 2) (h : fX2_need th x1 K P nx sl = some r) : mm_CX l yX2_need (ws_ yX2_need cX2_need 2 none) 6 135 [.ref th, .ref x1] K P nx sl ((mm_wX mm_waV) r) :=
  mm_startX (ls := [some (.ref th), some (.ref x1)]) h (by decide) (Nat.le_of_ble_eq_true rfl) rfl (mm_mo_some h).2.1 (mm_mo_some h).2.2 fun E hl9 _ _ hT C => by
  have C : mm_Cx E RX2 cX2_need 2 none 6 135 := C
  unfold fX2_need
  refine r_mo ?_
  refine r_aload_n C dX2_need_0 rfl rfl ?_
  refine r_aload_n C dX2_need_1 rfl rfl ?_
  refine r_bd fun r1 h2 => ?_
  refine r_callV (As := [.ref x1]) (st := []) C (mc_X2_which hk h2) cv_X2_71 hk rfl (Nat.le_of_ble_eq_true rfl) (Nat.le_of_ble_eq_true rfl) rfl (Nat.le_of_ble_eq_true rfl) dX2_need_2 ?_
  refine r_ifge (tgt := 14) C dX2_need_5 (by decide) (fun h3 => ?_) (fun h3 => ?_)
  · refine r_aload_n C dX2_need_14 rfl rfl ?_
    refine r_bd fun r4 h5 => ?_
    refine r_callVv (As := []) (st := []) C (mc_X2_next hk h5) cv_X2_25 hk rfl (Nat.le_of_ble_eq_true rfl) (Nat.le_of_ble_eq_true rfl) rfl (Nat.le_of_ble_eq_true rfl) dX2_need_15 ?_
    exact r_vret C dX2_need_18 rfl
  · refine r_aload_n C dX2_need_8 rfl rfl ?_
    refine r_iconst (v := 1) C dX2_need_9 rfl ?_
    refine r_bd fun r6 h7 => ?_
    refine r_acallV (As := [.int (1 : Int32)]) (st := []) C (mc_X2_wrong hk h7) cv_X2_75 hk rfl (Nat.le_of_ble_eq_true rfl) (Nat.le_of_ble_eq_true rfl) rfl (Nat.le_of_ble_eq_true rfl) dX2_need_10 ?_
    exact r_athrow C (fun z hz => (hT z hz).elim) dX2_need_13 rfl
/-! X2 number_2 -/
def fX2_number_2_b30 (th : Nat)  (K : mm_K) (P : mm_P) (nx : Nat) (sl : Nat) : Option (mm_X (Int32 × mm_S)) :=
  mm_gd (K.1 th = 2) <|
  mm_bd (fX2_wrong th (4 : Int32) K P nx sl) fun r1 =>
  mm_mo (mm_wX mm_waI) r1.2.2.2.1 r1.2.2.2.2 <|
  some (.inr (r1.1, r1.2.1, r1.2.2.1, r1.2.2.2.1, r1.2.2.2.2))
set_option maxHeartbeats 4000000 in
theorem wfX2_number_2_b30 {E : mm_E} (C : mm_Cx E RX2 cX2_number_2 4 (some .int) 6 135) {th : Nat} (hT : ∀ z ∈ (eC E).exceptionTable.toList, False) (K : mm_K) (P : mm_P) (nx : Nat) (sl : Nat) : mm_V E ((mm_wX mm_waI)) 30 [some (.ref th), none, none, none] [] K P nx sl (fX2_number_2_b30 th K P nx sl) := by
  unfold fX2_number_2_b30
  refine r_aload_n C dX2_number_2_30 rfl rfl ?_
  refine r_iconst (v := 4) C dX2_number_2_31 rfl ?_
  refine r_gd fun hK3 => ?_
  refine r_bd fun r1 h2 => ?_
  refine r_acallV (As := [.int (4 : Int32)]) (st := []) C (mc_X2_wrong hK3 h2) cv_X2_75 hK3 rfl (Nat.le_of_ble_eq_true rfl) (Nat.le_of_ble_eq_true rfl) rfl (Nat.le_of_ble_eq_true rfl) dX2_number_2_32 ?_
  exact r_athrow C (fun z hz => (hT z hz).elim) dX2_number_2_35 rfl
def fX2_number_2 (th : Nat) (x1 : Int32) (x2 : Int32) (K : mm_K) (P : mm_P) (nx : Nat) (sl : Nat) : Option (mm_X (Int32 × mm_S)) :=
  mm_mo (mm_wX mm_waI) nx sl <|
  if (gI P 259 th) = (2 : Int32) then
  (if (gI P 261 th) < x1 then
  (fX2_number_2_b30 th K P nx sl)
  else
  (if (gI P 261 th) ≤ x2 then
  (mm_lt (gI P 261 th) fun v4 =>
  mm_bd (fX2_next K th P) fun r5 =>
  some (.inl (v4, K, r5, nx, sl)))
  else
  (fX2_number_2_b30 th K P nx sl)))
  else
  (mm_bd (fX2_wrong th (1 : Int32) K P nx sl) fun r7 =>
  mm_mo (mm_wX mm_waI) r7.2.2.2.1 r7.2.2.2.2 <|
  some (.inr (r7.1, r7.2.1, r7.2.2.1, r7.2.2.2.1, r7.2.2.2.2)))
set_option maxHeartbeats 4000000 in
theorem mc_X2_number_2 {l : Launch} {K : mm_K} {P : mm_P} {th : Nat} {x1 : Int32} {x2 : Int32} {nx sl : Nat} {r : (mm_X (Int32 × mm_S))} (hk : K.1 th = 2) (h : fX2_number_2 th x1 x2 K P nx sl = some r) : mm_CX l yX2_number_2 (ws_ yX2_number_2 cX2_number_2 4 (some .int)) 6 135 [.ref th, .int x1, .int x2] K P nx sl ((mm_wX mm_waI) r) :=
  mm_startX (ls := [some (.ref th), some (.int x1), some (.int x2), none]) h (by decide) (Nat.le_of_ble_eq_true rfl) rfl (mm_mo_some h).2.1 (mm_mo_some h).2.2 fun E hl9 _ _ hT C => by
  have C : mm_Cx E RX2 cX2_number_2 4 (some .int) 6 135 := C
  unfold fX2_number_2
  refine r_mo ?_
  refine r_aload_n C dX2_number_2_0 rfl rfl ?_
  refine r_getI (code := 259) C fl_X2_31 hk rfl dX2_number_2_1 ?_
  refine r_iconst (v := 2) C dX2_number_2_4 rfl ?_
  refine r_icmpeq (tgt := 14) C dX2_number_2_5 (by decide) (fun h1 => ?_) (fun h1 => ?_)
  · refine r_aload_n C dX2_number_2_14 rfl rfl ?_
    refine r_getI (code := 261) C fl_X2_45 hk rfl dX2_number_2_15 ?_
    refine r_iload_n C dX2_number_2_18 rfl rfl ?_
    refine r_icmplt (tgt := 30) C dX2_number_2_19 (by decide) (fun h2 => ?_) (fun h2 => ?_)
    · refine r_mask [true, false, false, true] (ls' := [some (.ref th), none, none, none]) rfl ?_
      exact wfX2_number_2_b30 C hT K P nx sl
    · refine r_aload_n C dX2_number_2_22 rfl rfl ?_
      refine r_getI (code := 261) C fl_X2_45 hk rfl dX2_number_2_23 ?_
      refine r_iload_n C dX2_number_2_26 rfl rfl ?_
      refine r_icmple (tgt := 36) C dX2_number_2_27 (by decide) (fun h3 => ?_) (fun h3 => ?_)
      · refine r_aload_n C dX2_number_2_36 rfl rfl ?_
        refine r_getI (code := 261) C fl_X2_45 hk rfl dX2_number_2_37 ?_
        refine r_ltI fun v4 => ?_
        refine r_istore_n (ls' := [some (.ref th), some (.int x1), some (.int x2), some (.int v4)]) C dX2_number_2_40 rfl (Nat.le_of_ble_eq_true rfl) rfl rfl ?_
        refine r_aload_n C dX2_number_2_41 rfl rfl ?_
        refine r_bd fun r5 h6 => ?_
        refine r_callVv (As := []) (st := []) C (mc_X2_next hk h6) cv_X2_25 hk rfl (Nat.le_of_ble_eq_true rfl) (Nat.le_of_ble_eq_true rfl) rfl (Nat.le_of_ble_eq_true rfl) dX2_number_2_42 ?_
        refine r_iload_n C dX2_number_2_45 rfl rfl ?_
        exact r_iret C dX2_number_2_46 rfl
      · refine r_mask [true, false, false, true] (ls' := [some (.ref th), none, none, none]) rfl ?_
        exact wfX2_number_2_b30 C hT K P nx sl
  · refine r_aload_n C dX2_number_2_8 rfl rfl ?_
    refine r_iconst (v := 1) C dX2_number_2_9 rfl ?_
    refine r_bd fun r7 h8 => ?_
    refine r_acallV (As := [.int (1 : Int32)]) (st := []) C (mc_X2_wrong hk h8) cv_X2_75 hk rfl (Nat.le_of_ble_eq_true rfl) (Nat.le_of_ble_eq_true rfl) rfl (Nat.le_of_ble_eq_true rfl) dX2_number_2_10 ?_
    exact r_athrow C (fun z hz => (hT z hz).elim) dX2_number_2_13 rfl
theorem cv_X2_102 : mm_CV RX2 102 yX2_number_2 cX2_number_2 4 (some .int) 2 2 := ⟨RX2, TX2, 8, _, lw_V q923 q925 qs13 q134 q926, ⟨rfl, by decide +kernel, by decide +kernel, by decide +kernel⟩, rfl, rfl⟩
theorem cv_X2_98 : mm_CV RX2 98 yX2_need cX2_need 2 none 1 2 := ⟨RX2, TX2, 8, _, lw_V q919 q921 qs12 q134 q922, ⟨rfl, by decide +kernel, by decide +kernel, by decide +kernel⟩, rfl, rfl⟩
/-! X2 number -/
def fX2_number (th : Nat) (x1 : Nat) (x2 : Int32) (x3 : Int32) (K : mm_K) (P : mm_P) (nx : Nat) (sl : Nat) : Option (mm_X (Int32 × mm_S)) :=
  mm_mo (mm_wX mm_waI) nx sl <|
  mm_bx (fX2_need th x1 K P nx sl) fun r1 =>
  mm_mo (mm_wX mm_waI) r1.2.2.1 r1.2.2.2 <|
  mm_gd (r1.1.1 th = 2) <|
  mm_bx (fX2_number_2 th x2 x3 r1.1 r1.2.1 r1.2.2.1 r1.2.2.2) fun r5 =>
  mm_mo (mm_wX mm_waI) r5.2.2.2.1 r5.2.2.2.2 <|
  some (.inl (r5.1, r5.2.1, r5.2.2.1, r5.2.2.2.1, r5.2.2.2.2))
set_option maxHeartbeats 4000000 in
theorem mc_X2_number {l : Launch} {K : mm_K} {P : mm_P} {th : Nat} {x1 : Nat} {x2 : Int32} {x3 : Int32} {nx sl : Nat} {r : (mm_X (Int32 × mm_S))} (hk : K.1 th = 2) (h : fX2_number th x1 x2 x3 K P nx sl = some r) : mm_CX l yX2_number (ws_ yX2_number cX2_number 4 (some .int)) 7 158 [.ref th, .ref x1, .int x2, .int x3] K P nx sl ((mm_wX mm_waI) r) :=
  mm_startX (ls := [some (.ref th), some (.ref x1), some (.int x2), some (.int x3)]) h (by decide) (Nat.le_of_ble_eq_true rfl) rfl (mm_mo_some h).2.1 (mm_mo_some h).2.2 fun E hl9 _ _ hT C => by
  have C : mm_Cx E RX2 cX2_number 4 (some .int) 7 158 := C
  unfold fX2_number
  refine r_mo ?_
  refine r_aload_n C dX2_number_0 rfl rfl ?_
  refine r_aload_n C dX2_number_1 rfl rfl ?_
  refine r_bx (fun r1 h2 => ?_) (fun t3 h4 => ?_)
  · refine r_acallVv (As := [.ref x1]) (st := []) C (mm_CX_n (mc_X2_need hk h2) rfl) cv_X2_98 hk rfl (Nat.le_of_ble_eq_true rfl) (Nat.le_of_ble_eq_true rfl) rfl (Nat.le_of_ble_eq_true rfl) dX2_number_2 ?_
    refine r_aload_n C dX2_number_5 rfl rfl ?_
    refine r_iload_n C dX2_number_6 rfl rfl ?_
    refine r_iload_n C dX2_number_7 rfl rfl ?_
    refine r_gd fun hK7 => ?_
    refine r_bx (fun r5 h6 => ?_) (fun t8 h9 => ?_)
    · refine r_acallV (As := [.int x2, .int x3]) (st := []) C (mm_CX_n (mc_X2_number_2 hK7 h6) rfl) cv_X2_102 hK7 rfl (Nat.le_of_ble_eq_true rfl) (Nat.le_of_ble_eq_true rfl) rfl (Nat.le_of_ble_eq_true rfl) dX2_number_8 ?_
      exact r_iret C dX2_number_11 rfl
    · exact r_thrV (As := [.int x2, .int x3]) (st := []) C (fun z hz => (hT z hz).elim) (mm_CX_t (mc_X2_number_2 hK7 h9) rfl) cv_X2_102 hK7 rfl (Nat.le_of_ble_eq_true rfl) (Nat.le_of_ble_eq_true rfl) rfl (Nat.le_of_ble_eq_true rfl) dX2_number_8 rfl rfl
  · exact r_thrV (As := [.ref x1]) (st := []) C (fun z hz => (hT z hz).elim) (mm_CX_t (mc_X2_need hk h4) rfl) cv_X2_98 hk rfl (Nat.le_of_ble_eq_true rfl) (Nat.le_of_ble_eq_true rfl) rfl (Nat.le_of_ble_eq_true rfl) dX2_number_2 rfl rfl
theorem cv_X2_79 : mm_CV RX2 79 yX2_isSign cX2_isSign 2 (some .boolean) 1 2 := ⟨RX2, TX2, 8, _, lw_V q996 q998 qs19 q134 q999, ⟨rfl, by decide +kernel, by decide +kernel, by decide +kernel⟩, rfl, rfl⟩
/-! X2 need_2 -/
def fX2_need_2 (th : Nat) (x1 : Int32) (K : mm_K) (P : mm_P) (nx : Nat) (sl : Nat) : Option (mm_X mm_S) :=
  mm_mo (mm_wX mm_waV) nx sl <|
  mm_bd (fX2_isSign K th P x1) fun r1 =>
  if r1 ≠ 0 then
  (mm_bd (fX2_next K th P) fun r4 =>
  some (.inl (K, r4, nx, sl)))
  else
  (mm_bd (fX2_wrong th (1 : Int32) K P nx sl) fun r6 =>
  mm_mo (mm_wX mm_waV) r6.2.2.2.1 r6.2.2.2.2 <|
  some (.inr (r6.1, r6.2.1, r6.2.2.1, r6.2.2.2.1, r6.2.2.2.2)))
set_option maxHeartbeats 4000000 in
theorem mc_X2_need_2 {l : Launch} {K : mm_K} {P : mm_P} {th : Nat} {x1 : Int32} {nx sl : Nat} {r : (mm_X mm_S)} (hk : K.1 th = 2) (h : fX2_need_2 th x1 K P nx sl = some r) : mm_CX l yX2_need_2 (ws_ yX2_need_2 cX2_need_2 2 none) 6 135 [.ref th, .int x1] K P nx sl ((mm_wX mm_waV) r) :=
  mm_startX (ls := [some (.ref th), some (.int x1)]) h (by decide) (Nat.le_of_ble_eq_true rfl) rfl (mm_mo_some h).2.1 (mm_mo_some h).2.2 fun E hl9 _ _ hT C => by
  have C : mm_Cx E RX2 cX2_need_2 2 none 6 135 := C
  unfold fX2_need_2
  refine r_mo ?_
  refine r_aload_n C dX2_need_2_0 rfl rfl ?_
  refine r_iload_n C dX2_need_2_1 rfl rfl ?_
  refine r_bd fun r1 h2 => ?_
  refine r_callV (As := [.int x1]) (st := []) C (mc_X2_isSign hk h2) cv_X2_79 hk rfl (Nat.le_of_ble_eq_true rfl) (Nat.le_of_ble_eq_true rfl) rfl (Nat.le_of_ble_eq_true rfl) dX2_need_2_2 ?_
  refine r_ifne (tgt := 14) C dX2_need_2_5 (by decide) (fun h3 => ?_) (fun h3 => ?_)
  · refine r_aload_n C dX2_need_2_14 rfl rfl ?_
    refine r_bd fun r4 h5 => ?_
    refine r_callVv (As := []) (st := []) C (mc_X2_next hk h5) cv_X2_25 hk rfl (Nat.le_of_ble_eq_true rfl) (Nat.le_of_ble_eq_true rfl) rfl (Nat.le_of_ble_eq_true rfl) dX2_need_2_15 ?_
    exact r_vret C dX2_need_2_18 rfl
  · refine r_aload_n C dX2_need_2_8 rfl rfl ?_
    refine r_iconst (v := 1) C dX2_need_2_9 rfl ?_
    refine r_bd fun r6 h7 => ?_
    refine r_acallV (As := [.int (1 : Int32)]) (st := []) C (mc_X2_wrong hk h7) cv_X2_75 hk rfl (Nat.le_of_ble_eq_true rfl) (Nat.le_of_ble_eq_true rfl) rfl (Nat.le_of_ble_eq_true rfl) dX2_need_2_10 ?_
    exact r_athrow C (fun z hz => (hT z hz).elim) dX2_need_2_13 rfl
theorem cv_X2_117 : mm_CSN RX2 117 yX1_in cX1_in 3 (some .boolean) 3 := ⟨⟨⟨_, nw_in q993 rfl⟩, q995, q133, ⟨by decide +kernel, by decide +kernel, by decide +kernel⟩⟩, q994⟩
/-! X2 ahead -/
def fX2_ahead_b22 (th : Nat)  : Nat → Int32 → Int32 → Int32 → Int32 → mm_K → mm_P → Nat → Nat → Option (mm_X (Int32 × mm_S))
  | 0, _, _, _, _, _, _, _, _ => none
  | n + 1, x1, x2, x3, x4, K, P, nx, sl =>
  mm_gd (K.1 th = 2) <|
  if (gI P 258 th) ≤ x4 then
  (mm_bd (fX1_in x3 x1 x2) fun r3 =>
  if r3 ≠ 0 then
  (some (.inl (x3, K, P, nx, sl)))
  else
  (mm_bd (fX2_wrong th (4 : Int32) K P nx sl) fun r6 =>
  mm_mo (mm_wX mm_waI) r6.2.2.2.1 r6.2.2.2.2 <|
  some (.inr (r6.1, r6.2.1, r6.2.2.1, r6.2.2.2.1, r6.2.2.2.2))))
  else
  (mm_bd (gR P 256 th) fun b8 =>
  mm_gd (K.1 b8 = 1) <|
  mm_gd (mm_in x4 1000) <|
  mm_lt (((x3 * (10 : Int32)) + (gA P 128 b8 x4.toNatClampNeg)) - (48 : Int32)) fun v12 =>
  fX2_ahead_b22 th n x1 x2 v12 (x4 + (1 : Int32)) K P nx sl)
set_option maxHeartbeats 4000000 in
theorem wfX2_ahead_b22 {E : mm_E} (C : mm_Cx E RX2 cX2_ahead 5 (some .int) 6 135) {th : Nat} (hT : ∀ z ∈ (eC E).exceptionTable.toList, False) : ∀ (n : Nat), ∀ (x1 : Int32) (x2 : Int32) (x3 : Int32) (x4 : Int32) (K : mm_K) (P : mm_P) (nx : Nat) (sl : Nat), mm_V E ((mm_wX mm_waI)) 22 [some (.ref th), some (.int x1), some (.int x2), some (.int x3), some (.int x4)] [] K P nx sl (fX2_ahead_b22 th n x1 x2 x3 x4 K P nx sl) := by
  intro n
  induction n with
  | zero => intro x1 x2 x3 x4 K P nx sl; exact r_none
  | succ n ih =>
    intro x1 x2 x3 x4 K P nx sl
    rw [fX2_ahead_b22]
    refine r_iload C dX2_ahead_22 rfl ?_
    refine r_aload_n C dX2_ahead_24 rfl rfl ?_
    refine r_gd fun hK1 => ?_
    refine r_getI (code := 258) C fl_X2_19 hK1 rfl dX2_ahead_25 ?_
    refine r_icmpge (tgt := 53) C dX2_ahead_28 (by decide) (fun h2 => ?_) (fun h2 => ?_)
    · refine r_iload_n C dX2_ahead_53 rfl rfl ?_
      refine r_iload_n C dX2_ahead_54 rfl rfl ?_
      refine r_iload_n C dX2_ahead_55 rfl rfl ?_
      refine r_bd fun r3 h4 => ?_
      refine r_callSN (As := [.int x3, .int x1, .int x2]) (st := []) C (mc_X1_in h4) cv_X2_117  rfl (Nat.le_of_ble_eq_true rfl) (Nat.le_of_ble_eq_true rfl) rfl (Nat.le_of_ble_eq_true rfl) dX2_ahead_56 ?_
      refine r_ifne (tgt := 68) C dX2_ahead_59 (by decide) (fun h5 => ?_) (fun h5 => ?_)
      · refine r_iload_n C dX2_ahead_68 rfl rfl ?_
        exact r_iret C dX2_ahead_69 rfl
      · refine r_aload_n C dX2_ahead_62 rfl rfl ?_
        refine r_iconst (v := 4) C dX2_ahead_63 rfl ?_
        refine r_bd fun r6 h7 => ?_
        refine r_acallV (As := [.int (4 : Int32)]) (st := []) C (mc_X2_wrong hK1 h7) cv_X2_75 hK1 rfl (Nat.le_of_ble_eq_true rfl) (Nat.le_of_ble_eq_true rfl) rfl (Nat.le_of_ble_eq_true rfl) dX2_ahead_64 ?_
        exact r_athrow C (fun z hz => (hT z hz).elim) dX2_ahead_67 rfl
    · refine r_iload_n C dX2_ahead_31 rfl rfl ?_
      refine r_bipush (v := 10) C dX2_ahead_32 rfl ?_
      refine r_imul C dX2_ahead_34 ?_
      refine r_aload_n C dX2_ahead_35 rfl rfl ?_
      refine r_getT (code := 256) C fl_X2_9 hK1 rfl dX2_ahead_36 fun b8 h9 => ?_
      refine r_iload C dX2_ahead_39 rfl ?_
      refine r_gd fun hK10 => ?_
      refine r_bald C (rg_128 hK10) rfl dX2_ahead_41 fun h11 => ?_
      refine r_iadd C dX2_ahead_42 ?_
      refine r_bipush (v := 48) C dX2_ahead_43 rfl ?_
      refine r_isub C dX2_ahead_45 ?_
      refine r_ltI fun v12 => ?_
      refine r_istore_n (ls' := [some (.ref th), some (.int x1), some (.int x2), some (.int v12), some (.int x4)]) C dX2_ahead_46 rfl (Nat.le_of_ble_eq_true rfl) rfl rfl ?_
      refine r_iinc (v := 1) (ls' := [some (.ref th), some (.int x1), some (.int x2), some (.int v12), some (.int (x4 + (1 : Int32)))]) C dX2_ahead_47 rfl rfl (Nat.le_of_ble_eq_true rfl) rfl rfl ?_
      refine r_goto (tgt := 22) C dX2_ahead_50 (by decide) ?_
      exact ih x1 x2 v12 (x4 + (1 : Int32)) K P nx sl
def fX2_ahead (th : Nat) (x1 : Int32) (x2 : Int32) (K : mm_K) (P : mm_P) (nx : Nat) (sl : Nat) : Option (mm_X (Int32 × mm_S)) :=
  mm_mo (mm_wX mm_waI) nx sl <|
  if (gI P 259 th) = (2 : Int32) then
  (mm_lt (gI P 260 th) fun v2 =>
  fX2_ahead_b22 th mm_NF x1 x2 (0 : Int32) v2 K P nx sl)
  else
  (mm_bd (fX2_wrong th (1 : Int32) K P nx sl) fun r3 =>
  mm_mo (mm_wX mm_waI) r3.2.2.2.1 r3.2.2.2.2 <|
  some (.inr (r3.1, r3.2.1, r3.2.2.1, r3.2.2.2.1, r3.2.2.2.2)))
set_option maxHeartbeats 4000000 in
theorem mc_X2_ahead {l : Launch} {K : mm_K} {P : mm_P} {th : Nat} {x1 : Int32} {x2 : Int32} {nx sl : Nat} {r : (mm_X (Int32 × mm_S))} (hk : K.1 th = 2) (h : fX2_ahead th x1 x2 K P nx sl = some r) : mm_CX l yX2_ahead (ws_ yX2_ahead cX2_ahead 5 (some .int)) 6 135 [.ref th, .int x1, .int x2] K P nx sl ((mm_wX mm_waI) r) :=
  mm_startX (ls := [some (.ref th), some (.int x1), some (.int x2), none, none]) h (by decide) (Nat.le_of_ble_eq_true rfl) rfl (mm_mo_some h).2.1 (mm_mo_some h).2.2 fun E hl9 _ _ hT C => by
  have C : mm_Cx E RX2 cX2_ahead 5 (some .int) 6 135 := C
  unfold fX2_ahead
  refine r_mo ?_
  refine r_aload_n C dX2_ahead_0 rfl rfl ?_
  refine r_getI (code := 259) C fl_X2_31 hk rfl dX2_ahead_1 ?_
  refine r_iconst (v := 2) C dX2_ahead_4 rfl ?_
  refine r_icmpeq (tgt := 14) C dX2_ahead_5 (by decide) (fun h1 => ?_) (fun h1 => ?_)
  · refine r_iconst (v := 0) C dX2_ahead_14 rfl ?_
    refine r_istore_n (ls' := [some (.ref th), some (.int x1), some (.int x2), some (.int (0 : Int32)), none]) C dX2_ahead_15 rfl (Nat.le_of_ble_eq_true rfl) rfl rfl ?_
    refine r_aload_n C dX2_ahead_16 rfl rfl ?_
    refine r_getI (code := 260) C fl_X2_28 hk rfl dX2_ahead_17 ?_
    refine r_ltI fun v2 => ?_
    refine r_istore (ls' := [some (.ref th), some (.int x1), some (.int x2), some (.int (0 : Int32)), some (.int v2)]) C dX2_ahead_20 (Nat.le_of_ble_eq_true rfl) rfl rfl ?_
    exact wfX2_ahead_b22 C hT mm_NF x1 x2 (0 : Int32) v2 K P nx sl
  · refine r_aload_n C dX2_ahead_8 rfl rfl ?_
    refine r_iconst (v := 1) C dX2_ahead_9 rfl ?_
    refine r_bd fun r3 h4 => ?_
    refine r_acallV (As := [.int (1 : Int32)]) (st := []) C (mc_X2_wrong hk h4) cv_X2_75 hk rfl (Nat.le_of_ble_eq_true rfl) (Nat.le_of_ble_eq_true rfl) rfl (Nat.le_of_ble_eq_true rfl) dX2_ahead_10 ?_
    exact r_athrow C (fun z hz => (hT z hz).elim) dX2_ahead_13 rfl
theorem cv_X2_160 : mm_CV RX2 160 yX2_ahead cX2_ahead 5 (some .int) 2 2 := ⟨RX2, TX2, 8, _, lw_V q989 q991 qs18 q134 q992, ⟨rfl, by decide +kernel, by decide +kernel, by decide +kernel⟩, rfl, rfl⟩
/-! X2 row -/
def fX2_row_b3 (th : Nat) (rg1 : Nat) (x1 : Nat) (n1 : Nat) (kc1 : Nat)  : Nat → Int32 → Int32 → Int32 → mm_K → mm_P → Nat → Nat → Option (mm_X (Int32 × mm_S))
  | 0, _, _, _, _, _, _, _ => none
  | n + 1, x2, x3, x4, K, P, nx, sl =>
  mm_gd (K.1 th = 2) <|
  mm_bx (fX2_ahead th x2 x3 K P nx sl) fun r1 =>
  mm_mo (mm_wX mm_waI) r1.2.2.2.1 r1.2.2.2.2 <|
  mm_gd (r1.2.1.1 x1 = kc1) <|
  if x4 ≠ (Int32.ofNat n1) then
  (mm_gd (r1.2.1.1 th = 2) <|
  mm_bd (fX2_next r1.2.1 th r1.2.2.1) fun r8 =>
  mm_gd (mm_in x4 n1) <|
  mm_lt (sA r8 rg1 x1 x4.toNatClampNeg r1.1) fun P12 =>
  mm_bd (fX2_isSign r1.2.1 th P12 (59 : Int32)) fun r13 =>
  if r13 = 0 then
  (fX2_row_b3 th rg1 x1 n1 kc1 n x2 x3 (x4 + (1 : Int32)) r1.2.1 P12 r1.2.2.2.1 r1.2.2.2.2)
  else
  (some (.inl (x4 + (1 : Int32), r1.2.1, P12, r1.2.2.2.1, r1.2.2.2.2))))
  else
  (mm_gd (r1.2.1.1 th = 2) <|
  mm_bd (fX2_wrong th (5 : Int32) r1.2.1 r1.2.2.1 r1.2.2.2.1 r1.2.2.2.2) fun r16 =>
  mm_mo (mm_wX mm_waI) r16.2.2.2.1 r16.2.2.2.2 <|
  some (.inr (r16.1, r16.2.1, r16.2.2.1, r16.2.2.2.1, r16.2.2.2.2)))
set_option maxHeartbeats 4000000 in
theorem wfX2_row_b3 {E : mm_E} (C : mm_Cx E RX2 cX2_row 6 (some .int) 7 159) {th : Nat} {rg1 : Nat} {x1 : Nat} {n1 : Nat} {kc1 : Nat} {o1 : Nat} (hsx1 : mm_rgS rg1 o1 0 n1 kc1) (hT : ∀ z ∈ (eC E).exceptionTable.toList, False) : ∀ (n : Nat), ∀ (x2 : Int32) (x3 : Int32) (x4 : Int32) (K : mm_K) (P : mm_P) (nx : Nat) (sl : Nat), mm_V E ((mm_wX mm_waI)) 3 [some (.ref th), some (.ref (x1 + o1)), some (.int x2), some (.int x3), some (.int x4), none] [] K P nx sl (fX2_row_b3 th rg1 x1 n1 kc1 n x2 x3 x4 K P nx sl) := by
  intro n
  induction n with
  | zero => intro x2 x3 x4 K P nx sl; exact r_none
  | succ n ih =>
    intro x2 x3 x4 K P nx sl
    rw [fX2_row_b3]
    refine r_aload_n C dX2_row_3 rfl rfl ?_
    refine r_iload_n C dX2_row_4 rfl rfl ?_
    refine r_iload_n C dX2_row_5 rfl rfl ?_
    refine r_gd fun hK3 => ?_
    refine r_bx (fun r1 h2 => ?_) (fun t4 h5 => ?_)
    · refine r_acallV (As := [.int x2, .int x3]) (st := []) C (mm_CX_n (mc_X2_ahead hK3 h2) rfl) cv_X2_160 hK3 rfl (Nat.le_of_ble_eq_true rfl) (Nat.le_of_ble_eq_true rfl) rfl (Nat.le_of_ble_eq_true rfl) dX2_row_6 ?_
      refine r_istore (ls' := [some (.ref th), some (.ref (x1 + o1)), some (.int x2), some (.int x3), some (.int x4), some (.int r1.1)]) C dX2_row_9 (Nat.le_of_ble_eq_true rfl) rfl rfl ?_
      refine r_iload C dX2_row_11 rfl ?_
      refine r_aload_n C dX2_row_13 rfl rfl ?_
      refine r_gd fun hK6 => ?_
      refine r_alen (v := Int32.ofNat n1) C (mm_rgS_rg hsx1 hK6) rfl rfl dX2_row_14 ?_
      refine r_icmpne (tgt := 24) C dX2_row_15 (by decide) (fun h7 => ?_) (fun h7 => ?_)
      · refine r_aload_n C dX2_row_24 rfl rfl ?_
        refine r_gd fun hK10 => ?_
        refine r_bd fun r8 h9 => ?_
        refine r_callVv (As := []) (st := []) C (mc_X2_next hK10 h9) cv_X2_25 hK10 rfl (Nat.le_of_ble_eq_true rfl) (Nat.le_of_ble_eq_true rfl) rfl (Nat.le_of_ble_eq_true rfl) dX2_row_25 ?_
        refine r_aload_n C dX2_row_28 rfl rfl ?_
        refine r_iload C dX2_row_29 rfl ?_
        refine r_iinc (v := 1) (ls' := [some (.ref th), some (.ref (x1 + o1)), some (.int x2), some (.int x3), some (.int (x4 + (1 : Int32))), some (.int r1.1)]) C dX2_row_31 rfl rfl (Nat.le_of_ble_eq_true rfl) rfl rfl ?_
        refine r_iload C dX2_row_34 rfl ?_
        refine r_iast C (mm_rgS_rg hsx1 hK6) (mm_rgS_ro hsx1 hK6) rfl dX2_row_36 fun h11 => ?_
        refine r_ltP fun P12 => ?_
        refine r_aload_n C dX2_row_37 rfl rfl ?_
        refine r_bipush (v := 59) C dX2_row_38 rfl ?_
        refine r_bd fun r13 h14 => ?_
        refine r_callV (As := [.int (59 : Int32)]) (st := []) C (mc_X2_isSign hK10 h14) cv_X2_79 hK10 rfl (Nat.le_of_ble_eq_true rfl) (Nat.le_of_ble_eq_true rfl) rfl (Nat.le_of_ble_eq_true rfl) dX2_row_40 ?_
        refine r_ifeq (tgt := 3) C dX2_row_43 (by decide) (fun h15 => ?_) (fun h15 => ?_)
        · refine r_mask [true, true, true, true, true, false] (ls' := [some (.ref th), some (.ref (x1 + o1)), some (.int x2), some (.int x3), some (.int (x4 + (1 : Int32))), none]) rfl ?_
          exact ih x2 x3 (x4 + (1 : Int32)) r1.2.1 P12 r1.2.2.2.1 r1.2.2.2.2
        · refine r_iload C dX2_row_46 rfl ?_
          exact r_iret C dX2_row_48 rfl
      · refine r_aload_n C dX2_row_18 rfl rfl ?_
        refine r_iconst (v := 5) C dX2_row_19 rfl ?_
        refine r_gd fun hK18 => ?_
        refine r_bd fun r16 h17 => ?_
        refine r_acallV (As := [.int (5 : Int32)]) (st := []) C (mc_X2_wrong hK18 h17) cv_X2_75 hK18 rfl (Nat.le_of_ble_eq_true rfl) (Nat.le_of_ble_eq_true rfl) rfl (Nat.le_of_ble_eq_true rfl) dX2_row_20 ?_
        exact r_athrow C (fun z hz => (hT z hz).elim) dX2_row_23 rfl
    · exact r_thrV (As := [.int x2, .int x3]) (st := []) C (fun z hz => (hT z hz).elim) (mm_CX_t (mc_X2_ahead hK3 h5) rfl) cv_X2_160 hK3 rfl (Nat.le_of_ble_eq_true rfl) (Nat.le_of_ble_eq_true rfl) rfl (Nat.le_of_ble_eq_true rfl) dX2_row_6 rfl rfl
def fX2_row (th : Nat) (rg1 : Nat) (x1 : Nat) (n1 : Nat) (kc1 : Nat) (x2 : Int32) (x3 : Int32) (K : mm_K) (P : mm_P) (nx : Nat) (sl : Nat) : Option (mm_X (Int32 × mm_S)) :=
  mm_mo (mm_wX mm_waI) nx sl <|
  fX2_row_b3 th rg1 x1 n1 kc1 mm_NF x2 x3 (0 : Int32) K P nx sl
set_option maxHeartbeats 4000000 in
theorem mc_X2_row {l : Launch} {K : mm_K} {P : mm_P} {th : Nat} {rg1 : Nat} {x1 : Nat} {n1 : Nat} {kc1 : Nat} {o1 : Nat} {x2 : Int32} {x3 : Int32} {nx sl : Nat} {r : (mm_X (Int32 × mm_S))} (hk : K.1 th = 2) (hx1 : K.1 x1 = kc1) (hsx1 : mm_rgS rg1 o1 0 n1 kc1) (h : fX2_row th rg1 x1 n1 kc1 x2 x3 K P nx sl = some r) : mm_CX l yX2_row (ws_ yX2_row cX2_row 6 (some .int)) 7 159 [.ref th, .ref (x1 + o1), .int x2, .int x3] K P nx sl ((mm_wX mm_waI) r) :=
  mm_startX (ls := [some (.ref th), some (.ref (x1 + o1)), some (.int x2), some (.int x3), none, none]) h (by decide) (Nat.le_of_ble_eq_true rfl) rfl (mm_mo_some h).2.1 (mm_mo_some h).2.2 fun E hl9 _ _ hT C => by
  have C : mm_Cx E RX2 cX2_row 6 (some .int) 7 159 := C
  unfold fX2_row
  refine r_mo ?_
  refine r_iconst (v := 0) C dX2_row_0 rfl ?_
  refine r_istore (ls' := [some (.ref th), some (.ref (x1 + o1)), some (.int x2), some (.int x3), some (.int (0 : Int32)), none]) C dX2_row_1 (Nat.le_of_ble_eq_true rfl) rfl rfl ?_
  exact wfX2_row_b3 C hsx1 hT mm_NF x2 x3 (0 : Int32) K P nx sl
theorem cv_X2_109 : mm_CV RX2 109 yX2_name cX2_name 3 (some (.object "java/lang/String")) 0 2 := ⟨RX2, TX2, 8, _, lw_V q662 q664 qs9 q134 q665, ⟨rfl, by decide +kernel, by decide +kernel, by decide +kernel⟩, rfl, rfl⟩
theorem cv_X2_112 : mm_CV RX2 112 yX3_cloth cX3_cloth 3 (some .int) 1 3 := ⟨RX3, TX3, 11, _, lw_V q825 q826 q827 q135 q828, ⟨rfl, by decide +kernel, by decide +kernel, by decide +kernel⟩, rfl, rfl⟩
/-! X2 cloth -/
def fX2_cloth (th : Nat)  (K : mm_K) (P : mm_P) (nx : Nat) (sl : Nat) : Option (mm_X (Int32 × mm_S)) :=
  mm_mo (mm_wX mm_waI) nx sl <|
  mm_bd (gR P 263 th) fun b1 =>
  mm_bx (fX2_name th K P nx sl) fun r3 =>
  mm_mo (mm_wX mm_waI) r3.2.2.2.1 r3.2.2.2.2 <|
  mm_gd (r3.2.1.1 b1 = 3) <|
  mm_bd (fX3_cloth r3.2.1 b1 r3.2.2.1 r3.1) fun r7 =>
  if 0 ≤ r7 then
  (some (.inl (r7, r3.2.1, r3.2.2.1, r3.2.2.2.1, r3.2.2.2.2)))
  else
  (mm_gd (r3.2.1.1 th = 2) <|
  mm_bd (fX2_wrong th (2 : Int32) r3.2.1 r3.2.2.1 r3.2.2.2.1 r3.2.2.2.2) fun r11 =>
  mm_mo (mm_wX mm_waI) r11.2.2.2.1 r11.2.2.2.2 <|
  some (.inr (r11.1, r11.2.1, r11.2.2.1, r11.2.2.2.1, r11.2.2.2.2)))
set_option maxHeartbeats 4000000 in
theorem mc_X2_cloth {l : Launch} {K : mm_K} {P : mm_P} {th : Nat}  {nx sl : Nat} {r : (mm_X (Int32 × mm_S))} (hk : K.1 th = 2) (h : fX2_cloth th K P nx sl = some r) : mm_CX l yX2_cloth (ws_ yX2_cloth cX2_cloth 2 (some .int)) 7 173 [.ref th] K P nx sl ((mm_wX mm_waI) r) :=
  mm_startX (ls := [some (.ref th), none]) h (by decide) (Nat.le_of_ble_eq_true rfl) rfl (mm_mo_some h).2.1 (mm_mo_some h).2.2 fun E hl9 _ _ hT C => by
  have C : mm_Cx E RX2 cX2_cloth 2 (some .int) 7 173 := C
  unfold fX2_cloth
  refine r_mo ?_
  refine r_aload_n C dX2_cloth_0 rfl rfl ?_
  refine r_getRn (code := 263) C fl_X2_105 hk rfl dX2_cloth_1 fun b1 h2 => ?_
  refine r_aload_n C dX2_cloth_4 rfl rfl ?_
  refine r_bx (fun r3 h4 => ?_) (fun t5 h6 => ?_)
  · refine r_acallV (As := []) (st := [.ref b1]) C (mm_CX_n (mc_X2_name hk h4) rfl) cv_X2_109 hk rfl (Nat.le_of_ble_eq_true rfl) (Nat.le_of_ble_eq_true rfl) rfl (Nat.le_of_ble_eq_true rfl) dX2_cloth_5 ?_
    refine r_gd fun hK9 => ?_
    refine r_bd fun r7 h8 => ?_
    refine r_callV (As := [.ref r3.1]) (st := []) C (mc_X3_cloth hK9 h8) cv_X2_112 hK9 rfl (Nat.le_of_ble_eq_true rfl) (Nat.le_of_ble_eq_true rfl) rfl (Nat.le_of_ble_eq_true rfl) dX2_cloth_8 ?_
    refine r_istore_n (ls' := [some (.ref th), some (.int r7)]) C dX2_cloth_11 rfl (Nat.le_of_ble_eq_true rfl) rfl rfl ?_
    refine r_iload_n C dX2_cloth_12 rfl rfl ?_
    refine r_ifge (tgt := 22) C dX2_cloth_13 (by decide) (fun h10 => ?_) (fun h10 => ?_)
    · refine r_iload_n C dX2_cloth_22 rfl rfl ?_
      exact r_iret C dX2_cloth_23 rfl
    · refine r_aload_n C dX2_cloth_16 rfl rfl ?_
      refine r_iconst (v := 2) C dX2_cloth_17 rfl ?_
      refine r_gd fun hK13 => ?_
      refine r_bd fun r11 h12 => ?_
      refine r_acallV (As := [.int (2 : Int32)]) (st := []) C (mc_X2_wrong hK13 h12) cv_X2_75 hK13 rfl (Nat.le_of_ble_eq_true rfl) (Nat.le_of_ble_eq_true rfl) rfl (Nat.le_of_ble_eq_true rfl) dX2_cloth_18 ?_
      exact r_athrow C (fun z hz => (hT z hz).elim) dX2_cloth_21 rfl
  · exact r_thrV (As := []) (st := [.ref b1]) C (fun z hz => (hT z hz).elim) (mm_CX_t (mc_X2_name hk h6) rfl) cv_X2_109 hk rfl (Nat.le_of_ble_eq_true rfl) (Nat.le_of_ble_eq_true rfl) rfl (Nat.le_of_ble_eq_true rfl) dX2_cloth_5 rfl rfl
theorem nl_X2_198 : mm_NL RX2 198 7 4 := ⟨RX7, TX7, _, tyX7, rfl, in_X7, rfl, by decide +kernel, q856, q857, q157, tyX7_ok, rfl⟩
theorem nl_X2_202 : mm_NL RX2 202 8 4 := ⟨RX8, TX8, _, tyX8, rfl, in_X8, rfl, by decide +kernel, q881, q882, q158, tyX8_ok, rfl⟩
theorem nl_X2_205 : mm_NL RX2 205 9 4 := ⟨RX9, TX9, _, tyX9, rfl, in_X9, rfl, by decide +kernel, q892, q893, q159, tyX9_ok, rfl⟩
theorem nl_X2_208 : mm_NL RX2 208 10 4 := ⟨RX10, TX10, _, tyX10, rfl, in_X10, rfl, by decide +kernel, q903, q904, q160, tyX10_ok, rfl⟩
theorem fl_X2_146 : mm_FL RX2 146 3 0 mm_r (tyX3 0) true := ⟨RX3, TX3, 11, _, tyX3, rfl, in_X3, rfl, rfl, Nat.le_of_ble_eq_true rfl, Or.inr (Or.inl ⟨_, nw_in q251 rfl⟩), tyX3_ok, nmX3, rfl, rfl⟩
theorem fl_X2_216 {k : Nat} (h : mm_isC k) : mm_FL RX2 216 k 1 mm_i .int false := by
  rcases mm_isC_or h with rfl | rfl | rfl | rfl
  · exact ⟨RX7, TX7, 4, _, tyX7, rfl, in_X7, rfl, rfl, Nat.le_of_ble_eq_true rfl, Or.inl q865, tyX7_ok, nmX7, rfl, rfl⟩
  · exact ⟨RX8, TX8, 4, _, tyX8, rfl, in_X8, rfl, rfl, Nat.le_of_ble_eq_true rfl, Or.inl q865, tyX8_ok, nmX8, rfl, rfl⟩
  · exact ⟨RX9, TX9, 4, _, tyX9, rfl, in_X9, rfl, rfl, Nat.le_of_ble_eq_true rfl, Or.inl q865, tyX9_ok, nmX9, rfl, rfl⟩
  · exact ⟨RX10, TX10, 4, _, tyX10, rfl, in_X10, rfl, rfl, Nat.le_of_ble_eq_true rfl, Or.inl q865, tyX10_ok, nmX10, rfl, rfl⟩
theorem fl_X2_221 {k : Nat} (h : mm_isC k) : mm_FL RX2 221 k 2 mm_i .int false := by
  rcases mm_isC_or h with rfl | rfl | rfl | rfl
  · exact ⟨RX7, TX7, 4, _, tyX7, rfl, in_X7, rfl, rfl, Nat.le_of_ble_eq_true rfl, Or.inl q869, tyX7_ok, nmX7, rfl, rfl⟩
  · exact ⟨RX8, TX8, 4, _, tyX8, rfl, in_X8, rfl, rfl, Nat.le_of_ble_eq_true rfl, Or.inl q869, tyX8_ok, nmX8, rfl, rfl⟩
  · exact ⟨RX9, TX9, 4, _, tyX9, rfl, in_X9, rfl, rfl, Nat.le_of_ble_eq_true rfl, Or.inl q869, tyX9_ok, nmX9, rfl, rfl⟩
  · exact ⟨RX10, TX10, 4, _, tyX10, rfl, in_X10, rfl, rfl, Nat.le_of_ble_eq_true rfl, Or.inl q869, tyX10_ok, nmX10, rfl, rfl⟩
theorem fl_X2_226 {k : Nat} (h : mm_isC k) : mm_FL RX2 226 k 3 mm_i .int false := by
  rcases mm_isC_or h with rfl | rfl | rfl | rfl
  · exact ⟨RX7, TX7, 4, _, tyX7, rfl, in_X7, rfl, rfl, Nat.le_of_ble_eq_true rfl, Or.inl q871, tyX7_ok, nmX7, rfl, rfl⟩
  · exact ⟨RX8, TX8, 4, _, tyX8, rfl, in_X8, rfl, rfl, Nat.le_of_ble_eq_true rfl, Or.inl q871, tyX8_ok, nmX8, rfl, rfl⟩
  · exact ⟨RX9, TX9, 4, _, tyX9, rfl, in_X9, rfl, rfl, Nat.le_of_ble_eq_true rfl, Or.inl q871, tyX9_ok, nmX9, rfl, rfl⟩
  · exact ⟨RX10, TX10, 4, _, tyX10, rfl, in_X10, rfl, rfl, Nat.le_of_ble_eq_true rfl, Or.inl q871, tyX10_ok, nmX10, rfl, rfl⟩
theorem cv_X2_195 : mm_CV RX2 195 yX2_one cX2_one 3 (some .int) 1 2 := ⟨RX2, TX2, 8, _, lw_V q852 q854 qs10 q134 q855, ⟨rfl, by decide +kernel, by decide +kernel, by decide +kernel⟩, rfl, rfl⟩
theorem cv_X2_200 : mm_CI RX2 200 yX7_init cX7_init 2 1 := ⟨q860, q157, q858, q859, rfl, ⟨by decide +kernel, by decide +kernel, by decide +kernel⟩⟩
theorem cv_X2_204 : mm_CI RX2 204 yX8_init cX8_init 2 1 := ⟨q885, q158, q883, q884, rfl, ⟨by decide +kernel, by decide +kernel, by decide +kernel⟩⟩
theorem cv_X2_207 : mm_CI RX2 207 yX9_init cX9_init 2 1 := ⟨q896, q159, q894, q895, rfl, ⟨by decide +kernel, by decide +kernel, by decide +kernel⟩⟩
theorem cv_X2_210 : mm_CI RX2 210 yX10_init cX10_init 2 1 := ⟨q907, q160, q905, q906, rfl, ⟨by decide +kernel, by decide +kernel, by decide +kernel⟩⟩
theorem cv_X2_213 : mm_CV RX2 213 yX2_number cX2_number 4 (some .int) 3 2 := ⟨RX2, TX2, 8, _, lw_V q915 q917 qs11 q134 q918, ⟨rfl, by decide +kernel, by decide +kernel, by decide +kernel⟩, rfl, rfl⟩
theorem cv_X2_229 : mm_CV RX2 229 yJ2_add cJ2_add 2 (some .boolean) 1 21 := ⟨RJ2, TJ2, 3, _, lw_V q929 q930 q931 q138 q932, ⟨rfl, by decide +kernel, by decide +kernel, by decide +kernel⟩, rfl, rfl⟩
/-! X2 comes -/
def fX2_comes_b88 (th : Nat)  (s0 : Nat) (K : mm_K) (P : mm_P) (nx : Nat) (sl : Nat) : Option (mm_X mm_S) :=
  mm_bd (gR P 14 0) fun b1 =>
  mm_gd (K.1 th = 2) <|
  mm_bx (fX2_number th b1 (1 : Int32) (20 : Int32) K P nx sl) fun r3 =>
  mm_mo (mm_wX mm_waV) r3.2.2.2.1 r3.2.2.2.2 <|
  mm_gd (mm_isC (r3.2.1.1 s0)) <|
  mm_lt (sI r3.2.2.1 897 s0 r3.1) fun P9 =>
  mm_bd (gR P9 15 0) fun b10 =>
  mm_gd (r3.2.1.1 th = 2) <|
  mm_bx (fX2_number th b10 (0 : Int32) (20 : Int32) r3.2.1 P9 r3.2.2.2.1 r3.2.2.2.2) fun r12 =>
  mm_mo (mm_wX mm_waV) r12.2.2.2.1 r12.2.2.2.2 <|
  mm_gd (mm_isC (r12.2.1.1 s0)) <|
  mm_lt (sI r12.2.2.1 898 s0 r12.1) fun P18 =>
  mm_bd (gR P18 16 0) fun b19 =>
  mm_gd (r12.2.1.1 th = 2) <|
  mm_bx (fX2_number th b19 (0 : Int32) (99 : Int32) r12.2.1 P18 r12.2.2.2.1 r12.2.2.2.2) fun r21 =>
  mm_mo (mm_wX mm_waV) r21.2.2.2.1 r21.2.2.2.2 <|
  mm_gd (mm_isC (r21.2.1.1 s0)) <|
  mm_lt (sI r21.2.2.1 899 s0 r21.1) fun P27 =>
  mm_gd (r21.2.1.1 th = 2) <|
  mm_bd (gR P27 263 th) fun b29 =>
  mm_gd (r21.2.1.1 b29 = 3) <|
  mm_bd (gR P27 384 b29) fun b32 =>
  mm_gd (r21.2.1.1 b32 = 21) <|
  mm_bd (fJ2_add b32 s0 r21.2.1 P27 r21.2.2.2.1 r21.2.2.2.2) fun r34 =>
  mm_mo (mm_wX mm_waV) r34.2.2.2.1 r34.2.2.2.2 <|
  some (.inl (r34.2.1, r34.2.2.1, r34.2.2.2.1, r34.2.2.2.2))
set_option maxHeartbeats 4000000 in
theorem wfX2_comes_b88 {E : mm_E} (C : mm_Cx E RX2 cX2_comes 4 none 8 181) {th : Nat} (hT : ∀ z ∈ (eC E).exceptionTable.toList, False) (s0 : Nat) (K : mm_K) (P : mm_P) (nx : Nat) (sl : Nat) : mm_V E ((mm_wX mm_waV)) 88 [some (.ref th), none, none, none] [.ref s0] K P nx sl (fX2_comes_b88 th s0 K P nx sl) := by
  unfold fX2_comes_b88
  refine r_astore_n (ls' := [some (.ref th), none, none, some (.ref s0)]) C dX2_comes_88 rfl (Nat.le_of_ble_eq_true rfl) rfl rfl ?_
  refine r_aload_n C dX2_comes_89 rfl rfl ?_
  refine r_aload_n C dX2_comes_90 rfl rfl ?_
  refine r_ldcS (i := 4) (tx := "wide ") C (by decide) (by decide) dX2_comes_91 fun b1 h2 => ?_
  refine r_iconst (v := 1) C dX2_comes_93 rfl ?_
  refine r_bipush (v := 20) C dX2_comes_94 rfl ?_
  refine r_gd fun hK5 => ?_
  refine r_bx (fun r3 h4 => ?_) (fun t6 h7 => ?_)
  · refine r_acallV (As := [.ref b1, .int (1 : Int32), .int (20 : Int32)]) (st := [.ref s0]) C (mm_CX_n (mc_X2_number hK5 h4) rfl) cv_X2_213 hK5 rfl (Nat.le_of_ble_eq_true rfl) (Nat.le_of_ble_eq_true rfl) rfl (Nat.le_of_ble_eq_true rfl) dX2_comes_96 ?_
    refine r_gd fun hK8 => ?_
    refine r_putI (code := 897) C (fl_X2_216 hK8) rfl (mm_roC hK8) (mm_bsC hK8 _) dX2_comes_99 ?_
    refine r_ltP fun P9 => ?_
    refine r_aload_n C dX2_comes_102 rfl rfl ?_
    refine r_aload_n C dX2_comes_103 rfl rfl ?_
    refine r_ldcS (i := 5) (tx := "weight ") C (by decide) (by decide) dX2_comes_104 fun b10 h11 => ?_
    refine r_iconst (v := 0) C dX2_comes_106 rfl ?_
    refine r_bipush (v := 20) C dX2_comes_107 rfl ?_
    refine r_gd fun hK14 => ?_
    refine r_bx (fun r12 h13 => ?_) (fun t15 h16 => ?_)
    · refine r_acallV (As := [.ref b10, .int (0 : Int32), .int (20 : Int32)]) (st := [.ref s0]) C (mm_CX_n (mc_X2_number hK14 h13) rfl) cv_X2_213 hK14 rfl (Nat.le_of_ble_eq_true rfl) (Nat.le_of_ble_eq_true rfl) rfl (Nat.le_of_ble_eq_true rfl) dX2_comes_109 ?_
      refine r_gd fun hK17 => ?_
      refine r_putI (code := 898) C (fl_X2_221 hK17) rfl (mm_roC hK17) (mm_bsC hK17 _) dX2_comes_112 ?_
      refine r_ltP fun P18 => ?_
      refine r_aload_n C dX2_comes_115 rfl rfl ?_
      refine r_aload_n C dX2_comes_116 rfl rfl ?_
      refine r_ldcS (i := 6) (tx := "worth ") C (by decide) (by decide) dX2_comes_117 fun b19 h20 => ?_
      refine r_iconst (v := 0) C dX2_comes_119 rfl ?_
      refine r_bipush (v := 99) C dX2_comes_120 rfl ?_
      refine r_gd fun hK23 => ?_
      refine r_bx (fun r21 h22 => ?_) (fun t24 h25 => ?_)
      · refine r_acallV (As := [.ref b19, .int (0 : Int32), .int (99 : Int32)]) (st := [.ref s0]) C (mm_CX_n (mc_X2_number hK23 h22) rfl) cv_X2_213 hK23 rfl (Nat.le_of_ble_eq_true rfl) (Nat.le_of_ble_eq_true rfl) rfl (Nat.le_of_ble_eq_true rfl) dX2_comes_122 ?_
        refine r_gd fun hK26 => ?_
        refine r_putI (code := 899) C (fl_X2_226 hK26) rfl (mm_roC hK26) (mm_bsC hK26 _) dX2_comes_125 ?_
        refine r_ltP fun P27 => ?_
        refine r_aload_n C dX2_comes_128 rfl rfl ?_
        refine r_gd fun hK28 => ?_
        refine r_getRn (code := 263) C fl_X2_105 hK28 rfl dX2_comes_129 fun b29 h30 => ?_
        refine r_gd fun hK31 => ?_
        refine r_getRn (code := 384) C fl_X2_146 hK31 rfl dX2_comes_132 fun b32 h33 => ?_
        refine r_aload_n C dX2_comes_135 rfl rfl ?_
        refine r_gd fun hK36 => ?_
        refine r_bd fun r34 h35 => ?_
        refine r_acallV (As := [.ref s0]) (st := []) C (mc_J2_add hK36 h35) cv_X2_229 hK36 rfl (Nat.le_of_ble_eq_true rfl) (Nat.le_of_ble_eq_true rfl) rfl (Nat.le_of_ble_eq_true rfl) dX2_comes_136 ?_
        refine r_pop C dX2_comes_139 rfl ?_
        exact r_vret C dX2_comes_140 rfl
      · exact r_thrV (As := [.ref b19, .int (0 : Int32), .int (99 : Int32)]) (st := [.ref s0]) C (fun z hz => (hT z hz).elim) (mm_CX_t (mc_X2_number hK23 h25) rfl) cv_X2_213 hK23 rfl (Nat.le_of_ble_eq_true rfl) (Nat.le_of_ble_eq_true rfl) rfl (Nat.le_of_ble_eq_true rfl) dX2_comes_122 rfl rfl
    · exact r_thrV (As := [.ref b10, .int (0 : Int32), .int (20 : Int32)]) (st := [.ref s0]) C (fun z hz => (hT z hz).elim) (mm_CX_t (mc_X2_number hK14 h16) rfl) cv_X2_213 hK14 rfl (Nat.le_of_ble_eq_true rfl) (Nat.le_of_ble_eq_true rfl) rfl (Nat.le_of_ble_eq_true rfl) dX2_comes_109 rfl rfl
  · exact r_thrV (As := [.ref b1, .int (1 : Int32), .int (20 : Int32)]) (st := [.ref s0]) C (fun z hz => (hT z hz).elim) (mm_CX_t (mc_X2_number hK5 h7) rfl) cv_X2_213 hK5 rfl (Nat.le_of_ble_eq_true rfl) (Nat.le_of_ble_eq_true rfl) rfl (Nat.le_of_ble_eq_true rfl) dX2_comes_96 rfl rfl
def fX2_comes (th : Nat)  (K : mm_K) (P : mm_P) (nx : Nat) (sl : Nat) : Option (mm_X mm_S) :=
  mm_mo (mm_wX mm_waV) nx sl <|
  mm_bx (fX2_name th K P nx sl) fun r1 =>
  mm_mo (mm_wX mm_waV) r1.2.2.2.1 r1.2.2.2.2 <|
  mm_gd (r1.2.1.1 th = 2) <|
  mm_bd (gR r1.2.2.1 263 th) fun b6 =>
  mm_gd (r1.2.1.1 b6 = 3) <|
  mm_bd (fX3_cloth r1.2.1 b6 r1.2.2.1 r1.1) fun r8 =>
  if r8 < 0 then
  (mm_bd (fX2_next r1.2.1 th r1.2.2.1) fun r12 =>
  mm_bd (gR r12 13 0) fun b14 =>
  mm_bx (fX2_one th b14 r1.2.1 r12 r1.2.2.2.1 r1.2.2.2.2) fun r16 =>
  mm_mo (mm_wX mm_waV) r16.2.2.2.1 r16.2.2.2.2 <|
  if r16.1 ≠ 0 then
  (if r16.1 ≠ (1 : Int32) then
  (if r16.1 ≠ (2 : Int32) then
  (mm_mo (mm_wX mm_waV) (r16.2.2.2.1 + 1) (r16.2.2.2.2 + 4) <|
  mm_lt (mm_kn r16.2.1 r16.2.2.2.1 10 0) fun K23 =>
  mm_lt (mm_fresh r16.2.2.1 r16.2.2.2.1) fun P24 =>
  mm_bd (fX10_init r16.2.2.2.1 r1.1 P24) fun r26 =>
  fX2_comes_b88 th r16.2.2.2.1 K23 r26 (r16.2.2.2.1 + 1) (r16.2.2.2.2 + 4))
  else
  (mm_mo (mm_wX mm_waV) (r16.2.2.2.1 + 1) (r16.2.2.2.2 + 4) <|
  mm_lt (mm_kn r16.2.1 r16.2.2.2.1 9 0) fun K28 =>
  mm_lt (mm_fresh r16.2.2.1 r16.2.2.2.1) fun P29 =>
  mm_bd (fX9_init r16.2.2.2.1 r1.1 P29) fun r31 =>
  fX2_comes_b88 th r16.2.2.2.1 K28 r31 (r16.2.2.2.1 + 1) (r16.2.2.2.2 + 4)))
  else
  (mm_mo (mm_wX mm_waV) (r16.2.2.2.1 + 1) (r16.2.2.2.2 + 4) <|
  mm_lt (mm_kn r16.2.1 r16.2.2.2.1 8 0) fun K33 =>
  mm_lt (mm_fresh r16.2.2.1 r16.2.2.2.1) fun P34 =>
  mm_bd (fX8_init r16.2.2.2.1 r1.1 P34) fun r36 =>
  fX2_comes_b88 th r16.2.2.2.1 K33 r36 (r16.2.2.2.1 + 1) (r16.2.2.2.2 + 4)))
  else
  (mm_mo (mm_wX mm_waV) (r16.2.2.2.1 + 1) (r16.2.2.2.2 + 4) <|
  mm_lt (mm_kn r16.2.1 r16.2.2.2.1 7 0) fun K38 =>
  mm_lt (mm_fresh r16.2.2.1 r16.2.2.2.1) fun P39 =>
  mm_bd (fX7_init r16.2.2.2.1 r1.1 P39) fun r41 =>
  fX2_comes_b88 th r16.2.2.2.1 K38 r41 (r16.2.2.2.1 + 1) (r16.2.2.2.2 + 4)))
  else
  (mm_bd (fX2_wrong th (3 : Int32) r1.2.1 r1.2.2.1 r1.2.2.2.1 r1.2.2.2.2) fun r43 =>
  mm_mo (mm_wX mm_waV) r43.2.2.2.1 r43.2.2.2.2 <|
  some (.inr (r43.1, r43.2.1, r43.2.2.1, r43.2.2.2.1, r43.2.2.2.2)))
set_option maxHeartbeats 4000000 in
theorem mc_X2_comes {l : Launch} {K : mm_K} {P : mm_P} {th : Nat}  {nx sl : Nat} {r : (mm_X mm_S)} (hk : K.1 th = 2) (h : fX2_comes th K P nx sl = some r) : mm_CX l yX2_comes (ws_ yX2_comes cX2_comes 4 none) 8 181 [.ref th] K P nx sl ((mm_wX mm_waV) r) :=
  mm_startX (ls := [some (.ref th), none, none, none]) h (by decide) (Nat.le_of_ble_eq_true rfl) rfl (mm_mo_some h).2.1 (mm_mo_some h).2.2 fun E hl9 _ _ hT C => by
  have C : mm_Cx E RX2 cX2_comes 4 none 8 181 := C
  unfold fX2_comes
  refine r_mo ?_
  refine r_aload_n C dX2_comes_0 rfl rfl ?_
  refine r_bx (fun r1 h2 => ?_) (fun t3 h4 => ?_)
  · refine r_acallV (As := []) (st := []) C (mm_CX_n (mc_X2_name hk h2) rfl) cv_X2_109 hk rfl (Nat.le_of_ble_eq_true rfl) (Nat.le_of_ble_eq_true rfl) rfl (Nat.le_of_ble_eq_true rfl) dX2_comes_1 ?_
    refine r_astore_n (ls' := [some (.ref th), some (.ref r1.1), none, none]) C dX2_comes_4 rfl (Nat.le_of_ble_eq_true rfl) rfl rfl ?_
    refine r_aload_n C dX2_comes_5 rfl rfl ?_
    refine r_gd fun hK5 => ?_
    refine r_getRn (code := 263) C fl_X2_105 hK5 rfl dX2_comes_6 fun b6 h7 => ?_
    refine r_aload_n C dX2_comes_9 rfl rfl ?_
    refine r_gd fun hK10 => ?_
    refine r_bd fun r8 h9 => ?_
    refine r_callV (As := [.ref r1.1]) (st := []) C (mc_X3_cloth hK10 h9) cv_X2_112 hK10 rfl (Nat.le_of_ble_eq_true rfl) (Nat.le_of_ble_eq_true rfl) rfl (Nat.le_of_ble_eq_true rfl) dX2_comes_10 ?_
    refine r_iflt (tgt := 22) C dX2_comes_13 (by decide) (fun h11 => ?_) (fun h11 => ?_)
    · refine r_aload_n C dX2_comes_22 rfl rfl ?_
      refine r_bd fun r12 h13 => ?_
      refine r_callVv (As := []) (st := []) C (mc_X2_next hK5 h13) cv_X2_25 hK5 rfl (Nat.le_of_ble_eq_true rfl) (Nat.le_of_ble_eq_true rfl) rfl (Nat.le_of_ble_eq_true rfl) dX2_comes_23 ?_
      refine r_aload_n C dX2_comes_26 rfl rfl ?_
      refine r_ldcS (i := 3) (tx := "plain sheet flag wool ") C (by decide) (by decide) dX2_comes_27 fun b14 h15 => ?_
      refine r_bx (fun r16 h17 => ?_) (fun t18 h19 => ?_)
      · refine r_acallV (As := [.ref b14]) (st := []) C (mm_CX_n (mc_X2_one hK5 h17) rfl) cv_X2_195 hK5 rfl (Nat.le_of_ble_eq_true rfl) (Nat.le_of_ble_eq_true rfl) rfl (Nat.le_of_ble_eq_true rfl) dX2_comes_29 ?_
        refine r_istore_n (ls' := [some (.ref th), some (.ref r1.1), some (.int r16.1), none]) C dX2_comes_32 rfl (Nat.le_of_ble_eq_true rfl) rfl rfl ?_
        refine r_iload_n C dX2_comes_33 rfl rfl ?_
        refine r_ifne (tgt := 48) C dX2_comes_34 (by decide) (fun h20 => ?_) (fun h20 => ?_)
        · refine r_iload_n C dX2_comes_48 rfl rfl ?_
          refine r_iconst (v := 1) C dX2_comes_49 rfl ?_
          refine r_icmpne (tgt := 64) C dX2_comes_50 (by decide) (fun h21 => ?_) (fun h21 => ?_)
          · refine r_iload_n C dX2_comes_64 rfl rfl ?_
            refine r_iconst (v := 2) C dX2_comes_65 rfl ?_
            refine r_icmpne (tgt := 80) C dX2_comes_66 (by decide) (fun h22 => ?_) (fun h22 => ?_)
            · refine r_new C nl_X2_208 dX2_comes_80 ?_
              refine r_ltK fun K23 e25 => ?_
              refine r_ltP fun P24 => ?_
              refine r_dup C dX2_comes_83 rfl ?_
              refine r_aload_n C dX2_comes_84 rfl rfl ?_
              refine r_bd fun r26 h27 => ?_
              refine r_callIv (As := [.ref r1.1]) (st := [.ref r16.2.2.2.1]) C (mc_X10_init (by rw [e25]; exact mm_kn_1) h27) cv_X2_210  rfl (Nat.le_of_ble_eq_true rfl) (Nat.le_of_ble_eq_true rfl) rfl (Nat.le_of_ble_eq_true rfl) dX2_comes_85 ?_
              refine r_mask [true, false, false, true] (ls' := [some (.ref th), none, none, none]) rfl ?_
              exact wfX2_comes_b88 C hT r16.2.2.2.1 K23 r26 (r16.2.2.2.1 + 1) (r16.2.2.2.2 + 4)
            · refine r_new C nl_X2_205 dX2_comes_69 ?_
              refine r_ltK fun K28 e30 => ?_
              refine r_ltP fun P29 => ?_
              refine r_dup C dX2_comes_72 rfl ?_
              refine r_aload_n C dX2_comes_73 rfl rfl ?_
              refine r_bd fun r31 h32 => ?_
              refine r_callIv (As := [.ref r1.1]) (st := [.ref r16.2.2.2.1]) C (mc_X9_init (by rw [e30]; exact mm_kn_1) h32) cv_X2_207  rfl (Nat.le_of_ble_eq_true rfl) (Nat.le_of_ble_eq_true rfl) rfl (Nat.le_of_ble_eq_true rfl) dX2_comes_74 ?_
              refine r_goto (tgt := 88) C dX2_comes_77 (by decide) ?_
              refine r_mask [true, false, false, true] (ls' := [some (.ref th), none, none, none]) rfl ?_
              exact wfX2_comes_b88 C hT r16.2.2.2.1 K28 r31 (r16.2.2.2.1 + 1) (r16.2.2.2.2 + 4)
          · refine r_new C nl_X2_202 dX2_comes_53 ?_
            refine r_ltK fun K33 e35 => ?_
            refine r_ltP fun P34 => ?_
            refine r_dup C dX2_comes_56 rfl ?_
            refine r_aload_n C dX2_comes_57 rfl rfl ?_
            refine r_bd fun r36 h37 => ?_
            refine r_callIv (As := [.ref r1.1]) (st := [.ref r16.2.2.2.1]) C (mc_X8_init (by rw [e35]; exact mm_kn_1) h37) cv_X2_204  rfl (Nat.le_of_ble_eq_true rfl) (Nat.le_of_ble_eq_true rfl) rfl (Nat.le_of_ble_eq_true rfl) dX2_comes_58 ?_
            refine r_goto (tgt := 88) C dX2_comes_61 (by decide) ?_
            refine r_mask [true, false, false, true] (ls' := [some (.ref th), none, none, none]) rfl ?_
            exact wfX2_comes_b88 C hT r16.2.2.2.1 K33 r36 (r16.2.2.2.1 + 1) (r16.2.2.2.2 + 4)
        · refine r_new C nl_X2_198 dX2_comes_37 ?_
          refine r_ltK fun K38 e40 => ?_
          refine r_ltP fun P39 => ?_
          refine r_dup C dX2_comes_40 rfl ?_
          refine r_aload_n C dX2_comes_41 rfl rfl ?_
          refine r_bd fun r41 h42 => ?_
          refine r_callIv (As := [.ref r1.1]) (st := [.ref r16.2.2.2.1]) C (mc_X7_init (mm_isC_of (k := 7) (by rw [e40]; exact mm_kn_1) (by decide)) h42) cv_X2_200  rfl (Nat.le_of_ble_eq_true rfl) (Nat.le_of_ble_eq_true rfl) rfl (Nat.le_of_ble_eq_true rfl) dX2_comes_42 ?_
          refine r_goto (tgt := 88) C dX2_comes_45 (by decide) ?_
          refine r_mask [true, false, false, true] (ls' := [some (.ref th), none, none, none]) rfl ?_
          exact wfX2_comes_b88 C hT r16.2.2.2.1 K38 r41 (r16.2.2.2.1 + 1) (r16.2.2.2.2 + 4)
      · exact r_thrV (As := [.ref b14]) (st := []) C (fun z hz => (hT z hz).elim) (mm_CX_t (mc_X2_one hK5 h19) rfl) cv_X2_195 hK5 rfl (Nat.le_of_ble_eq_true rfl) (Nat.le_of_ble_eq_true rfl) rfl (Nat.le_of_ble_eq_true rfl) dX2_comes_29 rfl rfl
    · refine r_aload_n C dX2_comes_16 rfl rfl ?_
      refine r_iconst (v := 3) C dX2_comes_17 rfl ?_
      refine r_bd fun r43 h44 => ?_
      refine r_acallV (As := [.int (3 : Int32)]) (st := []) C (mc_X2_wrong hK5 h44) cv_X2_75 hK5 rfl (Nat.le_of_ble_eq_true rfl) (Nat.le_of_ble_eq_true rfl) rfl (Nat.le_of_ble_eq_true rfl) dX2_comes_18 ?_
      exact r_athrow C (fun z hz => (hT z hz).elim) dX2_comes_21 rfl
  · exact r_thrV (As := []) (st := []) C (fun z hz => (hT z hz).elim) (mm_CX_t (mc_X2_name hk h4) rfl) cv_X2_109 hk rfl (Nat.le_of_ble_eq_true rfl) (Nat.le_of_ble_eq_true rfl) rfl (Nat.le_of_ble_eq_true rfl) dX2_comes_1 rfl rfl
theorem nl_X2_265 : mm_NL RX2 265 14 3 := ⟨RX15, TX15, _, tyX15, rfl, in_X15, rfl, by decide +kernel, q1066, q1067, q165, tyX15_ok, rfl⟩
theorem cv_X2_267 : mm_CI RX2 267 yX15_init cX15_init 4 3 := ⟨q1070, q165, q1068, q1069, rfl, ⟨by decide +kernel, by decide +kernel, by decide +kernel⟩⟩
theorem cv_X2_276 : mm_CV RX2 276 yX2_part cX2_part 5 (some (.object "PegLaws$Expression")) 0 2 := ⟨RX2, TX2, 8, _, lw_V q1023 q1025 qs25 q134 q1026, ⟨rfl, by decide +kernel, by decide +kernel, by decide +kernel⟩, rfl, rfl⟩
/-! X2 product -/
def fX2_product_b5 (th : Nat) (kS : (mm_K → mm_P → Nat → Nat → Option (mm_X (Nat × mm_S))))  : Nat → Nat → mm_K → mm_P → Nat → Nat → Option (mm_X (Nat × mm_S))
  | 0, _, _, _, _, _ => none
  | n + 1, x1, K, P, nx, sl =>
  mm_gd (K.1 th = 2) <|
  mm_bd (fX2_isSign K th P (42 : Int32)) fun r1 =>
  if r1 = 0 then
  (some (.inl (x1, K, P, nx, sl)))
  else
  (mm_bd (fX2_next K th P) fun r5 =>
  mm_mo (mm_wX mm_waR) (nx + 1) (sl + 3) <|
  mm_lt (mm_kn K nx 14 0) fun K7 =>
  mm_lt (mm_fresh r5 nx) fun P8 =>
  mm_gd (K7.1 th = 2) <|
  mm_bx (kS K7 P8 (nx + 1) (sl + 3)) fun r10 =>
  mm_mo (mm_wX mm_waR) r10.2.2.2.1 r10.2.2.2.2 <|
  mm_gd (r10.2.1.1 nx = 14) <|
  mm_bd (fX15_init nx (42 : Int32) x1 r10.1 r10.2.2.1) fun r15 =>
  fX2_product_b5 th kS n nx r10.2.1 r15 r10.2.2.2.1 r10.2.2.2.2)
set_option maxHeartbeats 4000000 in
theorem wfX2_product_b5 {E : mm_E} {FR LC FRS LCS : Nat} (hFR : FRS + 1 ≤ FR) (hFb : 5 ≤ FR) (hLC : LCS + 24 ≤ LC) (hLb : 111 ≤ LC) (C : mm_Cx E RX2 cX2_product 2 (some (.object "PegLaws$Expression")) FR LC) {th : Nat} (hT : ∀ z ∈ (eC E).exceptionTable.toList, False) {kS : (mm_K → mm_P → Nat → Nat → Option (mm_X (Nat × mm_S)))} (hkS : ∀  (K : mm_K) (P : mm_P) (nx sl : Nat) (r : (mm_X (Nat × mm_S))), K.1 th = 2 → kS  K P nx sl = some r → mm_CX (eL E) yX2_part (ws_ yX2_part cX2_part 5 (some (.object "PegLaws$Expression"))) FRS LCS [.ref th] K P nx sl (mm_wX mm_waR r)) : ∀ (n : Nat), ∀ (x1 : Nat) (K : mm_K) (P : mm_P) (nx : Nat) (sl : Nat), mm_V E ((mm_wX mm_waR)) 5 [some (.ref th), some (.ref x1)] [] K P nx sl (fX2_product_b5 th kS n x1 K P nx sl) := by
  intro n
  induction n with
  | zero => intro x1 K P nx sl; exact r_none
  | succ n ih =>
    intro x1 K P nx sl
    rw [fX2_product_b5]
    refine r_aload_n C dX2_product_5 rfl rfl ?_
    refine r_bipush (v := 42) C dX2_product_6 rfl ?_
    refine r_gd fun hK3 => ?_
    refine r_bd fun r1 h2 => ?_
    refine r_callV (As := [.int (42 : Int32)]) (st := []) C (mc_X2_isSign hK3 h2) cv_X2_79 hK3 rfl (by omega) (by omega) rfl (Nat.le_of_ble_eq_true rfl) dX2_product_8 ?_
    refine r_ifeq (tgt := 36) C dX2_product_11 (by decide) (fun h4 => ?_) (fun h4 => ?_)
    · refine r_aload_n C dX2_product_36 rfl rfl ?_
      exact r_aretR C (Or.inl ⟨_, rfl⟩) dX2_product_37 rfl
    · refine r_aload_n C dX2_product_14 rfl rfl ?_
      refine r_bd fun r5 h6 => ?_
      refine r_callVv (As := []) (st := []) C (mc_X2_next hK3 h6) cv_X2_25 hK3 rfl (by omega) (by omega) rfl (Nat.le_of_ble_eq_true rfl) dX2_product_15 ?_
      refine r_new C nl_X2_265 dX2_product_18 ?_
      refine r_ltK fun K7 e9 => ?_
      refine r_ltP fun P8 => ?_
      refine r_dup C dX2_product_21 rfl ?_
      refine r_bipush (v := 42) C dX2_product_22 rfl ?_
      refine r_aload_n C dX2_product_24 rfl rfl ?_
      refine r_aload_n C dX2_product_25 rfl rfl ?_
      refine r_gd fun hK12 => ?_
      refine r_bx (fun r10 h11 => ?_) (fun t13 h14 => ?_)
      · refine r_acallV (As := []) (st := [.ref x1, .int (42 : Int32), .ref nx, .ref nx]) C (mm_CX_n (hkS _ _ _ _ _ hK12 h11) rfl) cv_X2_276 hK12 rfl (by omega) (by omega) rfl (Nat.le_of_ble_eq_true rfl) dX2_product_26 ?_
        refine r_gd fun hK17 => ?_
        refine r_bd fun r15 h16 => ?_
        refine r_callIv (As := [.int (42 : Int32), .ref x1, .ref r10.1]) (st := [.ref nx]) C (mc_X15_init hK17 h16) cv_X2_267  rfl (by omega) (by omega) rfl (Nat.le_of_ble_eq_true rfl) dX2_product_29 ?_
        refine r_astore_n (ls' := [some (.ref th), some (.ref nx)]) C dX2_product_32 rfl (Nat.le_of_ble_eq_true rfl) rfl rfl ?_
        refine r_goto (tgt := 5) C dX2_product_33 (by decide) ?_
        exact ih nx r10.2.1 r15 r10.2.2.2.1 r10.2.2.2.2
      · exact r_thrV (As := []) (st := [.ref x1, .int (42 : Int32), .ref nx, .ref nx]) C (fun z hz => (hT z hz).elim) (mm_CX_t (hkS _ _ _ _ _ hK12 h14) rfl) cv_X2_276 hK12 rfl (by omega) (by omega) rfl (Nat.le_of_ble_eq_true rfl) dX2_product_26 rfl rfl
def fX2_product (th : Nat) (kS : (mm_K → mm_P → Nat → Nat → Option (mm_X (Nat × mm_S))))  (K : mm_K) (P : mm_P) (nx : Nat) (sl : Nat) : Option (mm_X (Nat × mm_S)) :=
  mm_mo (mm_wX mm_waR) nx sl <|
  mm_bx (kS K P nx sl) fun r1 =>
  mm_mo (mm_wX mm_waR) r1.2.2.2.1 r1.2.2.2.2 <|
  fX2_product_b5 th kS mm_NF r1.1 r1.2.1 r1.2.2.1 r1.2.2.2.1 r1.2.2.2.2
set_option maxHeartbeats 4000000 in
theorem mc_X2_product {l : Launch} {FRS LCS : Nat} {K : mm_K} {P : mm_P} {th : Nat}  {nx sl : Nat} {kS : (mm_K → mm_P → Nat → Nat → Option (mm_X (Nat × mm_S)))} {r : (mm_X (Nat × mm_S))} (hk : K.1 th = 2) (hkS : ∀  (K : mm_K) (P : mm_P) (nx sl : Nat) (r : (mm_X (Nat × mm_S))), K.1 th = 2 → kS  K P nx sl = some r → mm_CX l yX2_part (ws_ yX2_part cX2_part 5 (some (.object "PegLaws$Expression"))) FRS LCS [.ref th] K P nx sl (mm_wX mm_waR r)) (h : fX2_product th kS K P nx sl = some r) : mm_CX l yX2_product (ws_ yX2_product cX2_product 2 (some (.object "PegLaws$Expression"))) (max (FRS + 1) 5) (max (LCS + 24) 111) [.ref th] K P nx sl ((mm_wX mm_waR) r) :=
  mm_startX (ls := [some (.ref th), none]) h (by decide) (Nat.le_of_ble_eq_true rfl) rfl (mm_mo_some h).2.1 (mm_mo_some h).2.2 fun E hl _ _ hT C => by
  have C : mm_Cx E RX2 cX2_product 2 (some (.object "PegLaws$Expression")) (max (FRS + 1) 5) (max (LCS + 24) 111) := C
  generalize hFe : (max (FRS + 1) 5) = FR at C
  generalize hLe : (max (LCS + 24) 111) = LC at C
  have hFR : FRS + 1 ≤ FR := by omega
  have hFb : 5 ≤ FR := by omega
  have hLC : LCS + 24 ≤ LC := by omega
  have hLb : 111 ≤ LC := by omega
  clear hFe hLe h
  subst hl
  unfold fX2_product
  refine r_mo ?_
  refine r_aload_n C dX2_product_0 rfl rfl ?_
  refine r_bx (fun r1 h2 => ?_) (fun t3 h4 => ?_)
  · refine r_acallV (As := []) (st := []) C (mm_CX_n (hkS _ _ _ _ _ hk h2) rfl) cv_X2_276 hk rfl (by omega) (by omega) rfl (Nat.le_of_ble_eq_true rfl) dX2_product_1 ?_
    refine r_astore_n (ls' := [some (.ref th), some (.ref r1.1)]) C dX2_product_4 rfl (Nat.le_of_ble_eq_true rfl) rfl rfl ?_
    exact wfX2_product_b5 hFR hFb hLC hLb C hT hkS mm_NF r1.1 r1.2.1 r1.2.2.1 r1.2.2.2.1 r1.2.2.2.2
  · exact r_thrV (As := []) (st := []) C (fun z hz => (hT z hz).elim) (mm_CX_t (hkS _ _ _ _ _ hk h4) rfl) cv_X2_276 hk rfl (by omega) (by omega) rfl (Nat.le_of_ble_eq_true rfl) dX2_product_1 rfl rfl
theorem cv_X2_273 : mm_CV RX2 273 yX2_product cX2_product 2 (some (.object "PegLaws$Expression")) 0 2 := ⟨RX2, TX2, 8, _, lw_V q1019 q1021 qs24 q134 q1022, ⟨rfl, by decide +kernel, by decide +kernel, by decide +kernel⟩, rfl, rfl⟩
/-! X2 sum -/
def fX2_sum_b39 (th : Nat) (kS : (mm_K → mm_P → Nat → Nat → Option (mm_X (Nat × mm_S)))) (k5 : Nat → mm_K → mm_P → Nat → Nat → Option (mm_X (Nat × mm_S))) (x1 : Nat) (s0 : Int32) (K : mm_K) (P : mm_P) (nx : Nat) (sl : Nat) : Option (mm_X (Nat × mm_S)) :=
  mm_gd (K.1 th = 2) <|
  mm_bd (fX2_next K th P) fun r1 =>
  mm_mo (mm_wX mm_waR) (nx + 1) (sl + 3) <|
  mm_lt (mm_kn K nx 14 0) fun K4 =>
  mm_lt (mm_fresh r1 nx) fun P5 =>
  mm_gd (K4.1 th = 2) <|
  mm_bx (fX2_product th kS K4 P5 (nx + 1) (sl + 3)) fun r7 =>
  mm_mo (mm_wX mm_waR) r7.2.2.2.1 r7.2.2.2.2 <|
  mm_gd (r7.2.1.1 nx = 14) <|
  mm_bd (fX15_init nx s0 x1 r7.1 r7.2.2.1) fun r12 =>
  k5 nx r7.2.1 r12 r7.2.2.2.1 r7.2.2.2.2
set_option maxHeartbeats 4000000 in
theorem wfX2_sum_b39 {E : mm_E} {FR LC FRS LCS : Nat} (hFR : FRS + 2 ≤ FR) (hFb : 6 ≤ FR) (hLC : LCS + 45 ≤ LC) (hLb : 132 ≤ LC) (C : mm_Cx E RX2 cX2_sum 3 (some (.object "PegLaws$Expression")) FR LC) {th : Nat} (hT : ∀ z ∈ (eC E).exceptionTable.toList, False) {kS : (mm_K → mm_P → Nat → Nat → Option (mm_X (Nat × mm_S)))} (hkS : ∀  (K : mm_K) (P : mm_P) (nx sl : Nat) (r : (mm_X (Nat × mm_S))), K.1 th = 2 → kS  K P nx sl = some r → mm_CX (eL E) yX2_part (ws_ yX2_part cX2_part 5 (some (.object "PegLaws$Expression"))) FRS LCS [.ref th] K P nx sl (mm_wX mm_waR r)) {k5 : Nat → mm_K → mm_P → Nat → Nat → Option (mm_X (Nat × mm_S))} (hk5 : ∀ (x1 : Nat) (K : mm_K) (P : mm_P) (nx : Nat) (sl : Nat), mm_V E ((mm_wX mm_waR)) 5 [some (.ref th), some (.ref x1), none] [] K P nx sl (k5 x1 K P nx sl)) (x1 : Nat) (s0 : Int32) (K : mm_K) (P : mm_P) (nx : Nat) (sl : Nat) : mm_V E ((mm_wX mm_waR)) 39 [some (.ref th), some (.ref x1), none] [.int s0] K P nx sl (fX2_sum_b39 th kS k5 x1 s0 K P nx sl) := by
  unfold fX2_sum_b39
  refine r_istore_n (ls' := [some (.ref th), some (.ref x1), some (.int s0)]) C dX2_sum_39 rfl (Nat.le_of_ble_eq_true rfl) rfl rfl ?_
  refine r_aload_n C dX2_sum_40 rfl rfl ?_
  refine r_gd fun hK3 => ?_
  refine r_bd fun r1 h2 => ?_
  refine r_callVv (As := []) (st := []) C (mc_X2_next hK3 h2) cv_X2_25 hK3 rfl (by omega) (by omega) rfl (Nat.le_of_ble_eq_true rfl) dX2_sum_41 ?_
  refine r_new C nl_X2_265 dX2_sum_44 ?_
  refine r_ltK fun K4 e6 => ?_
  refine r_ltP fun P5 => ?_
  refine r_dup C dX2_sum_47 rfl ?_
  refine r_iload_n C dX2_sum_48 rfl rfl ?_
  refine r_aload_n C dX2_sum_49 rfl rfl ?_
  refine r_aload_n C dX2_sum_50 rfl rfl ?_
  refine r_gd fun hK9 => ?_
  refine r_bx (fun r7 h8 => ?_) (fun t10 h11 => ?_)
  · refine r_acallV (As := []) (st := [.ref x1, .int s0, .ref nx, .ref nx]) C (mm_CX_n (mc_X2_product hK9 hkS h8) rfl) cv_X2_273 hK9 rfl (by omega) (by omega) rfl (Nat.le_of_ble_eq_true rfl) dX2_sum_51 ?_
    refine r_gd fun hK14 => ?_
    refine r_bd fun r12 h13 => ?_
    refine r_callIv (As := [.int s0, .ref x1, .ref r7.1]) (st := [.ref nx]) C (mc_X15_init hK14 h13) cv_X2_267  rfl (by omega) (by omega) rfl (Nat.le_of_ble_eq_true rfl) dX2_sum_54 ?_
    refine r_astore_n (ls' := [some (.ref th), some (.ref nx), some (.int s0)]) C dX2_sum_57 rfl (Nat.le_of_ble_eq_true rfl) rfl rfl ?_
    refine r_goto (tgt := 5) C dX2_sum_58 (by decide) ?_
    refine r_mask [true, true, false] (ls' := [some (.ref th), some (.ref nx), none]) rfl ?_
    exact hk5 nx r7.2.1 r12 r7.2.2.2.1 r7.2.2.2.2
  · exact r_thrV (As := []) (st := [.ref x1, .int s0, .ref nx, .ref nx]) C (fun z hz => (hT z hz).elim) (mm_CX_t (mc_X2_product hK9 hkS h11) rfl) cv_X2_273 hK9 rfl (by omega) (by omega) rfl (Nat.le_of_ble_eq_true rfl) dX2_sum_51 rfl rfl
def fX2_sum_b23 (th : Nat) (kS : (mm_K → mm_P → Nat → Nat → Option (mm_X (Nat × mm_S)))) (k5 : Nat → mm_K → mm_P → Nat → Nat → Option (mm_X (Nat × mm_S))) (x1 : Nat) (K : mm_K) (P : mm_P) (nx : Nat) (sl : Nat) : Option (mm_X (Nat × mm_S)) :=
  mm_gd (K.1 th = 2) <|
  mm_bd (fX2_isSign K th P (43 : Int32)) fun r1 =>
  if r1 = 0 then
  (fX2_sum_b39 th kS k5 x1 (45 : Int32) K P nx sl)
  else
  (fX2_sum_b39 th kS k5 x1 (43 : Int32) K P nx sl)
set_option maxHeartbeats 4000000 in
theorem wfX2_sum_b23 {E : mm_E} {FR LC FRS LCS : Nat} (hFR : FRS + 2 ≤ FR) (hFb : 6 ≤ FR) (hLC : LCS + 45 ≤ LC) (hLb : 132 ≤ LC) (C : mm_Cx E RX2 cX2_sum 3 (some (.object "PegLaws$Expression")) FR LC) {th : Nat} (hT : ∀ z ∈ (eC E).exceptionTable.toList, False) {kS : (mm_K → mm_P → Nat → Nat → Option (mm_X (Nat × mm_S)))} (hkS : ∀  (K : mm_K) (P : mm_P) (nx sl : Nat) (r : (mm_X (Nat × mm_S))), K.1 th = 2 → kS  K P nx sl = some r → mm_CX (eL E) yX2_part (ws_ yX2_part cX2_part 5 (some (.object "PegLaws$Expression"))) FRS LCS [.ref th] K P nx sl (mm_wX mm_waR r)) {k5 : Nat → mm_K → mm_P → Nat → Nat → Option (mm_X (Nat × mm_S))} (hk5 : ∀ (x1 : Nat) (K : mm_K) (P : mm_P) (nx : Nat) (sl : Nat), mm_V E ((mm_wX mm_waR)) 5 [some (.ref th), some (.ref x1), none] [] K P nx sl (k5 x1 K P nx sl)) (x1 : Nat) (K : mm_K) (P : mm_P) (nx : Nat) (sl : Nat) : mm_V E ((mm_wX mm_waR)) 23 [some (.ref th), some (.ref x1), none] [] K P nx sl (fX2_sum_b23 th kS k5 x1 K P nx sl) := by
  unfold fX2_sum_b23
  refine r_aload_n C dX2_sum_23 rfl rfl ?_
  refine r_bipush (v := 43) C dX2_sum_24 rfl ?_
  refine r_gd fun hK3 => ?_
  refine r_bd fun r1 h2 => ?_
  refine r_callV (As := [.int (43 : Int32)]) (st := []) C (mc_X2_isSign hK3 h2) cv_X2_79 hK3 rfl (by omega) (by omega) rfl (Nat.le_of_ble_eq_true rfl) dX2_sum_26 ?_
  refine r_ifeq (tgt := 37) C dX2_sum_29 (by decide) (fun h4 => ?_) (fun h4 => ?_)
  · refine r_bipush (v := 45) C dX2_sum_37 rfl ?_
    exact wfX2_sum_b39 hFR hFb hLC hLb C hT hkS hk5 x1 (45 : Int32) K P nx sl
  · refine r_bipush (v := 43) C dX2_sum_32 rfl ?_
    refine r_goto (tgt := 39) C dX2_sum_34 (by decide) ?_
    exact wfX2_sum_b39 hFR hFb hLC hLb C hT hkS hk5 x1 (43 : Int32) K P nx sl
def fX2_sum_b5 (th : Nat) (kS : (mm_K → mm_P → Nat → Nat → Option (mm_X (Nat × mm_S))))  : Nat → Nat → mm_K → mm_P → Nat → Nat → Option (mm_X (Nat × mm_S))
  | 0, _, _, _, _, _ => none
  | n + 1, x1, K, P, nx, sl =>
  mm_gd (K.1 th = 2) <|
  mm_bd (fX2_isSign K th P (43 : Int32)) fun r1 =>
  if r1 ≠ 0 then
  (fX2_sum_b23 th kS (fX2_sum_b5 th kS n) x1 K P nx sl)
  else
  (mm_bd (fX2_isSign K th P (45 : Int32)) fun r5 =>
  if r5 = 0 then
  (some (.inl (x1, K, P, nx, sl)))
  else
  (fX2_sum_b23 th kS (fX2_sum_b5 th kS n) x1 K P nx sl))
set_option maxHeartbeats 4000000 in
theorem wfX2_sum_b5 {E : mm_E} {FR LC FRS LCS : Nat} (hFR : FRS + 2 ≤ FR) (hFb : 6 ≤ FR) (hLC : LCS + 45 ≤ LC) (hLb : 132 ≤ LC) (C : mm_Cx E RX2 cX2_sum 3 (some (.object "PegLaws$Expression")) FR LC) {th : Nat} (hT : ∀ z ∈ (eC E).exceptionTable.toList, False) {kS : (mm_K → mm_P → Nat → Nat → Option (mm_X (Nat × mm_S)))} (hkS : ∀  (K : mm_K) (P : mm_P) (nx sl : Nat) (r : (mm_X (Nat × mm_S))), K.1 th = 2 → kS  K P nx sl = some r → mm_CX (eL E) yX2_part (ws_ yX2_part cX2_part 5 (some (.object "PegLaws$Expression"))) FRS LCS [.ref th] K P nx sl (mm_wX mm_waR r)) : ∀ (n : Nat), ∀ (x1 : Nat) (K : mm_K) (P : mm_P) (nx : Nat) (sl : Nat), mm_V E ((mm_wX mm_waR)) 5 [some (.ref th), some (.ref x1), none] [] K P nx sl (fX2_sum_b5 th kS n x1 K P nx sl) := by
  intro n
  induction n with
  | zero => intro x1 K P nx sl; exact r_none
  | succ n ih =>
    intro x1 K P nx sl
    rw [fX2_sum_b5]
    refine r_aload_n C dX2_sum_5 rfl rfl ?_
    refine r_bipush (v := 43) C dX2_sum_6 rfl ?_
    refine r_gd fun hK3 => ?_
    refine r_bd fun r1 h2 => ?_
    refine r_callV (As := [.int (43 : Int32)]) (st := []) C (mc_X2_isSign hK3 h2) cv_X2_79 hK3 rfl (by omega) (by omega) rfl (Nat.le_of_ble_eq_true rfl) dX2_sum_8 ?_
    refine r_ifne (tgt := 23) C dX2_sum_11 (by decide) (fun h4 => ?_) (fun h4 => ?_)
    · exact wfX2_sum_b23 hFR hFb hLC hLb C hT hkS ih x1 K P nx sl
    · refine r_aload_n C dX2_sum_14 rfl rfl ?_
      refine r_bipush (v := 45) C dX2_sum_15 rfl ?_
      refine r_bd fun r5 h6 => ?_
      refine r_callV (As := [.int (45 : Int32)]) (st := []) C (mc_X2_isSign hK3 h6) cv_X2_79 hK3 rfl (by omega) (by omega) rfl (Nat.le_of_ble_eq_true rfl) dX2_sum_17 ?_
      refine r_ifeq (tgt := 61) C dX2_sum_20 (by decide) (fun h7 => ?_) (fun h7 => ?_)
      · refine r_aload_n C dX2_sum_61 rfl rfl ?_
        exact r_aretR C (Or.inl ⟨_, rfl⟩) dX2_sum_62 rfl
      · exact wfX2_sum_b23 hFR hFb hLC hLb C hT hkS ih x1 K P nx sl
def fX2_sum (th : Nat) (kS : (mm_K → mm_P → Nat → Nat → Option (mm_X (Nat × mm_S))))  (K : mm_K) (P : mm_P) (nx : Nat) (sl : Nat) : Option (mm_X (Nat × mm_S)) :=
  mm_mo (mm_wX mm_waR) nx sl <|
  mm_bx (fX2_product th kS K P nx sl) fun r1 =>
  mm_mo (mm_wX mm_waR) r1.2.2.2.1 r1.2.2.2.2 <|
  fX2_sum_b5 th kS mm_NF r1.1 r1.2.1 r1.2.2.1 r1.2.2.2.1 r1.2.2.2.2
set_option maxHeartbeats 4000000 in
theorem mc_X2_sum {l : Launch} {FRS LCS : Nat} {K : mm_K} {P : mm_P} {th : Nat}  {nx sl : Nat} {kS : (mm_K → mm_P → Nat → Nat → Option (mm_X (Nat × mm_S)))} {r : (mm_X (Nat × mm_S))} (hk : K.1 th = 2) (hkS : ∀  (K : mm_K) (P : mm_P) (nx sl : Nat) (r : (mm_X (Nat × mm_S))), K.1 th = 2 → kS  K P nx sl = some r → mm_CX l yX2_part (ws_ yX2_part cX2_part 5 (some (.object "PegLaws$Expression"))) FRS LCS [.ref th] K P nx sl (mm_wX mm_waR r)) (h : fX2_sum th kS K P nx sl = some r) : mm_CX l yX2_sum (ws_ yX2_sum cX2_sum 3 (some (.object "PegLaws$Expression"))) (max (FRS + 2) 6) (max (LCS + 45) 132) [.ref th] K P nx sl ((mm_wX mm_waR) r) :=
  mm_startX (ls := [some (.ref th), none, none]) h (by decide) (Nat.le_of_ble_eq_true rfl) rfl (mm_mo_some h).2.1 (mm_mo_some h).2.2 fun E hl _ _ hT C => by
  have C : mm_Cx E RX2 cX2_sum 3 (some (.object "PegLaws$Expression")) (max (FRS + 2) 6) (max (LCS + 45) 132) := C
  generalize hFe : (max (FRS + 2) 6) = FR at C
  generalize hLe : (max (LCS + 45) 132) = LC at C
  have hFR : FRS + 2 ≤ FR := by omega
  have hFb : 6 ≤ FR := by omega
  have hLC : LCS + 45 ≤ LC := by omega
  have hLb : 132 ≤ LC := by omega
  clear hFe hLe h
  subst hl
  unfold fX2_sum
  refine r_mo ?_
  refine r_aload_n C dX2_sum_0 rfl rfl ?_
  refine r_bx (fun r1 h2 => ?_) (fun t3 h4 => ?_)
  · refine r_acallV (As := []) (st := []) C (mm_CX_n (mc_X2_product hk hkS h2) rfl) cv_X2_273 hk rfl (by omega) (by omega) rfl (Nat.le_of_ble_eq_true rfl) dX2_sum_1 ?_
    refine r_astore_n (ls' := [some (.ref th), some (.ref r1.1), none]) C dX2_sum_4 rfl (Nat.le_of_ble_eq_true rfl) rfl rfl ?_
    exact wfX2_sum_b5 hFR hFb hLC hLb C hT hkS mm_NF r1.1 r1.2.1 r1.2.2.1 r1.2.2.2.1 r1.2.2.2.2
  · exact r_thrV (As := []) (st := []) C (fun z hz => (hT z hz).elim) (mm_CX_t (mc_X2_product hk hkS h4) rfl) cv_X2_273 hk rfl (by omega) (by omega) rfl (Nat.le_of_ble_eq_true rfl) dX2_sum_1 rfl rfl
theorem cv_X2_270 : mm_CV RX2 270 yX2_sum cX2_sum 3 (some (.object "PegLaws$Expression")) 0 2 := ⟨RX2, TX2, 8, _, lw_V q1015 q1017 qs23 q134 q1018, ⟨rfl, by decide +kernel, by decide +kernel, by decide +kernel⟩, rfl, rfl⟩
/-! X2 test -/
def fX2_test_b35 (th : Nat) (kS : (mm_K → mm_P → Nat → Nat → Option (mm_X (Nat × mm_S))))  (x1 : Nat) (s0 : Int32) (K : mm_K) (P : mm_P) (nx : Nat) (sl : Nat) : Option (mm_X (Nat × mm_S)) :=
  if s0 ≠ (32 : Int32) then
  (mm_gd (K.1 th = 2) <|
  mm_bd (fX2_next K th P) fun r2 =>
  mm_mo (mm_wX mm_waR) (nx + 1) (sl + 3) <|
  mm_lt (mm_kn K nx 14 0) fun K5 =>
  mm_lt (mm_fresh r2 nx) fun P6 =>
  mm_gd (K5.1 th = 2) <|
  mm_bx (fX2_sum th kS K5 P6 (nx + 1) (sl + 3)) fun r8 =>
  mm_mo (mm_wX mm_waR) r8.2.2.2.1 r8.2.2.2.2 <|
  mm_gd (r8.2.1.1 nx = 14) <|
  mm_bd (fX15_init nx s0 x1 r8.1 r8.2.2.1) fun r13 =>
  some (.inl (nx, r8.2.1, r13, r8.2.2.2.1, r8.2.2.2.2)))
  else
  (some (.inl (x1, K, P, nx, sl)))
set_option maxHeartbeats 4000000 in
theorem wfX2_test_b35 {E : mm_E} {FR LC FRS LCS : Nat} (hFR : FRS + 3 ≤ FR) (hFb : 7 ≤ FR) (hLC : LCS + 67 ≤ LC) (hLb : 154 ≤ LC) (C : mm_Cx E RX2 cX2_test 3 (some (.object "PegLaws$Expression")) FR LC) {th : Nat} (hT : ∀ z ∈ (eC E).exceptionTable.toList, False) {kS : (mm_K → mm_P → Nat → Nat → Option (mm_X (Nat × mm_S)))} (hkS : ∀  (K : mm_K) (P : mm_P) (nx sl : Nat) (r : (mm_X (Nat × mm_S))), K.1 th = 2 → kS  K P nx sl = some r → mm_CX (eL E) yX2_part (ws_ yX2_part cX2_part 5 (some (.object "PegLaws$Expression"))) FRS LCS [.ref th] K P nx sl (mm_wX mm_waR r)) (x1 : Nat) (s0 : Int32) (K : mm_K) (P : mm_P) (nx : Nat) (sl : Nat) : mm_V E ((mm_wX mm_waR)) 35 [some (.ref th), some (.ref x1), none] [.int s0] K P nx sl (fX2_test_b35 th kS x1 s0 K P nx sl) := by
  unfold fX2_test_b35
  refine r_istore_n (ls' := [some (.ref th), some (.ref x1), some (.int s0)]) C dX2_test_35 rfl (Nat.le_of_ble_eq_true rfl) rfl rfl ?_
  refine r_iload_n C dX2_test_36 rfl rfl ?_
  refine r_bipush (v := 32) C dX2_test_37 rfl ?_
  refine r_icmpne (tgt := 44) C dX2_test_39 (by decide) (fun h1 => ?_) (fun h1 => ?_)
  · refine r_aload_n C dX2_test_44 rfl rfl ?_
    refine r_gd fun hK4 => ?_
    refine r_bd fun r2 h3 => ?_
    refine r_callVv (As := []) (st := []) C (mc_X2_next hK4 h3) cv_X2_25 hK4 rfl (by omega) (by omega) rfl (Nat.le_of_ble_eq_true rfl) dX2_test_45 ?_
    refine r_new C nl_X2_265 dX2_test_48 ?_
    refine r_ltK fun K5 e7 => ?_
    refine r_ltP fun P6 => ?_
    refine r_dup C dX2_test_51 rfl ?_
    refine r_iload_n C dX2_test_52 rfl rfl ?_
    refine r_aload_n C dX2_test_53 rfl rfl ?_
    refine r_aload_n C dX2_test_54 rfl rfl ?_
    refine r_gd fun hK10 => ?_
    refine r_bx (fun r8 h9 => ?_) (fun t11 h12 => ?_)
    · refine r_acallV (As := []) (st := [.ref x1, .int s0, .ref nx, .ref nx]) C (mm_CX_n (mc_X2_sum hK10 hkS h9) rfl) cv_X2_270 hK10 rfl (by omega) (by omega) rfl (Nat.le_of_ble_eq_true rfl) dX2_test_55 ?_
      refine r_gd fun hK15 => ?_
      refine r_bd fun r13 h14 => ?_
      refine r_callIv (As := [.int s0, .ref x1, .ref r8.1]) (st := [.ref nx]) C (mc_X15_init hK15 h14) cv_X2_267  rfl (by omega) (by omega) rfl (Nat.le_of_ble_eq_true rfl) dX2_test_58 ?_
      exact r_aretR C (Or.inl ⟨_, rfl⟩) dX2_test_61 rfl
    · exact r_thrV (As := []) (st := [.ref x1, .int s0, .ref nx, .ref nx]) C (fun z hz => (hT z hz).elim) (mm_CX_t (mc_X2_sum hK10 hkS h12) rfl) cv_X2_270 hK10 rfl (by omega) (by omega) rfl (Nat.le_of_ble_eq_true rfl) dX2_test_55 rfl rfl
  · refine r_aload_n C dX2_test_42 rfl rfl ?_
    exact r_aretR C (Or.inl ⟨_, rfl⟩) dX2_test_43 rfl
def fX2_test (th : Nat) (kS : (mm_K → mm_P → Nat → Nat → Option (mm_X (Nat × mm_S))))  (K : mm_K) (P : mm_P) (nx : Nat) (sl : Nat) : Option (mm_X (Nat × mm_S)) :=
  mm_mo (mm_wX mm_waR) nx sl <|
  mm_bx (fX2_sum th kS K P nx sl) fun r1 =>
  mm_mo (mm_wX mm_waR) r1.2.2.2.1 r1.2.2.2.2 <|
  mm_gd (r1.2.1.1 th = 2) <|
  mm_bd (fX2_isSign r1.2.1 th r1.2.2.1 (60 : Int32)) fun r5 =>
  if r5 = 0 then
  (mm_bd (fX2_isSign r1.2.1 th r1.2.2.1 (61 : Int32)) fun r9 =>
  if r9 = 0 then
  (fX2_test_b35 th kS r1.1 (32 : Int32) r1.2.1 r1.2.2.1 r1.2.2.2.1 r1.2.2.2.2)
  else
  (fX2_test_b35 th kS r1.1 (61 : Int32) r1.2.1 r1.2.2.1 r1.2.2.2.1 r1.2.2.2.2))
  else
  (fX2_test_b35 th kS r1.1 (60 : Int32) r1.2.1 r1.2.2.1 r1.2.2.2.1 r1.2.2.2.2)
set_option maxHeartbeats 4000000 in
theorem mc_X2_test {l : Launch} {FRS LCS : Nat} {K : mm_K} {P : mm_P} {th : Nat}  {nx sl : Nat} {kS : (mm_K → mm_P → Nat → Nat → Option (mm_X (Nat × mm_S)))} {r : (mm_X (Nat × mm_S))} (hk : K.1 th = 2) (hkS : ∀  (K : mm_K) (P : mm_P) (nx sl : Nat) (r : (mm_X (Nat × mm_S))), K.1 th = 2 → kS  K P nx sl = some r → mm_CX l yX2_part (ws_ yX2_part cX2_part 5 (some (.object "PegLaws$Expression"))) FRS LCS [.ref th] K P nx sl (mm_wX mm_waR r)) (h : fX2_test th kS K P nx sl = some r) : mm_CX l yX2_test (ws_ yX2_test cX2_test 3 (some (.object "PegLaws$Expression"))) (max (FRS + 3) 7) (max (LCS + 67) 154) [.ref th] K P nx sl ((mm_wX mm_waR) r) :=
  mm_startX (ls := [some (.ref th), none, none]) h (by decide) (Nat.le_of_ble_eq_true rfl) rfl (mm_mo_some h).2.1 (mm_mo_some h).2.2 fun E hl _ _ hT C => by
  have C : mm_Cx E RX2 cX2_test 3 (some (.object "PegLaws$Expression")) (max (FRS + 3) 7) (max (LCS + 67) 154) := C
  generalize hFe : (max (FRS + 3) 7) = FR at C
  generalize hLe : (max (LCS + 67) 154) = LC at C
  have hFR : FRS + 3 ≤ FR := by omega
  have hFb : 7 ≤ FR := by omega
  have hLC : LCS + 67 ≤ LC := by omega
  have hLb : 154 ≤ LC := by omega
  clear hFe hLe h
  subst hl
  unfold fX2_test
  refine r_mo ?_
  refine r_aload_n C dX2_test_0 rfl rfl ?_
  refine r_bx (fun r1 h2 => ?_) (fun t3 h4 => ?_)
  · refine r_acallV (As := []) (st := []) C (mm_CX_n (mc_X2_sum hk hkS h2) rfl) cv_X2_270 hk rfl (by omega) (by omega) rfl (Nat.le_of_ble_eq_true rfl) dX2_test_1 ?_
    refine r_astore_n (ls' := [some (.ref th), some (.ref r1.1), none]) C dX2_test_4 rfl (Nat.le_of_ble_eq_true rfl) rfl rfl ?_
    refine r_aload_n C dX2_test_5 rfl rfl ?_
    refine r_bipush (v := 60) C dX2_test_6 rfl ?_
    refine r_gd fun hK7 => ?_
    refine r_bd fun r5 h6 => ?_
    refine r_callV (As := [.int (60 : Int32)]) (st := []) C (mc_X2_isSign hK7 h6) cv_X2_79 hK7 rfl (by omega) (by omega) rfl (Nat.le_of_ble_eq_true rfl) dX2_test_8 ?_
    refine r_ifeq (tgt := 19) C dX2_test_11 (by decide) (fun h8 => ?_) (fun h8 => ?_)
    · refine r_aload_n C dX2_test_19 rfl rfl ?_
      refine r_bipush (v := 61) C dX2_test_20 rfl ?_
      refine r_bd fun r9 h10 => ?_
      refine r_callV (As := [.int (61 : Int32)]) (st := []) C (mc_X2_isSign hK7 h10) cv_X2_79 hK7 rfl (by omega) (by omega) rfl (Nat.le_of_ble_eq_true rfl) dX2_test_22 ?_
      refine r_ifeq (tgt := 33) C dX2_test_25 (by decide) (fun h11 => ?_) (fun h11 => ?_)
      · refine r_bipush (v := 32) C dX2_test_33 rfl ?_
        exact wfX2_test_b35 hFR hFb hLC hLb C hT hkS r1.1 (32 : Int32) r1.2.1 r1.2.2.1 r1.2.2.2.1 r1.2.2.2.2
      · refine r_bipush (v := 61) C dX2_test_28 rfl ?_
        refine r_goto (tgt := 35) C dX2_test_30 (by decide) ?_
        exact wfX2_test_b35 hFR hFb hLC hLb C hT hkS r1.1 (61 : Int32) r1.2.1 r1.2.2.1 r1.2.2.2.1 r1.2.2.2.2
    · refine r_bipush (v := 60) C dX2_test_14 rfl ?_
      refine r_goto (tgt := 35) C dX2_test_16 (by decide) ?_
      exact wfX2_test_b35 hFR hFb hLC hLb C hT hkS r1.1 (60 : Int32) r1.2.1 r1.2.2.1 r1.2.2.2.1 r1.2.2.2.2
  · exact r_thrV (As := []) (st := []) C (fun z hz => (hT z hz).elim) (mm_CX_t (mc_X2_sum hk hkS h4) rfl) cv_X2_270 hk rfl (by omega) (by omega) rfl (Nat.le_of_ble_eq_true rfl) dX2_test_1 rfl rfl
theorem cv_X2_260 : mm_CV RX2 260 yX2_test cX2_test 3 (some (.object "PegLaws$Expression")) 0 2 := ⟨RX2, TX2, 8, _, lw_V q1011 q1013 qs22 q134 q1014, ⟨rfl, by decide +kernel, by decide +kernel, by decide +kernel⟩, rfl, rfl⟩
/-! X2 expression -/
def fX2_expression_b38 (th : Nat) (kS : (mm_K → mm_P → Nat → Nat → Option (mm_X (Nat × mm_S)))) (k5 : Nat → mm_K → mm_P → Nat → Nat → Option (mm_X (Nat × mm_S))) (x1 : Nat) (s0 : Nat) (s1 : Nat) (s2 : Int32) (K : mm_K) (P : mm_P) (nx : Nat) (sl : Nat) : Option (mm_X (Nat × mm_S)) :=
  mm_gd (K.1 th = 2) <|
  mm_bx (fX2_test th kS K P nx sl) fun r1 =>
  mm_mo (mm_wX mm_waR) r1.2.2.2.1 r1.2.2.2.2 <|
  mm_gd (r1.2.1.1 s1 = 14) <|
  mm_bd (fX15_init s1 s2 x1 r1.1 r1.2.2.1) fun r6 =>
  k5 s0 r1.2.1 r6 r1.2.2.2.1 r1.2.2.2.2
set_option maxHeartbeats 4000000 in
theorem wfX2_expression_b38 {E : mm_E} {FR LC FRS LCS : Nat} (hFR : FRS + 4 ≤ FR) (hFb : 8 ≤ FR) (hLC : LCS + 89 ≤ LC) (hLb : 176 ≤ LC) (C : mm_Cx E RX2 cX2_expression 3 (some (.object "PegLaws$Expression")) FR LC) {th : Nat} (hT : ∀ z ∈ (eC E).exceptionTable.toList, False) {kS : (mm_K → mm_P → Nat → Nat → Option (mm_X (Nat × mm_S)))} (hkS : ∀  (K : mm_K) (P : mm_P) (nx sl : Nat) (r : (mm_X (Nat × mm_S))), K.1 th = 2 → kS  K P nx sl = some r → mm_CX (eL E) yX2_part (ws_ yX2_part cX2_part 5 (some (.object "PegLaws$Expression"))) FRS LCS [.ref th] K P nx sl (mm_wX mm_waR r)) {k5 : Nat → mm_K → mm_P → Nat → Nat → Option (mm_X (Nat × mm_S))} (hk5 : ∀ (x1 : Nat) (K : mm_K) (P : mm_P) (nx : Nat) (sl : Nat), mm_V E ((mm_wX mm_waR)) 5 [some (.ref th), some (.ref x1), none] [] K P nx sl (k5 x1 K P nx sl)) (x1 : Nat) (s0 : Nat) (s1 : Nat) (s2 : Int32) (K : mm_K) (P : mm_P) (nx : Nat) (sl : Nat) : mm_V E ((mm_wX mm_waR)) 38 [some (.ref th), some (.ref x1), none] [.int s2, .ref s1, .ref s0] K P nx sl (fX2_expression_b38 th kS k5 x1 s0 s1 s2 K P nx sl) := by
  unfold fX2_expression_b38
  refine r_aload_n C dX2_expression_38 rfl rfl ?_
  refine r_aload_n C dX2_expression_39 rfl rfl ?_
  refine r_gd fun hK3 => ?_
  refine r_bx (fun r1 h2 => ?_) (fun t4 h5 => ?_)
  · refine r_acallV (As := []) (st := [.ref x1, .int s2, .ref s1, .ref s0]) C (mm_CX_n (mc_X2_test hK3 hkS h2) rfl) cv_X2_260 hK3 rfl (by omega) (by omega) rfl (Nat.le_of_ble_eq_true rfl) dX2_expression_40 ?_
    refine r_gd fun hK8 => ?_
    refine r_bd fun r6 h7 => ?_
    refine r_callIv (As := [.int s2, .ref x1, .ref r1.1]) (st := [.ref s0]) C (mc_X15_init hK8 h7) cv_X2_267  rfl (by omega) (by omega) rfl (Nat.le_of_ble_eq_true rfl) dX2_expression_43 ?_
    refine r_astore_n (ls' := [some (.ref th), some (.ref s0), none]) C dX2_expression_46 rfl (Nat.le_of_ble_eq_true rfl) rfl rfl ?_
    refine r_goto (tgt := 5) C dX2_expression_47 (by decide) ?_
    exact hk5 s0 r1.2.1 r6 r1.2.2.2.1 r1.2.2.2.2
  · exact r_thrV (As := []) (st := [.ref x1, .int s2, .ref s1, .ref s0]) C (fun z hz => (hT z hz).elim) (mm_CX_t (mc_X2_test hK3 hkS h5) rfl) cv_X2_260 hK3 rfl (by omega) (by omega) rfl (Nat.le_of_ble_eq_true rfl) dX2_expression_40 rfl rfl
def fX2_expression_b5 (th : Nat) (kS : (mm_K → mm_P → Nat → Nat → Option (mm_X (Nat × mm_S))))  : Nat → Nat → mm_K → mm_P → Nat → Nat → Option (mm_X (Nat × mm_S))
  | 0, _, _, _, _, _ => none
  | n + 1, x1, K, P, nx, sl =>
  mm_bd (gR P 18 0) fun b1 =>
  mm_gd (K.1 th = 2) <|
  mm_bd (fX2_which K th b1 P) fun r3 =>
  if 0 ≤ r3.1 then
  (mm_bd (fX2_next K th r3.2) fun r7 =>
  mm_mo (mm_wX mm_waR) (nx + 1) (sl + 3) <|
  mm_lt (mm_kn K nx 14 0) fun K9 =>
  mm_lt (mm_fresh r7 nx) fun P10 =>
  if r3.1 ≠ 0 then
  (fX2_expression_b38 th kS (fX2_expression_b5 th kS n) x1 nx nx (124 : Int32) K9 P10 (nx + 1) (sl + 3))
  else
  (fX2_expression_b38 th kS (fX2_expression_b5 th kS n) x1 nx nx (38 : Int32) K9 P10 (nx + 1) (sl + 3)))
  else
  (some (.inl (x1, K, r3.2, nx, sl)))
set_option maxHeartbeats 4000000 in
theorem wfX2_expression_b5 {E : mm_E} {FR LC FRS LCS : Nat} (hFR : FRS + 4 ≤ FR) (hFb : 8 ≤ FR) (hLC : LCS + 89 ≤ LC) (hLb : 176 ≤ LC) (C : mm_Cx E RX2 cX2_expression 3 (some (.object "PegLaws$Expression")) FR LC) {th : Nat} (hT : ∀ z ∈ (eC E).exceptionTable.toList, False) {kS : (mm_K → mm_P → Nat → Nat → Option (mm_X (Nat × mm_S)))} (hkS : ∀  (K : mm_K) (P : mm_P) (nx sl : Nat) (r : (mm_X (Nat × mm_S))), K.1 th = 2 → kS  K P nx sl = some r → mm_CX (eL E) yX2_part (ws_ yX2_part cX2_part 5 (some (.object "PegLaws$Expression"))) FRS LCS [.ref th] K P nx sl (mm_wX mm_waR r)) : ∀ (n : Nat), ∀ (x1 : Nat) (K : mm_K) (P : mm_P) (nx : Nat) (sl : Nat), mm_V E ((mm_wX mm_waR)) 5 [some (.ref th), some (.ref x1), none] [] K P nx sl (fX2_expression_b5 th kS n x1 K P nx sl) := by
  intro n
  induction n with
  | zero => intro x1 K P nx sl; exact r_none
  | succ n ih =>
    intro x1 K P nx sl
    rw [fX2_expression_b5]
    refine r_aload_n C dX2_expression_5 rfl rfl ?_
    refine r_ldcSw (i := 8) (tx := "and or ") C (by decide) (by decide) dX2_expression_6 fun b1 h2 => ?_
    refine r_gd fun hK5 => ?_
    refine r_bd fun r3 h4 => ?_
    refine r_callV (As := [.ref b1]) (st := []) C (mc_X2_which hK5 h4) cv_X2_71 hK5 rfl (by omega) (by omega) rfl (Nat.le_of_ble_eq_true rfl) dX2_expression_9 ?_
    refine r_istore_n (ls' := [some (.ref th), some (.ref x1), some (.int r3.1)]) C dX2_expression_12 rfl (Nat.le_of_ble_eq_true rfl) rfl rfl ?_
    refine r_iload_n C dX2_expression_13 rfl rfl ?_
    refine r_ifge (tgt := 19) C dX2_expression_14 (by decide) (fun h6 => ?_) (fun h6 => ?_)
    · refine r_aload_n C dX2_expression_19 rfl rfl ?_
      refine r_bd fun r7 h8 => ?_
      refine r_callVv (As := []) (st := []) C (mc_X2_next hK5 h8) cv_X2_25 hK5 rfl (by omega) (by omega) rfl (Nat.le_of_ble_eq_true rfl) dX2_expression_20 ?_
      refine r_new C nl_X2_265 dX2_expression_23 ?_
      refine r_ltK fun K9 e11 => ?_
      refine r_ltP fun P10 => ?_
      refine r_dup C dX2_expression_26 rfl ?_
      refine r_iload_n C dX2_expression_27 rfl rfl ?_
      refine r_ifne (tgt := 36) C dX2_expression_28 (by decide) (fun h12 => ?_) (fun h12 => ?_)
      · refine r_bipush (v := 124) C dX2_expression_36 rfl ?_
        refine r_mask [true, true, false] (ls' := [some (.ref th), some (.ref x1), none]) rfl ?_
        exact wfX2_expression_b38 hFR hFb hLC hLb C hT hkS ih x1 nx nx (124 : Int32) K9 P10 (nx + 1) (sl + 3)
      · refine r_bipush (v := 38) C dX2_expression_31 rfl ?_
        refine r_goto (tgt := 38) C dX2_expression_33 (by decide) ?_
        refine r_mask [true, true, false] (ls' := [some (.ref th), some (.ref x1), none]) rfl ?_
        exact wfX2_expression_b38 hFR hFb hLC hLb C hT hkS ih x1 nx nx (38 : Int32) K9 P10 (nx + 1) (sl + 3)
    · refine r_aload_n C dX2_expression_17 rfl rfl ?_
      exact r_aretR C (Or.inl ⟨_, rfl⟩) dX2_expression_18 rfl
def fX2_expression (th : Nat) (kS : (mm_K → mm_P → Nat → Nat → Option (mm_X (Nat × mm_S))))  (K : mm_K) (P : mm_P) (nx : Nat) (sl : Nat) : Option (mm_X (Nat × mm_S)) :=
  mm_mo (mm_wX mm_waR) nx sl <|
  mm_bx (fX2_test th kS K P nx sl) fun r1 =>
  mm_mo (mm_wX mm_waR) r1.2.2.2.1 r1.2.2.2.2 <|
  fX2_expression_b5 th kS mm_NF r1.1 r1.2.1 r1.2.2.1 r1.2.2.2.1 r1.2.2.2.2
set_option maxHeartbeats 4000000 in
theorem mc_X2_expression {l : Launch} {FRS LCS : Nat} {K : mm_K} {P : mm_P} {th : Nat}  {nx sl : Nat} {kS : (mm_K → mm_P → Nat → Nat → Option (mm_X (Nat × mm_S)))} {r : (mm_X (Nat × mm_S))} (hk : K.1 th = 2) (hkS : ∀  (K : mm_K) (P : mm_P) (nx sl : Nat) (r : (mm_X (Nat × mm_S))), K.1 th = 2 → kS  K P nx sl = some r → mm_CX l yX2_part (ws_ yX2_part cX2_part 5 (some (.object "PegLaws$Expression"))) FRS LCS [.ref th] K P nx sl (mm_wX mm_waR r)) (h : fX2_expression th kS K P nx sl = some r) : mm_CX l yX2_expression (ws_ yX2_expression cX2_expression 3 (some (.object "PegLaws$Expression"))) (max (FRS + 4) 8) (max (LCS + 89) 176) [.ref th] K P nx sl ((mm_wX mm_waR) r) :=
  mm_startX (ls := [some (.ref th), none, none]) h (by decide) (Nat.le_of_ble_eq_true rfl) rfl (mm_mo_some h).2.1 (mm_mo_some h).2.2 fun E hl _ _ hT C => by
  have C : mm_Cx E RX2 cX2_expression 3 (some (.object "PegLaws$Expression")) (max (FRS + 4) 8) (max (LCS + 89) 176) := C
  generalize hFe : (max (FRS + 4) 8) = FR at C
  generalize hLe : (max (LCS + 89) 176) = LC at C
  have hFR : FRS + 4 ≤ FR := by omega
  have hFb : 8 ≤ FR := by omega
  have hLC : LCS + 89 ≤ LC := by omega
  have hLb : 176 ≤ LC := by omega
  clear hFe hLe h
  subst hl
  unfold fX2_expression
  refine r_mo ?_
  refine r_aload_n C dX2_expression_0 rfl rfl ?_
  refine r_bx (fun r1 h2 => ?_) (fun t3 h4 => ?_)
  · refine r_acallV (As := []) (st := []) C (mm_CX_n (mc_X2_test hk hkS h2) rfl) cv_X2_260 hk rfl (by omega) (by omega) rfl (Nat.le_of_ble_eq_true rfl) dX2_expression_1 ?_
    refine r_astore_n (ls' := [some (.ref th), some (.ref r1.1), none]) C dX2_expression_4 rfl (Nat.le_of_ble_eq_true rfl) rfl rfl ?_
    exact wfX2_expression_b5 hFR hFb hLC hLb C hT hkS mm_NF r1.1 r1.2.1 r1.2.2.1 r1.2.2.2.1 r1.2.2.2.2
  · exact r_thrV (As := []) (st := []) C (fun z hz => (hT z hz).elim) (mm_CX_t (mc_X2_test hk hkS h4) rfl) cv_X2_260 hk rfl (by omega) (by omega) rfl (Nat.le_of_ble_eq_true rfl) dX2_expression_1 rfl rfl
theorem nl_X2_283 : mm_NL RX2 283 11 1 := ⟨RX12, TX12, _, tyX12, rfl, in_X12, rfl, by decide +kernel, q1029, q1030, q162, tyX12_ok, rfl⟩
theorem nl_X2_286 : mm_NL RX2 286 12 1 := ⟨RX13, TX13, _, tyX13, rfl, in_X13, rfl, by decide +kernel, q1042, q1043, q163, tyX13_ok, rfl⟩
theorem nl_X2_289 : mm_NL RX2 289 13 1 := ⟨RX14, TX14, _, tyX14, rfl, in_X14, rfl, by decide +kernel, q1052, q1053, q164, tyX14_ok, rfl⟩
theorem cv_X2_157 : mm_CV RX2 157 yX2_need_2 cX2_need_2 2 none 1 2 := ⟨RX2, TX2, 8, _, lw_V q1062 q1064 qs26 q134 q1065, ⟨rfl, by decide +kernel, by decide +kernel, by decide +kernel⟩, rfl, rfl⟩
theorem cv_X2_189 : mm_CV RX2 189 yX2_expression cX2_expression 3 (some (.object "PegLaws$Expression")) 0 2 := ⟨RX2, TX2, 8, _, lw_V q1007 q1009 qs21 q134 q1010, ⟨rfl, by decide +kernel, by decide +kernel, by decide +kernel⟩, rfl, rfl⟩
theorem cv_X2_285 : mm_CI RX2 285 yX12_init cX12_init 2 1 := ⟨q1033, q162, q1031, q1032, rfl, ⟨by decide +kernel, by decide +kernel, by decide +kernel⟩⟩
theorem cv_X2_288 : mm_CI RX2 288 yX13_init cX13_init 2 1 := ⟨q1046, q163, q1044, q1045, rfl, ⟨by decide +kernel, by decide +kernel, by decide +kernel⟩⟩
theorem cv_X2_291 : mm_CI RX2 291 yX14_init cX14_init 2 1 := ⟨q1056, q164, q1054, q1055, rfl, ⟨by decide +kernel, by decide +kernel, by decide +kernel⟩⟩
/-! X2 part -/
def fX2_part_b156 (th : Nat) (kS : (mm_K → mm_P → Nat → Nat → Option (mm_X (Nat × mm_S))))  (x4 : Nat) (K : mm_K) (P : mm_P) (nx : Nat) (sl : Nat) : Option (mm_X (Nat × mm_S)) :=
  mm_gd (K.1 th = 2) <|
  mm_lt (sI P 262 th ((gI P 262 th) - (1 : Int32))) fun P2 =>
  some (.inl (x4, K, P2, nx, sl))
set_option maxHeartbeats 4000000 in
theorem wfX2_part_b156 {E : mm_E} {FR LC FRS LCS : Nat} (hFR : FRS + 5 ≤ FR) (hFb : 9 ≤ FR) (hLC : LCS + 111 ≤ LC) (hLb : 198 ≤ LC) (C : mm_Cx E RX2 cX2_part 5 (some (.object "PegLaws$Expression")) FR LC) {th : Nat} (hT : ∀ z ∈ (eC E).exceptionTable.toList, False) {kS : (mm_K → mm_P → Nat → Nat → Option (mm_X (Nat × mm_S)))} (hkS : ∀  (K : mm_K) (P : mm_P) (nx sl : Nat) (r : (mm_X (Nat × mm_S))), K.1 th = 2 → kS  K P nx sl = some r → mm_CX (eL E) yX2_part (ws_ yX2_part cX2_part 5 (some (.object "PegLaws$Expression"))) FRS LCS [.ref th] K P nx sl (mm_wX mm_waR r)) (x4 : Nat) (K : mm_K) (P : mm_P) (nx : Nat) (sl : Nat) : mm_V E ((mm_wX mm_waR)) 156 [some (.ref th), none, none, none, some (.ref x4)] [] K P nx sl (fX2_part_b156 th kS x4 K P nx sl) := by
  unfold fX2_part_b156
  refine r_aload_n C dX2_part_156 rfl rfl ?_
  refine r_dup C dX2_part_157 rfl ?_
  refine r_gd fun hK1 => ?_
  refine r_getI (code := 262) C fl_X2_22 hK1 rfl dX2_part_158 ?_
  refine r_iconst (v := 1) C dX2_part_161 rfl ?_
  refine r_isub C dX2_part_162 ?_
  refine r_putI (code := 262) C fl_X2_22 hK1 rfl rfl dX2_part_163 ?_
  refine r_ltP fun P2 => ?_
  refine r_aload C dX2_part_166 rfl ?_
  exact r_aretR C (Or.inl ⟨_, rfl⟩) dX2_part_168 rfl
def fX2_part_b144 (th : Nat) (kS : (mm_K → mm_P → Nat → Nat → Option (mm_X (Nat × mm_S))))  (x3 : Int32) (s0 : Nat) (K : mm_K) (P : mm_P) (nx : Nat) (sl : Nat) : Option (mm_X (Nat × mm_S)) :=
  if x3 = 0 then
  (fX2_part_b156 th kS s0 K P nx sl)
  else
  (mm_gd (K.1 th = 2) <|
  mm_bx (fX2_need_2 th (41 : Int32) K P nx sl) fun r2 =>
  mm_mo (mm_wX mm_waR) r2.2.2.1 r2.2.2.2 <|
  fX2_part_b156 th kS s0 r2.1 r2.2.1 r2.2.2.1 r2.2.2.2)
set_option maxHeartbeats 4000000 in
theorem wfX2_part_b144 {E : mm_E} {FR LC FRS LCS : Nat} (hFR : FRS + 5 ≤ FR) (hFb : 9 ≤ FR) (hLC : LCS + 111 ≤ LC) (hLb : 198 ≤ LC) (C : mm_Cx E RX2 cX2_part 5 (some (.object "PegLaws$Expression")) FR LC) {th : Nat} (hT : ∀ z ∈ (eC E).exceptionTable.toList, False) {kS : (mm_K → mm_P → Nat → Nat → Option (mm_X (Nat × mm_S)))} (hkS : ∀  (K : mm_K) (P : mm_P) (nx sl : Nat) (r : (mm_X (Nat × mm_S))), K.1 th = 2 → kS  K P nx sl = some r → mm_CX (eL E) yX2_part (ws_ yX2_part cX2_part 5 (some (.object "PegLaws$Expression"))) FRS LCS [.ref th] K P nx sl (mm_wX mm_waR r)) (x3 : Int32) (s0 : Nat) (K : mm_K) (P : mm_P) (nx : Nat) (sl : Nat) : mm_V E ((mm_wX mm_waR)) 144 [some (.ref th), none, none, some (.int x3), none] [.ref s0] K P nx sl (fX2_part_b144 th kS x3 s0 K P nx sl) := by
  unfold fX2_part_b144
  refine r_astore (ls' := [some (.ref th), none, none, some (.int x3), some (.ref s0)]) C dX2_part_144 (Nat.le_of_ble_eq_true rfl) rfl rfl ?_
  refine r_iload_n C dX2_part_146 rfl rfl ?_
  refine r_ifeq (tgt := 156) C dX2_part_147 (by decide) (fun h1 => ?_) (fun h1 => ?_)
  · refine r_mask [true, true, true, false, true] (ls' := [some (.ref th), none, none, none, some (.ref s0)]) rfl ?_
    exact wfX2_part_b156 hFR hFb hLC hLb C hT hkS s0 K P nx sl
  · refine r_aload_n C dX2_part_150 rfl rfl ?_
    refine r_bipush (v := 41) C dX2_part_151 rfl ?_
    refine r_gd fun hK4 => ?_
    refine r_bx (fun r2 h3 => ?_) (fun t5 h6 => ?_)
    · refine r_acallVv (As := [.int (41 : Int32)]) (st := []) C (mm_CX_n (mc_X2_need_2 hK4 h3) rfl) cv_X2_157 hK4 rfl (by omega) (by omega) rfl (Nat.le_of_ble_eq_true rfl) dX2_part_153 ?_
      refine r_mask [true, true, true, false, true] (ls' := [some (.ref th), none, none, none, some (.ref s0)]) rfl ?_
      exact wfX2_part_b156 hFR hFb hLC hLb C hT hkS s0 r2.1 r2.2.1 r2.2.2.1 r2.2.2.2
    · exact r_thrV (As := [.int (41 : Int32)]) (st := []) C (fun z hz => (hT z hz).elim) (mm_CX_t (mc_X2_need_2 hK4 h6) rfl) cv_X2_157 hK4 rfl (by omega) (by omega) rfl (Nat.le_of_ble_eq_true rfl) dX2_part_153 rfl rfl
def fX2_part_b57 (th : Nat) (kS : (mm_K → mm_P → Nat → Nat → Option (mm_X (Nat × mm_S))))  (x1 : Int32) (x2 : Int32) (x3 : Int32) (K : mm_K) (P : mm_P) (nx : Nat) (sl : Nat) : Option (mm_X (Nat × mm_S)) :=
  mm_gd (K.1 th = 2) <|
  if (gI P 262 th) ≠ (5 : Int32) then
  (if (gI P 259 th) ≠ (2 : Int32) then
  (mm_bd (fX2_next K th P) fun r4 =>
  if x1 < 0 then
  (mm_lt (sI r4 262 th ((gI r4 262 th) + (1 : Int32))) fun P7 =>
  if x2 = 0 then
  (mm_bx (fX2_expression th kS K P7 nx sl) fun r9 =>
  mm_mo (mm_wX mm_waR) r9.2.2.2.1 r9.2.2.2.2 <|
  fX2_part_b144 th kS x3 r9.1 r9.2.1 r9.2.2.1 r9.2.2.2.1 r9.2.2.2.2)
  else
  (mm_mo (mm_wX mm_waR) (nx + 1) (sl + 1) <|
  mm_lt (mm_kn K nx 13 0) fun K13 =>
  mm_lt (mm_fresh P7 nx) fun P14 =>
  mm_gd (K13.1 th = 2) <|
  mm_bx (kS K13 P14 (nx + 1) (sl + 1)) fun r16 =>
  mm_mo (mm_wX mm_waR) r16.2.2.2.1 r16.2.2.2.2 <|
  mm_gd (r16.2.1.1 nx = 13) <|
  mm_bd (fX14_init nx r16.1 r16.2.2.1) fun r21 =>
  fX2_part_b144 th kS x3 nx r16.2.1 r21 r16.2.2.2.1 r16.2.2.2.2))
  else
  (mm_mo (mm_wX mm_waR) (nx + 1) (sl + 1) <|
  mm_lt (mm_kn K nx 12 0) fun K24 =>
  mm_lt (mm_fresh r4 nx) fun P25 =>
  mm_bd (fX13_init nx x1 P25) fun r27 =>
  some (.inl (nx, K24, r27, nx + 1, sl + 1))))
  else
  (mm_mo (mm_wX mm_waR) (nx + 1) (sl + 1) <|
  mm_lt (mm_kn K nx 11 0) fun K29 =>
  mm_lt (mm_fresh P nx) fun P30 =>
  mm_gd (K29.1 th = 2) <|
  mm_bx (fX2_number_2 th (0 : Int32) (9999 : Int32) K29 P30 (nx + 1) (sl + 1)) fun r32 =>
  mm_mo (mm_wX mm_waR) r32.2.2.2.1 r32.2.2.2.2 <|
  mm_gd (r32.2.1.1 nx = 11) <|
  mm_bd (fX12_init nx r32.1 r32.2.2.1) fun r37 =>
  some (.inl (nx, r32.2.1, r37, r32.2.2.2.1, r32.2.2.2.2))))
  else
  (mm_bd (fX2_wrong th (5 : Int32) K P nx sl) fun r40 =>
  mm_mo (mm_wX mm_waR) r40.2.2.2.1 r40.2.2.2.2 <|
  some (.inr (r40.1, r40.2.1, r40.2.2.1, r40.2.2.2.1, r40.2.2.2.2)))
set_option maxHeartbeats 4000000 in
theorem wfX2_part_b57 {E : mm_E} {FR LC FRS LCS : Nat} (hFR : FRS + 5 ≤ FR) (hFb : 9 ≤ FR) (hLC : LCS + 111 ≤ LC) (hLb : 198 ≤ LC) (C : mm_Cx E RX2 cX2_part 5 (some (.object "PegLaws$Expression")) FR LC) {th : Nat} (hT : ∀ z ∈ (eC E).exceptionTable.toList, False) {kS : (mm_K → mm_P → Nat → Nat → Option (mm_X (Nat × mm_S)))} (hkS : ∀  (K : mm_K) (P : mm_P) (nx sl : Nat) (r : (mm_X (Nat × mm_S))), K.1 th = 2 → kS  K P nx sl = some r → mm_CX (eL E) yX2_part (ws_ yX2_part cX2_part 5 (some (.object "PegLaws$Expression"))) FRS LCS [.ref th] K P nx sl (mm_wX mm_waR r)) (x1 : Int32) (x2 : Int32) (x3 : Int32) (K : mm_K) (P : mm_P) (nx : Nat) (sl : Nat) : mm_V E ((mm_wX mm_waR)) 57 [some (.ref th), some (.int x1), some (.int x2), some (.int x3), none] [] K P nx sl (fX2_part_b57 th kS x1 x2 x3 K P nx sl) := by
  unfold fX2_part_b57
  refine r_aload_n C dX2_part_57 rfl rfl ?_
  refine r_gd fun hK1 => ?_
  refine r_getI (code := 262) C fl_X2_22 hK1 rfl dX2_part_58 ?_
  refine r_iconst (v := 5) C dX2_part_61 rfl ?_
  refine r_icmpne (tgt := 71) C dX2_part_62 (by decide) (fun h2 => ?_) (fun h2 => ?_)
  · refine r_aload_n C dX2_part_71 rfl rfl ?_
    refine r_getI (code := 259) C fl_X2_31 hK1 rfl dX2_part_72 ?_
    refine r_iconst (v := 2) C dX2_part_75 rfl ?_
    refine r_icmpne (tgt := 95) C dX2_part_76 (by decide) (fun h3 => ?_) (fun h3 => ?_)
    · refine r_aload_n C dX2_part_95 rfl rfl ?_
      refine r_bd fun r4 h5 => ?_
      refine r_callVv (As := []) (st := []) C (mc_X2_next hK1 h5) cv_X2_25 hK1 rfl (by omega) (by omega) rfl (Nat.le_of_ble_eq_true rfl) dX2_part_96 ?_
      refine r_iload_n C dX2_part_99 rfl rfl ?_
      refine r_iflt (tgt := 112) C dX2_part_100 (by decide) (fun h6 => ?_) (fun h6 => ?_)
      · refine r_aload_n C dX2_part_112 rfl rfl ?_
        refine r_dup C dX2_part_113 rfl ?_
        refine r_getI (code := 262) C fl_X2_22 hK1 rfl dX2_part_114 ?_
        refine r_iconst (v := 1) C dX2_part_117 rfl ?_
        refine r_iadd C dX2_part_118 ?_
        refine r_putI (code := 262) C fl_X2_22 hK1 rfl rfl dX2_part_119 ?_
        refine r_ltP fun P7 => ?_
        refine r_iload_n C dX2_part_122 rfl rfl ?_
        refine r_ifeq (tgt := 140) C dX2_part_123 (by decide) (fun h8 => ?_) (fun h8 => ?_)
        · refine r_aload_n C dX2_part_140 rfl rfl ?_
          refine r_bx (fun r9 h10 => ?_) (fun t11 h12 => ?_)
          · refine r_acallV (As := []) (st := []) C (mm_CX_n (mc_X2_expression hK1 hkS h10) rfl) cv_X2_189 hK1 rfl (by omega) (by omega) rfl (Nat.le_of_ble_eq_true rfl) dX2_part_141 ?_
            refine r_mask [true, false, false, true, true] (ls' := [some (.ref th), none, none, some (.int x3), none]) rfl ?_
            exact wfX2_part_b144 hFR hFb hLC hLb C hT hkS x3 r9.1 r9.2.1 r9.2.2.1 r9.2.2.2.1 r9.2.2.2.2
          · exact r_thrV (As := []) (st := []) C (fun z hz => (hT z hz).elim) (mm_CX_t (mc_X2_expression hK1 hkS h12) rfl) cv_X2_189 hK1 rfl (by omega) (by omega) rfl (Nat.le_of_ble_eq_true rfl) dX2_part_141 rfl rfl
        · refine r_new C nl_X2_289 dX2_part_126 ?_
          refine r_ltK fun K13 e15 => ?_
          refine r_ltP fun P14 => ?_
          refine r_dup C dX2_part_129 rfl ?_
          refine r_aload_n C dX2_part_130 rfl rfl ?_
          refine r_gd fun hK18 => ?_
          refine r_bx (fun r16 h17 => ?_) (fun t19 h20 => ?_)
          · refine r_acallV (As := []) (st := [.ref nx, .ref nx]) C (mm_CX_n (hkS _ _ _ _ _ hK18 h17) rfl) cv_X2_276 hK18 rfl (by omega) (by omega) rfl (Nat.le_of_ble_eq_true rfl) dX2_part_131 ?_
            refine r_gd fun hK23 => ?_
            refine r_bd fun r21 h22 => ?_
            refine r_callIv (As := [.ref r16.1]) (st := [.ref nx]) C (mc_X14_init hK23 h22) cv_X2_291  rfl (by omega) (by omega) rfl (Nat.le_of_ble_eq_true rfl) dX2_part_134 ?_
            refine r_goto (tgt := 144) C dX2_part_137 (by decide) ?_
            refine r_mask [true, false, false, true, true] (ls' := [some (.ref th), none, none, some (.int x3), none]) rfl ?_
            exact wfX2_part_b144 hFR hFb hLC hLb C hT hkS x3 nx r16.2.1 r21 r16.2.2.2.1 r16.2.2.2.2
          · exact r_thrV (As := []) (st := [.ref nx, .ref nx]) C (fun z hz => (hT z hz).elim) (mm_CX_t (hkS _ _ _ _ _ hK18 h20) rfl) cv_X2_276 hK18 rfl (by omega) (by omega) rfl (Nat.le_of_ble_eq_true rfl) dX2_part_131 rfl rfl
      · refine r_new C nl_X2_286 dX2_part_103 ?_
        refine r_ltK fun K24 e26 => ?_
        refine r_ltP fun P25 => ?_
        refine r_dup C dX2_part_106 rfl ?_
        refine r_iload_n C dX2_part_107 rfl rfl ?_
        refine r_bd fun r27 h28 => ?_
        refine r_callIv (As := [.int x1]) (st := [.ref nx]) C (mc_X13_init (by rw [e26]; exact mm_kn_1) h28) cv_X2_288  rfl (by omega) (by omega) rfl (Nat.le_of_ble_eq_true rfl) dX2_part_108 ?_
        exact r_aretR C (Or.inl ⟨_, rfl⟩) dX2_part_111 rfl
    · refine r_new C nl_X2_283 dX2_part_79 ?_
      refine r_ltK fun K29 e31 => ?_
      refine r_ltP fun P30 => ?_
      refine r_dup C dX2_part_82 rfl ?_
      refine r_aload_n C dX2_part_83 rfl rfl ?_
      refine r_iconst (v := 0) C dX2_part_84 rfl ?_
      refine r_sipush (v := 9999) C dX2_part_85 rfl ?_
      refine r_gd fun hK34 => ?_
      refine r_bx (fun r32 h33 => ?_) (fun t35 h36 => ?_)
      · refine r_acallV (As := [.int (0 : Int32), .int (9999 : Int32)]) (st := [.ref nx, .ref nx]) C (mm_CX_n (mc_X2_number_2 hK34 h33) rfl) cv_X2_102 hK34 rfl (by omega) (by omega) rfl (Nat.le_of_ble_eq_true rfl) dX2_part_88 ?_
        refine r_gd fun hK39 => ?_
        refine r_bd fun r37 h38 => ?_
        refine r_callIv (As := [.int r32.1]) (st := [.ref nx]) C (mc_X12_init hK39 h38) cv_X2_285  rfl (by omega) (by omega) rfl (Nat.le_of_ble_eq_true rfl) dX2_part_91 ?_
        exact r_aretR C (Or.inl ⟨_, rfl⟩) dX2_part_94 rfl
      · exact r_thrV (As := [.int (0 : Int32), .int (9999 : Int32)]) (st := [.ref nx, .ref nx]) C (fun z hz => (hT z hz).elim) (mm_CX_t (mc_X2_number_2 hK34 h36) rfl) cv_X2_102 hK34 rfl (by omega) (by omega) rfl (Nat.le_of_ble_eq_true rfl) dX2_part_88 rfl rfl
  · refine r_aload_n C dX2_part_65 rfl rfl ?_
    refine r_iconst (v := 5) C dX2_part_66 rfl ?_
    refine r_bd fun r40 h41 => ?_
    refine r_acallV (As := [.int (5 : Int32)]) (st := []) C (mc_X2_wrong hK1 h41) cv_X2_75 hK1 rfl (by omega) (by omega) rfl (Nat.le_of_ble_eq_true rfl) dX2_part_67 ?_
    exact r_athrow C (fun z hz => (hT z hz).elim) dX2_part_70 rfl
def fX2_part_b23 (th : Nat) (kS : (mm_K → mm_P → Nat → Nat → Option (mm_X (Nat × mm_S))))  (x1 : Int32) (s0 : Int32) (K : mm_K) (P : mm_P) (nx : Nat) (sl : Nat) : Option (mm_X (Nat × mm_S)) :=
  mm_gd (K.1 th = 2) <|
  mm_bd (fX2_isSign K th P (40 : Int32)) fun r1 =>
  if 0 ≤ x1 then
  (fX2_part_b57 th kS x1 s0 r1 K P nx sl)
  else
  (if s0 ≠ 0 then
  (fX2_part_b57 th kS x1 s0 r1 K P nx sl)
  else
  (if r1 ≠ 0 then
  (fX2_part_b57 th kS x1 s0 r1 K P nx sl)
  else
  (if (gI P 259 th) = (2 : Int32) then
  (fX2_part_b57 th kS x1 s0 r1 K P nx sl)
  else
  (mm_bd (fX2_wrong th (1 : Int32) K P nx sl) fun r8 =>
  mm_mo (mm_wX mm_waR) r8.2.2.2.1 r8.2.2.2.2 <|
  some (.inr (r8.1, r8.2.1, r8.2.2.1, r8.2.2.2.1, r8.2.2.2.2))))))
set_option maxHeartbeats 4000000 in
theorem wfX2_part_b23 {E : mm_E} {FR LC FRS LCS : Nat} (hFR : FRS + 5 ≤ FR) (hFb : 9 ≤ FR) (hLC : LCS + 111 ≤ LC) (hLb : 198 ≤ LC) (C : mm_Cx E RX2 cX2_part 5 (some (.object "PegLaws$Expression")) FR LC) {th : Nat} (hT : ∀ z ∈ (eC E).exceptionTable.toList, False) {kS : (mm_K → mm_P → Nat → Nat → Option (mm_X (Nat × mm_S)))} (hkS : ∀  (K : mm_K) (P : mm_P) (nx sl : Nat) (r : (mm_X (Nat × mm_S))), K.1 th = 2 → kS  K P nx sl = some r → mm_CX (eL E) yX2_part (ws_ yX2_part cX2_part 5 (some (.object "PegLaws$Expression"))) FRS LCS [.ref th] K P nx sl (mm_wX mm_waR r)) (x1 : Int32) (s0 : Int32) (K : mm_K) (P : mm_P) (nx : Nat) (sl : Nat) : mm_V E ((mm_wX mm_waR)) 23 [some (.ref th), some (.int x1), none, none, none] [.int s0] K P nx sl (fX2_part_b23 th kS x1 s0 K P nx sl) := by
  unfold fX2_part_b23
  refine r_istore_n (ls' := [some (.ref th), some (.int x1), some (.int s0), none, none]) C dX2_part_23 rfl (Nat.le_of_ble_eq_true rfl) rfl rfl ?_
  refine r_aload_n C dX2_part_24 rfl rfl ?_
  refine r_bipush (v := 40) C dX2_part_25 rfl ?_
  refine r_gd fun hK3 => ?_
  refine r_bd fun r1 h2 => ?_
  refine r_callV (As := [.int (40 : Int32)]) (st := []) C (mc_X2_isSign hK3 h2) cv_X2_79 hK3 rfl (by omega) (by omega) rfl (Nat.le_of_ble_eq_true rfl) dX2_part_27 ?_
  refine r_istore_n (ls' := [some (.ref th), some (.int x1), some (.int s0), some (.int r1), none]) C dX2_part_30 rfl (Nat.le_of_ble_eq_true rfl) rfl rfl ?_
  refine r_iload_n C dX2_part_31 rfl rfl ?_
  refine r_ifge (tgt := 57) C dX2_part_32 (by decide) (fun h4 => ?_) (fun h4 => ?_)
  · exact wfX2_part_b57 hFR hFb hLC hLb C hT hkS x1 s0 r1 K P nx sl
  · refine r_iload_n C dX2_part_35 rfl rfl ?_
    refine r_ifne (tgt := 57) C dX2_part_36 (by decide) (fun h5 => ?_) (fun h5 => ?_)
    · exact wfX2_part_b57 hFR hFb hLC hLb C hT hkS x1 s0 r1 K P nx sl
    · refine r_iload_n C dX2_part_39 rfl rfl ?_
      refine r_ifne (tgt := 57) C dX2_part_40 (by decide) (fun h6 => ?_) (fun h6 => ?_)
      · exact wfX2_part_b57 hFR hFb hLC hLb C hT hkS x1 s0 r1 K P nx sl
      · refine r_aload_n C dX2_part_43 rfl rfl ?_
        refine r_getI (code := 259) C fl_X2_31 hK3 rfl dX2_part_44 ?_
        refine r_iconst (v := 2) C dX2_part_47 rfl ?_
        refine r_icmpeq (tgt := 57) C dX2_part_48 (by decide) (fun h7 => ?_) (fun h7 => ?_)
        · exact wfX2_part_b57 hFR hFb hLC hLb C hT hkS x1 s0 r1 K P nx sl
        · refine r_aload_n C dX2_part_51 rfl rfl ?_
          refine r_iconst (v := 1) C dX2_part_52 rfl ?_
          refine r_bd fun r8 h9 => ?_
          refine r_acallV (As := [.int (1 : Int32)]) (st := []) C (mc_X2_wrong hK3 h9) cv_X2_75 hK3 rfl (by omega) (by omega) rfl (Nat.le_of_ble_eq_true rfl) dX2_part_53 ?_
          exact r_athrow C (fun z hz => (hT z hz).elim) dX2_part_56 rfl
def fX2_part_o (th : Nat) (kS : (mm_K → mm_P → Nat → Nat → Option (mm_X (Nat × mm_S))))  (K : mm_K) (P : mm_P) (nx : Nat) (sl : Nat) : Option (mm_X (Nat × mm_S)) :=
  mm_mo (mm_wX mm_waR) nx sl <|
  mm_bd (gR P 19 0) fun b1 =>
  mm_bd (fX2_which K th b1 P) fun r3 =>
  mm_bd (gR r3.2 20 0) fun b5 =>
  mm_bd (fX2_which K th b5 r3.2) fun r7 =>
  if r7.1 < 0 then
  (fX2_part_b23 th kS r3.1 (0 : Int32) K r7.2 nx sl)
  else
  (fX2_part_b23 th kS r3.1 (1 : Int32) K r7.2 nx sl)
def fX2_part (th : Nat) : Nat → mm_K → mm_P → Nat → Nat → Option (mm_X (Nat × mm_S))
  | 0, _, _, _, _ => none
  | d + 1, K, P, nx, sl => fX2_part_o th (fX2_part th d) K P nx sl
set_option maxHeartbeats 4000000 in
theorem mc_X2_part {l : Launch} {th : Nat} : ∀ (d : Nat)  {K : mm_K} {P : mm_P} {nx : Nat} {sl : Nat} {r : (mm_X (Nat × mm_S))} (hk : K.1 th = 2) (_ : fX2_part th d K P nx sl = some r), mm_CX l yX2_part (ws_ yX2_part cX2_part 5 (some (.object "PegLaws$Expression"))) (5 * d + 9) (111 * d + 198) [.ref th] K P nx sl ((mm_wX mm_waR) r) := by
  intro d
  induction d with
  | zero => intro K P nx sl r hk h; cases h
  | succ d ih =>
  intro K P nx sl r hk h
  refine mm_startX (ls := [some (.ref th), none, none, none, none]) (x := fX2_part_o th (fX2_part th d) K P nx sl) h (by decide) (Nat.le_of_ble_eq_true rfl) rfl (mm_mo_some h).2.1 (mm_mo_some h).2.2 fun E hl _ _ hT C => ?_
  have C : mm_Cx E RX2 cX2_part 5 (some (.object "PegLaws$Expression")) (5 * (d + 1) + 9) (111 * (d + 1) + 198) := C
  generalize hFe : (5 * (d + 1) + 9) = FR at C
  generalize hLe : (111 * (d + 1) + 198) = LC at C
  generalize hFs : (5 * d + 9) = FRS at ih
  generalize hLs : (111 * d + 198) = LCS at ih
  have hFR : FRS + 5 ≤ FR := by omega
  have hFb : 9 ≤ FR := by omega
  have hLC : LCS + 111 ≤ LC := by omega
  have hLb : 198 ≤ LC := by omega
  subst hl
  have hkS := fun K P nx sl r (hk : K.1 th = 2) (hq : fX2_part th d K P nx sl = some r) => ih hk hq
  clear hFe hLe h hFs hLs ih
  generalize fX2_part th d = kS at hkS ⊢
  unfold fX2_part_o
  refine r_mo ?_
  refine r_aload_n C dX2_part_0 rfl rfl ?_
  refine r_ldcSw (i := 9) (tx := "wind mass size ") C (by decide) (by decide) dX2_part_1 fun b1 h2 => ?_
  refine r_bd fun r3 h4 => ?_
  refine r_callV (As := [.ref b1]) (st := []) C (mc_X2_which hk h4) cv_X2_71 hk rfl (by omega) (by omega) rfl (Nat.le_of_ble_eq_true rfl) dX2_part_4 ?_
  refine r_istore_n (ls' := [some (.ref th), some (.int r3.1), none, none, none]) C dX2_part_7 rfl (Nat.le_of_ble_eq_true rfl) rfl rfl ?_
  refine r_aload_n C dX2_part_8 rfl rfl ?_
  refine r_ldcSw (i := 10) (tx := "not ") C (by decide) (by decide) dX2_part_9 fun b5 h6 => ?_
  refine r_bd fun r7 h8 => ?_
  refine r_callV (As := [.ref b5]) (st := []) C (mc_X2_which hk h8) cv_X2_71 hk rfl (by omega) (by omega) rfl (Nat.le_of_ble_eq_true rfl) dX2_part_12 ?_
  refine r_iflt (tgt := 22) C dX2_part_15 (by decide) (fun h9 => ?_) (fun h9 => ?_)
  · refine r_iconst (v := 0) C dX2_part_22 rfl ?_
    exact wfX2_part_b23 hFR hFb hLC hLb C hT hkS r3.1 (0 : Int32) K r7.2 nx sl
  · refine r_iconst (v := 1) C dX2_part_18 rfl ?_
    refine r_goto (tgt := 23) C dX2_part_19 (by decide) ?_
    exact wfX2_part_b23 hFR hFb hLC hLb C hT hkS r3.1 (1 : Int32) K r7.2 nx sl
theorem fl_X2_166 : mm_FL RX2 166 3 1 (mm_a 3 0 8) (tyX3 1) true := ⟨RX3, TX3, 11, _, tyX3, rfl, in_X3, rfl, rfl, Nat.le_of_ble_eq_true rfl, Or.inr (Or.inl ⟨_, nw_in q254 rfl⟩), tyX3_ok, nmX3, rfl, rfl⟩
theorem fl_X2_174 : mm_FL RX2 174 3 2 (mm_a 4 0 12) (tyX3 2) true := ⟨RX3, TX3, 11, _, tyX3, rfl, in_X3, rfl, rfl, Nat.le_of_ble_eq_true rfl, Or.inr (Or.inl ⟨_, nw_in q256 rfl⟩), tyX3_ok, nmX3, rfl, rfl⟩
theorem fl_X2_179 : mm_FL RX2 179 3 3 (mm_a 5 0 6) (tyX3 3) true := ⟨RX3, TX3, 11, _, tyX3, rfl, in_X3, rfl, rfl, Nat.le_of_ble_eq_true rfl, Or.inr (Or.inl ⟨_, nw_in q258 rfl⟩), tyX3_ok, nmX3, rfl, rfl⟩
theorem fl_X2_186 : mm_FL RX2 186 3 6 mm_i .int false := ⟨RX3, TX3, 11, _, tyX3, rfl, in_X3, rfl, rfl, Nat.le_of_ble_eq_true rfl, Or.inr (Or.inl ⟨_, nw_in q265 rfl⟩), tyX3_ok, nmX3, rfl, rfl⟩
theorem cv_X2_163 : mm_CV RX2 163 yX2_comes cX2_comes 4 none 0 2 := ⟨RX2, TX2, 8, _, lw_V q658 q660 qs8 q134 q661, ⟨rfl, by decide +kernel, by decide +kernel, by decide +kernel⟩, rfl, rfl⟩
theorem cv_X2_170 : mm_CV RX2 170 yX2_row cX2_row 6 (some .int) 3 2 := ⟨RX2, TX2, 8, _, lw_V q985 q987 qs17 q134 q988, ⟨rfl, by decide +kernel, by decide +kernel, by decide +kernel⟩, rfl, rfl⟩
theorem cv_X2_177 : mm_CV RX2 177 yX2_cloth cX2_cloth 2 (some .int) 0 2 := ⟨RX2, TX2, 8, _, lw_V q1000 q1002 qs20 q134 q1003, ⟨rfl, by decide +kernel, by decide +kernel, by decide +kernel⟩, rfl, rfl⟩
theorem cv_X2_182 : mm_CSN RX2 182 yX1_isIn cX1_isIn 2 (some .boolean) 2 := ⟨⟨⟨_, nw_in q1004 rfl⟩, q1006, q133, ⟨by decide +kernel, by decide +kernel, by decide +kernel⟩⟩, q1005⟩
/-! X2 told -/
def fX2_told_b168 (th : Nat)  (K : mm_K) (P : mm_P) (nx : Nat) (sl : Nat) : Option (mm_X mm_S) :=
  mm_gd (K.1 th = 2) <|
  mm_bd (fX2_wrong th (3 : Int32) K P nx sl) fun r1 =>
  mm_mo (mm_wX mm_waV) r1.2.2.2.1 r1.2.2.2.2 <|
  some (.inr (r1.1, r1.2.1, r1.2.2.1, r1.2.2.2.1, r1.2.2.2.2))
set_option maxHeartbeats 4000000 in
theorem wfX2_told_b168 {E : mm_E} (C : mm_Cx E RX2 cX2_told 4 none 54 1197) {th : Nat} (hT : ∀ z ∈ (eC E).exceptionTable.toList, False) (K : mm_K) (P : mm_P) (nx : Nat) (sl : Nat) : mm_V E ((mm_wX mm_waV)) 168 [some (.ref th), none, none, none] [] K P nx sl (fX2_told_b168 th K P nx sl) := by
  unfold fX2_told_b168
  refine r_aload_n C dX2_told_168 rfl rfl ?_
  refine r_iconst (v := 3) C dX2_told_169 rfl ?_
  refine r_gd fun hK3 => ?_
  refine r_bd fun r1 h2 => ?_
  refine r_acallV (As := [.int (3 : Int32)]) (st := []) C (mc_X2_wrong hK3 h2) cv_X2_75 hK3 rfl (Nat.le_of_ble_eq_true rfl) (Nat.le_of_ble_eq_true rfl) rfl (Nat.le_of_ble_eq_true rfl) dX2_told_170 ?_
  exact r_athrow C (fun z hz => (hT z hz).elim) dX2_told_173 rfl
def fX2_told (th : Nat) (x1 : Int32) (K : mm_K) (P : mm_P) (nx : Nat) (sl : Nat) : Option (mm_X mm_S) :=
  mm_mo (mm_wX mm_waV) nx sl <|
  if x1 = (0 : Int32) then
  (mm_bx (fX2_comes th K P nx sl) fun r2 =>
  mm_mo (mm_wX mm_waV) r2.2.2.1 r2.2.2.2 <|
  some (.inl (r2.1, r2.2.1, r2.2.2.1, r2.2.2.2)))
  else
  (if x1 = (1 : Int32) then
  (mm_bd (gR P 263 th) fun b7 =>
  mm_bd (gR P 263 th) fun b9 =>
  mm_gd (K.1 b9 = 3) <|
  mm_bx (fX2_row th 385 b9 8 3 (1 : Int32) (9 : Int32) K P nx sl) fun r12 =>
  mm_mo (mm_wX mm_waV) r12.2.2.2.1 r12.2.2.2.2 <|
  mm_gd (r12.2.1.1 b7 = 3) <|
  mm_lt (sI r12.2.2.1 388 b7 r12.1) fun P17 =>
  some (.inl (r12.2.1, P17, r12.2.2.2.1, r12.2.2.2.2)))
  else
  (if x1 = (2 : Int32) then
  (mm_bd (gR P 263 th) fun b19 =>
  mm_bd (gR P 263 th) fun b21 =>
  mm_gd (K.1 b21 = 3) <|
  mm_bx (fX2_row th 386 b21 12 3 (0 : Int32) (9 : Int32) K P nx sl) fun r24 =>
  mm_mo (mm_wX mm_waV) r24.2.2.2.1 r24.2.2.2.2 <|
  mm_gd (r24.2.1.1 b19 = 3) <|
  mm_lt (sI r24.2.2.1 389 b19 r24.1) fun P29 =>
  some (.inl (r24.2.1, P29, r24.2.2.2.1, r24.2.2.2.2)))
  else
  (if x1 = (3 : Int32) then
  (mm_bd (gR P 263 th) fun b31 =>
  mm_bx (fX2_number_2 th (1 : Int32) (60 : Int32) K P nx sl) fun r33 =>
  mm_mo (mm_wX mm_waV) r33.2.2.2.1 r33.2.2.2.2 <|
  mm_gd (r33.2.1.1 b31 = 3) <|
  mm_lt (sI r33.2.2.1 391 b31 r33.1) fun P38 =>
  some (.inl (r33.2.1, P38, r33.2.2.2.1, r33.2.2.2.2)))
  else
  (if x1 = (4 : Int32) then
  (mm_bd (gR P 263 th) fun b40 =>
  mm_bx (fX2_number_2 th (0 : Int32) (10 : Int32) K P nx sl) fun r42 =>
  mm_mo (mm_wX mm_waV) r42.2.2.2.1 r42.2.2.2.2 <|
  mm_gd (r42.2.1.1 b40 = 3) <|
  mm_lt (sI r42.2.2.1 392 b40 r42.1) fun P47 =>
  some (.inl (r42.2.1, P47, r42.2.2.2.1, r42.2.2.2.2)))
  else
  (if x1 = (5 : Int32) then
  (mm_bx (fX2_cloth th K P nx sl) fun r49 =>
  mm_mo (mm_wX mm_waV) r49.2.2.2.1 r49.2.2.2.2 <|
  mm_gd (r49.2.1.1 th = 2) <|
  mm_bd (fX2_next r49.2.1 th r49.2.2.1) fun r53 =>
  mm_bx (fX2_cloth th r49.2.1 r53 r49.2.2.2.1 r49.2.2.2.2) fun r56 =>
  mm_mo (mm_wX mm_waV) r56.2.2.2.1 r56.2.2.2.2 <|
  if r49.1 = r56.1 then
  (fX2_told_b168 th r56.2.1 r56.2.2.1 r56.2.2.2.1 r56.2.2.2.2)
  else
  (mm_gd (r56.2.1.1 th = 2) <|
  mm_bd (gR r56.2.2.1 263 th) fun b62 =>
  mm_gd (r56.2.1.1 b62 = 3) <|
  mm_gd (mm_in r49.1 6) <|
  mm_bd (fX1_isIn (gA r56.2.2.1 387 b62 r49.1.toNatClampNeg) r56.1) fun r66 =>
  if r66 = 0 then
  (mm_bd (fX2_next r56.2.1 th r56.2.2.1) fun r69 =>
  mm_bd (gR r69 263 th) fun b71 =>
  mm_gd (r56.2.1.1 b71 = 3) <|
  mm_gd (mm_in r49.1 6) <|
  mm_gd (mm_in r49.1 6) <|
  mm_lt (sA r69 387 b71 r49.1.toNatClampNeg ((gA r69 387 b71 r49.1.toNatClampNeg) ||| (mm_shl (1 : Int32) r56.1))) fun P76 =>
  mm_bd (gR P76 263 th) fun b77 =>
  mm_gd (r56.2.1.1 b77 = 3) <|
  mm_gd (mm_in r56.1 6) <|
  mm_gd (mm_in r56.1 6) <|
  mm_lt (sA P76 387 b77 r56.1.toNatClampNeg ((gA P76 387 b77 r56.1.toNatClampNeg) ||| (mm_shl (1 : Int32) r49.1))) fun P82 =>
  mm_bd (gR P82 263 th) fun b83 =>
  mm_gd (r56.2.1.1 b83 = 3) <|
  mm_lt (sI P82 390 b83 ((gI P82 390 b83) + (1 : Int32))) fun P86 =>
  some (.inl (r56.2.1, P86, r56.2.2.2.1, r56.2.2.2.2)))
  else
  (fX2_told_b168 th r56.2.1 r56.2.2.1 r56.2.2.2.1 r56.2.2.2.2)))
  else
  (if x1 = (6 : Int32) then
  (mm_bd (gR P 263 th) fun b88 =>
  mm_bx (fX2_expression th (fX2_part th 8) K P nx sl) fun r90 =>
  mm_mo (mm_wX mm_waV) r90.2.2.2.1 r90.2.2.2.2 <|
  mm_gd (r90.2.1.1 b88 = 3) <|
  mm_lt (sR r90.2.2.1 393 b88 (some r90.1)) fun P95 =>
  some (.inl (r90.2.1, P95, r90.2.2.2.1, r90.2.2.2.2)))
  else
  (mm_bd (gR P 263 th) fun b96 =>
  mm_bx (fX2_expression th (fX2_part th 8) K P nx sl) fun r98 =>
  mm_mo (mm_wX mm_waV) r98.2.2.2.1 r98.2.2.2.2 <|
  mm_gd (r98.2.1.1 b96 = 3) <|
  mm_lt (sR r98.2.2.1 394 b96 (some r98.1)) fun P103 =>
  some (.inl (r98.2.1, P103, r98.2.2.2.1, r98.2.2.2.2)))))))))
set_option maxHeartbeats 4000000 in
theorem mc_X2_told {l : Launch} {K : mm_K} {P : mm_P} {th : Nat} {x1 : Int32} {nx sl : Nat} {r : (mm_X mm_S)} (hk : K.1 th = 2) (h : fX2_told th x1 K P nx sl = some r) : mm_CX l yX2_told (ws_ yX2_told cX2_told 4 none) 54 1197 [.ref th, .int x1] K P nx sl ((mm_wX mm_waV) r) :=
  mm_startX (ls := [some (.ref th), some (.int x1), none, none]) h (by decide) (Nat.le_of_ble_eq_true rfl) rfl (mm_mo_some h).2.1 (mm_mo_some h).2.2 fun E hl9 _ _ hT C => by
  have C : mm_Cx E RX2 cX2_told 4 none 54 1197 := C
  unfold fX2_told
  refine r_mo ?_
  refine r_iload_n C dX2_told_0 rfl rfl ?_
  refine r_if (fun h1 => ?_) (fun h1 => ?_)
  · refine r_tableC (tgt := 44) (off := 43) C dX2_told_1 h1 (by decide) (by decide) (by decide) (by decide) ?_
    refine r_aload_n C dX2_told_44 rfl rfl ?_
    refine r_bx (fun r2 h3 => ?_) (fun t4 h5 => ?_)
    · refine r_acallVv (As := []) (st := []) C (mm_CX_n (mc_X2_comes hk h3) rfl) cv_X2_163 hk rfl (Nat.le_of_ble_eq_true rfl) (Nat.le_of_ble_eq_true rfl) rfl (Nat.le_of_ble_eq_true rfl) dX2_told_45 ?_
      refine r_goto (tgt := 249) C dX2_told_48 (by decide) ?_
      exact r_vret C dX2_told_249 rfl
    · exact r_thrV (As := []) (st := []) C (fun z hz => (hT z hz).elim) (mm_CX_t (mc_X2_comes hk h5) rfl) cv_X2_163 hk rfl (Nat.le_of_ble_eq_true rfl) (Nat.le_of_ble_eq_true rfl) rfl (Nat.le_of_ble_eq_true rfl) dX2_told_45 rfl rfl
  refine r_if (fun h6 => ?_) (fun h6 => ?_)
  · refine r_tableC (tgt := 51) (off := 50) C dX2_told_1 h6 (by decide) (by decide) (by decide) (by decide) ?_
    refine r_aload_n C dX2_told_51 rfl rfl ?_
    refine r_getRn (code := 263) C fl_X2_105 hk rfl dX2_told_52 fun b7 h8 => ?_
    refine r_aload_n C dX2_told_55 rfl rfl ?_
    refine r_aload_n C dX2_told_56 rfl rfl ?_
    refine r_getRn (code := 263) C fl_X2_105 hk rfl dX2_told_57 fun b9 h10 => ?_
    refine r_gd fun hK11 => ?_
    refine r_getA C fl_X2_166 hK11 dX2_told_60 ?_
    refine r_iconst (v := 1) C dX2_told_63 rfl ?_
    refine r_bipush (v := 9) C dX2_told_64 rfl ?_
    refine r_bx (fun r12 h13 => ?_) (fun t14 h15 => ?_)
    · refine r_acallV (As := [.ref (b9 + 3), .int (1 : Int32), .int (9 : Int32)]) (st := [.ref b7]) C (mm_CX_n (mc_X2_row hk hK11 ⟨rfl, 1, rfl, by decide, rfl⟩ h13) rfl) cv_X2_170 hk rfl (Nat.le_of_ble_eq_true rfl) (Nat.le_of_ble_eq_true rfl) rfl (Nat.le_of_ble_eq_true rfl) dX2_told_66 ?_
      refine r_gd fun hK16 => ?_
      refine r_putI (code := 388) C fl_X2_121 hK16 rfl rfl dX2_told_69 ?_
      refine r_ltP fun P17 => ?_
      refine r_goto (tgt := 249) C dX2_told_72 (by decide) ?_
      exact r_vret C dX2_told_249 rfl
    · exact r_thrV (As := [.ref (b9 + 3), .int (1 : Int32), .int (9 : Int32)]) (st := [.ref b7]) C (fun z hz => (hT z hz).elim) (mm_CX_t (mc_X2_row hk hK11 ⟨rfl, 1, rfl, by decide, rfl⟩ h15) rfl) cv_X2_170 hk rfl (Nat.le_of_ble_eq_true rfl) (Nat.le_of_ble_eq_true rfl) rfl (Nat.le_of_ble_eq_true rfl) dX2_told_66 rfl rfl
  refine r_if (fun h18 => ?_) (fun h18 => ?_)
  · refine r_tableC (tgt := 75) (off := 74) C dX2_told_1 h18 (by decide) (by decide) (by decide) (by decide) ?_
    refine r_aload_n C dX2_told_75 rfl rfl ?_
    refine r_getRn (code := 263) C fl_X2_105 hk rfl dX2_told_76 fun b19 h20 => ?_
    refine r_aload_n C dX2_told_79 rfl rfl ?_
    refine r_aload_n C dX2_told_80 rfl rfl ?_
    refine r_getRn (code := 263) C fl_X2_105 hk rfl dX2_told_81 fun b21 h22 => ?_
    refine r_gd fun hK23 => ?_
    refine r_getA C fl_X2_174 hK23 dX2_told_84 ?_
    refine r_iconst (v := 0) C dX2_told_87 rfl ?_
    refine r_bipush (v := 9) C dX2_told_88 rfl ?_
    refine r_bx (fun r24 h25 => ?_) (fun t26 h27 => ?_)
    · refine r_acallV (As := [.ref (b21 + 4), .int (0 : Int32), .int (9 : Int32)]) (st := [.ref b19]) C (mm_CX_n (mc_X2_row hk hK23 ⟨rfl, 2, rfl, by decide, rfl⟩ h25) rfl) cv_X2_170 hk rfl (Nat.le_of_ble_eq_true rfl) (Nat.le_of_ble_eq_true rfl) rfl (Nat.le_of_ble_eq_true rfl) dX2_told_90 ?_
      refine r_gd fun hK28 => ?_
      refine r_putI (code := 389) C fl_X2_124 hK28 rfl rfl dX2_told_93 ?_
      refine r_ltP fun P29 => ?_
      refine r_goto (tgt := 249) C dX2_told_96 (by decide) ?_
      exact r_vret C dX2_told_249 rfl
    · exact r_thrV (As := [.ref (b21 + 4), .int (0 : Int32), .int (9 : Int32)]) (st := [.ref b19]) C (fun z hz => (hT z hz).elim) (mm_CX_t (mc_X2_row hk hK23 ⟨rfl, 2, rfl, by decide, rfl⟩ h27) rfl) cv_X2_170 hk rfl (Nat.le_of_ble_eq_true rfl) (Nat.le_of_ble_eq_true rfl) rfl (Nat.le_of_ble_eq_true rfl) dX2_told_90 rfl rfl
  refine r_if (fun h30 => ?_) (fun h30 => ?_)
  · refine r_tableC (tgt := 99) (off := 98) C dX2_told_1 h30 (by decide) (by decide) (by decide) (by decide) ?_
    refine r_aload_n C dX2_told_99 rfl rfl ?_
    refine r_getRn (code := 263) C fl_X2_105 hk rfl dX2_told_100 fun b31 h32 => ?_
    refine r_aload_n C dX2_told_103 rfl rfl ?_
    refine r_iconst (v := 1) C dX2_told_104 rfl ?_
    refine r_bipush (v := 60) C dX2_told_105 rfl ?_
    refine r_bx (fun r33 h34 => ?_) (fun t35 h36 => ?_)
    · refine r_acallV (As := [.int (1 : Int32), .int (60 : Int32)]) (st := [.ref b31]) C (mm_CX_n (mc_X2_number_2 hk h34) rfl) cv_X2_102 hk rfl (Nat.le_of_ble_eq_true rfl) (Nat.le_of_ble_eq_true rfl) rfl (Nat.le_of_ble_eq_true rfl) dX2_told_107 ?_
      refine r_gd fun hK37 => ?_
      refine r_putI (code := 391) C fl_X2_127 hK37 rfl rfl dX2_told_110 ?_
      refine r_ltP fun P38 => ?_
      refine r_goto (tgt := 249) C dX2_told_113 (by decide) ?_
      exact r_vret C dX2_told_249 rfl
    · exact r_thrV (As := [.int (1 : Int32), .int (60 : Int32)]) (st := [.ref b31]) C (fun z hz => (hT z hz).elim) (mm_CX_t (mc_X2_number_2 hk h36) rfl) cv_X2_102 hk rfl (Nat.le_of_ble_eq_true rfl) (Nat.le_of_ble_eq_true rfl) rfl (Nat.le_of_ble_eq_true rfl) dX2_told_107 rfl rfl
  refine r_if (fun h39 => ?_) (fun h39 => ?_)
  · refine r_tableC (tgt := 116) (off := 115) C dX2_told_1 h39 (by decide) (by decide) (by decide) (by decide) ?_
    refine r_aload_n C dX2_told_116 rfl rfl ?_
    refine r_getRn (code := 263) C fl_X2_105 hk rfl dX2_told_117 fun b40 h41 => ?_
    refine r_aload_n C dX2_told_120 rfl rfl ?_
    refine r_iconst (v := 0) C dX2_told_121 rfl ?_
    refine r_bipush (v := 10) C dX2_told_122 rfl ?_
    refine r_bx (fun r42 h43 => ?_) (fun t44 h45 => ?_)
    · refine r_acallV (As := [.int (0 : Int32), .int (10 : Int32)]) (st := [.ref b40]) C (mm_CX_n (mc_X2_number_2 hk h43) rfl) cv_X2_102 hk rfl (Nat.le_of_ble_eq_true rfl) (Nat.le_of_ble_eq_true rfl) rfl (Nat.le_of_ble_eq_true rfl) dX2_told_124 ?_
      refine r_gd fun hK46 => ?_
      refine r_putI (code := 392) C fl_X2_130 hK46 rfl rfl dX2_told_127 ?_
      refine r_ltP fun P47 => ?_
      refine r_goto (tgt := 249) C dX2_told_130 (by decide) ?_
      exact r_vret C dX2_told_249 rfl
    · exact r_thrV (As := [.int (0 : Int32), .int (10 : Int32)]) (st := [.ref b40]) C (fun z hz => (hT z hz).elim) (mm_CX_t (mc_X2_number_2 hk h45) rfl) cv_X2_102 hk rfl (Nat.le_of_ble_eq_true rfl) (Nat.le_of_ble_eq_true rfl) rfl (Nat.le_of_ble_eq_true rfl) dX2_told_124 rfl rfl
  refine r_if (fun h48 => ?_) (fun h48 => ?_)
  · refine r_tableC (tgt := 133) (off := 132) C dX2_told_1 h48 (by decide) (by decide) (by decide) (by decide) ?_
    refine r_aload_n C dX2_told_133 rfl rfl ?_
    refine r_bx (fun r49 h50 => ?_) (fun t51 h52 => ?_)
    · refine r_acallV (As := []) (st := []) C (mm_CX_n (mc_X2_cloth hk h50) rfl) cv_X2_177 hk rfl (Nat.le_of_ble_eq_true rfl) (Nat.le_of_ble_eq_true rfl) rfl (Nat.le_of_ble_eq_true rfl) dX2_told_134 ?_
      refine r_istore_n (ls' := [some (.ref th), some (.int x1), some (.int r49.1), none]) C dX2_told_137 rfl (Nat.le_of_ble_eq_true rfl) rfl rfl ?_
      refine r_aload_n C dX2_told_138 rfl rfl ?_
      refine r_gd fun hK55 => ?_
      refine r_bd fun r53 h54 => ?_
      refine r_callVv (As := []) (st := []) C (mc_X2_next hK55 h54) cv_X2_25 hK55 rfl (Nat.le_of_ble_eq_true rfl) (Nat.le_of_ble_eq_true rfl) rfl (Nat.le_of_ble_eq_true rfl) dX2_told_139 ?_
      refine r_aload_n C dX2_told_142 rfl rfl ?_
      refine r_bx (fun r56 h57 => ?_) (fun t58 h59 => ?_)
      · refine r_acallV (As := []) (st := []) C (mm_CX_n (mc_X2_cloth hK55 h57) rfl) cv_X2_177 hK55 rfl (Nat.le_of_ble_eq_true rfl) (Nat.le_of_ble_eq_true rfl) rfl (Nat.le_of_ble_eq_true rfl) dX2_told_143 ?_
        refine r_istore_n (ls' := [some (.ref th), some (.int x1), some (.int r49.1), some (.int r56.1)]) C dX2_told_146 rfl (Nat.le_of_ble_eq_true rfl) rfl rfl ?_
        refine r_iload_n C dX2_told_147 rfl rfl ?_
        refine r_iload_n C dX2_told_148 rfl rfl ?_
        refine r_icmpeq (tgt := 168) C dX2_told_149 (by decide) (fun h60 => ?_) (fun h60 => ?_)
        · refine r_mask [true, false, false, false] (ls' := [some (.ref th), none, none, none]) rfl ?_
          exact wfX2_told_b168 C hT r56.2.1 r56.2.2.1 r56.2.2.2.1 r56.2.2.2.2
        · refine r_aload_n C dX2_told_152 rfl rfl ?_
          refine r_gd fun hK61 => ?_
          refine r_getRn (code := 263) C fl_X2_105 hK61 rfl dX2_told_153 fun b62 h63 => ?_
          refine r_gd fun hK64 => ?_
          refine r_getA C fl_X2_179 hK64 dX2_told_156 ?_
          refine r_iload_n C dX2_told_159 rfl rfl ?_
          refine r_iald C (rg_387 hK64) rfl dX2_told_160 fun h65 => ?_
          refine r_iload_n C dX2_told_161 rfl rfl ?_
          refine r_bd fun r66 h67 => ?_
          refine r_callSN (As := [.int (gA r56.2.2.1 387 b62 r49.1.toNatClampNeg), .int r56.1]) (st := []) C (mc_X1_isIn h67) cv_X2_182  rfl (Nat.le_of_ble_eq_true rfl) (Nat.le_of_ble_eq_true rfl) rfl (Nat.le_of_ble_eq_true rfl) dX2_told_162 ?_
          refine r_ifeq (tgt := 174) C dX2_told_165 (by decide) (fun h68 => ?_) (fun h68 => ?_)
          · refine r_aload_n C dX2_told_174 rfl rfl ?_
            refine r_bd fun r69 h70 => ?_
            refine r_callVv (As := []) (st := []) C (mc_X2_next hK61 h70) cv_X2_25 hK61 rfl (Nat.le_of_ble_eq_true rfl) (Nat.le_of_ble_eq_true rfl) rfl (Nat.le_of_ble_eq_true rfl) dX2_told_175 ?_
            refine r_aload_n C dX2_told_178 rfl rfl ?_
            refine r_getRn (code := 263) C fl_X2_105 hK61 rfl dX2_told_179 fun b71 h72 => ?_
            refine r_gd fun hK73 => ?_
            refine r_getA C fl_X2_179 hK73 dX2_told_182 ?_
            refine r_iload_n C dX2_told_185 rfl rfl ?_
            refine r_dup2_11 C dX2_told_186 rfl rfl ?_
            refine r_iald C (rg_387 hK73) rfl dX2_told_187 fun h74 => ?_
            refine r_iconst (v := 1) C dX2_told_188 rfl ?_
            refine r_iload_n C dX2_told_189 rfl rfl ?_
            refine r_ishl C dX2_told_190 ?_
            refine r_ior C dX2_told_191 ?_
            refine r_iast C (rg_387 hK73) (mm_ro_of (k := 3) hK73 rfl) rfl dX2_told_192 fun h75 => ?_
            refine r_ltP fun P76 => ?_
            refine r_aload_n C dX2_told_193 rfl rfl ?_
            refine r_getRn (code := 263) C fl_X2_105 hK61 rfl dX2_told_194 fun b77 h78 => ?_
            refine r_gd fun hK79 => ?_
            refine r_getA C fl_X2_179 hK79 dX2_told_197 ?_
            refine r_iload_n C dX2_told_200 rfl rfl ?_
            refine r_dup2_11 C dX2_told_201 rfl rfl ?_
            refine r_iald C (rg_387 hK79) rfl dX2_told_202 fun h80 => ?_
            refine r_iconst (v := 1) C dX2_told_203 rfl ?_
            refine r_iload_n C dX2_told_204 rfl rfl ?_
            refine r_ishl C dX2_told_205 ?_
            refine r_ior C dX2_told_206 ?_
            refine r_iast C (rg_387 hK79) (mm_ro_of (k := 3) hK79 rfl) rfl dX2_told_207 fun h81 => ?_
            refine r_ltP fun P82 => ?_
            refine r_aload_n C dX2_told_208 rfl rfl ?_
            refine r_getRn (code := 263) C fl_X2_105 hK61 rfl dX2_told_209 fun b83 h84 => ?_
            refine r_dup C dX2_told_212 rfl ?_
            refine r_gd fun hK85 => ?_
            refine r_getI (code := 390) C fl_X2_186 hK85 rfl dX2_told_213 ?_
            refine r_iconst (v := 1) C dX2_told_216 rfl ?_
            refine r_iadd C dX2_told_217 ?_
            refine r_putI (code := 390) C fl_X2_186 hK85 rfl rfl dX2_told_218 ?_
            refine r_ltP fun P86 => ?_
            refine r_goto (tgt := 249) C dX2_told_221 (by decide) ?_
            exact r_vret C dX2_told_249 rfl
          · refine r_mask [true, false, false, false] (ls' := [some (.ref th), none, none, none]) rfl ?_
            exact wfX2_told_b168 C hT r56.2.1 r56.2.2.1 r56.2.2.2.1 r56.2.2.2.2
      · exact r_thrV (As := []) (st := []) C (fun z hz => (hT z hz).elim) (mm_CX_t (mc_X2_cloth hK55 h59) rfl) cv_X2_177 hK55 rfl (Nat.le_of_ble_eq_true rfl) (Nat.le_of_ble_eq_true rfl) rfl (Nat.le_of_ble_eq_true rfl) dX2_told_143 rfl rfl
    · exact r_thrV (As := []) (st := []) C (fun z hz => (hT z hz).elim) (mm_CX_t (mc_X2_cloth hk h52) rfl) cv_X2_177 hk rfl (Nat.le_of_ble_eq_true rfl) (Nat.le_of_ble_eq_true rfl) rfl (Nat.le_of_ble_eq_true rfl) dX2_told_134 rfl rfl
  refine r_if (fun h87 => ?_) (fun h87 => ?_)
  · refine r_tableC (tgt := 224) (off := 223) C dX2_told_1 h87 (by decide) (by decide) (by decide) (by decide) ?_
    refine r_aload_n C dX2_told_224 rfl rfl ?_
    refine r_getRn (code := 263) C fl_X2_105 hk rfl dX2_told_225 fun b88 h89 => ?_
    refine r_aload_n C dX2_told_228 rfl rfl ?_
    refine r_bx (fun r90 h91 => ?_) (fun t92 h93 => ?_)
    · refine r_acallV (As := []) (st := [.ref b88]) C (mm_CX_n (mc_X2_expression hk (fun _ _ _ _ _ hk9 hq => mc_X2_part 8 hk9 hq) h91) rfl) cv_X2_189 hk rfl (Nat.le_of_ble_eq_true rfl) (Nat.le_of_ble_eq_true rfl) rfl (Nat.le_of_ble_eq_true rfl) dX2_told_229 ?_
      refine r_gd fun hK94 => ?_
      refine r_putR (code := 393) (x := (some r90.1)) C fl_X2_133 hK94 rfl rfl rfl (mm_nrO _) (mm_ftO _) dX2_told_232 ?_
      refine r_ltP fun P95 => ?_
      refine r_goto (tgt := 249) C dX2_told_235 (by decide) ?_
      exact r_vret C dX2_told_249 rfl
    · exact r_thrV (As := []) (st := [.ref b88]) C (fun z hz => (hT z hz).elim) (mm_CX_t (mc_X2_expression hk (fun _ _ _ _ _ hk9 hq => mc_X2_part 8 hk9 hq) h93) rfl) cv_X2_189 hk rfl (Nat.le_of_ble_eq_true rfl) (Nat.le_of_ble_eq_true rfl) rfl (Nat.le_of_ble_eq_true rfl) dX2_told_229 rfl rfl
  refine r_tableD (tgt := 238) (n := 7) C dX2_told_1 (mm_fa h1 (mm_fa h6 (mm_fa h18 (mm_fa h30 (mm_fa h39 (mm_fa h48 (mm_fa h87 (mm_fn)))))))) (by decide +kernel) (by decide) (by decide) ?_
  refine r_aload_n C dX2_told_238 rfl rfl ?_
  refine r_getRn (code := 263) C fl_X2_105 hk rfl dX2_told_239 fun b96 h97 => ?_
  refine r_aload_n C dX2_told_242 rfl rfl ?_
  refine r_bx (fun r98 h99 => ?_) (fun t100 h101 => ?_)
  · refine r_acallV (As := []) (st := [.ref b96]) C (mm_CX_n (mc_X2_expression hk (fun _ _ _ _ _ hk9 hq => mc_X2_part 8 hk9 hq) h99) rfl) cv_X2_189 hk rfl (Nat.le_of_ble_eq_true rfl) (Nat.le_of_ble_eq_true rfl) rfl (Nat.le_of_ble_eq_true rfl) dX2_told_243 ?_
    refine r_gd fun hK102 => ?_
    refine r_putR (code := 394) (x := (some r98.1)) C fl_X2_137 hK102 rfl rfl rfl (mm_nrO _) (mm_ftO _) dX2_told_246 ?_
    refine r_ltP fun P103 => ?_
    exact r_vret C dX2_told_249 rfl
  · exact r_thrV (As := []) (st := [.ref b96]) C (fun z hz => (hT z hz).elim) (mm_CX_t (mc_X2_expression hk (fun _ _ _ _ _ hk9 hq => mc_X2_part 8 hk9 hq) h101) rfl) cv_X2_189 hk rfl (Nat.le_of_ble_eq_true rfl) (Nat.le_of_ble_eq_true rfl) rfl (Nat.le_of_ble_eq_true rfl) dX2_told_243 rfl rfl
theorem nl_X2_113 : mm_NL RX2 113 35 11 := ⟨RX3, TX3, _, tyX3, rfl, in_X3, rfl, by decide +kernel, q544, q216, q135, tyX3_ok, rfl⟩
theorem cv_X2_140 : mm_CIN RX2 140 yX3_init cX3_init 1 0 := ⟨⟨⟨_, nw_in q545 rfl⟩, q219, q135, ⟨by decide +kernel, by decide +kernel, by decide +kernel⟩⟩, q218, rfl⟩
theorem cv_X2_143 : mm_CV RX2 143 yX2_isTold cX2_isTold 2 (some .boolean) 1 2 := ⟨RX2, TX2, 8, _, lw_V q646 q648 qs6 q134 q649, ⟨rfl, by decide +kernel, by decide +kernel, by decide +kernel⟩, rfl, rfl⟩
theorem cv_X2_150 : mm_CV RX2 150 yJ2_size cJ2_size 1 (some .int) 0 21 := ⟨RJ2, TJ2, 3, _, lw_V q650 q651 q652 q138 q653, ⟨rfl, by decide +kernel, by decide +kernel, by decide +kernel⟩, rfl, rfl⟩
theorem cv_X2_154 : mm_CV RX2 154 yX2_told cX2_told 4 none 1 2 := ⟨RX2, TX2, 8, _, lw_V q654 q656 qs7 q134 q657, ⟨rfl, by decide +kernel, by decide +kernel, by decide +kernel⟩, rfl, rfl⟩
/-! X2 line -/
def fX2_line_b74 (th : Nat) (k11 : mm_K → mm_P → Nat → Nat → Option (mm_X (Nat × mm_S))) (x1 : Int32) (K : mm_K) (P : mm_P) (nx : Nat) (sl : Nat) : Option (mm_X (Nat × mm_S)) :=
  mm_gd (K.1 th = 2) <|
  mm_bd (fX2_next K th P) fun r1 =>
  mm_bx (fX2_told th x1 K r1 nx sl) fun r4 =>
  mm_mo (mm_wX mm_waR) r4.2.2.1 r4.2.2.2 <|
  mm_gd (r4.1.1 th = 2) <|
  mm_bx (fX2_need_2 th (59 : Int32) r4.1 r4.2.1 r4.2.2.1 r4.2.2.2) fun r8 =>
  mm_mo (mm_wX mm_waR) r8.2.2.1 r8.2.2.2 <|
  k11 r8.1 r8.2.1 r8.2.2.1 r8.2.2.2
set_option maxHeartbeats 4000000 in
theorem wfX2_line_b74 {E : mm_E} (C : mm_Cx E RX2 cX2_line 2 (some (.object "PegLaws$Rope")) 55 1220) {th : Nat} (hT : ∀ z ∈ (eC E).exceptionTable.toList, False) {k11 : mm_K → mm_P → Nat → Nat → Option (mm_X (Nat × mm_S))} (hk11 : ∀ (K : mm_K) (P : mm_P) (nx : Nat) (sl : Nat), mm_V E ((mm_wX mm_waR)) 11 [some (.ref th), none] [] K P nx sl (k11 K P nx sl)) (x1 : Int32) (K : mm_K) (P : mm_P) (nx : Nat) (sl : Nat) : mm_V E ((mm_wX mm_waR)) 74 [some (.ref th), some (.int x1)] [] K P nx sl (fX2_line_b74 th k11 x1 K P nx sl) := by
  unfold fX2_line_b74
  refine r_aload_n C dX2_line_74 rfl rfl ?_
  refine r_gd fun hK3 => ?_
  refine r_bd fun r1 h2 => ?_
  refine r_callVv (As := []) (st := []) C (mc_X2_next hK3 h2) cv_X2_25 hK3 rfl (Nat.le_of_ble_eq_true rfl) (Nat.le_of_ble_eq_true rfl) rfl (Nat.le_of_ble_eq_true rfl) dX2_line_75 ?_
  refine r_aload_n C dX2_line_78 rfl rfl ?_
  refine r_iload_n C dX2_line_79 rfl rfl ?_
  refine r_bx (fun r4 h5 => ?_) (fun t6 h7 => ?_)
  · refine r_acallVv (As := [.int x1]) (st := []) C (mm_CX_n (mc_X2_told hK3 h5) rfl) cv_X2_154 hK3 rfl (Nat.le_of_ble_eq_true rfl) (Nat.le_of_ble_eq_true rfl) rfl (Nat.le_of_ble_eq_true rfl) dX2_line_80 ?_
    refine r_aload_n C dX2_line_83 rfl rfl ?_
    refine r_bipush (v := 59) C dX2_line_84 rfl ?_
    refine r_gd fun hK10 => ?_
    refine r_bx (fun r8 h9 => ?_) (fun t11 h12 => ?_)
    · refine r_acallVv (As := [.int (59 : Int32)]) (st := []) C (mm_CX_n (mc_X2_need_2 hK10 h9) rfl) cv_X2_157 hK10 rfl (Nat.le_of_ble_eq_true rfl) (Nat.le_of_ble_eq_true rfl) rfl (Nat.le_of_ble_eq_true rfl) dX2_line_86 ?_
      refine r_goto (tgt := 11) C dX2_line_89 (by decide) ?_
      refine r_mask [true, false] (ls' := [some (.ref th), none]) rfl ?_
      exact hk11 r8.1 r8.2.1 r8.2.2.1 r8.2.2.2
    · exact r_thrV (As := [.int (59 : Int32)]) (st := []) C (fun z hz => (hT z hz).elim) (mm_CX_t (mc_X2_need_2 hK10 h12) rfl) cv_X2_157 hK10 rfl (Nat.le_of_ble_eq_true rfl) (Nat.le_of_ble_eq_true rfl) rfl (Nat.le_of_ble_eq_true rfl) dX2_line_86 rfl rfl
  · exact r_thrV (As := [.int x1]) (st := []) C (fun z hz => (hT z hz).elim) (mm_CX_t (mc_X2_told hK3 h7) rfl) cv_X2_154 hK3 rfl (Nat.le_of_ble_eq_true rfl) (Nat.le_of_ble_eq_true rfl) rfl (Nat.le_of_ble_eq_true rfl) dX2_line_80 rfl rfl
def fX2_line_b11 (th : Nat)  : Nat → mm_K → mm_P → Nat → Nat → Option (mm_X (Nat × mm_S))
  | 0, _, _, _, _ => none
  | n + 1, K, P, nx, sl =>
  mm_gd (K.1 th = 2) <|
  if (gI P 259 th) = 0 then
  (mm_bd (gR P 263 th) fun b3 =>
  some (.inl (b3, K, P, nx, sl)))
  else
  (mm_bd (gR P 12 0) fun b5 =>
  mm_bd (fX2_which K th b5 P) fun r7 =>
  if 0 ≤ r7.1 then
  (mm_bd (fX2_isTold K th r7.2 r7.1) fun r10 =>
  if r10 = 0 then
  (if r7.1 ≠ 0 then
  (fX2_line_b74 th (fX2_line_b11 th n) r7.1 K r7.2 nx sl)
  else
  (mm_bd (gR r7.2 263 th) fun b14 =>
  mm_gd (K.1 b14 = 3) <|
  mm_bd (gR r7.2 384 b14) fun b17 =>
  mm_gd (K.1 b17 = 21) <|
  mm_bd (fJ2_size b17 r7.2) fun r19 =>
  if r19 ≠ (6 : Int32) then
  (fX2_line_b74 th (fX2_line_b11 th n) r7.1 K r7.2 nx sl)
  else
  (mm_bd (fX2_wrong th (5 : Int32) K r7.2 nx sl) fun r23 =>
  mm_mo (mm_wX mm_waR) r23.2.2.2.1 r23.2.2.2.2 <|
  some (.inr (r23.1, r23.2.1, r23.2.2.1, r23.2.2.2.1, r23.2.2.2.2)))))
  else
  (mm_bd (fX2_wrong th (3 : Int32) K r7.2 nx sl) fun r25 =>
  mm_mo (mm_wX mm_waR) r25.2.2.2.1 r25.2.2.2.2 <|
  some (.inr (r25.1, r25.2.1, r25.2.2.1, r25.2.2.2.1, r25.2.2.2.2))))
  else
  (mm_bd (fX2_wrong th (1 : Int32) K r7.2 nx sl) fun r27 =>
  mm_mo (mm_wX mm_waR) r27.2.2.2.1 r27.2.2.2.2 <|
  some (.inr (r27.1, r27.2.1, r27.2.2.1, r27.2.2.2.1, r27.2.2.2.2))))
set_option maxHeartbeats 4000000 in
theorem wfX2_line_b11 {E : mm_E} (C : mm_Cx E RX2 cX2_line 2 (some (.object "PegLaws$Rope")) 55 1220) {th : Nat} (hT : ∀ z ∈ (eC E).exceptionTable.toList, False) : ∀ (n : Nat), ∀ (K : mm_K) (P : mm_P) (nx : Nat) (sl : Nat), mm_V E ((mm_wX mm_waR)) 11 [some (.ref th), none] [] K P nx sl (fX2_line_b11 th n K P nx sl) := by
  intro n
  induction n with
  | zero => intro K P nx sl; exact r_none
  | succ n ih =>
    intro K P nx sl
    rw [fX2_line_b11]
    refine r_aload_n C dX2_line_11 rfl rfl ?_
    refine r_gd fun hK1 => ?_
    refine r_getI (code := 259) C fl_X2_31 hK1 rfl dX2_line_12 ?_
    refine r_ifeq (tgt := 92) C dX2_line_15 (by decide) (fun h2 => ?_) (fun h2 => ?_)
    · refine r_aload_n C dX2_line_92 rfl rfl ?_
      refine r_getRn (code := 263) C fl_X2_105 hK1 rfl dX2_line_93 fun b3 h4 => ?_
      exact r_aretR C (Or.inl ⟨_, rfl⟩) dX2_line_96 rfl
    · refine r_aload_n C dX2_line_18 rfl rfl ?_
      refine r_ldcS (i := 2) (tx := "cloth pegs winds yards gusts clash pulls dries ") C (by decide) (by decide) dX2_line_19 fun b5 h6 => ?_
      refine r_bd fun r7 h8 => ?_
      refine r_callV (As := [.ref b5]) (st := []) C (mc_X2_which hK1 h8) cv_X2_71 hK1 rfl (Nat.le_of_ble_eq_true rfl) (Nat.le_of_ble_eq_true rfl) rfl (Nat.le_of_ble_eq_true rfl) dX2_line_21 ?_
      refine r_istore_n (ls' := [some (.ref th), some (.int r7.1)]) C dX2_line_24 rfl (Nat.le_of_ble_eq_true rfl) rfl rfl ?_
      refine r_iload_n C dX2_line_25 rfl rfl ?_
      refine r_ifge (tgt := 35) C dX2_line_26 (by decide) (fun h9 => ?_) (fun h9 => ?_)
      · refine r_aload_n C dX2_line_35 rfl rfl ?_
        refine r_iload_n C dX2_line_36 rfl rfl ?_
        refine r_bd fun r10 h11 => ?_
        refine r_callV (As := [.int r7.1]) (st := []) C (mc_X2_isTold hK1 h11) cv_X2_143 hK1 rfl (Nat.le_of_ble_eq_true rfl) (Nat.le_of_ble_eq_true rfl) rfl (Nat.le_of_ble_eq_true rfl) dX2_line_37 ?_
        refine r_ifeq (tgt := 49) C dX2_line_40 (by decide) (fun h12 => ?_) (fun h12 => ?_)
        · refine r_iload_n C dX2_line_49 rfl rfl ?_
          refine r_ifne (tgt := 74) C dX2_line_50 (by decide) (fun h13 => ?_) (fun h13 => ?_)
          · exact wfX2_line_b74 C hT ih r7.1 K r7.2 nx sl
          · refine r_aload_n C dX2_line_53 rfl rfl ?_
            refine r_getRn (code := 263) C fl_X2_105 hK1 rfl dX2_line_54 fun b14 h15 => ?_
            refine r_gd fun hK16 => ?_
            refine r_getRn (code := 384) C fl_X2_146 hK16 rfl dX2_line_57 fun b17 h18 => ?_
            refine r_gd fun hK21 => ?_
            refine r_bd fun r19 h20 => ?_
            refine r_callV (As := []) (st := []) C (mc_J2_size hK21 h20) cv_X2_150 hK21 rfl (Nat.le_of_ble_eq_true rfl) (Nat.le_of_ble_eq_true rfl) rfl (Nat.le_of_ble_eq_true rfl) dX2_line_60 ?_
            refine r_bipush (v := 6) C dX2_line_63 rfl ?_
            refine r_icmpne (tgt := 74) C dX2_line_65 (by decide) (fun h22 => ?_) (fun h22 => ?_)
            · exact wfX2_line_b74 C hT ih r7.1 K r7.2 nx sl
            · refine r_aload_n C dX2_line_68 rfl rfl ?_
              refine r_iconst (v := 5) C dX2_line_69 rfl ?_
              refine r_bd fun r23 h24 => ?_
              refine r_acallV (As := [.int (5 : Int32)]) (st := []) C (mc_X2_wrong hK1 h24) cv_X2_75 hK1 rfl (Nat.le_of_ble_eq_true rfl) (Nat.le_of_ble_eq_true rfl) rfl (Nat.le_of_ble_eq_true rfl) dX2_line_70 ?_
              exact r_athrow C (fun z hz => (hT z hz).elim) dX2_line_73 rfl
        · refine r_aload_n C dX2_line_43 rfl rfl ?_
          refine r_iconst (v := 3) C dX2_line_44 rfl ?_
          refine r_bd fun r25 h26 => ?_
          refine r_acallV (As := [.int (3 : Int32)]) (st := []) C (mc_X2_wrong hK1 h26) cv_X2_75 hK1 rfl (Nat.le_of_ble_eq_true rfl) (Nat.le_of_ble_eq_true rfl) rfl (Nat.le_of_ble_eq_true rfl) dX2_line_45 ?_
          exact r_athrow C (fun z hz => (hT z hz).elim) dX2_line_48 rfl
      · refine r_aload_n C dX2_line_29 rfl rfl ?_
        refine r_iconst (v := 1) C dX2_line_30 rfl ?_
        refine r_bd fun r27 h28 => ?_
        refine r_acallV (As := [.int (1 : Int32)]) (st := []) C (mc_X2_wrong hK1 h28) cv_X2_75 hK1 rfl (Nat.le_of_ble_eq_true rfl) (Nat.le_of_ble_eq_true rfl) rfl (Nat.le_of_ble_eq_true rfl) dX2_line_31 ?_
        exact r_athrow C (fun z hz => (hT z hz).elim) dX2_line_34 rfl
def fX2_line (th : Nat)  (K : mm_K) (P : mm_P) (nx : Nat) (sl : Nat) : Option (mm_X (Nat × mm_S)) :=
  mm_mo (mm_wX mm_waR) nx sl <|
  mm_mo (mm_wX mm_waR) (nx + 1) (sl + 11) <|
  mm_lt (mm_kn K nx 35 0) fun K1 =>
  mm_lt (mm_fresh P nx) fun P2 =>
  mm_bd (fX3_init nx K1 P2 (nx + 1) (sl + 11)) fun r4 =>
  mm_mo (mm_wX mm_waR) r4.2.2.1 r4.2.2.2 <|
  mm_gd (r4.1.1 th = 2) <|
  mm_lt (sR r4.2.1 263 th (some nx)) fun P7 =>
  fX2_line_b11 th mm_NF r4.1 P7 r4.2.2.1 r4.2.2.2
set_option maxHeartbeats 4000000 in
theorem mc_X2_line {l : Launch} {K : mm_K} {P : mm_P} {th : Nat}  {nx sl : Nat} {r : (mm_X (Nat × mm_S))} (hk : K.1 th = 2) (h : fX2_line th K P nx sl = some r) : mm_CX l yX2_line (ws_ yX2_line cX2_line 2 (some (.object "PegLaws$Rope"))) 55 1220 [.ref th] K P nx sl ((mm_wX mm_waR) r) :=
  mm_startX (ls := [some (.ref th), none]) h (by decide) (Nat.le_of_ble_eq_true rfl) rfl (mm_mo_some h).2.1 (mm_mo_some h).2.2 fun E hl9 _ _ hT C => by
  have C : mm_Cx E RX2 cX2_line 2 (some (.object "PegLaws$Rope")) 55 1220 := C
  unfold fX2_line
  refine r_mo ?_
  refine r_aload_n C dX2_line_0 rfl rfl ?_
  refine r_new C nl_X2_113 dX2_line_1 ?_
  refine r_ltK fun K1 e3 => ?_
  refine r_ltP fun P2 => ?_
  refine r_dup C dX2_line_4 rfl ?_
  refine r_bd fun r4 h5 => ?_
  refine r_acallINv (As := []) (st := [.ref nx, .ref th]) C (mc_X3_init (by rw [e3]; exact mm_kn_1) h5) cv_X2_140  rfl (Nat.le_of_ble_eq_true rfl) (Nat.le_of_ble_eq_true rfl) rfl (Nat.le_of_ble_eq_true rfl) dX2_line_5 ?_
  refine r_gd fun hK6 => ?_
  refine r_putR (code := 263) (x := (some nx)) C fl_X2_105 hK6 rfl rfl rfl (mm_nrO _) (mm_ftO _) dX2_line_8 ?_
  refine r_ltP fun P7 => ?_
  exact wfX2_line_b11 C hT mm_NF r4.1 P7 r4.2.2.1 r4.2.2.2
theorem nl_X2_240 : mm_NL RX2 240 15 0 := ⟨RX17, mm_T0, _, (fun _ => .int), rfl, (fun _ h => nomatch h), rfl, by decide +kernel, q1098, q1099, q167, (fun _ h => nomatch h), rfl⟩
theorem nl_X2_243 : mm_NL RX2 243 16 1 := ⟨RX18, TX18, _, tyX18, rfl, in_X18, rfl, by decide +kernel, q1108, q1109, q168, tyX18_ok, rfl⟩
theorem nl_X2_246 : mm_NL RX2 246 17 1 := ⟨RX19, TX19, _, tyX19, rfl, in_X19, rfl, by decide +kernel, q1118, q1119, q169, tyX19_ok, rfl⟩
theorem nl_X2_249 : mm_NL RX2 249 18 1 := ⟨RX20, TX20, _, tyX20, rfl, in_X20, rfl, by decide +kernel, q1128, q1129, q170, tyX20_ok, rfl⟩
theorem nl_X2_257 : mm_NL RX2 257 19 2 := ⟨RX21, TX21, _, tyX21, rfl, in_X21, rfl, by decide +kernel, q1144, q1145, q172, tyX21_ok, rfl⟩
theorem cv_X2_242 : mm_CIN RX2 242 yX17_init cX17_init 1 0 := ⟨⟨⟨_, nw_in q1100 rfl⟩, q1102, q167, ⟨by decide +kernel, by decide +kernel, by decide +kernel⟩⟩, q1101, rfl⟩
theorem cv_X2_245 : mm_CI RX2 245 yX18_init cX18_init 2 1 := ⟨q1112, q168, q1110, q1111, rfl, ⟨by decide +kernel, by decide +kernel, by decide +kernel⟩⟩
theorem cv_X2_248 : mm_CI RX2 248 yX19_init cX19_init 2 1 := ⟨q1122, q169, q1120, q1121, rfl, ⟨by decide +kernel, by decide +kernel, by decide +kernel⟩⟩
theorem cv_X2_251 : mm_CI RX2 251 yX20_init cX20_init 2 1 := ⟨q1132, q170, q1130, q1131, rfl, ⟨by decide +kernel, by decide +kernel, by decide +kernel⟩⟩
theorem cv_X2_252 : mm_CS RX2 252 yJ17_bitCount cJ17_bitCount 1 (some .int) 1 := ⟨lw_S q1138 q1139 q171 q1140, by decide +kernel, by decide +kernel, by decide +kernel⟩
theorem cv_X2_259 : mm_CI RX2 259 yX21_init cX21_init 3 2 := ⟨q1148, q172, q1146, q1147, rfl, ⟨by decide +kernel, by decide +kernel, by decide +kernel⟩⟩
/-! X2 done -/
def fX2_done_b73 (th : Nat)  : Nat → Int32 → Int32 → mm_K → mm_P → Nat → Nat → Option (mm_X (Nat × mm_S))
  | 0, _, _, _, _, _, _ => none
  | n + 1, x2, x3, K, P, nx, sl =>
  mm_gd (K.1 th = 2) <|
  mm_bx (fX2_ahead th (0 : Int32) (7 : Int32) K P nx sl) fun r1 =>
  mm_mo (mm_wX mm_waR) r1.2.2.2.1 r1.2.2.2.2 <|
  mm_bd (fX1_isIn x3 r1.1) fun r6 =>
  if r6 = 0 then
  (mm_bd (fJ17_bitCount x3) fun r9 =>
  if r9 ≠ (4 : Int32) then
  (mm_gd (r1.2.1.1 th = 2) <|
  mm_bd (fX2_next r1.2.1 th r1.2.2.1) fun r12 =>
  mm_lt (x3 ||| (mm_shl (1 : Int32) r1.1)) fun v15 =>
  mm_bd (fX2_isSign r1.2.1 th r12 (59 : Int32)) fun r16 =>
  if r16 = 0 then
  (fX2_done_b73 th n x2 v15 r1.2.1 r12 r1.2.2.2.1 r1.2.2.2.2)
  else
  (mm_mo (mm_wX mm_waR) (r1.2.2.2.1 + 1) (r1.2.2.2.2 + 2) <|
  mm_lt (mm_kn r1.2.1 r1.2.2.2.1 19 0) fun K19 =>
  mm_lt (mm_fresh r12 r1.2.2.2.1) fun P20 =>
  mm_bd (fX21_init r1.2.2.2.1 x2 v15 P20) fun r22 =>
  some (.inl (r1.2.2.2.1, K19, r22, r1.2.2.2.1 + 1, r1.2.2.2.2 + 2))))
  else
  (mm_gd (r1.2.1.1 th = 2) <|
  mm_bd (fX2_wrong th (5 : Int32) r1.2.1 r1.2.2.1 r1.2.2.2.1 r1.2.2.2.2) fun r24 =>
  mm_mo (mm_wX mm_waR) r24.2.2.2.1 r24.2.2.2.2 <|
  some (.inr (r24.1, r24.2.1, r24.2.2.1, r24.2.2.2.1, r24.2.2.2.2))))
  else
  (mm_gd (r1.2.1.1 th = 2) <|
  mm_bd (fX2_wrong th (3 : Int32) r1.2.1 r1.2.2.1 r1.2.2.2.1 r1.2.2.2.2) fun r27 =>
  mm_mo (mm_wX mm_waR) r27.2.2.2.1 r27.2.2.2.2 <|
  some (.inr (r27.1, r27.2.1, r27.2.2.1, r27.2.2.2.1, r27.2.2.2.2)))
set_option maxHeartbeats 4000000 in
theorem wfX2_done_b73 {E : mm_E} (C : mm_Cx E RX2 cX2_done 5 (some (.object "PegLaws$Line")) 8 194) {th : Nat} (hT : ∀ z ∈ (eC E).exceptionTable.toList, False) : ∀ (n : Nat), ∀ (x2 : Int32) (x3 : Int32) (K : mm_K) (P : mm_P) (nx : Nat) (sl : Nat), mm_V E ((mm_wX mm_waR)) 73 [some (.ref th), none, some (.int x2), some (.int x3), none] [] K P nx sl (fX2_done_b73 th n x2 x3 K P nx sl) := by
  intro n
  induction n with
  | zero => intro x2 x3 K P nx sl; exact r_none
  | succ n ih =>
    intro x2 x3 K P nx sl
    rw [fX2_done_b73]
    refine r_aload_n C dX2_done_73 rfl rfl ?_
    refine r_iconst (v := 0) C dX2_done_74 rfl ?_
    refine r_bipush (v := 7) C dX2_done_75 rfl ?_
    refine r_gd fun hK3 => ?_
    refine r_bx (fun r1 h2 => ?_) (fun t4 h5 => ?_)
    · refine r_acallV (As := [.int (0 : Int32), .int (7 : Int32)]) (st := []) C (mm_CX_n (mc_X2_ahead hK3 h2) rfl) cv_X2_160 hK3 rfl (Nat.le_of_ble_eq_true rfl) (Nat.le_of_ble_eq_true rfl) rfl (Nat.le_of_ble_eq_true rfl) dX2_done_77 ?_
      refine r_istore (ls' := [some (.ref th), none, some (.int x2), some (.int x3), some (.int r1.1)]) C dX2_done_80 (Nat.le_of_ble_eq_true rfl) rfl rfl ?_
      refine r_iload_n C dX2_done_82 rfl rfl ?_
      refine r_iload C dX2_done_83 rfl ?_
      refine r_bd fun r6 h7 => ?_
      refine r_callSN (As := [.int x3, .int r1.1]) (st := []) C (mc_X1_isIn h7) cv_X2_182  rfl (Nat.le_of_ble_eq_true rfl) (Nat.le_of_ble_eq_true rfl) rfl (Nat.le_of_ble_eq_true rfl) dX2_done_85 ?_
      refine r_ifeq (tgt := 97) C dX2_done_88 (by decide) (fun h8 => ?_) (fun h8 => ?_)
      · refine r_iload_n C dX2_done_97 rfl rfl ?_
        refine r_bd fun r9 h10 => ?_
        refine r_callS (As := [.int x3]) (st := []) C (mc_J17_bitCount h10) cv_X2_252  rfl (Nat.le_of_ble_eq_true rfl) (Nat.le_of_ble_eq_true rfl) rfl (Nat.le_of_ble_eq_true rfl) dX2_done_98 ?_
        refine r_iconst (v := 4) C dX2_done_101 rfl ?_
        refine r_icmpne (tgt := 111) C dX2_done_102 (by decide) (fun h11 => ?_) (fun h11 => ?_)
        · refine r_aload_n C dX2_done_111 rfl rfl ?_
          refine r_gd fun hK14 => ?_
          refine r_bd fun r12 h13 => ?_
          refine r_callVv (As := []) (st := []) C (mc_X2_next hK14 h13) cv_X2_25 hK14 rfl (Nat.le_of_ble_eq_true rfl) (Nat.le_of_ble_eq_true rfl) rfl (Nat.le_of_ble_eq_true rfl) dX2_done_112 ?_
          refine r_iload_n C dX2_done_115 rfl rfl ?_
          refine r_iconst (v := 1) C dX2_done_116 rfl ?_
          refine r_iload C dX2_done_117 rfl ?_
          refine r_ishl C dX2_done_119 ?_
          refine r_ior C dX2_done_120 ?_
          refine r_ltI fun v15 => ?_
          refine r_istore_n (ls' := [some (.ref th), none, some (.int x2), some (.int v15), some (.int r1.1)]) C dX2_done_121 rfl (Nat.le_of_ble_eq_true rfl) rfl rfl ?_
          refine r_aload_n C dX2_done_122 rfl rfl ?_
          refine r_bipush (v := 59) C dX2_done_123 rfl ?_
          refine r_bd fun r16 h17 => ?_
          refine r_callV (As := [.int (59 : Int32)]) (st := []) C (mc_X2_isSign hK14 h17) cv_X2_79 hK14 rfl (Nat.le_of_ble_eq_true rfl) (Nat.le_of_ble_eq_true rfl) rfl (Nat.le_of_ble_eq_true rfl) dX2_done_125 ?_
          refine r_ifeq (tgt := 73) C dX2_done_128 (by decide) (fun h18 => ?_) (fun h18 => ?_)
          · refine r_mask [true, true, true, true, false] (ls' := [some (.ref th), none, some (.int x2), some (.int v15), none]) rfl ?_
            exact ih x2 v15 r1.2.1 r12 r1.2.2.2.1 r1.2.2.2.2
          · refine r_new C nl_X2_257 dX2_done_131 ?_
            refine r_ltK fun K19 e21 => ?_
            refine r_ltP fun P20 => ?_
            refine r_dup C dX2_done_134 rfl ?_
            refine r_iload_n C dX2_done_135 rfl rfl ?_
            refine r_iload_n C dX2_done_136 rfl rfl ?_
            refine r_bd fun r22 h23 => ?_
            refine r_callIv (As := [.int x2, .int v15]) (st := [.ref r1.2.2.2.1]) C (mc_X21_init (by rw [e21]; exact mm_kn_1) h23) cv_X2_259  rfl (Nat.le_of_ble_eq_true rfl) (Nat.le_of_ble_eq_true rfl) rfl (Nat.le_of_ble_eq_true rfl) dX2_done_137 ?_
            exact r_aretR C (Or.inl ⟨_, rfl⟩) dX2_done_140 rfl
        · refine r_aload_n C dX2_done_105 rfl rfl ?_
          refine r_iconst (v := 5) C dX2_done_106 rfl ?_
          refine r_gd fun hK26 => ?_
          refine r_bd fun r24 h25 => ?_
          refine r_acallV (As := [.int (5 : Int32)]) (st := []) C (mc_X2_wrong hK26 h25) cv_X2_75 hK26 rfl (Nat.le_of_ble_eq_true rfl) (Nat.le_of_ble_eq_true rfl) rfl (Nat.le_of_ble_eq_true rfl) dX2_done_107 ?_
          exact r_athrow C (fun z hz => (hT z hz).elim) dX2_done_110 rfl
      · refine r_aload_n C dX2_done_91 rfl rfl ?_
        refine r_iconst (v := 3) C dX2_done_92 rfl ?_
        refine r_gd fun hK29 => ?_
        refine r_bd fun r27 h28 => ?_
        refine r_acallV (As := [.int (3 : Int32)]) (st := []) C (mc_X2_wrong hK29 h28) cv_X2_75 hK29 rfl (Nat.le_of_ble_eq_true rfl) (Nat.le_of_ble_eq_true rfl) rfl (Nat.le_of_ble_eq_true rfl) dX2_done_93 ?_
        exact r_athrow C (fun z hz => (hT z hz).elim) dX2_done_96 rfl
    · exact r_thrV (As := [.int (0 : Int32), .int (7 : Int32)]) (st := []) C (fun z hz => (hT z hz).elim) (mm_CX_t (mc_X2_ahead hK3 h5) rfl) cv_X2_160 hK3 rfl (Nat.le_of_ble_eq_true rfl) (Nat.le_of_ble_eq_true rfl) rfl (Nat.le_of_ble_eq_true rfl) dX2_done_77 rfl rfl
def fX2_done (th : Nat) (x1 : Int32) (K : mm_K) (P : mm_P) (nx : Nat) (sl : Nat) : Option (mm_X (Nat × mm_S)) :=
  mm_mo (mm_wX mm_waR) nx sl <|
  if x1 ≠ (4 : Int32) then
  (if x1 ≠ (3 : Int32) then
  (mm_bx (fX2_cloth th K P nx sl) fun r3 =>
  mm_mo (mm_wX mm_waR) r3.2.2.2.1 r3.2.2.2.2 <|
  mm_gd (r3.2.1.1 th = 2) <|
  mm_bd (fX2_next r3.2.1 th r3.2.2.1) fun r7 =>
  if x1 ≤ 0 then
  (fX2_done_b73 th mm_NF r3.1 (0 : Int32) r3.2.1 r7 r3.2.2.2.1 r3.2.2.2.2)
  else
  (if x1 ≠ (1 : Int32) then
  (mm_mo (mm_wX mm_waR) (r3.2.2.2.1 + 1) (r3.2.2.2.2 + 1) <|
  mm_lt (mm_kn r3.2.1 r3.2.2.2.1 18 0) fun K12 =>
  mm_lt (mm_fresh r7 r3.2.2.2.1) fun P13 =>
  mm_bd (fX20_init r3.2.2.2.1 r3.1 P13) fun r15 =>
  some (.inl (r3.2.2.2.1, K12, r15, r3.2.2.2.1 + 1, r3.2.2.2.2 + 1)))
  else
  (mm_mo (mm_wX mm_waR) (r3.2.2.2.1 + 1) (r3.2.2.2.2 + 1) <|
  mm_lt (mm_kn r3.2.1 r3.2.2.2.1 17 0) fun K17 =>
  mm_lt (mm_fresh r7 r3.2.2.2.1) fun P18 =>
  mm_bd (fX19_init r3.2.2.2.1 r3.1 P18) fun r20 =>
  some (.inl (r3.2.2.2.1, K17, r20, r3.2.2.2.1 + 1, r3.2.2.2.2 + 1)))))
  else
  (mm_mo (mm_wX mm_waR) (nx + 1) (sl + 1) <|
  mm_lt (mm_kn K nx 16 0) fun K22 =>
  mm_lt (mm_fresh P nx) fun P23 =>
  mm_gd (K22.1 th = 2) <|
  mm_bx (fX2_number_2 th (1 : Int32) (9 : Int32) K22 P23 (nx + 1) (sl + 1)) fun r25 =>
  mm_mo (mm_wX mm_waR) r25.2.2.2.1 r25.2.2.2.2 <|
  mm_gd (r25.2.1.1 nx = 16) <|
  mm_bd (fX18_init nx r25.1 r25.2.2.1) fun r30 =>
  some (.inl (nx, r25.2.1, r30, r25.2.2.2.1, r25.2.2.2.2))))
  else
  (mm_mo (mm_wX mm_waR) (nx + 1) (sl + 0) <|
  mm_lt (mm_kn K nx 15 0) fun K33 =>
  mm_lt (mm_fresh P nx) fun P34 =>
  mm_bd (fX17_init nx P34) fun r36 =>
  some (.inl (nx, K33, r36, nx + 1, sl + 0)))
set_option maxHeartbeats 4000000 in
theorem mc_X2_done {l : Launch} {K : mm_K} {P : mm_P} {th : Nat} {x1 : Int32} {nx sl : Nat} {r : (mm_X (Nat × mm_S))} (hk : K.1 th = 2) (h : fX2_done th x1 K P nx sl = some r) : mm_CX l yX2_done (ws_ yX2_done cX2_done 5 (some (.object "PegLaws$Line"))) 8 194 [.ref th, .int x1] K P nx sl ((mm_wX mm_waR) r) :=
  mm_startX (ls := [some (.ref th), some (.int x1), none, none, none]) h (by decide) (Nat.le_of_ble_eq_true rfl) rfl (mm_mo_some h).2.1 (mm_mo_some h).2.2 fun E hl9 _ _ hT C => by
  have C : mm_Cx E RX2 cX2_done 5 (some (.object "PegLaws$Line")) 8 194 := C
  unfold fX2_done
  refine r_mo ?_
  refine r_iload_n C dX2_done_0 rfl rfl ?_
  refine r_iconst (v := 4) C dX2_done_1 rfl ?_
  refine r_icmpne (tgt := 13) C dX2_done_2 (by decide) (fun h1 => ?_) (fun h1 => ?_)
  · refine r_iload_n C dX2_done_13 rfl rfl ?_
    refine r_iconst (v := 3) C dX2_done_14 rfl ?_
    refine r_icmpne (tgt := 33) C dX2_done_15 (by decide) (fun h2 => ?_) (fun h2 => ?_)
    · refine r_aload_n C dX2_done_33 rfl rfl ?_
      refine r_bx (fun r3 h4 => ?_) (fun t5 h6 => ?_)
      · refine r_acallV (As := []) (st := []) C (mm_CX_n (mc_X2_cloth hk h4) rfl) cv_X2_177 hk rfl (Nat.le_of_ble_eq_true rfl) (Nat.le_of_ble_eq_true rfl) rfl (Nat.le_of_ble_eq_true rfl) dX2_done_34 ?_
        refine r_istore_n (ls' := [some (.ref th), some (.int x1), some (.int r3.1), none, none]) C dX2_done_37 rfl (Nat.le_of_ble_eq_true rfl) rfl rfl ?_
        refine r_aload_n C dX2_done_38 rfl rfl ?_
        refine r_gd fun hK9 => ?_
        refine r_bd fun r7 h8 => ?_
        refine r_callVv (As := []) (st := []) C (mc_X2_next hK9 h8) cv_X2_25 hK9 rfl (Nat.le_of_ble_eq_true rfl) (Nat.le_of_ble_eq_true rfl) rfl (Nat.le_of_ble_eq_true rfl) dX2_done_39 ?_
        refine r_iload_n C dX2_done_42 rfl rfl ?_
        refine r_ifle (tgt := 71) C dX2_done_43 (by decide) (fun h10 => ?_) (fun h10 => ?_)
        · refine r_iconst (v := 0) C dX2_done_71 rfl ?_
          refine r_istore_n (ls' := [some (.ref th), some (.int x1), some (.int r3.1), some (.int (0 : Int32)), none]) C dX2_done_72 rfl (Nat.le_of_ble_eq_true rfl) rfl rfl ?_
          refine r_mask [true, false, true, true, true] (ls' := [some (.ref th), none, some (.int r3.1), some (.int (0 : Int32)), none]) rfl ?_
          exact wfX2_done_b73 C hT mm_NF r3.1 (0 : Int32) r3.2.1 r7 r3.2.2.2.1 r3.2.2.2.2
        · refine r_iload_n C dX2_done_46 rfl rfl ?_
          refine r_iconst (v := 1) C dX2_done_47 rfl ?_
          refine r_icmpne (tgt := 62) C dX2_done_48 (by decide) (fun h11 => ?_) (fun h11 => ?_)
          · refine r_new C nl_X2_249 dX2_done_62 ?_
            refine r_ltK fun K12 e14 => ?_
            refine r_ltP fun P13 => ?_
            refine r_dup C dX2_done_65 rfl ?_
            refine r_iload_n C dX2_done_66 rfl rfl ?_
            refine r_bd fun r15 h16 => ?_
            refine r_callIv (As := [.int r3.1]) (st := [.ref r3.2.2.2.1]) C (mc_X20_init (by rw [e14]; exact mm_kn_1) h16) cv_X2_251  rfl (Nat.le_of_ble_eq_true rfl) (Nat.le_of_ble_eq_true rfl) rfl (Nat.le_of_ble_eq_true rfl) dX2_done_67 ?_
            exact r_aretR C (Or.inl ⟨_, rfl⟩) dX2_done_70 rfl
          · refine r_new C nl_X2_246 dX2_done_51 ?_
            refine r_ltK fun K17 e19 => ?_
            refine r_ltP fun P18 => ?_
            refine r_dup C dX2_done_54 rfl ?_
            refine r_iload_n C dX2_done_55 rfl rfl ?_
            refine r_bd fun r20 h21 => ?_
            refine r_callIv (As := [.int r3.1]) (st := [.ref r3.2.2.2.1]) C (mc_X19_init (by rw [e19]; exact mm_kn_1) h21) cv_X2_248  rfl (Nat.le_of_ble_eq_true rfl) (Nat.le_of_ble_eq_true rfl) rfl (Nat.le_of_ble_eq_true rfl) dX2_done_56 ?_
            refine r_goto (tgt := 70) C dX2_done_59 (by decide) ?_
            exact r_aretR C (Or.inl ⟨_, rfl⟩) dX2_done_70 rfl
      · exact r_thrV (As := []) (st := []) C (fun z hz => (hT z hz).elim) (mm_CX_t (mc_X2_cloth hk h6) rfl) cv_X2_177 hk rfl (Nat.le_of_ble_eq_true rfl) (Nat.le_of_ble_eq_true rfl) rfl (Nat.le_of_ble_eq_true rfl) dX2_done_34 rfl rfl
    · refine r_new C nl_X2_243 dX2_done_18 ?_
      refine r_ltK fun K22 e24 => ?_
      refine r_ltP fun P23 => ?_
      refine r_dup C dX2_done_21 rfl ?_
      refine r_aload_n C dX2_done_22 rfl rfl ?_
      refine r_iconst (v := 1) C dX2_done_23 rfl ?_
      refine r_bipush (v := 9) C dX2_done_24 rfl ?_
      refine r_gd fun hK27 => ?_
      refine r_bx (fun r25 h26 => ?_) (fun t28 h29 => ?_)
      · refine r_acallV (As := [.int (1 : Int32), .int (9 : Int32)]) (st := [.ref nx, .ref nx]) C (mm_CX_n (mc_X2_number_2 hK27 h26) rfl) cv_X2_102 hK27 rfl (Nat.le_of_ble_eq_true rfl) (Nat.le_of_ble_eq_true rfl) rfl (Nat.le_of_ble_eq_true rfl) dX2_done_26 ?_
        refine r_gd fun hK32 => ?_
        refine r_bd fun r30 h31 => ?_
        refine r_callIv (As := [.int r25.1]) (st := [.ref nx]) C (mc_X18_init hK32 h31) cv_X2_245  rfl (Nat.le_of_ble_eq_true rfl) (Nat.le_of_ble_eq_true rfl) rfl (Nat.le_of_ble_eq_true rfl) dX2_done_29 ?_
        exact r_aretR C (Or.inl ⟨_, rfl⟩) dX2_done_32 rfl
      · exact r_thrV (As := [.int (1 : Int32), .int (9 : Int32)]) (st := [.ref nx, .ref nx]) C (fun z hz => (hT z hz).elim) (mm_CX_t (mc_X2_number_2 hK27 h29) rfl) cv_X2_102 hK27 rfl (Nat.le_of_ble_eq_true rfl) (Nat.le_of_ble_eq_true rfl) rfl (Nat.le_of_ble_eq_true rfl) dX2_done_26 rfl rfl
  · refine r_new C nl_X2_240 dX2_done_5 ?_
    refine r_ltK fun K33 e35 => ?_
    refine r_ltP fun P34 => ?_
    refine r_dup C dX2_done_8 rfl ?_
    refine r_bd fun r36 h37 => ?_
    refine r_callINv (As := []) (st := [.ref nx]) C (mc_X17_init (by rw [e35]; exact mm_kn_1) h37) cv_X2_242  rfl (Nat.le_of_ble_eq_true rfl) (Nat.le_of_ble_eq_true rfl) rfl (Nat.le_of_ble_eq_true rfl) dX2_done_9 ?_
    exact r_aretR C (Or.inl ⟨_, rfl⟩) dX2_done_12 rfl
theorem nl_X2_151 : mm_NL RX2 151 21 3 := ⟨RJ2, TJ2, _, tyJ2, rfl, in_J2, rfl, by decide +kernel, q1091, q222, q138, tyJ2_ok, rfl⟩
theorem cv_X2_233 : mm_CI RX2 233 yJ2_init cJ2_init 2 1 := ⟨q225, q138, q1092, q224, rfl, ⟨by decide +kernel, by decide +kernel, by decide +kernel⟩⟩
theorem cv_X2_236 : mm_CV RX2 236 yX2_done cX2_done 5 (some (.object "PegLaws$Line")) 1 2 := ⟨RX2, TX2, 8, _, lw_V q1094 q1096 qs27 q134 q1097, ⟨rfl, by decide +kernel, by decide +kernel, by decide +kernel⟩, rfl, rfl⟩
/-! X2 day -/
def fX2_day_b14 (th : Nat)  : Nat → Nat → mm_K → mm_P → Nat → Nat → Option (mm_X (Nat × mm_S))
  | 0, _, _, _, _, _ => none
  | n + 1, x2, K, P, nx, sl =>
  mm_gd (K.1 th = 2) <|
  if (gI P 259 th) = 0 then
  (some (.inl (x2, K, P, nx, sl)))
  else
  (mm_bd (gR P 17 0) fun b3 =>
  mm_bd (fX2_which K th b3 P) fun r5 =>
  if 0 ≤ r5.1 then
  (mm_gd (K.1 x2 = 21) <|
  mm_bd (fJ2_size x2 r5.2) fun r8 =>
  if r8 ≠ (30 : Int32) then
  (mm_bd (fX2_next K th r5.2) fun r12 =>
  mm_bx (fX2_done th r5.1 K r12 nx sl) fun r14 =>
  mm_mo (mm_wX mm_waR) r14.2.2.2.1 r14.2.2.2.2 <|
  mm_gd (r14.2.1.1 x2 = 21) <|
  mm_bd (fJ2_add x2 r14.1 r14.2.1 r14.2.2.1 r14.2.2.2.1 r14.2.2.2.2) fun r18 =>
  mm_mo (mm_wX mm_waR) r18.2.2.2.1 r18.2.2.2.2 <|
  mm_gd (r18.2.1.1 th = 2) <|
  mm_bx (fX2_need_2 th (59 : Int32) r18.2.1 r18.2.2.1 r18.2.2.2.1 r18.2.2.2.2) fun r21 =>
  mm_mo (mm_wX mm_waR) r21.2.2.1 r21.2.2.2 <|
  fX2_day_b14 th n x2 r21.1 r21.2.1 r21.2.2.1 r21.2.2.2)
  else
  (mm_bd (fX2_wrong th (5 : Int32) K r5.2 nx sl) fun r26 =>
  mm_mo (mm_wX mm_waR) r26.2.2.2.1 r26.2.2.2.2 <|
  some (.inr (r26.1, r26.2.1, r26.2.2.1, r26.2.2.2.1, r26.2.2.2.2))))
  else
  (mm_bd (fX2_wrong th (1 : Int32) K r5.2 nx sl) fun r28 =>
  mm_mo (mm_wX mm_waR) r28.2.2.2.1 r28.2.2.2.2 <|
  some (.inr (r28.1, r28.2.1, r28.2.2.1, r28.2.2.2.1, r28.2.2.2.2))))
set_option maxHeartbeats 4000000 in
theorem wfX2_day_b14 {E : mm_E} (C : mm_Cx E RX2 cX2_day 4 (some (.object "java/util/ArrayList")) 9 218) {th : Nat} (hT : ∀ z ∈ (eC E).exceptionTable.toList, False) : ∀ (n : Nat), ∀ (x2 : Nat) (K : mm_K) (P : mm_P) (nx : Nat) (sl : Nat), mm_V E ((mm_wX mm_waR)) 14 [some (.ref th), none, some (.ref x2), none] [] K P nx sl (fX2_day_b14 th n x2 K P nx sl) := by
  intro n
  induction n with
  | zero => intro x2 K P nx sl; exact r_none
  | succ n ih =>
    intro x2 K P nx sl
    rw [fX2_day_b14]
    refine r_aload_n C dX2_day_14 rfl rfl ?_
    refine r_gd fun hK1 => ?_
    refine r_getI (code := 259) C fl_X2_31 hK1 rfl dX2_day_15 ?_
    refine r_ifeq (tgt := 76) C dX2_day_18 (by decide) (fun h2 => ?_) (fun h2 => ?_)
    · refine r_aload_n C dX2_day_76 rfl rfl ?_
      exact r_aretR C (Or.inl ⟨_, rfl⟩) dX2_day_77 rfl
    · refine r_aload_n C dX2_day_21 rfl rfl ?_
      refine r_ldcS (i := 7) (tx := "hang take wash buy hour ") C (by decide) (by decide) dX2_day_22 fun b3 h4 => ?_
      refine r_bd fun r5 h6 => ?_
      refine r_callV (As := [.ref b3]) (st := []) C (mc_X2_which hK1 h6) cv_X2_71 hK1 rfl (Nat.le_of_ble_eq_true rfl) (Nat.le_of_ble_eq_true rfl) rfl (Nat.le_of_ble_eq_true rfl) dX2_day_24 ?_
      refine r_istore_n (ls' := [some (.ref th), none, some (.ref x2), some (.int r5.1)]) C dX2_day_27 rfl (Nat.le_of_ble_eq_true rfl) rfl rfl ?_
      refine r_iload_n C dX2_day_28 rfl rfl ?_
      refine r_ifge (tgt := 38) C dX2_day_29 (by decide) (fun h7 => ?_) (fun h7 => ?_)
      · refine r_aload_n C dX2_day_38 rfl rfl ?_
        refine r_gd fun hK10 => ?_
        refine r_bd fun r8 h9 => ?_
        refine r_callV (As := []) (st := []) C (mc_J2_size hK10 h9) cv_X2_150 hK10 rfl (Nat.le_of_ble_eq_true rfl) (Nat.le_of_ble_eq_true rfl) rfl (Nat.le_of_ble_eq_true rfl) dX2_day_39 ?_
        refine r_bipush (v := 30) C dX2_day_42 rfl ?_
        refine r_icmpne (tgt := 53) C dX2_day_44 (by decide) (fun h11 => ?_) (fun h11 => ?_)
        · refine r_aload_n C dX2_day_53 rfl rfl ?_
          refine r_bd fun r12 h13 => ?_
          refine r_callVv (As := []) (st := []) C (mc_X2_next hK1 h13) cv_X2_25 hK1 rfl (Nat.le_of_ble_eq_true rfl) (Nat.le_of_ble_eq_true rfl) rfl (Nat.le_of_ble_eq_true rfl) dX2_day_54 ?_
          refine r_aload_n C dX2_day_57 rfl rfl ?_
          refine r_aload_n C dX2_day_58 rfl rfl ?_
          refine r_iload_n C dX2_day_59 rfl rfl ?_
          refine r_bx (fun r14 h15 => ?_) (fun t16 h17 => ?_)
          · refine r_acallV (As := [.int r5.1]) (st := [.ref x2]) C (mm_CX_n (mc_X2_done hK1 h15) rfl) cv_X2_236 hK1 rfl (Nat.le_of_ble_eq_true rfl) (Nat.le_of_ble_eq_true rfl) rfl (Nat.le_of_ble_eq_true rfl) dX2_day_60 ?_
            refine r_gd fun hK20 => ?_
            refine r_bd fun r18 h19 => ?_
            refine r_acallV (As := [.ref r14.1]) (st := []) C (mc_J2_add hK20 h19) cv_X2_229 hK20 rfl (Nat.le_of_ble_eq_true rfl) (Nat.le_of_ble_eq_true rfl) rfl (Nat.le_of_ble_eq_true rfl) dX2_day_63 ?_
            refine r_pop C dX2_day_66 rfl ?_
            refine r_aload_n C dX2_day_67 rfl rfl ?_
            refine r_bipush (v := 59) C dX2_day_68 rfl ?_
            refine r_gd fun hK23 => ?_
            refine r_bx (fun r21 h22 => ?_) (fun t24 h25 => ?_)
            · refine r_acallVv (As := [.int (59 : Int32)]) (st := []) C (mm_CX_n (mc_X2_need_2 hK23 h22) rfl) cv_X2_157 hK23 rfl (Nat.le_of_ble_eq_true rfl) (Nat.le_of_ble_eq_true rfl) rfl (Nat.le_of_ble_eq_true rfl) dX2_day_70 ?_
              refine r_goto (tgt := 14) C dX2_day_73 (by decide) ?_
              refine r_mask [true, true, true, false] (ls' := [some (.ref th), none, some (.ref x2), none]) rfl ?_
              exact ih x2 r21.1 r21.2.1 r21.2.2.1 r21.2.2.2
            · exact r_thrV (As := [.int (59 : Int32)]) (st := []) C (fun z hz => (hT z hz).elim) (mm_CX_t (mc_X2_need_2 hK23 h25) rfl) cv_X2_157 hK23 rfl (Nat.le_of_ble_eq_true rfl) (Nat.le_of_ble_eq_true rfl) rfl (Nat.le_of_ble_eq_true rfl) dX2_day_70 rfl rfl
          · exact r_thrV (As := [.int r5.1]) (st := [.ref x2]) C (fun z hz => (hT z hz).elim) (mm_CX_t (mc_X2_done hK1 h17) rfl) cv_X2_236 hK1 rfl (Nat.le_of_ble_eq_true rfl) (Nat.le_of_ble_eq_true rfl) rfl (Nat.le_of_ble_eq_true rfl) dX2_day_60 rfl rfl
        · refine r_aload_n C dX2_day_47 rfl rfl ?_
          refine r_iconst (v := 5) C dX2_day_48 rfl ?_
          refine r_bd fun r26 h27 => ?_
          refine r_acallV (As := [.int (5 : Int32)]) (st := []) C (mc_X2_wrong hK1 h27) cv_X2_75 hK1 rfl (Nat.le_of_ble_eq_true rfl) (Nat.le_of_ble_eq_true rfl) rfl (Nat.le_of_ble_eq_true rfl) dX2_day_49 ?_
          exact r_athrow C (fun z hz => (hT z hz).elim) dX2_day_52 rfl
      · refine r_aload_n C dX2_day_32 rfl rfl ?_
        refine r_iconst (v := 1) C dX2_day_33 rfl ?_
        refine r_bd fun r28 h29 => ?_
        refine r_acallV (As := [.int (1 : Int32)]) (st := []) C (mc_X2_wrong hK1 h29) cv_X2_75 hK1 rfl (Nat.le_of_ble_eq_true rfl) (Nat.le_of_ble_eq_true rfl) rfl (Nat.le_of_ble_eq_true rfl) dX2_day_34 ?_
        exact r_athrow C (fun z hz => (hT z hz).elim) dX2_day_37 rfl
def fX2_day (th : Nat) (x1 : Nat) (K : mm_K) (P : mm_P) (nx : Nat) (sl : Nat) : Option (mm_X (Nat × mm_S)) :=
  mm_mo (mm_wX mm_waR) nx sl <|
  mm_lt (sR P 263 th (some x1)) fun P1 =>
  mm_mo (mm_wX mm_waR) (nx + 1) (sl + 3) <|
  mm_lt (mm_kn K nx 21 0) fun K2 =>
  mm_lt (mm_fresh P1 nx) fun P3 =>
  mm_bd (fJ2_init nx (4 : Int32) K2 P3 (nx + 1) (sl + 3)) fun r5 =>
  mm_mo (mm_wX mm_waR) r5.2.2.1 r5.2.2.2 <|
  fX2_day_b14 th mm_NF nx r5.1 r5.2.1 r5.2.2.1 r5.2.2.2
set_option maxHeartbeats 4000000 in
theorem mc_X2_day {l : Launch} {K : mm_K} {P : mm_P} {th : Nat} {x1 : Nat} {nx sl : Nat} {r : (mm_X (Nat × mm_S))} (hk : K.1 th = 2) (h : fX2_day th x1 K P nx sl = some r) : mm_CX l yX2_day (ws_ yX2_day cX2_day 4 (some (.object "java/util/ArrayList"))) 9 218 [.ref th, .ref x1] K P nx sl ((mm_wX mm_waR) r) :=
  mm_startX (ls := [some (.ref th), some (.ref x1), none, none]) h (by decide) (Nat.le_of_ble_eq_true rfl) rfl (mm_mo_some h).2.1 (mm_mo_some h).2.2 fun E hl9 _ _ hT C => by
  have C : mm_Cx E RX2 cX2_day 4 (some (.object "java/util/ArrayList")) 9 218 := C
  unfold fX2_day
  refine r_mo ?_
  refine r_aload_n C dX2_day_0 rfl rfl ?_
  refine r_aload_n C dX2_day_1 rfl rfl ?_
  refine r_putR (code := 263) (x := (some x1)) C fl_X2_105 hk rfl rfl rfl (mm_nrO _) (mm_ftO _) dX2_day_2 ?_
  refine r_ltP fun P1 => ?_
  refine r_new C nl_X2_151 dX2_day_5 ?_
  refine r_ltK fun K2 e4 => ?_
  refine r_ltP fun P3 => ?_
  refine r_dup C dX2_day_8 rfl ?_
  refine r_iconst (v := 4) C dX2_day_9 rfl ?_
  refine r_bd fun r5 h6 => ?_
  refine r_acallIv (As := [.int (4 : Int32)]) (st := [.ref nx]) C (mc_J2_init (by rw [e4]; exact mm_kn_1) h6) cv_X2_233  rfl (Nat.le_of_ble_eq_true rfl) (Nat.le_of_ble_eq_true rfl) rfl (Nat.le_of_ble_eq_true rfl) dX2_day_10 ?_
  refine r_astore_n (ls' := [some (.ref th), some (.ref x1), some (.ref nx), none]) C dX2_day_13 rfl (Nat.le_of_ble_eq_true rfl) rfl rfl ?_
  refine r_mask [true, false, true, true] (ls' := [some (.ref th), none, some (.ref nx), none]) rfl ?_
  exact wfX2_day_b14 C hT mm_NF nx r5.1 r5.2.1 r5.2.2.1 r5.2.2.2
