/-! printed by gen_pl.py: constructors; what makes States -/
set_option maxRecDepth 100000
/-! X11 init -/
def fX11_init (th : Nat)  (P : mm_P) : Option mm_P :=
  some P
set_option maxHeartbeats 4000000 in
theorem mc_X11_init {l : Launch} {K : mm_K} {P : mm_P} {th : Nat}  {nx sl : Nat} {r : mm_P} (h : fX11_init th P = some r) : mm_C l yX11_init (ws_ yX11_init cX11_init 1 none) 1 20 [.ref th] K P nx sl (mm_wwV K nx sl r) :=
  mm_start (ls := [some (.ref th)]) h (by decide) (Nat.le_of_ble_eq_true rfl) rfl (Nat.le_refl _) (Nat.le_refl _) rfl fun E hl9 _ _ hin C => by
  have hin := hin rfl
  have C : mm_Cx E RX11 cX11_init 1 none 1 20 := C
  unfold fX11_init
  refine r_aload_n C dX11_init_0 rfl rfl ?_
  refine r_objinit C q1037 q181 q182 (Nat.le_of_ble_eq_true rfl) (Nat.le_of_ble_eq_true rfl) (Nat.le_of_ble_eq_true rfl) dX11_init_1 ?_
  exact r_vret C dX11_init_4 rfl
/-! X16 init -/
def fX16_init (th : Nat)  (P : mm_P) : Option mm_P :=
  some P
set_option maxHeartbeats 4000000 in
theorem mc_X16_init {l : Launch} {K : mm_K} {P : mm_P} {th : Nat}  {nx sl : Nat} {r : mm_P} (h : fX16_init th P = some r) : mm_C l yX16_init (ws_ yX16_init cX16_init 1 none) 1 20 [.ref th] K P nx sl (mm_wwV K nx sl r) :=
  mm_start (ls := [some (.ref th)]) h (by decide) (Nat.le_of_ble_eq_true rfl) rfl (Nat.le_refl _) (Nat.le_refl _) rfl fun E hl9 _ _ hin C => by
  have hin := hin rfl
  have C : mm_Cx E RX16 cX16_init 1 none 1 20 := C
  unfold fX16_init
  refine r_aload_n C dX16_init_0 rfl rfl ?_
  refine r_objinit C q1106 q181 q182 (Nat.le_of_ble_eq_true rfl) (Nat.le_of_ble_eq_true rfl) (Nat.le_of_ble_eq_true rfl) dX16_init_1 ?_
  exact r_vret C dX16_init_4 rfl
theorem ff_X7_9 {k : Nat} (h : mm_isC k) : mm_FF RX7 9 k 0 mm_r (tyX7 0) := by
  rcases mm_isC_or h with rfl | rfl | rfl | rfl
  · exact ⟨RX7, TX7, 4, _, tyX7, rfl, in_X7, rfl, rfl, Nat.le_of_ble_eq_true rfl, q862, tyX7_ok, nmX7, rfl, rfl, rfl⟩
  · exact ⟨RX8, TX8, 4, _, tyX8, rfl, in_X8, rfl, rfl, Nat.le_of_ble_eq_true rfl, q862, tyX8_ok, nmX8, rfl, rfl, rfl⟩
  · exact ⟨RX9, TX9, 4, _, tyX9, rfl, in_X9, rfl, rfl, Nat.le_of_ble_eq_true rfl, q862, tyX9_ok, nmX9, rfl, rfl, rfl⟩
  · exact ⟨RX10, TX10, 4, _, tyX10, rfl, in_X10, rfl, rfl, Nat.le_of_ble_eq_true rfl, q862, tyX10_ok, nmX10, rfl, rfl, rfl⟩
/-! X7 init -/
def fX7_init (th : Nat) (x1 : Nat) (P : mm_P) : Option mm_P :=
  mm_lt (sR P 896 th (some x1)) fun P1 =>
  some P1
set_option maxHeartbeats 4000000 in
theorem mc_X7_init {l : Launch} {K : mm_K} {P : mm_P} {th : Nat} {x1 : Nat} {nx sl : Nat} {r : mm_P} (hk : mm_isC (K.1 th)) (h : fX7_init th x1 P = some r) : mm_C l yX7_init (ws_ yX7_init cX7_init 2 none) 1 20 [.ref th, .ref x1] K P nx sl (mm_wwV K nx sl r) :=
  mm_start (ls := [some (.ref th), some (.ref x1)]) h (by decide) (Nat.le_of_ble_eq_true rfl) rfl (Nat.le_refl _) (Nat.le_refl _) rfl fun E hl9 _ _ hin C => by
  have hin := hin rfl
  have C : mm_Cx E RX7 cX7_init 2 none 1 20 := C
  unfold fX7_init
  refine r_aload_n C dX7_init_0 rfl rfl ?_
  refine r_objinit C q861 q181 q182 (Nat.le_of_ble_eq_true rfl) (Nat.le_of_ble_eq_true rfl) (Nat.le_of_ble_eq_true rfl) dX7_init_1 ?_
  refine r_aload_n C dX7_init_4 rfl rfl ?_
  refine r_aload_n C dX7_init_5 rfl rfl ?_
  refine r_putRF (code := 896) (x := (some x1)) C hin (ff_X7_9 hk) rfl (mm_roC hk) (mm_bsC hk _) rfl (mm_nrO _) (mm_ftO _) dX7_init_6 ?_
  refine r_ltP fun P1 => ?_
  exact r_vret C dX7_init_9 rfl
theorem cv_X8_3 : mm_CI RX8 3 yX7_init cX7_init 2 1 := ⟨q860, q157, q886, q859, rfl, ⟨by decide +kernel, by decide +kernel, by decide +kernel⟩⟩
/-! X8 init -/
def fX8_init (th : Nat) (x1 : Nat) (P : mm_P) : Option mm_P :=
  mm_bd (fX7_init th x1 P) fun r1 =>
  some r1
set_option maxHeartbeats 4000000 in
theorem mc_X8_init {l : Launch} {K : mm_K} {P : mm_P} {th : Nat} {x1 : Nat} {nx sl : Nat} {r : mm_P} (hk : K.1 th = 8) (h : fX8_init th x1 P = some r) : mm_C l yX8_init (ws_ yX8_init cX8_init 2 none) 2 41 [.ref th, .ref x1] K P nx sl (mm_wwV K nx sl r) :=
  mm_start (ls := [some (.ref th), some (.ref x1)]) h (by decide) (Nat.le_of_ble_eq_true rfl) rfl (Nat.le_refl _) (Nat.le_refl _) rfl fun E hl9 _ _ hin C => by
  have hin := hin rfl
  have C : mm_Cx E RX8 cX8_init 2 none 2 41 := C
  unfold fX8_init
  refine r_aload_n C dX8_init_0 rfl rfl ?_
  refine r_aload_n C dX8_init_1 rfl rfl ?_
  refine r_bd fun r1 h2 => ?_
  refine r_callIv (As := [.ref x1]) (st := []) C (mc_X7_init (mm_isC_of (k := 8) hk (by decide)) h2) cv_X8_3  rfl (Nat.le_of_ble_eq_true rfl) (Nat.le_of_ble_eq_true rfl) rfl (Nat.le_of_ble_eq_true rfl) dX8_init_2 ?_
  exact r_vret C dX8_init_5 rfl
theorem cv_X9_1 : mm_CI RX9 1 yX7_init cX7_init 2 1 := ⟨q860, q157, q897, q859, rfl, ⟨by decide +kernel, by decide +kernel, by decide +kernel⟩⟩
/-! X9 init -/
def fX9_init (th : Nat) (x1 : Nat) (P : mm_P) : Option mm_P :=
  mm_bd (fX7_init th x1 P) fun r1 =>
  some r1
set_option maxHeartbeats 4000000 in
theorem mc_X9_init {l : Launch} {K : mm_K} {P : mm_P} {th : Nat} {x1 : Nat} {nx sl : Nat} {r : mm_P} (hk : K.1 th = 9) (h : fX9_init th x1 P = some r) : mm_C l yX9_init (ws_ yX9_init cX9_init 2 none) 2 41 [.ref th, .ref x1] K P nx sl (mm_wwV K nx sl r) :=
  mm_start (ls := [some (.ref th), some (.ref x1)]) h (by decide) (Nat.le_of_ble_eq_true rfl) rfl (Nat.le_refl _) (Nat.le_refl _) rfl fun E hl9 _ _ hin C => by
  have hin := hin rfl
  have C : mm_Cx E RX9 cX9_init 2 none 2 41 := C
  unfold fX9_init
  refine r_aload_n C dX9_init_0 rfl rfl ?_
  refine r_aload_n C dX9_init_1 rfl rfl ?_
  refine r_bd fun r1 h2 => ?_
  refine r_callIv (As := [.ref x1]) (st := []) C (mc_X7_init (mm_isC_of (k := 9) hk (by decide)) h2) cv_X9_1  rfl (Nat.le_of_ble_eq_true rfl) (Nat.le_of_ble_eq_true rfl) rfl (Nat.le_of_ble_eq_true rfl) dX9_init_2 ?_
  exact r_vret C dX9_init_5 rfl
theorem cv_X10_1 : mm_CI RX10 1 yX7_init cX7_init 2 1 := ⟨q860, q157, q908, q859, rfl, ⟨by decide +kernel, by decide +kernel, by decide +kernel⟩⟩
/-! X10 init -/
def fX10_init (th : Nat) (x1 : Nat) (P : mm_P) : Option mm_P :=
  mm_bd (fX7_init th x1 P) fun r1 =>
  some r1
set_option maxHeartbeats 4000000 in
theorem mc_X10_init {l : Launch} {K : mm_K} {P : mm_P} {th : Nat} {x1 : Nat} {nx sl : Nat} {r : mm_P} (hk : K.1 th = 10) (h : fX10_init th x1 P = some r) : mm_C l yX10_init (ws_ yX10_init cX10_init 2 none) 2 41 [.ref th, .ref x1] K P nx sl (mm_wwV K nx sl r) :=
  mm_start (ls := [some (.ref th), some (.ref x1)]) h (by decide) (Nat.le_of_ble_eq_true rfl) rfl (Nat.le_refl _) (Nat.le_refl _) rfl fun E hl9 _ _ hin C => by
  have hin := hin rfl
  have C : mm_Cx E RX10 cX10_init 2 none 2 41 := C
  unfold fX10_init
  refine r_aload_n C dX10_init_0 rfl rfl ?_
  refine r_aload_n C dX10_init_1 rfl rfl ?_
  refine r_bd fun r1 h2 => ?_
  refine r_callIv (As := [.ref x1]) (st := []) C (mc_X7_init (mm_isC_of (k := 10) hk (by decide)) h2) cv_X10_1  rfl (Nat.le_of_ble_eq_true rfl) (Nat.le_of_ble_eq_true rfl) rfl (Nat.le_of_ble_eq_true rfl) dX10_init_2 ?_
  exact r_vret C dX10_init_5 rfl
theorem ff_X12_7 : mm_FF RX12 7 11 0 mm_i .int := ⟨RX12, TX12, 1, _, tyX12, rfl, in_X12, rfl, rfl, Nat.le_of_ble_eq_true rfl, q1038, tyX12_ok, nmX12, rfl, rfl, rfl⟩
theorem cv_X12_1 : mm_CIN RX12 1 yX11_init cX11_init 1 0 := ⟨⟨⟨_, nw_in q1034 rfl⟩, q1036, q161, ⟨by decide +kernel, by decide +kernel, by decide +kernel⟩⟩, q1035, rfl⟩
/-! X12 init -/
def fX12_init (th : Nat) (x1 : Int32) (P : mm_P) : Option mm_P :=
  mm_bd (fX11_init th P) fun r1 =>
  mm_lt (sI r1 1408 th x1) fun P3 =>
  some P3
set_option maxHeartbeats 4000000 in
theorem mc_X12_init {l : Launch} {K : mm_K} {P : mm_P} {th : Nat} {x1 : Int32} {nx sl : Nat} {r : mm_P} (hk : K.1 th = 11) (h : fX12_init th x1 P = some r) : mm_C l yX12_init (ws_ yX12_init cX12_init 2 none) 2 40 [.ref th, .int x1] K P nx sl (mm_wwV K nx sl r) :=
  mm_start (ls := [some (.ref th), some (.int x1)]) h (by decide) (Nat.le_of_ble_eq_true rfl) rfl (Nat.le_refl _) (Nat.le_refl _) rfl fun E hl9 _ _ hin C => by
  have hin := hin rfl
  have C : mm_Cx E RX12 cX12_init 2 none 2 40 := C
  unfold fX12_init
  refine r_aload_n C dX12_init_0 rfl rfl ?_
  refine r_bd fun r1 h2 => ?_
  refine r_callINv (As := []) (st := []) C (mc_X11_init h2) cv_X12_1  rfl (Nat.le_of_ble_eq_true rfl) (Nat.le_of_ble_eq_true rfl) rfl (Nat.le_of_ble_eq_true rfl) dX12_init_1 ?_
  refine r_aload_n C dX12_init_4 rfl rfl ?_
  refine r_iload_n C dX12_init_5 rfl rfl ?_
  refine r_putIF (code := 1408) C hin ff_X12_7 hk rfl rfl rfl rfl dX12_init_6 ?_
  refine r_ltP fun P3 => ?_
  exact r_vret C dX12_init_9 rfl
theorem ff_X13_7 : mm_FF RX13 7 12 0 mm_i .int := ⟨RX13, TX13, 1, _, tyX13, rfl, in_X13, rfl, rfl, Nat.le_of_ble_eq_true rfl, q1048, tyX13_ok, nmX13, rfl, rfl, rfl⟩
theorem cv_X13_1 : mm_CIN RX13 1 yX11_init cX11_init 1 0 := ⟨⟨⟨_, nw_in q1047 rfl⟩, q1036, q161, ⟨by decide +kernel, by decide +kernel, by decide +kernel⟩⟩, q1035, rfl⟩
/-! X13 init -/
def fX13_init (th : Nat) (x1 : Int32) (P : mm_P) : Option mm_P :=
  mm_bd (fX11_init th P) fun r1 =>
  mm_lt (sI r1 1536 th x1) fun P3 =>
  some P3
set_option maxHeartbeats 4000000 in
theorem mc_X13_init {l : Launch} {K : mm_K} {P : mm_P} {th : Nat} {x1 : Int32} {nx sl : Nat} {r : mm_P} (hk : K.1 th = 12) (h : fX13_init th x1 P = some r) : mm_C l yX13_init (ws_ yX13_init cX13_init 2 none) 2 40 [.ref th, .int x1] K P nx sl (mm_wwV K nx sl r) :=
  mm_start (ls := [some (.ref th), some (.int x1)]) h (by decide) (Nat.le_of_ble_eq_true rfl) rfl (Nat.le_refl _) (Nat.le_refl _) rfl fun E hl9 _ _ hin C => by
  have hin := hin rfl
  have C : mm_Cx E RX13 cX13_init 2 none 2 40 := C
  unfold fX13_init
  refine r_aload_n C dX13_init_0 rfl rfl ?_
  refine r_bd fun r1 h2 => ?_
  refine r_callINv (As := []) (st := []) C (mc_X11_init h2) cv_X13_1  rfl (Nat.le_of_ble_eq_true rfl) (Nat.le_of_ble_eq_true rfl) rfl (Nat.le_of_ble_eq_true rfl) dX13_init_1 ?_
  refine r_aload_n C dX13_init_4 rfl rfl ?_
  refine r_iload_n C dX13_init_5 rfl rfl ?_
  refine r_putIF (code := 1536) C hin ff_X13_7 hk rfl rfl rfl rfl dX13_init_6 ?_
  refine r_ltP fun P3 => ?_
  exact r_vret C dX13_init_9 rfl
theorem ff_X14_7 : mm_FF RX14 7 13 0 mm_r (tyX14 0) := ⟨RX14, TX14, 1, _, tyX14, rfl, in_X14, rfl, rfl, Nat.le_of_ble_eq_true rfl, q1058, tyX14_ok, nmX14, rfl, rfl, rfl⟩
theorem cv_X14_1 : mm_CIN RX14 1 yX11_init cX11_init 1 0 := ⟨⟨⟨_, nw_in q1057 rfl⟩, q1036, q161, ⟨by decide +kernel, by decide +kernel, by decide +kernel⟩⟩, q1035, rfl⟩
/-! X14 init -/
def fX14_init (th : Nat) (x1 : Nat) (P : mm_P) : Option mm_P :=
  mm_bd (fX11_init th P) fun r1 =>
  mm_lt (sR r1 1664 th (some x1)) fun P3 =>
  some P3
set_option maxHeartbeats 4000000 in
theorem mc_X14_init {l : Launch} {K : mm_K} {P : mm_P} {th : Nat} {x1 : Nat} {nx sl : Nat} {r : mm_P} (hk : K.1 th = 13) (h : fX14_init th x1 P = some r) : mm_C l yX14_init (ws_ yX14_init cX14_init 2 none) 2 40 [.ref th, .ref x1] K P nx sl (mm_wwV K nx sl r) :=
  mm_start (ls := [some (.ref th), some (.ref x1)]) h (by decide) (Nat.le_of_ble_eq_true rfl) rfl (Nat.le_refl _) (Nat.le_refl _) rfl fun E hl9 _ _ hin C => by
  have hin := hin rfl
  have C : mm_Cx E RX14 cX14_init 2 none 2 40 := C
  unfold fX14_init
  refine r_aload_n C dX14_init_0 rfl rfl ?_
  refine r_bd fun r1 h2 => ?_
  refine r_callINv (As := []) (st := []) C (mc_X11_init h2) cv_X14_1  rfl (Nat.le_of_ble_eq_true rfl) (Nat.le_of_ble_eq_true rfl) rfl (Nat.le_of_ble_eq_true rfl) dX14_init_1 ?_
  refine r_aload_n C dX14_init_4 rfl rfl ?_
  refine r_aload_n C dX14_init_5 rfl rfl ?_
  refine r_putRF (code := 1664) (x := (some x1)) C hin ff_X14_7 hk rfl rfl rfl (mm_nrO _) (mm_ftO _) dX14_init_6 ?_
  refine r_ltP fun P3 => ?_
  exact r_vret C dX14_init_9 rfl
theorem ff_X15_13 : mm_FF RX15 13 14 1 mm_r (tyX15 1) := ⟨RX15, TX15, 3, _, tyX15, rfl, in_X15, rfl, rfl, Nat.le_of_ble_eq_true rfl, q1073, tyX15_ok, nmX15, rfl, rfl, rfl⟩
theorem ff_X15_17 : mm_FF RX15 17 14 2 mm_r (tyX15 2) := ⟨RX15, TX15, 3, _, tyX15, rfl, in_X15, rfl, rfl, Nat.le_of_ble_eq_true rfl, q1074, tyX15_ok, nmX15, rfl, rfl, rfl⟩
theorem ff_X15_7 : mm_FF RX15 7 14 0 mm_i .char := ⟨RX15, TX15, 3, _, tyX15, rfl, in_X15, rfl, rfl, Nat.le_of_ble_eq_true rfl, q1072, tyX15_ok, nmX15, rfl, rfl, rfl⟩
theorem cv_X15_1 : mm_CIN RX15 1 yX11_init cX11_init 1 0 := ⟨⟨⟨_, nw_in q1071 rfl⟩, q1036, q161, ⟨by decide +kernel, by decide +kernel, by decide +kernel⟩⟩, q1035, rfl⟩
/-! X15 init -/
def fX15_init (th : Nat) (x1 : Int32) (x2 : Nat) (x3 : Nat) (P : mm_P) : Option mm_P :=
  mm_bd (fX11_init th P) fun r1 =>
  mm_gd (mm_nC x1 = x1) <|
  mm_lt (sI r1 1792 th x1) fun P3 =>
  mm_lt (sR P3 1793 th (some x2)) fun P5 =>
  mm_lt (sR P5 1794 th (some x3)) fun P6 =>
  some P6
set_option maxHeartbeats 4000000 in
theorem mc_X15_init {l : Launch} {K : mm_K} {P : mm_P} {th : Nat} {x1 : Int32} {x2 : Nat} {x3 : Nat} {nx sl : Nat} {r : mm_P} (hk : K.1 th = 14) (h : fX15_init th x1 x2 x3 P = some r) : mm_C l yX15_init (ws_ yX15_init cX15_init 4 none) 2 40 [.ref th, .int x1, .ref x2, .ref x3] K P nx sl (mm_wwV K nx sl r) :=
  mm_start (ls := [some (.ref th), some (.int x1), some (.ref x2), some (.ref x3)]) h (by decide) (Nat.le_of_ble_eq_true rfl) rfl (Nat.le_refl _) (Nat.le_refl _) rfl fun E hl9 _ _ hin C => by
  have hin := hin rfl
  have C : mm_Cx E RX15 cX15_init 4 none 2 40 := C
  unfold fX15_init
  refine r_aload_n C dX15_init_0 rfl rfl ?_
  refine r_bd fun r1 h2 => ?_
  refine r_callINv (As := []) (st := []) C (mc_X11_init h2) cv_X15_1  rfl (Nat.le_of_ble_eq_true rfl) (Nat.le_of_ble_eq_true rfl) rfl (Nat.le_of_ble_eq_true rfl) dX15_init_1 ?_
  refine r_aload_n C dX15_init_4 rfl rfl ?_
  refine r_iload_n C dX15_init_5 rfl rfl ?_
  refine r_gd fun h4 => ?_
  refine r_putIF (code := 1792) C hin ff_X15_7 hk rfl rfl (mm_nC_n h4) (mm_nC_f h4) dX15_init_6 ?_
  refine r_ltP fun P3 => ?_
  refine r_aload_n C dX15_init_9 rfl rfl ?_
  refine r_aload_n C dX15_init_10 rfl rfl ?_
  refine r_putRF (code := 1793) (x := (some x2)) C hin ff_X15_13 hk rfl rfl rfl (mm_nrO _) (mm_ftO _) dX15_init_11 ?_
  refine r_ltP fun P5 => ?_
  refine r_aload_n C dX15_init_14 rfl rfl ?_
  refine r_aload_n C dX15_init_15 rfl rfl ?_
  refine r_putRF (code := 1794) (x := (some x3)) C hin ff_X15_17 hk rfl rfl rfl (mm_nrO _) (mm_ftO _) dX15_init_16 ?_
  refine r_ltP fun P6 => ?_
  exact r_vret C dX15_init_19 rfl
theorem cv_X17_1 : mm_CIN RX17 1 yX16_init cX16_init 1 0 := ⟨⟨⟨_, nw_in q1103 rfl⟩, q1105, q166, ⟨by decide +kernel, by decide +kernel, by decide +kernel⟩⟩, q1104, rfl⟩
/-! X17 init -/
def fX17_init (th : Nat)  (P : mm_P) : Option mm_P :=
  mm_bd (fX16_init th P) fun r1 =>
  some r1
set_option maxHeartbeats 4000000 in
theorem mc_X17_init {l : Launch} {K : mm_K} {P : mm_P} {th : Nat}  {nx sl : Nat} {r : mm_P} (hk : K.1 th = 15) (h : fX17_init th P = some r) : mm_C l yX17_init (ws_ yX17_init cX17_init 1 none) 2 40 [.ref th] K P nx sl (mm_wwV K nx sl r) :=
  mm_start (ls := [some (.ref th)]) h (by decide) (Nat.le_of_ble_eq_true rfl) rfl (Nat.le_refl _) (Nat.le_refl _) rfl fun E hl9 _ _ hin C => by
  have hin := hin rfl
  have C : mm_Cx E RX17 cX17_init 1 none 2 40 := C
  unfold fX17_init
  refine r_aload_n C dX17_init_0 rfl rfl ?_
  refine r_bd fun r1 h2 => ?_
  refine r_callINv (As := []) (st := []) C (mc_X16_init h2) cv_X17_1  rfl (Nat.le_of_ble_eq_true rfl) (Nat.le_of_ble_eq_true rfl) rfl (Nat.le_of_ble_eq_true rfl) dX17_init_1 ?_
  exact r_vret C dX17_init_4 rfl
theorem ff_X18_9 : mm_FF RX18 9 16 0 mm_i .int := ⟨RX18, TX18, 1, _, tyX18, rfl, in_X18, rfl, rfl, Nat.le_of_ble_eq_true rfl, q1114, tyX18_ok, nmX18, rfl, rfl, rfl⟩
theorem cv_X18_3 : mm_CIN RX18 3 yX16_init cX16_init 1 0 := ⟨⟨⟨_, nw_in q1113 rfl⟩, q1105, q166, ⟨by decide +kernel, by decide +kernel, by decide +kernel⟩⟩, q1104, rfl⟩
/-! X18 init -/
def fX18_init (th : Nat) (x1 : Int32) (P : mm_P) : Option mm_P :=
  mm_bd (fX16_init th P) fun r1 =>
  mm_lt (sI r1 2048 th x1) fun P3 =>
  some P3
set_option maxHeartbeats 4000000 in
theorem mc_X18_init {l : Launch} {K : mm_K} {P : mm_P} {th : Nat} {x1 : Int32} {nx sl : Nat} {r : mm_P} (hk : K.1 th = 16) (h : fX18_init th x1 P = some r) : mm_C l yX18_init (ws_ yX18_init cX18_init 2 none) 2 40 [.ref th, .int x1] K P nx sl (mm_wwV K nx sl r) :=
  mm_start (ls := [some (.ref th), some (.int x1)]) h (by decide) (Nat.le_of_ble_eq_true rfl) rfl (Nat.le_refl _) (Nat.le_refl _) rfl fun E hl9 _ _ hin C => by
  have hin := hin rfl
  have C : mm_Cx E RX18 cX18_init 2 none 2 40 := C
  unfold fX18_init
  refine r_aload_n C dX18_init_0 rfl rfl ?_
  refine r_bd fun r1 h2 => ?_
  refine r_callINv (As := []) (st := []) C (mc_X16_init h2) cv_X18_3  rfl (Nat.le_of_ble_eq_true rfl) (Nat.le_of_ble_eq_true rfl) rfl (Nat.le_of_ble_eq_true rfl) dX18_init_1 ?_
  refine r_aload_n C dX18_init_4 rfl rfl ?_
  refine r_iload_n C dX18_init_5 rfl rfl ?_
  refine r_putIF (code := 2048) C hin ff_X18_9 hk rfl rfl rfl rfl dX18_init_6 ?_
  refine r_ltP fun P3 => ?_
  exact r_vret C dX18_init_9 rfl
theorem ff_X19_7 : mm_FF RX19 7 17 0 mm_i .int := ⟨RX19, TX19, 1, _, tyX19, rfl, in_X19, rfl, rfl, Nat.le_of_ble_eq_true rfl, q1124, tyX19_ok, nmX19, rfl, rfl, rfl⟩
theorem cv_X19_1 : mm_CIN RX19 1 yX16_init cX16_init 1 0 := ⟨⟨⟨_, nw_in q1123 rfl⟩, q1105, q166, ⟨by decide +kernel, by decide +kernel, by decide +kernel⟩⟩, q1104, rfl⟩
/-! X19 init -/
def fX19_init (th : Nat) (x1 : Int32) (P : mm_P) : Option mm_P :=
  mm_bd (fX16_init th P) fun r1 =>
  mm_lt (sI r1 2176 th x1) fun P3 =>
  some P3
set_option maxHeartbeats 4000000 in
theorem mc_X19_init {l : Launch} {K : mm_K} {P : mm_P} {th : Nat} {x1 : Int32} {nx sl : Nat} {r : mm_P} (hk : K.1 th = 17) (h : fX19_init th x1 P = some r) : mm_C l yX19_init (ws_ yX19_init cX19_init 2 none) 2 40 [.ref th, .int x1] K P nx sl (mm_wwV K nx sl r) :=
  mm_start (ls := [some (.ref th), some (.int x1)]) h (by decide) (Nat.le_of_ble_eq_true rfl) rfl (Nat.le_refl _) (Nat.le_refl _) rfl fun E hl9 _ _ hin C => by
  have hin := hin rfl
  have C : mm_Cx E RX19 cX19_init 2 none 2 40 := C
  unfold fX19_init
  refine r_aload_n C dX19_init_0 rfl rfl ?_
  refine r_bd fun r1 h2 => ?_
  refine r_callINv (As := []) (st := []) C (mc_X16_init h2) cv_X19_1  rfl (Nat.le_of_ble_eq_true rfl) (Nat.le_of_ble_eq_true rfl) rfl (Nat.le_of_ble_eq_true rfl) dX19_init_1 ?_
  refine r_aload_n C dX19_init_4 rfl rfl ?_
  refine r_iload_n C dX19_init_5 rfl rfl ?_
  refine r_putIF (code := 2176) C hin ff_X19_7 hk rfl rfl rfl rfl dX19_init_6 ?_
  refine r_ltP fun P3 => ?_
  exact r_vret C dX19_init_9 rfl
theorem ff_X20_9 : mm_FF RX20 9 18 0 mm_i .int := ⟨RX20, TX20, 1, _, tyX20, rfl, in_X20, rfl, rfl, Nat.le_of_ble_eq_true rfl, q1134, tyX20_ok, nmX20, rfl, rfl, rfl⟩
theorem cv_X20_3 : mm_CIN RX20 3 yX16_init cX16_init 1 0 := ⟨⟨⟨_, nw_in q1133 rfl⟩, q1105, q166, ⟨by decide +kernel, by decide +kernel, by decide +kernel⟩⟩, q1104, rfl⟩
/-! X20 init -/
def fX20_init (th : Nat) (x1 : Int32) (P : mm_P) : Option mm_P :=
  mm_bd (fX16_init th P) fun r1 =>
  mm_lt (sI r1 2304 th x1) fun P3 =>
  some P3
set_option maxHeartbeats 4000000 in
theorem mc_X20_init {l : Launch} {K : mm_K} {P : mm_P} {th : Nat} {x1 : Int32} {nx sl : Nat} {r : mm_P} (hk : K.1 th = 18) (h : fX20_init th x1 P = some r) : mm_C l yX20_init (ws_ yX20_init cX20_init 2 none) 2 40 [.ref th, .int x1] K P nx sl (mm_wwV K nx sl r) :=
  mm_start (ls := [some (.ref th), some (.int x1)]) h (by decide) (Nat.le_of_ble_eq_true rfl) rfl (Nat.le_refl _) (Nat.le_refl _) rfl fun E hl9 _ _ hin C => by
  have hin := hin rfl
  have C : mm_Cx E RX20 cX20_init 2 none 2 40 := C
  unfold fX20_init
  refine r_aload_n C dX20_init_0 rfl rfl ?_
  refine r_bd fun r1 h2 => ?_
  refine r_callINv (As := []) (st := []) C (mc_X16_init h2) cv_X20_3  rfl (Nat.le_of_ble_eq_true rfl) (Nat.le_of_ble_eq_true rfl) rfl (Nat.le_of_ble_eq_true rfl) dX20_init_1 ?_
  refine r_aload_n C dX20_init_4 rfl rfl ?_
  refine r_iload_n C dX20_init_5 rfl rfl ?_
  refine r_putIF (code := 2304) C hin ff_X20_9 hk rfl rfl rfl rfl dX20_init_6 ?_
  refine r_ltP fun P3 => ?_
  exact r_vret C dX20_init_9 rfl
theorem ff_X21_13 : mm_FF RX21 13 19 1 mm_i .int := ⟨RX21, TX21, 2, _, tyX21, rfl, in_X21, rfl, rfl, Nat.le_of_ble_eq_true rfl, q1151, tyX21_ok, nmX21, rfl, rfl, rfl⟩
theorem ff_X21_7 : mm_FF RX21 7 19 0 mm_i .int := ⟨RX21, TX21, 2, _, tyX21, rfl, in_X21, rfl, rfl, Nat.le_of_ble_eq_true rfl, q1150, tyX21_ok, nmX21, rfl, rfl, rfl⟩
theorem cv_X21_1 : mm_CIN RX21 1 yX16_init cX16_init 1 0 := ⟨⟨⟨_, nw_in q1149 rfl⟩, q1105, q166, ⟨by decide +kernel, by decide +kernel, by decide +kernel⟩⟩, q1104, rfl⟩
/-! X21 init -/
def fX21_init (th : Nat) (x1 : Int32) (x2 : Int32) (P : mm_P) : Option mm_P :=
  mm_bd (fX16_init th P) fun r1 =>
  mm_lt (sI r1 2432 th x1) fun P3 =>
  mm_lt (sI P3 2433 th x2) fun P4 =>
  some P4
set_option maxHeartbeats 4000000 in
theorem mc_X21_init {l : Launch} {K : mm_K} {P : mm_P} {th : Nat} {x1 : Int32} {x2 : Int32} {nx sl : Nat} {r : mm_P} (hk : K.1 th = 19) (h : fX21_init th x1 x2 P = some r) : mm_C l yX21_init (ws_ yX21_init cX21_init 3 none) 2 40 [.ref th, .int x1, .int x2] K P nx sl (mm_wwV K nx sl r) :=
  mm_start (ls := [some (.ref th), some (.int x1), some (.int x2)]) h (by decide) (Nat.le_of_ble_eq_true rfl) rfl (Nat.le_refl _) (Nat.le_refl _) rfl fun E hl9 _ _ hin C => by
  have hin := hin rfl
  have C : mm_Cx E RX21 cX21_init 3 none 2 40 := C
  unfold fX21_init
  refine r_aload_n C dX21_init_0 rfl rfl ?_
  refine r_bd fun r1 h2 => ?_
  refine r_callINv (As := []) (st := []) C (mc_X16_init h2) cv_X21_1  rfl (Nat.le_of_ble_eq_true rfl) (Nat.le_of_ble_eq_true rfl) rfl (Nat.le_of_ble_eq_true rfl) dX21_init_1 ?_
  refine r_aload_n C dX21_init_4 rfl rfl ?_
  refine r_iload_n C dX21_init_5 rfl rfl ?_
  refine r_putIF (code := 2432) C hin ff_X21_7 hk rfl rfl rfl rfl dX21_init_6 ?_
  refine r_ltP fun P3 => ?_
  refine r_aload_n C dX21_init_9 rfl rfl ?_
  refine r_iload_n C dX21_init_10 rfl rfl ?_
  refine r_putIF (code := 2433) C hin ff_X21_13 hk rfl rfl rfl rfl dX21_init_11 ?_
  refine r_ltP fun P4 => ?_
  exact r_vret C dX21_init_14 rfl
/-! J0 init -/
def fJ0_init (th : Nat)  (P : mm_P) : Option mm_P :=
  some P
set_option maxHeartbeats 4000000 in
theorem mc_J0_init {l : Launch} {K : mm_K} {P : mm_P} {th : Nat}  {nx sl : Nat} {r : mm_P} (hk : K.1 th = 21) (h : fJ0_init th P = some r) : mm_C l yJ0_init (ws_ yJ0_init cJ0_init 1 none) 1 20 [.ref th] K P nx sl (mm_wwV K nx sl r) :=
  mm_startF (ls := [some (.ref th)]) h (by decide) (Nat.le_of_ble_eq_true rfl) rfl (Nat.le_refl _) (Nat.le_refl _) rfl fun E hl9 _ _ hin C => by
  have hin := hin rfl
  have C : mm_Cx E RJ0 cJ0_init 1 none 1 20 := C
  unfold fJ0_init
  refine r_aload_n C dJ0_init_0 rfl rfl ?_
  refine r_objinit C q232 q181 q182 (Nat.le_of_ble_eq_true rfl) (Nat.le_of_ble_eq_true rfl) (Nat.le_of_ble_eq_true rfl) dJ0_init_1 ?_
  exact r_vret C dJ0_init_4 rfl
theorem fl_J1_7_21 : mm_FL RJ1 7 21 0 mm_i .int false := ⟨RJ2, TJ2, 3, _, tyJ2, rfl, in_J2, rfl, rfl, Nat.le_of_ble_eq_true rfl, Or.inl q239, tyJ2_ok, nmJ2, rfl, rfl⟩
theorem cv_J1_1 : mm_CI RJ1 1 yJ0_init cJ0_init 1 0 := ⟨q231, q136, q229, q230, rfl, ⟨by decide +kernel, by decide +kernel, by decide +kernel⟩⟩
/-! J1 init -/
def fJ1_init (th : Nat)  (P : mm_P) : Option mm_P :=
  mm_bd (fJ0_init th P) fun r1 =>
  mm_lt (sI r1 2688 th (0 : Int32)) fun P3 =>
  some P3
set_option maxHeartbeats 4000000 in
theorem mc_J1_init {l : Launch} {K : mm_K} {P : mm_P} {th : Nat}  {nx sl : Nat} {r : mm_P} (hk : K.1 th = 21) (h : fJ1_init th P = some r) : mm_C l yJ1_init (ws_ yJ1_init cJ1_init 1 none) 2 40 [.ref th] K P nx sl (mm_wwV K nx sl r) :=
  mm_startF (ls := [some (.ref th)]) h (by decide) (Nat.le_of_ble_eq_true rfl) rfl (Nat.le_refl _) (Nat.le_refl _) rfl fun E hl9 _ _ hin C => by
  have hin := hin rfl
  have C : mm_Cx E RJ1 cJ1_init 1 none 2 40 := C
  unfold fJ1_init
  refine r_aload_n C dJ1_init_0 rfl rfl ?_
  refine r_bd fun r1 h2 => ?_
  refine r_callIv (As := []) (st := []) C (mc_J0_init hk h2) cv_J1_1  rfl (Nat.le_of_ble_eq_true rfl) (Nat.le_of_ble_eq_true rfl) rfl (Nat.le_of_ble_eq_true rfl) dJ1_init_1 ?_
  refine r_aload_n C dJ1_init_4 rfl rfl ?_
  refine r_iconst (v := 0) C dJ1_init_5 rfl ?_
  refine r_putI (code := 2688) C fl_J1_7_21 hk rfl rfl dJ1_init_6 ?_
  refine r_ltP fun P3 => ?_
  exact r_vret C dJ1_init_9 rfl
theorem cv_J2_1 : mm_CI RJ2 1 yJ1_init cJ1_init 1 0 := ⟨q228, q137, q226, q227, rfl, ⟨by decide +kernel, by decide +kernel, by decide +kernel⟩⟩
/-! J2 init -/
def fJ2_init (th : Nat) (x1 : Int32) (K : mm_K) (P : mm_P) (nx : Nat) (sl : Nat) : Option mm_S :=
  mm_mo mm_waV nx sl <|
  mm_bd (fJ1_init th P) fun r1 =>
  if x1 ≤ 0 then
  (if x1 ≠ 0 then
  (none)
  else
  (mm_lt (sR r1 2689 th (gR r1 1 0)) fun P5 =>
  some (K, P5, nx, sl)))
  else
  (mm_gd (¬ x1 < 0 ∧ x1.toNatClampNeg * 4 ≤ 536870912) <|
  mm_mo mm_waV (nx + 1) (sl + x1.toNatClampNeg) <|
  mm_lt (mm_kn K nx 68 x1.toNatClampNeg) fun K6 =>
  mm_lt (mm_fresh r1 nx) fun P7 =>
  mm_gd (K6.1 th = 21) <|
  mm_lt (sR P7 2689 th (some nx)) fun P11 =>
  some (K6, P11, nx + 1, sl + x1.toNatClampNeg))
set_option maxHeartbeats 4000000 in
theorem mc_J2_init {l : Launch} {K : mm_K} {P : mm_P} {th : Nat} {x1 : Int32} {nx sl : Nat} {r : mm_S} (hk : K.1 th = 21) (h : fJ2_init th x1 K P nx sl = some r) : mm_C l yJ2_init (ws_ yJ2_init cJ2_init 2 none) 3 60 [.ref th, .int x1] K P nx sl (mm_waV r) :=
  mm_startF (ls := [some (.ref th), some (.int x1)]) h (by decide) (Nat.le_of_ble_eq_true rfl) rfl (mm_mo_some h).2.1 (mm_mo_some h).2.2 rfl fun E hl9 _ _ hin C => by
  have hin := hin rfl
  have C : mm_Cx E RJ2 cJ2_init 2 none 3 60 := C
  unfold fJ2_init
  refine r_mo ?_
  refine r_aload_n C dJ2_init_0 rfl rfl ?_
  refine r_bd fun r1 h2 => ?_
  refine r_callIv (As := []) (st := []) C (mc_J1_init hk h2) cv_J2_1  rfl (Nat.le_of_ble_eq_true rfl) (Nat.le_of_ble_eq_true rfl) rfl (Nat.le_of_ble_eq_true rfl) dJ2_init_1 ?_
  refine r_iload_n C dJ2_init_4 rfl rfl ?_
  refine r_ifle (tgt := 19) C dJ2_init_5 (by decide) (fun h3 => ?_) (fun h3 => ?_)
  · refine r_iload_n C dJ2_init_19 rfl rfl ?_
    refine r_ifne (tgt := 33) C dJ2_init_20 (by decide) (fun h4 => ?_) (fun h4 => ?_)
    · exact r_none
    · refine r_aload_n C dJ2_init_23 rfl rfl ?_
      refine r_getsR C C.zs.1 (by decide) q235 dJ2_init_24 ?_
      refine r_putR (code := 2689) (x := gR r1 1 0) C fl_J2_9 hk rfl rfl rfl (mm_nrA _) (mm_ftA _) dJ2_init_27 ?_
      refine r_ltP fun P5 => ?_
      refine r_goto (tgt := 60) C dJ2_init_30 (by decide) ?_
      exact r_vret C dJ2_init_60 rfl
  · refine r_aload_n C dJ2_init_8 rfl rfl ?_
    refine r_iload_n C dJ2_init_9 rfl rfl ?_
    refine r_gd fun h9 => ?_
    refine mm_anewa (ek := 4) C (by decide) q233 h9.1 (N := x1.toNatClampNeg) rfl h9.2 dJ2_init_10 ?_
    refine r_ltK fun K6 e8 => ?_
    refine r_ltP fun P7 => ?_
    refine r_gd fun hK10 => ?_
    refine r_putR (code := 2689) (x := (some nx)) C fl_J2_9 hK10 rfl rfl rfl (mm_nrA _) (mm_ftA _) dJ2_init_13 ?_
    refine r_ltP fun P11 => ?_
    refine r_goto (tgt := 60) C dJ2_init_16 (by decide) ?_
    exact r_vret C dJ2_init_60 rfl
theorem ff_X4_15_36 : mm_FF RX4 15 36 1 mm_r (tyX4 1) := ⟨RX4, TX4, 6, _, tyX4, rfl, in_X4, rfl, rfl, Nat.le_of_ble_eq_true rfl, q310, tyX4_ok, nmX4, rfl, rfl, rfl⟩
theorem ff_X4_18_36 : mm_FF RX4 18 36 2 mm_r (tyX4 2) := ⟨RX4, TX4, 6, _, tyX4, rfl, in_X4, rfl, rfl, Nat.le_of_ble_eq_true rfl, q312, tyX4_ok, nmX4, rfl, rfl, rfl⟩
theorem ff_X4_21_36 : mm_FF RX4 21 36 3 mm_r (tyX4 3) := ⟨RX4, TX4, 6, _, tyX4, rfl, in_X4, rfl, rfl, Nat.le_of_ble_eq_true rfl, q315, tyX4_ok, nmX4, rfl, rfl, rfl⟩
theorem ff_X4_9_36 : mm_FF RX4 9 36 0 mm_r (tyX4 0) := ⟨RX4, TX4, 6, _, tyX4, rfl, in_X4, rfl, rfl, Nat.le_of_ble_eq_true rfl, q307, tyX4_ok, nmX4, rfl, rfl, rfl⟩
/-! X4 init -/
def fX4_init (th : Nat)  (K : mm_K) (P : mm_P) (nx : Nat) (sl : Nat) : Option mm_S :=
  mm_mo mm_waV nx sl <|
  mm_mo mm_waV (nx + 1) (sl + 8) <|
  mm_lt (mm_kn K nx 64 8) fun K1 =>
  mm_lt (mm_fresh P nx) fun P2 =>
  mm_gd (K1.1 th = 36) <|
  mm_lt (sR P2 4608 th (some nx)) fun P5 =>
  mm_mo mm_waV (nx + 1 + 1) (sl + 8 + 8) <|
  mm_lt (mm_kn K1 (nx + 1) 64 8) fun K6 =>
  mm_lt (mm_fresh P5 (nx + 1)) fun P7 =>
  mm_gd (K6.1 th = 36) <|
  mm_lt (sR P7 4609 th (some (nx + 1))) fun P10 =>
  mm_mo mm_waV (nx + 1 + 1 + 1) (sl + 8 + 8 + 6) <|
  mm_lt (mm_kn K6 (nx + 1 + 1) 64 6) fun K11 =>
  mm_lt (mm_fresh P10 (nx + 1 + 1)) fun P12 =>
  mm_gd (K11.1 th = 36) <|
  mm_lt (sR P12 4610 th (some (nx + 1 + 1))) fun P15 =>
  mm_mo mm_waV (nx + 1 + 1 + 1 + 1) (sl + 8 + 8 + 6 + 6) <|
  mm_lt (mm_kn K11 (nx + 1 + 1 + 1) 64 6) fun K16 =>
  mm_lt (mm_fresh P15 (nx + 1 + 1 + 1)) fun P17 =>
  mm_gd (K16.1 th = 36) <|
  mm_lt (sR P17 4611 th (some (nx + 1 + 1 + 1))) fun P20 =>
  mm_gd (mm_pok K16 P20 th 4 = true) <|
  some (mm_packK K16 th 4, mm_packP P20 th 4, nx + 1 + 1 + 1 + 1, sl + 8 + 8 + 6 + 6)
set_option maxHeartbeats 4000000 in
theorem mc_X4_init {l : Launch} {K : mm_K} {P : mm_P} {th : Nat}  {nx sl : Nat} {r : mm_S} (hk : K.1 th = 36) (h : fX4_init th K P nx sl = some r) : mm_C l yX4_init (ws_ yX4_init cX4_init 1 none) 1 20 [.ref th] K P nx sl (mm_waV r) :=
  mm_start (ls := [some (.ref th)]) h (by decide) (Nat.le_of_ble_eq_true rfl) rfl (mm_mo_some h).2.1 (mm_mo_some h).2.2 rfl fun E hl9 _ _ hin C => by
  have hin := hin rfl
  have C : mm_Cx E RX4 cX4_init 1 none 1 20 := C
  unfold fX4_init
  refine r_mo ?_
  refine r_aload_n C dX4_init_0 rfl rfl ?_
  refine r_objinit C q306 q181 q182 (Nat.le_of_ble_eq_true rfl) (Nat.le_of_ble_eq_true rfl) (Nat.le_of_ble_eq_true rfl) dX4_init_1 ?_
  refine r_aload_n C dX4_init_4 rfl rfl ?_
  refine r_bipush (v := 8) C dX4_init_5 rfl ?_
  refine mm_newa (ek := 0) C (by decide) q298 rfl (by decide) (N := 8) (by decide) (by decide) dX4_init_7 ?_
  refine r_ltK fun K1 e3 => ?_
  refine r_ltP fun P2 => ?_
  refine r_gd fun hK4 => ?_
  refine r_putRF (code := 4608) (x := (some nx)) C hin ff_X4_9_36 hK4 rfl rfl rfl (mm_nrA _) (mm_ftA _) dX4_init_9 ?_
  refine r_ltP fun P5 => ?_
  refine r_aload_n C dX4_init_12 rfl rfl ?_
  refine r_bipush (v := 8) C dX4_init_13 rfl ?_
  refine mm_newa (ek := 0) C (by decide) q298 rfl (by decide) (N := 8) (by decide) (by decide) dX4_init_15 ?_
  refine r_ltK fun K6 e8 => ?_
  refine r_ltP fun P7 => ?_
  refine r_gd fun hK9 => ?_
  refine r_putRF (code := 4609) (x := (some (nx + 1))) C hin ff_X4_15_36 hK9 rfl rfl rfl (mm_nrA _) (mm_ftA _) dX4_init_17 ?_
  refine r_ltP fun P10 => ?_
  refine r_aload_n C dX4_init_20 rfl rfl ?_
  refine r_bipush (v := 6) C dX4_init_21 rfl ?_
  refine mm_newa (ek := 0) C (by decide) q298 rfl (by decide) (N := 6) (by decide) (by decide) dX4_init_23 ?_
  refine r_ltK fun K11 e13 => ?_
  refine r_ltP fun P12 => ?_
  refine r_gd fun hK14 => ?_
  refine r_putRF (code := 4610) (x := (some (nx + 1 + 1))) C hin ff_X4_18_36 hK14 rfl rfl rfl (mm_nrA _) (mm_ftA _) dX4_init_25 ?_
  refine r_ltP fun P15 => ?_
  refine r_aload_n C dX4_init_28 rfl rfl ?_
  refine r_bipush (v := 6) C dX4_init_29 rfl ?_
  refine mm_newa (ek := 0) C (by decide) q298 rfl (by decide) (N := 6) (by decide) (by decide) dX4_init_31 ?_
  refine r_ltK fun K16 e18 => ?_
  refine r_ltP fun P17 => ?_
  refine r_gd fun hK19 => ?_
  refine r_putRF (code := 4611) (x := (some (nx + 1 + 1 + 1))) C hin ff_X4_21_36 hK19 rfl rfl rfl (mm_nrA _) (mm_ftA _) dX4_init_33 ?_
  refine r_ltP fun P20 => ?_
  refine r_pack rfl (by decide) rfl rfl ?_
  exact r_vret C dX4_init_36 rfl
theorem ff_X22_12_52 : mm_FF RX22 12 52 0 mm_r (tyX22 0) := ⟨RX22, TX22, 5, _, tyX22, rfl, in_X22, rfl, rfl, Nat.le_of_ble_eq_true rfl, q1541, tyX22_ok, nmX22, rfl, rfl, rfl⟩
theorem ff_X22_18_52 : mm_FF RX22 18 52 1 mm_r (tyX22 1) := ⟨RX22, TX22, 5, _, tyX22, rfl, in_X22, rfl, rfl, Nat.le_of_ble_eq_true rfl, q1543, tyX22_ok, nmX22, rfl, rfl, rfl⟩
theorem ff_X22_22_52 : mm_FF RX22 22 52 2 mm_r (tyX22 2) := ⟨RX22, TX22, 5, _, tyX22, rfl, in_X22, rfl, rfl, Nat.le_of_ble_eq_true rfl, q1545, tyX22_ok, nmX22, rfl, rfl, rfl⟩
theorem ff_X22_25_52 : mm_FF RX22 25 52 3 mm_r (tyX22 3) := ⟨RX22, TX22, 5, _, tyX22, rfl, in_X22, rfl, rfl, Nat.le_of_ble_eq_true rfl, q1547, tyX22_ok, nmX22, rfl, rfl, rfl⟩
theorem nl_X22_9 : mm_NL RX22 9 36 6 := ⟨RX4, TX4, _, tyX4, rfl, in_X4, rfl, by decide +kernel, q1539, q302, q139, tyX4_ok, rfl⟩
theorem cv_X22_11 : mm_CIN RX22 11 yX4_init cX4_init 1 0 := ⟨⟨⟨_, nw_in q1540 rfl⟩, q305, q139, ⟨by decide +kernel, by decide +kernel, by decide +kernel⟩⟩, q304, rfl⟩
/-! X22 init -/
def fX22_init (th : Nat)  (K : mm_K) (P : mm_P) (nx : Nat) (sl : Nat) : Option mm_S :=
  mm_mo mm_waV nx sl <|
  mm_mo mm_waV (nx + 1) (sl + 6) <|
  mm_lt (mm_kn K nx 36 0) fun K1 =>
  mm_lt (mm_fresh P nx) fun P2 =>
  mm_bd (fX4_init nx K1 P2 (nx + 1) (sl + 6)) fun r4 =>
  mm_mo mm_waV r4.2.2.1 r4.2.2.2 <|
  mm_gd (r4.1.1 th = 52) <|
  mm_lt (sR r4.2.1 6656 th (some nx)) fun P7 =>
  mm_mo mm_waV (r4.2.2.1 + 1) (r4.2.2.2 + 8) <|
  mm_lt (mm_kn r4.1 r4.2.2.1 64 8) fun K8 =>
  mm_lt (mm_fresh P7 r4.2.2.1) fun P9 =>
  mm_gd (K8.1 th = 52) <|
  mm_lt (sR P9 6657 th (some r4.2.2.1)) fun P12 =>
  mm_mo mm_waV (r4.2.2.1 + 1 + 1) (r4.2.2.2 + 8 + 8) <|
  mm_lt (mm_kn K8 (r4.2.2.1 + 1) 64 8) fun K13 =>
  mm_lt (mm_fresh P12 (r4.2.2.1 + 1)) fun P14 =>
  mm_gd (K13.1 th = 52) <|
  mm_lt (sR P14 6658 th (some (r4.2.2.1 + 1))) fun P17 =>
  mm_mo mm_waV (r4.2.2.1 + 1 + 1 + 1) (r4.2.2.2 + 8 + 8 + 8) <|
  mm_lt (mm_kn K13 (r4.2.2.1 + 1 + 1) 64 8) fun K18 =>
  mm_lt (mm_fresh P17 (r4.2.2.1 + 1 + 1)) fun P19 =>
  mm_gd (K18.1 th = 52) <|
  mm_lt (sR P19 6659 th (some (r4.2.2.1 + 1 + 1))) fun P22 =>
  mm_gd (mm_pok K18 P22 th 20 = true) <|
  some (mm_packK K18 th 20, mm_packP P22 th 20, r4.2.2.1 + 1 + 1 + 1, r4.2.2.2 + 8 + 8 + 8)
set_option maxHeartbeats 4000000 in
theorem mc_X22_init {l : Launch} {K : mm_K} {P : mm_P} {th : Nat}  {nx sl : Nat} {r : mm_S} (hk : K.1 th = 52) (h : fX22_init th K P nx sl = some r) : mm_C l yX22_init (ws_ yX22_init cX22_init 1 none) 2 40 [.ref th] K P nx sl (mm_waV r) :=
  mm_start (ls := [some (.ref th)]) h (by decide) (Nat.le_of_ble_eq_true rfl) rfl (mm_mo_some h).2.1 (mm_mo_some h).2.2 rfl fun E hl9 _ _ hin C => by
  have hin := hin rfl
  have C : mm_Cx E RX22 cX22_init 1 none 2 40 := C
  unfold fX22_init
  refine r_mo ?_
  refine r_aload_n C dX22_init_0 rfl rfl ?_
  refine r_objinit C q1538 q181 q182 (Nat.le_of_ble_eq_true rfl) (Nat.le_of_ble_eq_true rfl) (Nat.le_of_ble_eq_true rfl) dX22_init_1 ?_
  refine r_aload_n C dX22_init_4 rfl rfl ?_
  refine r_new C nl_X22_9 dX22_init_5 ?_
  refine r_ltK fun K1 e3 => ?_
  refine r_ltP fun P2 => ?_
  refine r_dup C dX22_init_8 rfl ?_
  refine r_bd fun r4 h5 => ?_
  refine r_acallINv (As := []) (st := [.ref nx, .ref th]) C (mc_X4_init (by rw [e3]; exact mm_kn_1) h5) cv_X22_11  rfl (Nat.le_of_ble_eq_true rfl) (Nat.le_of_ble_eq_true rfl) rfl (Nat.le_of_ble_eq_true rfl) dX22_init_9 ?_
  refine r_gd fun hK6 => ?_
  refine r_putRF (code := 6656) (x := (some nx)) C hin ff_X22_12_52 hK6 rfl rfl rfl (mm_nrO _) (mm_ftO _) dX22_init_12 ?_
  refine r_ltP fun P7 => ?_
  refine r_aload_n C dX22_init_15 rfl rfl ?_
  refine r_bipush (v := 8) C dX22_init_16 rfl ?_
  refine mm_newa (ek := 0) C (by decide) q298 rfl (by decide) (N := 8) (by decide) (by decide) dX22_init_18 ?_
  refine r_ltK fun K8 e10 => ?_
  refine r_ltP fun P9 => ?_
  refine r_gd fun hK11 => ?_
  refine r_putRF (code := 6657) (x := (some r4.2.2.1)) C hin ff_X22_18_52 hK11 rfl rfl rfl (mm_nrA _) (mm_ftA _) dX22_init_20 ?_
  refine r_ltP fun P12 => ?_
  refine r_aload_n C dX22_init_23 rfl rfl ?_
  refine r_bipush (v := 8) C dX22_init_24 rfl ?_
  refine mm_newa (ek := 0) C (by decide) q298 rfl (by decide) (N := 8) (by decide) (by decide) dX22_init_26 ?_
  refine r_ltK fun K13 e15 => ?_
  refine r_ltP fun P14 => ?_
  refine r_gd fun hK16 => ?_
  refine r_putRF (code := 6658) (x := (some (r4.2.2.1 + 1))) C hin ff_X22_22_52 hK16 rfl rfl rfl (mm_nrA _) (mm_ftA _) dX22_init_28 ?_
  refine r_ltP fun P17 => ?_
  refine r_aload_n C dX22_init_31 rfl rfl ?_
  refine r_bipush (v := 8) C dX22_init_32 rfl ?_
  refine mm_newa (ek := 0) C (by decide) q298 rfl (by decide) (N := 8) (by decide) (by decide) dX22_init_34 ?_
  refine r_ltK fun K18 e20 => ?_
  refine r_ltP fun P19 => ?_
  refine r_gd fun hK21 => ?_
  refine r_putRF (code := 6659) (x := (some (r4.2.2.1 + 1 + 1))) C hin ff_X22_25_52 hK21 rfl rfl rfl (mm_nrA _) (mm_ftA _) dX22_init_36 ?_
  refine r_ltP fun P22 => ?_
  refine r_pack rfl (by decide) rfl rfl ?_
  exact r_vret C dX22_init_39 rfl
theorem ff_X3_14_35 : mm_FF RX3 14 35 0 mm_r (tyX3 0) := ⟨RX3, TX3, 11, _, tyX3, rfl, in_X3, rfl, rfl, Nat.le_of_ble_eq_true rfl, q249, tyX3_ok, nmX3, rfl, rfl, rfl⟩
theorem ff_X3_20_35 : mm_FF RX3 20 35 1 mm_r (tyX3 1) := ⟨RX3, TX3, 11, _, tyX3, rfl, in_X3, rfl, rfl, Nat.le_of_ble_eq_true rfl, q252, tyX3_ok, nmX3, rfl, rfl, rfl⟩
theorem ff_X3_24_35 : mm_FF RX3 24 35 2 mm_r (tyX3 2) := ⟨RX3, TX3, 11, _, tyX3, rfl, in_X3, rfl, rfl, Nat.le_of_ble_eq_true rfl, q255, tyX3_ok, nmX3, rfl, rfl, rfl⟩
theorem ff_X3_27_35 : mm_FF RX3 27 35 3 mm_r (tyX3 3) := ⟨RX3, TX3, 11, _, tyX3, rfl, in_X3, rfl, rfl, Nat.le_of_ble_eq_true rfl, q257, tyX3_ok, nmX3, rfl, rfl, rfl⟩
theorem nl_X3_9 : mm_NL RX3 9 21 3 := ⟨RJ2, TJ2, _, tyJ2, rfl, in_J2, rfl, by decide +kernel, q221, q222, q138, tyJ2_ok, rfl⟩
theorem fl_X3_30_35 : mm_FL RX3 30 35 7 mm_i .int false := ⟨RX3, TX3, 11, _, tyX3, rfl, in_X3, rfl, rfl, Nat.le_of_ble_eq_true rfl, Or.inl q267, tyX3_ok, nmX3, rfl, rfl⟩
theorem fl_X3_34_35 : mm_FL RX3 34 35 8 mm_i .int false := ⟨RX3, TX3, 11, _, tyX3, rfl, in_X3, rfl, rfl, Nat.le_of_ble_eq_true rfl, Or.inl q269, tyX3_ok, nmX3, rfl, rfl⟩
theorem cv_X3_11 : mm_CI RX3 11 yJ2_init cJ2_init 2 1 := ⟨q225, q138, q223, q224, rfl, ⟨by decide +kernel, by decide +kernel, by decide +kernel⟩⟩
/-! X3 init -/
def fX3_init (th : Nat)  (K : mm_K) (P : mm_P) (nx : Nat) (sl : Nat) : Option mm_S :=
  mm_mo mm_waV nx sl <|
  mm_mo mm_waV (nx + 1) (sl + 3) <|
  mm_lt (mm_kn K nx 21 0) fun K1 =>
  mm_lt (mm_fresh P nx) fun P2 =>
  mm_bd (fJ2_init nx (2 : Int32) K1 P2 (nx + 1) (sl + 3)) fun r4 =>
  mm_mo mm_waV r4.2.2.1 r4.2.2.2 <|
  mm_gd (r4.1.1 th = 35) <|
  mm_lt (sR r4.2.1 4480 th (some nx)) fun P7 =>
  mm_mo mm_waV (r4.2.2.1 + 1) (r4.2.2.2 + 8) <|
  mm_lt (mm_kn r4.1 r4.2.2.1 64 8) fun K8 =>
  mm_lt (mm_fresh P7 r4.2.2.1) fun P9 =>
  mm_gd (K8.1 th = 35) <|
  mm_lt (sR P9 4481 th (some r4.2.2.1)) fun P12 =>
  mm_mo mm_waV (r4.2.2.1 + 1 + 1) (r4.2.2.2 + 8 + 12) <|
  mm_lt (mm_kn K8 (r4.2.2.1 + 1) 64 12) fun K13 =>
  mm_lt (mm_fresh P12 (r4.2.2.1 + 1)) fun P14 =>
  mm_gd (K13.1 th = 35) <|
  mm_lt (sR P14 4482 th (some (r4.2.2.1 + 1))) fun P17 =>
  mm_mo mm_waV (r4.2.2.1 + 1 + 1 + 1) (r4.2.2.2 + 8 + 12 + 6) <|
  mm_lt (mm_kn K13 (r4.2.2.1 + 1 + 1) 64 6) fun K18 =>
  mm_lt (mm_fresh P17 (r4.2.2.1 + 1 + 1)) fun P19 =>
  mm_gd (K18.1 th = 35) <|
  mm_lt (sR P19 4483 th (some (r4.2.2.1 + 1 + 1))) fun P22 =>
  mm_lt (sI P22 4487 th (-1 : Int32)) fun P23 =>
  mm_lt (sI P23 4488 th (-1 : Int32)) fun P24 =>
  mm_gd (mm_pok K18 P24 th 3 = true) <|
  some (mm_packK K18 th 3, mm_packP P24 th 3, r4.2.2.1 + 1 + 1 + 1, r4.2.2.2 + 8 + 12 + 6)
set_option maxHeartbeats 4000000 in
theorem mc_X3_init {l : Launch} {K : mm_K} {P : mm_P} {th : Nat}  {nx sl : Nat} {r : mm_S} (hk : K.1 th = 35) (h : fX3_init th K P nx sl = some r) : mm_C l yX3_init (ws_ yX3_init cX3_init 1 none) 4 81 [.ref th] K P nx sl (mm_waV r) :=
  mm_start (ls := [some (.ref th)]) h (by decide) (Nat.le_of_ble_eq_true rfl) rfl (mm_mo_some h).2.1 (mm_mo_some h).2.2 rfl fun E hl9 _ _ hin C => by
  have hin := hin rfl
  have C : mm_Cx E RX3 cX3_init 1 none 4 81 := C
  unfold fX3_init
  refine r_mo ?_
  refine r_aload_n C dX3_init_0 rfl rfl ?_
  refine r_objinit C q220 q181 q182 (Nat.le_of_ble_eq_true rfl) (Nat.le_of_ble_eq_true rfl) (Nat.le_of_ble_eq_true rfl) dX3_init_1 ?_
  refine r_aload_n C dX3_init_4 rfl rfl ?_
  refine r_new C nl_X3_9 dX3_init_5 ?_
  refine r_ltK fun K1 e3 => ?_
  refine r_ltP fun P2 => ?_
  refine r_dup C dX3_init_8 rfl ?_
  refine r_iconst (v := 2) C dX3_init_9 rfl ?_
  refine r_bd fun r4 h5 => ?_
  refine r_acallIv (As := [.int (2 : Int32)]) (st := [.ref nx, .ref th]) C (mc_J2_init (by rw [e3]; exact mm_kn_1) h5) cv_X3_11  rfl (Nat.le_of_ble_eq_true rfl) (Nat.le_of_ble_eq_true rfl) rfl (Nat.le_of_ble_eq_true rfl) dX3_init_10 ?_
  refine r_gd fun hK6 => ?_
  refine r_putRF (code := 4480) (x := (some nx)) C hin ff_X3_14_35 hK6 rfl rfl rfl (mm_nrO _) (mm_ftO _) dX3_init_13 ?_
  refine r_ltP fun P7 => ?_
  refine r_aload_n C dX3_init_16 rfl rfl ?_
  refine r_bipush (v := 8) C dX3_init_17 rfl ?_
  refine mm_newa (ek := 0) C (by decide) q298 rfl (by decide) (N := 8) (by decide) (by decide) dX3_init_19 ?_
  refine r_ltK fun K8 e10 => ?_
  refine r_ltP fun P9 => ?_
  refine r_gd fun hK11 => ?_
  refine r_putRF (code := 4481) (x := (some r4.2.2.1)) C hin ff_X3_20_35 hK11 rfl rfl rfl (mm_nrA _) (mm_ftA _) dX3_init_21 ?_
  refine r_ltP fun P12 => ?_
  refine r_aload_n C dX3_init_24 rfl rfl ?_
  refine r_bipush (v := 12) C dX3_init_25 rfl ?_
  refine mm_newa (ek := 0) C (by decide) q298 rfl (by decide) (N := 12) (by decide) (by decide) dX3_init_27 ?_
  refine r_ltK fun K13 e15 => ?_
  refine r_ltP fun P14 => ?_
  refine r_gd fun hK16 => ?_
  refine r_putRF (code := 4482) (x := (some (r4.2.2.1 + 1))) C hin ff_X3_24_35 hK16 rfl rfl rfl (mm_nrA _) (mm_ftA _) dX3_init_29 ?_
  refine r_ltP fun P17 => ?_
  refine r_aload_n C dX3_init_32 rfl rfl ?_
  refine r_bipush (v := 6) C dX3_init_33 rfl ?_
  refine mm_newa (ek := 0) C (by decide) q298 rfl (by decide) (N := 6) (by decide) (by decide) dX3_init_35 ?_
  refine r_ltK fun K18 e20 => ?_
  refine r_ltP fun P19 => ?_
  refine r_gd fun hK21 => ?_
  refine r_putRF (code := 4483) (x := (some (r4.2.2.1 + 1 + 1))) C hin ff_X3_27_35 hK21 rfl rfl rfl (mm_nrA _) (mm_ftA _) dX3_init_37 ?_
  refine r_ltP fun P22 => ?_
  refine r_aload_n C dX3_init_40 rfl rfl ?_
  refine r_iconst (v := -1) C dX3_init_41 rfl ?_
  refine r_putI (code := 4487) C fl_X3_30_35 hK21 rfl rfl dX3_init_42 ?_
  refine r_ltP fun P23 => ?_
  refine r_aload_n C dX3_init_45 rfl rfl ?_
  refine r_iconst (v := -1) C dX3_init_46 rfl ?_
  refine r_putI (code := 4488) C fl_X3_34_35 hK21 rfl rfl dX3_init_47 ?_
  refine r_ltP fun P24 => ?_
  refine r_pack rfl (by decide) rfl rfl ?_
  exact r_vret C dX3_init_50 rfl
/-! X2 init -/
def fX2_init (th : Nat)  (P : mm_P) : Option mm_P :=
  some P
set_option maxHeartbeats 4000000 in
theorem mc_X2_init {l : Launch} {K : mm_K} {P : mm_P} {th : Nat}  {nx sl : Nat} {r : mm_P} (hk : K.1 th = 2) (h : fX2_init th P = some r) : mm_C l yX2_init (ws_ yX2_init cX2_init 1 none) 1 20 [.ref th] K P nx sl (mm_wwV K nx sl r) :=
  mm_start (ls := [some (.ref th)]) h (by decide) (Nat.le_of_ble_eq_true rfl) rfl (Nat.le_refl _) (Nat.le_refl _) rfl fun E hl9 _ _ hin C => by
  have hin := hin rfl
  have C : mm_Cx E RX2 cX2_init 1 none 1 20 := C
  unfold fX2_init
  refine r_aload_n C dX2_init_0 rfl rfl ?_
  refine r_objinit C q188 q181 q182 (Nat.le_of_ble_eq_true rfl) (Nat.le_of_ble_eq_true rfl) (Nat.le_of_ble_eq_true rfl) dX2_init_1 ?_
  exact r_vret C dX2_init_4 rfl
theorem cv_X17_7 : mm_CVN RX17 7 yX1_passes cX1_passes 6 (some .int) 2 1 := ⟨⟨⟨_, nw_in q1390 rfl⟩, q1347, q133, ⟨by decide +kernel, by decide +kernel, by decide +kernel⟩⟩, q1346, RX1, TX1, 26, _, qs40, rfl, rfl⟩
/-! X17 isDone -/
def fX17_isDone (K : mm_K) (th : Nat) (x1 : Nat) (x2 : Nat) (P : mm_P) : Option (Int32 × mm_P) :=
  mm_gd (K.1 x1 = 1) <|
  mm_bd (fX1_passes K x1 x2 (0 : Int32) P) fun r1 =>
  some ((1 : Int32), r1.2)
set_option maxHeartbeats 4000000 in
theorem mc_X17_isDone {l : Launch} {K : mm_K} {P : mm_P} {th : Nat} {x1 : Nat} {x2 : Nat} {nx sl : Nat} {r : (Int32 × mm_P)} (hk : K.1 th = 15) (h : fX17_isDone K th x1 x2 P = some r) : mm_C l yX17_isDone (ws_ yX17_isDone cX17_isDone 3 (some .boolean)) 605 13923 [.ref th, .ref x1, .ref x2] K P nx sl (mm_wwI K nx sl r) :=
  mm_start (ls := [some (.ref th), some (.ref x1), some (.ref x2)]) h (by decide) (Nat.le_of_ble_eq_true rfl) rfl (Nat.le_refl _) (Nat.le_refl _) rfl fun E hl9 _ _ _ C => by
  have C : mm_Cx E RX17 cX17_isDone 3 (some .boolean) 605 13923 := C
  unfold fX17_isDone
  refine r_aload_n C dX17_isDone_0 rfl rfl ?_
  refine r_aload_n C dX17_isDone_1 rfl rfl ?_
  refine r_iconst (v := 0) C dX17_isDone_2 rfl ?_
  refine r_gd fun hK3 => ?_
  refine r_bd fun r1 h2 => ?_
  refine r_callVN (As := [.ref x2, .int (0 : Int32)]) (st := []) C (mc_X1_passes hK3 h2) cv_X17_7 hK3 rfl (Nat.le_of_ble_eq_true rfl) (Nat.le_of_ble_eq_true rfl) rfl (Nat.le_of_ble_eq_true rfl) dX17_isDone_3 ?_
  refine r_pop C dX17_isDone_6 rfl ?_
  refine r_iconst (v := 1) C dX17_isDone_7 rfl ?_
  exact r_zret C dX17_isDone_8 rfl rfl
theorem fl_X18_15 : mm_FL RX18 15 4 5 mm_i .int false := ⟨RX4, TX4, 6, _, tyX4, rfl, in_X4, rfl, rfl, Nat.le_of_ble_eq_true rfl, Or.inr (Or.inl ⟨_, nw_in q320 rfl⟩), tyX4_ok, nmX4, rfl, rfl⟩
theorem fl_X18_20 : mm_FL RX18 20 4 0 (mm_a 1 0 8) (tyX4 0) true := ⟨RX4, TX4, 6, _, tyX4, rfl, in_X4, rfl, rfl, Nat.le_of_ble_eq_true rfl, Or.inr (Or.inl ⟨_, nw_in q308 rfl⟩), tyX4_ok, nmX4, rfl, rfl⟩
theorem fl_X18_9 : mm_FL RX18 9 16 0 mm_i .int true := ⟨RX18, TX18, 1, _, tyX18, rfl, in_X18, rfl, rfl, Nat.le_of_ble_eq_true rfl, Or.inl q1114, tyX18_ok, nmX18, rfl, rfl⟩
/-! X18 isDone -/
def fX18_isDone (K : mm_K) (th : Nat) (x1 : Nat) (x2 : Nat) (P : mm_P) : Option (Int32 × mm_P) :=
  mm_gd (K.1 x2 = 4) <|
  if (gI P 517 x2) ≠ (8 : Int32) then
  (mm_lt (gI P 517 x2) fun v3 =>
  mm_lt (sI P 517 x2 (v3 + (1 : Int32))) fun P4 =>
  mm_gd (mm_in v3 8) <|
  mm_lt (sA P4 512 x2 v3.toNatClampNeg (gI P4 2048 th)) fun P6 =>
  some ((1 : Int32), P6))
  else
  (some ((0 : Int32), P))
set_option maxHeartbeats 4000000 in
theorem mc_X18_isDone {l : Launch} {K : mm_K} {P : mm_P} {th : Nat} {x1 : Nat} {x2 : Nat} {nx sl : Nat} {r : (Int32 × mm_P)} (hk : K.1 th = 16) (h : fX18_isDone K th x1 x2 P = some r) : mm_C l yX18_isDone (ws_ yX18_isDone cX18_isDone 3 (some .boolean)) 0 0 [.ref th, .ref x1, .ref x2] K P nx sl (mm_wwI K nx sl r) :=
  mm_start (ls := [some (.ref th), some (.ref x1), some (.ref x2)]) h (by decide) (Nat.le_of_ble_eq_true rfl) rfl (Nat.le_refl _) (Nat.le_refl _) rfl fun E hl9 _ _ _ C => by
  have C : mm_Cx E RX18 cX18_isDone 3 (some .boolean) 0 0 := C
  unfold fX18_isDone
  refine r_aload_n C dX18_isDone_0 rfl rfl ?_
  refine r_gd fun hK1 => ?_
  refine r_getI (code := 517) C fl_X18_15 hK1 rfl dX18_isDone_1 ?_
  refine r_bipush (v := 8) C dX18_isDone_4 rfl ?_
  refine r_icmpne (tgt := 11) C dX18_isDone_6 (by decide) (fun h2 => ?_) (fun h2 => ?_)
  · refine r_aload_n C dX18_isDone_11 rfl rfl ?_
    refine r_getA C fl_X18_20 hK1 dX18_isDone_12 ?_
    refine r_aload_n C dX18_isDone_15 rfl rfl ?_
    refine r_dup C dX18_isDone_16 rfl ?_
    refine r_getI (code := 517) C fl_X18_15 hK1 rfl dX18_isDone_17 ?_
    refine r_ltI fun v3 => ?_
    refine r_dup_x1 C dX18_isDone_20 rfl rfl ?_
    refine r_iconst (v := 1) C dX18_isDone_21 rfl ?_
    refine r_iadd C dX18_isDone_22 ?_
    refine r_putI (code := 517) C fl_X18_15 hK1 rfl rfl dX18_isDone_23 ?_
    refine r_ltP fun P4 => ?_
    refine r_aload_n C dX18_isDone_26 rfl rfl ?_
    refine r_getI (code := 2048) C fl_X18_9 hk rfl dX18_isDone_27 ?_
    refine r_iast C (rg_512 hK1) (mm_ro_of (k := 4) hK1 rfl) rfl dX18_isDone_30 fun h5 => ?_
    refine r_ltP fun P6 => ?_
    refine r_iconst (v := 1) C dX18_isDone_31 rfl ?_
    exact r_zret C dX18_isDone_32 rfl rfl
  · refine r_iconst (v := 0) C dX18_isDone_9 rfl ?_
    exact r_zret C dX18_isDone_10 rfl rfl
theorem fl_X19_7 : mm_FL RX19 7 17 0 mm_i .int true := ⟨RX19, TX19, 1, _, tyX19, rfl, in_X19, rfl, rfl, Nat.le_of_ble_eq_true rfl, Or.inl q1124, tyX19_ok, nmX19, rfl, rfl⟩
theorem cv_X19_13 : mm_CV RX19 13 yX4_by cX4_by 4 (some .int) 1 4 := ⟨RX4, TX4, 6, _, lw_V q1402 q1172 q1173 q139 q1174, ⟨rfl, by decide +kernel, by decide +kernel, by decide +kernel⟩, rfl, rfl⟩
theorem cv_X19_19 : mm_CV RX19 19 yX4_comesIn cX4_comesIn 3 none 1 4 := ⟨RX4, TX4, 6, _, lw_V q1403 q1329 q1330 q139 q1331, ⟨rfl, by decide +kernel, by decide +kernel, by decide +kernel⟩, rfl, rfl⟩
/-! X19 isDone -/
def fX19_isDone (K : mm_K) (th : Nat) (x1 : Nat) (x2 : Nat) (P : mm_P) : Option (Int32 × mm_P) :=
  mm_gd (K.1 x2 = 4) <|
  mm_bd (fX4_by x2 P (gI P 2176 th)) fun r1 =>
  if r1 ≠ 0 then
  (mm_bd (fX4_comesIn x2 (gI P 2176 th) P) fun r5 =>
  some ((1 : Int32), r5))
  else
  (some ((0 : Int32), P))
set_option maxHeartbeats 4000000 in
theorem mc_X19_isDone {l : Launch} {K : mm_K} {P : mm_P} {th : Nat} {x1 : Nat} {x2 : Nat} {nx sl : Nat} {r : (Int32 × mm_P)} (hk : K.1 th = 17) (h : fX19_isDone K th x1 x2 P = some r) : mm_C l yX19_isDone (ws_ yX19_isDone cX19_isDone 3 (some .boolean)) 1 23 [.ref th, .ref x1, .ref x2] K P nx sl (mm_wwI K nx sl r) :=
  mm_start (ls := [some (.ref th), some (.ref x1), some (.ref x2)]) h (by decide) (Nat.le_of_ble_eq_true rfl) rfl (Nat.le_refl _) (Nat.le_refl _) rfl fun E hl9 _ _ _ C => by
  have C : mm_Cx E RX19 cX19_isDone 3 (some .boolean) 1 23 := C
  unfold fX19_isDone
  refine r_aload_n C dX19_isDone_0 rfl rfl ?_
  refine r_aload_n C dX19_isDone_1 rfl rfl ?_
  refine r_getI (code := 2176) C fl_X19_7 hk rfl dX19_isDone_2 ?_
  refine r_gd fun hK3 => ?_
  refine r_bd fun r1 h2 => ?_
  refine r_callV (As := [.int (gI P 2176 th)]) (st := []) C (mc_X4_by hK3 h2) cv_X19_13 hK3 rfl (Nat.le_of_ble_eq_true rfl) (Nat.le_of_ble_eq_true rfl) rfl (Nat.le_of_ble_eq_true rfl) dX19_isDone_5 ?_
  refine r_ifne (tgt := 13) C dX19_isDone_8 (by decide) (fun h4 => ?_) (fun h4 => ?_)
  · refine r_aload_n C dX19_isDone_13 rfl rfl ?_
    refine r_aload_n C dX19_isDone_14 rfl rfl ?_
    refine r_getI (code := 2176) C fl_X19_7 hk rfl dX19_isDone_15 ?_
    refine r_bd fun r5 h6 => ?_
    refine r_callVv (As := [.int (gI P 2176 th)]) (st := []) C (mc_X4_comesIn hK3 h6) cv_X19_19 hK3 rfl (Nat.le_of_ble_eq_true rfl) (Nat.le_of_ble_eq_true rfl) rfl (Nat.le_of_ble_eq_true rfl) dX19_isDone_18 ?_
    refine r_iconst (v := 1) C dX19_isDone_21 rfl ?_
    exact r_zret C dX19_isDone_22 rfl rfl
  · refine r_iconst (v := 0) C dX19_isDone_11 rfl ?_
    exact r_zret C dX19_isDone_12 rfl rfl
theorem fl_X20_21 : mm_FL RX20 21 4 2 (mm_a 3 0 6) (tyX4 2) true := ⟨RX4, TX4, 6, _, tyX4, rfl, in_X4, rfl, rfl, Nat.le_of_ble_eq_true rfl, Or.inr (Or.inl ⟨_, nw_in q313 rfl⟩), tyX4_ok, nmX4, rfl, rfl⟩
theorem fl_X20_25 : mm_FL RX20 25 4 3 (mm_a 4 0 6) (tyX4 3) true := ⟨RX4, TX4, 6, _, tyX4, rfl, in_X4, rfl, rfl, Nat.le_of_ble_eq_true rfl, Or.inr (Or.inl ⟨_, nw_in q316 rfl⟩), tyX4_ok, nmX4, rfl, rfl⟩
theorem fl_X20_9 : mm_FL RX20 9 18 0 mm_i .int true := ⟨RX20, TX20, 1, _, tyX20, rfl, in_X20, rfl, rfl, Nat.le_of_ble_eq_true rfl, Or.inl q1134, tyX20_ok, nmX20, rfl, rfl⟩
theorem cv_X20_15 : mm_CV RX20 15 yX4_by cX4_by 4 (some .int) 1 4 := ⟨RX4, TX4, 6, _, lw_V q1407 q1172 q1173 q139 q1174, ⟨rfl, by decide +kernel, by decide +kernel, by decide +kernel⟩, rfl, rfl⟩
/-! X20 isDone -/
def fX20_isDone (K : mm_K) (th : Nat) (x1 : Nat) (x2 : Nat) (P : mm_P) : Option (Int32 × mm_P) :=
  mm_gd (K.1 x2 = 4) <|
  mm_bd (fX4_by x2 P (gI P 2304 th)) fun r1 =>
  if r1 = 0 then
  (mm_gd (mm_in (gI P 2304 th) 6) <|
  mm_lt (sA P 514 x2 (gI P 2304 th).toNatClampNeg (9 : Int32)) fun P6 =>
  mm_gd (mm_in (gI P6 2304 th) 6) <|
  mm_lt (sA P6 515 x2 (gI P6 2304 th).toNatClampNeg (0 : Int32)) fun P8 =>
  some ((1 : Int32), P8))
  else
  (some ((0 : Int32), P))
set_option maxHeartbeats 4000000 in
theorem mc_X20_isDone {l : Launch} {K : mm_K} {P : mm_P} {th : Nat} {x1 : Nat} {x2 : Nat} {nx sl : Nat} {r : (Int32 × mm_P)} (hk : K.1 th = 18) (h : fX20_isDone K th x1 x2 P = some r) : mm_C l yX20_isDone (ws_ yX20_isDone cX20_isDone 3 (some .boolean)) 1 23 [.ref th, .ref x1, .ref x2] K P nx sl (mm_wwI K nx sl r) :=
  mm_start (ls := [some (.ref th), some (.ref x1), some (.ref x2)]) h (by decide) (Nat.le_of_ble_eq_true rfl) rfl (Nat.le_refl _) (Nat.le_refl _) rfl fun E hl9 _ _ _ C => by
  have C : mm_Cx E RX20 cX20_isDone 3 (some .boolean) 1 23 := C
  unfold fX20_isDone
  refine r_aload_n C dX20_isDone_0 rfl rfl ?_
  refine r_aload_n C dX20_isDone_1 rfl rfl ?_
  refine r_getI (code := 2304) C fl_X20_9 hk rfl dX20_isDone_2 ?_
  refine r_gd fun hK3 => ?_
  refine r_bd fun r1 h2 => ?_
  refine r_callV (As := [.int (gI P 2304 th)]) (st := []) C (mc_X4_by hK3 h2) cv_X20_15 hK3 rfl (Nat.le_of_ble_eq_true rfl) (Nat.le_of_ble_eq_true rfl) rfl (Nat.le_of_ble_eq_true rfl) dX20_isDone_5 ?_
  refine r_ifeq (tgt := 13) C dX20_isDone_8 (by decide) (fun h4 => ?_) (fun h4 => ?_)
  · refine r_aload_n C dX20_isDone_13 rfl rfl ?_
    refine r_getA C fl_X20_21 hK3 dX20_isDone_14 ?_
    refine r_aload_n C dX20_isDone_17 rfl rfl ?_
    refine r_getI (code := 2304) C fl_X20_9 hk rfl dX20_isDone_18 ?_
    refine r_bipush (v := 9) C dX20_isDone_21 rfl ?_
    refine r_iast C (rg_514 hK3) (mm_ro_of (k := 4) hK3 rfl) rfl dX20_isDone_23 fun h5 => ?_
    refine r_ltP fun P6 => ?_
    refine r_aload_n C dX20_isDone_24 rfl rfl ?_
    refine r_getA C fl_X20_25 hK3 dX20_isDone_25 ?_
    refine r_aload_n C dX20_isDone_28 rfl rfl ?_
    refine r_getI (code := 2304) C fl_X20_9 hk rfl dX20_isDone_29 ?_
    refine r_iconst (v := 0) C dX20_isDone_32 rfl ?_
    refine r_iast C (rg_515 hK3) (mm_ro_of (k := 4) hK3 rfl) rfl dX20_isDone_33 fun h7 => ?_
    refine r_ltP fun P8 => ?_
    refine r_iconst (v := 1) C dX20_isDone_34 rfl ?_
    exact r_zret C dX20_isDone_35 rfl rfl
  · refine r_iconst (v := 0) C dX20_isDone_11 rfl ?_
    exact r_zret C dX20_isDone_12 rfl rfl
theorem fl_X21_13 : mm_FL RX21 13 19 1 mm_i .int true := ⟨RX21, TX21, 2, _, tyX21, rfl, in_X21, rfl, rfl, Nat.le_of_ble_eq_true rfl, Or.inl q1151, tyX21_ok, nmX21, rfl, rfl⟩
theorem fl_X21_7 : mm_FL RX21 7 19 0 mm_i .int true := ⟨RX21, TX21, 2, _, tyX21, rfl, in_X21, rfl, rfl, Nat.le_of_ble_eq_true rfl, Or.inl q1150, tyX21_ok, nmX21, rfl, rfl⟩
theorem cv_X21_16 : mm_CVN RX21 16 yX1_canHang cX1_canHang 5 (some .boolean) 3 1 := ⟨⟨⟨_, nw_in q1397 rfl⟩, q1299, q133, ⟨by decide +kernel, by decide +kernel, by decide +kernel⟩⟩, q1298, RX1, TX1, 26, _, qs37, rfl, rfl⟩
theorem cv_X21_22 : mm_CV RX21 22 yX4_hangs cX4_hangs 4 none 2 4 := ⟨RX4, TX4, 6, _, lw_V q1398 q1320 q1321 q139 q1322, ⟨rfl, by decide +kernel, by decide +kernel, by decide +kernel⟩, rfl, rfl⟩
/-! X21 isDone -/
def fX21_isDone (K : mm_K) (th : Nat) (x1 : Nat) (x2 : Nat) (P : mm_P) : Option (Int32 × mm_P) :=
  mm_gd (K.1 x1 = 1) <|
  mm_bd (fX1_canHang K x1 P x2 (gI P 2432 th) (gI P 2433 th)) fun r1 =>
  if r1 ≠ 0 then
  (mm_gd (K.1 x2 = 4) <|
  mm_bd (fX4_hangs x2 (gI P 2432 th) (gI P 2433 th) P) fun r5 =>
  some ((1 : Int32), r5))
  else
  (some ((0 : Int32), P))
set_option maxHeartbeats 4000000 in
theorem mc_X21_isDone {l : Launch} {K : mm_K} {P : mm_P} {th : Nat} {x1 : Nat} {x2 : Nat} {nx sl : Nat} {r : (Int32 × mm_P)} (hk : K.1 th = 19) (h : fX21_isDone K th x1 x2 P = some r) : mm_C l yX21_isDone (ws_ yX21_isDone cX21_isDone 3 (some .boolean)) 7 154 [.ref th, .ref x1, .ref x2] K P nx sl (mm_wwI K nx sl r) :=
  mm_start (ls := [some (.ref th), some (.ref x1), some (.ref x2)]) h (by decide) (Nat.le_of_ble_eq_true rfl) rfl (Nat.le_refl _) (Nat.le_refl _) rfl fun E hl9 _ _ _ C => by
  have C : mm_Cx E RX21 cX21_isDone 3 (some .boolean) 7 154 := C
  unfold fX21_isDone
  refine r_aload_n C dX21_isDone_0 rfl rfl ?_
  refine r_aload_n C dX21_isDone_1 rfl rfl ?_
  refine r_aload_n C dX21_isDone_2 rfl rfl ?_
  refine r_getI (code := 2432) C fl_X21_7 hk rfl dX21_isDone_3 ?_
  refine r_aload_n C dX21_isDone_6 rfl rfl ?_
  refine r_getI (code := 2433) C fl_X21_13 hk rfl dX21_isDone_7 ?_
  refine r_gd fun hK3 => ?_
  refine r_bd fun r1 h2 => ?_
  refine r_callVN (As := [.ref x2, .int (gI P 2432 th), .int (gI P 2433 th)]) (st := []) C (mc_X1_canHang hK3 h2) cv_X21_16 hK3 rfl (Nat.le_of_ble_eq_true rfl) (Nat.le_of_ble_eq_true rfl) rfl (Nat.le_of_ble_eq_true rfl) dX21_isDone_10 ?_
  refine r_ifne (tgt := 18) C dX21_isDone_13 (by decide) (fun h4 => ?_) (fun h4 => ?_)
  · refine r_aload_n C dX21_isDone_18 rfl rfl ?_
    refine r_aload_n C dX21_isDone_19 rfl rfl ?_
    refine r_getI (code := 2432) C fl_X21_7 hk rfl dX21_isDone_20 ?_
    refine r_aload_n C dX21_isDone_23 rfl rfl ?_
    refine r_getI (code := 2433) C fl_X21_13 hk rfl dX21_isDone_24 ?_
    refine r_gd fun hK7 => ?_
    refine r_bd fun r5 h6 => ?_
    refine r_callVv (As := [.int (gI P 2432 th), .int (gI P 2433 th)]) (st := []) C (mc_X4_hangs hK7 h6) cv_X21_22 hK7 rfl (Nat.le_of_ble_eq_true rfl) (Nat.le_of_ble_eq_true rfl) rfl (Nat.le_of_ble_eq_true rfl) dX21_isDone_27 ?_
    refine r_iconst (v := 1) C dX21_isDone_30 rfl ?_
    exact r_zret C dX21_isDone_31 rfl rfl
  · refine r_iconst (v := 0) C dX21_isDone_16 rfl ?_
    exact r_zret C dX21_isDone_17 rfl rfl
/-! X16 isHour -/
def fX16_isHour (th : Nat)  : Option Int32 :=
  some ((0 : Int32))
set_option maxHeartbeats 4000000 in
theorem mc_X16_isHour {l : Launch} {K : mm_K} {P : mm_P} {th : Nat}  {nx sl : Nat} {r : Int32} (h : fX16_isHour th = some r) : mm_C l yX16_isHour (ws_ yX16_isHour cX16_isHour 1 (some .boolean)) 0 0 [.ref th] K P nx sl (mm_wrI K P nx sl r) :=
  mm_start (ls := [some (.ref th)]) h (by decide) (Nat.le_of_ble_eq_true rfl) rfl (Nat.le_refl _) (Nat.le_refl _) rfl fun E hl9 _ _ _ C => by
  have C : mm_Cx E RX16 cX16_isHour 1 (some .boolean) 0 0 := C
  unfold fX16_isHour
  refine r_iconst (v := 0) C dX16_isHour_0 rfl ?_
  exact r_zret C dX16_isHour_1 rfl rfl
/-! X17 isHour -/
def fX17_isHour (th : Nat)  : Option Int32 :=
  some ((1 : Int32))
set_option maxHeartbeats 4000000 in
theorem mc_X17_isHour {l : Launch} {K : mm_K} {P : mm_P} {th : Nat}  {nx sl : Nat} {r : Int32} (hk : K.1 th = 15) (h : fX17_isHour th = some r) : mm_C l yX17_isHour (ws_ yX17_isHour cX17_isHour 1 (some .boolean)) 0 0 [.ref th] K P nx sl (mm_wrI K P nx sl r) :=
  mm_start (ls := [some (.ref th)]) h (by decide) (Nat.le_of_ble_eq_true rfl) rfl (Nat.le_refl _) (Nat.le_refl _) rfl fun E hl9 _ _ _ C => by
  have C : mm_Cx E RX17 cX17_isHour 1 (some .boolean) 0 0 := C
  unfold fX17_isHour
  refine r_iconst (v := 1) C dX17_isHour_0 rfl ?_
  exact r_zret C dX17_isHour_1 rfl rfl
def dC_isDone (l : Launch) (fr lc : Nat) (K : mm_K) (P : mm_P) (nx sl : Nat) (a : Nat) (z0 : Nat) (z1 : Nat) (r : (Int32 × mm_P)) : Prop :=
  (K.1 a = 15 ∧ ∃ g c, g + 1 ≤ fr ∧ 8 + (3 + 11) + c ≤ lc ∧ mm_C l yX17_isDone (ws_ yX17_isDone cX17_isDone 3 (some .boolean)) g c [.ref a, .ref z0, .ref z1] K P nx sl (mm_wwI K nx sl r)) ∨
  (K.1 a = 16 ∧ ∃ g c, g + 1 ≤ fr ∧ 8 + (3 + 11) + c ≤ lc ∧ mm_C l yX18_isDone (ws_ yX18_isDone cX18_isDone 3 (some .boolean)) g c [.ref a, .ref z0, .ref z1] K P nx sl (mm_wwI K nx sl r)) ∨
  (K.1 a = 17 ∧ ∃ g c, g + 1 ≤ fr ∧ 8 + (3 + 11) + c ≤ lc ∧ mm_C l yX19_isDone (ws_ yX19_isDone cX19_isDone 3 (some .boolean)) g c [.ref a, .ref z0, .ref z1] K P nx sl (mm_wwI K nx sl r)) ∨
  (K.1 a = 18 ∧ ∃ g c, g + 1 ≤ fr ∧ 8 + (3 + 11) + c ≤ lc ∧ mm_C l yX20_isDone (ws_ yX20_isDone cX20_isDone 3 (some .boolean)) g c [.ref a, .ref z0, .ref z1] K P nx sl (mm_wwI K nx sl r)) ∨
  (K.1 a = 19 ∧ ∃ g c, g + 1 ≤ fr ∧ 8 + (3 + 11) + c ≤ lc ∧ mm_C l yX21_isDone (ws_ yX21_isDone cX21_isDone 3 (some .boolean)) g c [.ref a, .ref z0, .ref z1] K P nx sl (mm_wwI K nx sl r))
def fV_isDone (K : mm_K) (a : Nat) (z0 : Nat) (z1 : Nat) (P : mm_P) : Option (Int32 × mm_P) :=
    if K.1 a = 15 then fX17_isDone K a z0 z1 P else
    if K.1 a = 16 then fX18_isDone K a z0 z1 P else
    if K.1 a = 17 then fX19_isDone K a z0 z1 P else
    if K.1 a = 18 then fX20_isDone K a z0 z1 P else
    if K.1 a = 19 then fX21_isDone K a z0 z1 P else
    none
theorem dv_isDone {l : Launch} {K : mm_K} {P : mm_P} {nx sl : Nat} {a : Nat} {z0 : Nat} {z1 : Nat} {r : (Int32 × mm_P)} (h : fV_isDone K a z0 z1 P = some r) : dC_isDone l 606 13945 K P  nx sl a z0 z1 r := by
  unfold fV_isDone at h
  by_cases h15 : K.1 a = 15
  · rw [if_pos h15] at h
    exact Or.inl ⟨h15, _, _, by omega, by omega, mc_X17_isDone h15 h⟩
  rw [if_neg h15] at h
  by_cases h16 : K.1 a = 16
  · rw [if_pos h16] at h
    exact Or.inr (Or.inl ⟨h16, _, _, by omega, by omega, mc_X18_isDone h16 h⟩)
  rw [if_neg h16] at h
  by_cases h17 : K.1 a = 17
  · rw [if_pos h17] at h
    exact Or.inr (Or.inr (Or.inl ⟨h17, _, _, by omega, by omega, mc_X19_isDone h17 h⟩))
  rw [if_neg h17] at h
  by_cases h18 : K.1 a = 18
  · rw [if_pos h18] at h
    exact Or.inr (Or.inr (Or.inr (Or.inl ⟨h18, _, _, by omega, by omega, mc_X20_isDone h18 h⟩)))
  rw [if_neg h18] at h
  by_cases h19 : K.1 a = 19
  · rw [if_pos h19] at h
    exact Or.inr (Or.inr (Or.inr (Or.inr (⟨h19, _, _, by omega, by omega, mc_X21_isDone h19 h⟩))))
  rw [if_neg h19] at h
  cases h
def dC_isHour (l : Launch) (fr lc : Nat) (K : mm_K) (P : mm_P) (nx sl : Nat) (a : Nat) (r : Int32) : Prop :=
  (K.1 a = 15 ∧ ∃ g c, g + 1 ≤ fr ∧ 8 + (1 + 11) + c ≤ lc ∧ mm_C l yX17_isHour (ws_ yX17_isHour cX17_isHour 1 (some .boolean)) g c [.ref a] K P nx sl (mm_wrI K P nx sl r)) ∨
  (K.1 a = 16 ∧ ∃ g c, g + 1 ≤ fr ∧ 8 + (1 + 11) + c ≤ lc ∧ mm_C l yX16_isHour (ws_ yX16_isHour cX16_isHour 1 (some .boolean)) g c [.ref a] K P nx sl (mm_wrI K P nx sl r)) ∨
  (K.1 a = 17 ∧ ∃ g c, g + 1 ≤ fr ∧ 8 + (1 + 11) + c ≤ lc ∧ mm_C l yX16_isHour (ws_ yX16_isHour cX16_isHour 1 (some .boolean)) g c [.ref a] K P nx sl (mm_wrI K P nx sl r)) ∨
  (K.1 a = 18 ∧ ∃ g c, g + 1 ≤ fr ∧ 8 + (1 + 11) + c ≤ lc ∧ mm_C l yX16_isHour (ws_ yX16_isHour cX16_isHour 1 (some .boolean)) g c [.ref a] K P nx sl (mm_wrI K P nx sl r)) ∨
  (K.1 a = 19 ∧ ∃ g c, g + 1 ≤ fr ∧ 8 + (1 + 11) + c ≤ lc ∧ mm_C l yX16_isHour (ws_ yX16_isHour cX16_isHour 1 (some .boolean)) g c [.ref a] K P nx sl (mm_wrI K P nx sl r))
def fV_isHour (K : mm_K) (a : Nat) : Option Int32 :=
    if K.1 a = 15 then fX17_isHour a else
    if K.1 a = 16 then fX16_isHour a else
    if K.1 a = 17 then fX16_isHour a else
    if K.1 a = 18 then fX16_isHour a else
    if K.1 a = 19 then fX16_isHour a else
    none
theorem dv_isHour {l : Launch} {K : mm_K} {P : mm_P} {nx sl : Nat} {a : Nat} {r : Int32} (h : fV_isHour K a  = some r) : dC_isHour l 1 20 K P  nx sl a  r := by
  unfold fV_isHour at h
  by_cases h15 : K.1 a = 15
  · rw [if_pos h15] at h
    exact Or.inl ⟨h15, _, _, by omega, by omega, mc_X17_isHour h15 h⟩
  rw [if_neg h15] at h
  by_cases h16 : K.1 a = 16
  · rw [if_pos h16] at h
    exact Or.inr (Or.inl ⟨h16, _, _, by omega, by omega, mc_X16_isHour  h⟩)
  rw [if_neg h16] at h
  by_cases h17 : K.1 a = 17
  · rw [if_pos h17] at h
    exact Or.inr (Or.inr (Or.inl ⟨h17, _, _, by omega, by omega, mc_X16_isHour  h⟩))
  rw [if_neg h17] at h
  by_cases h18 : K.1 a = 18
  · rw [if_pos h18] at h
    exact Or.inr (Or.inr (Or.inr (Or.inl ⟨h18, _, _, by omega, by omega, mc_X16_isHour  h⟩)))
  rw [if_neg h18] at h
  by_cases h19 : K.1 a = 19
  · rw [if_pos h19] at h
    exact Or.inr (Or.inr (Or.inr (Or.inr (⟨h19, _, _, by omega, by omega, mc_X16_isHour  h⟩))))
  rw [if_neg h19] at h
  cases h
theorem cv_X1_102 : mm_CV RX1 102 yX4_begin cX4_begin 3 none 1 4 := ⟨RX4, TX4, 6, _, lw_V q339 q340 q341 q139 q342, ⟨rfl, by decide +kernel, by decide +kernel, by decide +kernel⟩, rfl, rfl⟩
theorem cv_X1_297 : mm_CV RX1 297 yX1_hanging cX1_hanging 5 (some .int) 1 1 := ⟨RX1, TX1, 26, _, lw_V q1379 q1381 qs43 q133 q1382, ⟨rfl, by decide +kernel, by decide +kernel, by decide +kernel⟩, rfl, rfl⟩
theorem ca_X1_300 {k : Nat} (h : mm_isL k) : mm_CA RX1 300 k := by
  rcases mm_isL_or h with rfl | rfl | rfl | rfl | rfl
  · exact ⟨RX17, _, mm_T0, 0, _, q1383, rfl, rfl, Or.inr (nw_in q2207 rfl)⟩
  · exact ⟨RX18, _, TX18, 1, _, q1383, rfl, rfl, Or.inr (nw_in q2208 rfl)⟩
  · exact ⟨RX19, _, TX19, 1, _, q1383, rfl, rfl, Or.inr (nw_in q2210 rfl)⟩
  · exact ⟨RX20, _, TX20, 1, _, q1383, rfl, rfl, Or.inr (nw_in q2211 rfl)⟩
  · exact ⟨RX21, _, TX21, 2, _, q1383, rfl, rfl, Or.inr (nw_in q2209 rfl)⟩
theorem cv_X1_302_15 : mm_CU RX1 302 ⟨"PegLaws$Line", "isDone", "(LPegLaws;LPegLaws$State;)Z"⟩ yX17_isDone cX17_isDone 3 (some .boolean) 2 15 := ⟨RX17, "PegLaws$Line", mm_T0, 0, _, ⟨by decide +kernel, by decide +kernel, by decide +kernel⟩, rfl, rfl, Or.inl ⟨lw_app (lw_in _ [1384, 1386, 1387, 1388, 167] (by decide +kernel) (by decide +kernel)) (lw_meth q1389), Or.inr (nw_in q1385 rfl)⟩⟩
theorem cv_X1_302_16 : mm_CU RX1 302 ⟨"PegLaws$Line", "isDone", "(LPegLaws;LPegLaws$State;)Z"⟩ yX18_isDone cX18_isDone 3 (some .boolean) 2 16 := ⟨RX18, "PegLaws$Line", TX18, 1, _, ⟨by decide +kernel, by decide +kernel, by decide +kernel⟩, rfl, rfl, Or.inl ⟨lw_app (lw_in _ [1384, 1386, 1391, 1392, 168] (by decide +kernel) (by decide +kernel)) (lw_meth q1393), Or.inr (nw_in q1385 rfl)⟩⟩
theorem cv_X1_302_17 : mm_CU RX1 302 ⟨"PegLaws$Line", "isDone", "(LPegLaws;LPegLaws$State;)Z"⟩ yX19_isDone cX19_isDone 3 (some .boolean) 2 17 := ⟨RX19, "PegLaws$Line", TX19, 1, _, ⟨by decide +kernel, by decide +kernel, by decide +kernel⟩, rfl, rfl, Or.inl ⟨lw_app (lw_in _ [1384, 1386, 1399, 1400, 169] (by decide +kernel) (by decide +kernel)) (lw_meth q1401), Or.inr (nw_in q1385 rfl)⟩⟩
theorem cv_X1_302_18 : mm_CU RX1 302 ⟨"PegLaws$Line", "isDone", "(LPegLaws;LPegLaws$State;)Z"⟩ yX20_isDone cX20_isDone 3 (some .boolean) 2 18 := ⟨RX20, "PegLaws$Line", TX20, 1, _, ⟨by decide +kernel, by decide +kernel, by decide +kernel⟩, rfl, rfl, Or.inl ⟨lw_app (lw_in _ [1384, 1386, 1404, 1405, 170] (by decide +kernel) (by decide +kernel)) (lw_meth q1406), Or.inr (nw_in q1385 rfl)⟩⟩
theorem cv_X1_302_19 : mm_CU RX1 302 ⟨"PegLaws$Line", "isDone", "(LPegLaws;LPegLaws$State;)Z"⟩ yX21_isDone cX21_isDone 3 (some .boolean) 2 19 := ⟨RX21, "PegLaws$Line", TX21, 2, _, ⟨by decide +kernel, by decide +kernel, by decide +kernel⟩, rfl, rfl, Or.inl ⟨lw_app (lw_in _ [1384, 1386, 1394, 1395, 172] (by decide +kernel) (by decide +kernel)) (lw_meth q1396), Or.inr (nw_in q1385 rfl)⟩⟩
theorem vd_X1_302 {α : Type} {E : mm_E} {cc : ByteArray} {nL : Nat} {ret : Option FieldType} {FR LC : Nat} {w : α → mm_O} {pc : Nat} {ls : List (Option Value)} {st st0 : List Value} {K : mm_K} {P : mm_P} {nx sl : Nat} {f : Option α} {fr lc : Nat} {a : Nat} {z0 : Nat} {z1 : Nat} {r : (Int32 × mm_P)} (C : mm_Cx E RX1 cc nL ret FR LC) (h : dC_isDone (eL E) fr lc K P  nx sl a z0 z1 r) (hfr : fr ≤ FR) (hlc : lc ≤ LC) (hst : st0 = [.ref z0, .ref z1].reverse ++ .ref a :: st) (hw : (st.map fun v => v.category).sum ≤ 8) (dd : decode cc pc = .ok (.invokevirtual 302, 3)) (kk : mm_V E w (pc + 3) ls (.int r.1 :: st) K r.2 nx sl f) : mm_V E w pc ls st0 K P nx sl f := by
  rcases h with ⟨hk, g, c, h1, h2, hM⟩ | ⟨hk, g, c, h1, h2, hM⟩ | ⟨hk, g, c, h1, h2, hM⟩ | ⟨hk, g, c, h1, h2, hM⟩ | ⟨hk, g, c, h1, h2, hM⟩
  · exact r_callU (As := [.ref z0, .ref z1]) C hM cv_X1_302_15 hk rfl (by omega) (by omega) hst hw dd kk
  · exact r_callU (As := [.ref z0, .ref z1]) C hM cv_X1_302_16 hk rfl (by omega) (by omega) hst hw dd kk
  · exact r_callU (As := [.ref z0, .ref z1]) C hM cv_X1_302_17 hk rfl (by omega) (by omega) hst hw dd kk
  · exact r_callU (As := [.ref z0, .ref z1]) C hM cv_X1_302_18 hk rfl (by omega) (by omega) hst hw dd kk
  · exact r_callU (As := [.ref z0, .ref z1]) C hM cv_X1_302_19 hk rfl (by omega) (by omega) hst hw dd kk
theorem cv_X1_306_15 : mm_CU RX1 306 ⟨"PegLaws$Line", "isHour", "()Z"⟩ yX17_isHour cX17_isHour 1 (some .boolean) 0 15 := ⟨RX17, "PegLaws$Line", mm_T0, 0, _, ⟨by decide +kernel, by decide +kernel, by decide +kernel⟩, rfl, rfl, Or.inr ⟨lw_app (lw_in _ [1408, 1410, 1409, 1411, 1412, 167] (by decide +kernel) (by decide +kernel)) (lw_meth q1413), _, _, _, q1418⟩⟩
theorem cv_X1_306_16 : mm_CU RX1 306 ⟨"PegLaws$Line", "isHour", "()Z"⟩ yX16_isHour cX16_isHour 1 (some .boolean) 0 16 := ⟨RX18, "PegLaws$Line", TX18, 1, _, ⟨by decide +kernel, by decide +kernel, by decide +kernel⟩, rfl, rfl, Or.inl ⟨lw_app (lw_in _ [1408, 1410, 1414, 1409, 166] (by decide +kernel) (by decide +kernel)) (lw_meth q1418), Or.inl rfl⟩⟩
theorem cv_X1_306_17 : mm_CU RX1 306 ⟨"PegLaws$Line", "isHour", "()Z"⟩ yX16_isHour cX16_isHour 1 (some .boolean) 0 17 := ⟨RX19, "PegLaws$Line", TX19, 1, _, ⟨by decide +kernel, by decide +kernel, by decide +kernel⟩, rfl, rfl, Or.inl ⟨lw_app (lw_in _ [1408, 1410, 1416, 1409, 166] (by decide +kernel) (by decide +kernel)) (lw_meth q1418), Or.inl rfl⟩⟩
theorem cv_X1_306_18 : mm_CU RX1 306 ⟨"PegLaws$Line", "isHour", "()Z"⟩ yX16_isHour cX16_isHour 1 (some .boolean) 0 18 := ⟨RX20, "PegLaws$Line", TX20, 1, _, ⟨by decide +kernel, by decide +kernel, by decide +kernel⟩, rfl, rfl, Or.inl ⟨lw_app (lw_in _ [1408, 1410, 1417, 1409, 166] (by decide +kernel) (by decide +kernel)) (lw_meth q1418), Or.inl rfl⟩⟩
theorem cv_X1_306_19 : mm_CU RX1 306 ⟨"PegLaws$Line", "isHour", "()Z"⟩ yX16_isHour cX16_isHour 1 (some .boolean) 0 19 := ⟨RX21, "PegLaws$Line", TX21, 2, _, ⟨by decide +kernel, by decide +kernel, by decide +kernel⟩, rfl, rfl, Or.inl ⟨lw_app (lw_in _ [1408, 1410, 1415, 1409, 166] (by decide +kernel) (by decide +kernel)) (lw_meth q1418), Or.inl rfl⟩⟩
theorem vd_X1_306 {α : Type} {E : mm_E} {cc : ByteArray} {nL : Nat} {ret : Option FieldType} {FR LC : Nat} {w : α → mm_O} {pc : Nat} {ls : List (Option Value)} {st st0 : List Value} {K : mm_K} {P : mm_P} {nx sl : Nat} {f : Option α} {fr lc : Nat} {a : Nat} {r : Int32} (C : mm_Cx E RX1 cc nL ret FR LC) (h : dC_isHour (eL E) fr lc K P  nx sl a  r) (hfr : fr ≤ FR) (hlc : lc ≤ LC) (hst : st0 = [].reverse ++ .ref a :: st) (hw : (st.map fun v => v.category).sum ≤ 8) (dd : decode cc pc = .ok (.invokevirtual 306, 3)) (kk : mm_V E w (pc + 3) ls (.int r :: st) K P nx sl f) : mm_V E w pc ls st0 K P nx sl f := by
  rcases h with ⟨hk, g, c, h1, h2, hM⟩ | ⟨hk, g, c, h1, h2, hM⟩ | ⟨hk, g, c, h1, h2, hM⟩ | ⟨hk, g, c, h1, h2, hM⟩ | ⟨hk, g, c, h1, h2, hM⟩
  · exact r_callU (As := []) C hM cv_X1_306_15 hk rfl (by omega) (by omega) hst hw dd kk
  · exact r_callU (As := []) C hM cv_X1_306_16 hk rfl (by omega) (by omega) hst hw dd kk
  · exact r_callU (As := []) C hM cv_X1_306_17 hk rfl (by omega) (by omega) hst hw dd kk
  · exact r_callU (As := []) C hM cv_X1_306_18 hk rfl (by omega) (by omega) hst hw dd kk
  · exact r_callU (As := []) C hM cv_X1_306_19 hk rfl (by omega) (by omega) hst hw dd kk
/-! X1 judged -/
def fX1_judged_b85 (K : mm_K) (th : Nat) (k30 : Int32 → Int32 → Int32 → Int32 → mm_P → Option (Int32 × mm_P)) (x1 : Int32) (x2 : Int32) (x3 : Int32) (x4 : Int32) (x5 : Int32) (P : mm_P) : Option (Int32 × mm_P) :=
  mm_bd (gR P 131 th) fun b1 =>
  mm_gd (K.1 b1 = 21) <|
  mm_bd (fJ2_get K b1 P x4) fun r3 =>
  mm_gd (mm_isL (K.1 r3)) <|
  mm_bd (fV_isHour K r3) fun r7 =>
  if r7 = 0 then
  (k30 x1 x2 x3 (x4 + (1 : Int32)) P)
  else
  (if 0 ≤ x3 then
  (k30 x1 x2 x3 (x4 + (1 : Int32)) P)
  else
  (mm_bd (gR P 133 th) fun b11 =>
  mm_bd (fX1_hanging K th P b11) fun r13 =>
  mm_bd (fJ17_bitCount r13) fun r15 =>
  if x5 ≤ r15 then
  (k30 x1 x2 x3 (x4 + (1 : Int32)) P)
  else
  (k30 x1 x2 x4 (x4 + (1 : Int32)) P)))
set_option maxHeartbeats 4000000 in
theorem wfX1_judged_b85 {E : mm_E} (C : mm_Cx E RX1 cX1_judged 6 (some .int) 606 13945) {K : mm_K} {th : Nat} (hk : K.1 th = 1) {nx sl : Nat} {k30 : Int32 → Int32 → Int32 → Int32 → mm_P → Option (Int32 × mm_P)} (hk30 : ∀ (x1 : Int32) (x2 : Int32) (x3 : Int32) (x4 : Int32) (P : mm_P), mm_V E (mm_wwI K nx sl) 30 [some (.ref th), some (.int x1), some (.int x2), some (.int x3), some (.int x4), none] [] K P nx sl (k30 x1 x2 x3 x4 P)) (x1 : Int32) (x2 : Int32) (x3 : Int32) (x4 : Int32) (x5 : Int32) (P : mm_P) : mm_V E (mm_wwI K nx sl) 85 [some (.ref th), some (.int x1), some (.int x2), some (.int x3), some (.int x4), some (.int x5)] [] K P nx sl (fX1_judged_b85 K th k30 x1 x2 x3 x4 x5 P) := by
  unfold fX1_judged_b85
  refine r_aload_n C dX1_judged_85 rfl rfl ?_
  refine r_getRn (code := 131) C fl_X1_44 hk rfl dX1_judged_86 fun b1 h2 => ?_
  refine r_iload C dX1_judged_89 rfl ?_
  refine r_gd fun hK5 => ?_
  refine r_bd fun r3 h4 => ?_
  refine r_callV (As := [.int x4]) (st := []) C (mc_J2_get hK5 h4) cv_X1_142 hK5 rfl (Nat.le_of_ble_eq_true rfl) (Nat.le_of_ble_eq_true rfl) rfl (Nat.le_of_ble_eq_true rfl) dX1_judged_91 ?_
  refine r_gd fun hK6 => ?_
  refine r_cast C (ca_X1_300 hK6) rfl dX1_judged_94 ?_
  refine r_bd fun r7 h8 => ?_
  refine vd_X1_306 (st := []) C (dv_isHour h8) (Nat.le_of_ble_eq_true rfl) (Nat.le_of_ble_eq_true rfl) rfl (Nat.le_of_ble_eq_true rfl) dX1_judged_97 ?_
  refine r_ifeq (tgt := 126) C dX1_judged_100 (by decide) (fun h9 => ?_) (fun h9 => ?_)
  · refine r_iinc (v := 1) (ls' := [some (.ref th), some (.int x1), some (.int x2), some (.int x3), some (.int (x4 + (1 : Int32))), some (.int x5)]) C dX1_judged_126 rfl rfl (Nat.le_of_ble_eq_true rfl) rfl rfl ?_
    refine r_goto (tgt := 30) C dX1_judged_129 (by decide) ?_
    refine r_mask [true, true, true, true, true, false] (ls' := [some (.ref th), some (.int x1), some (.int x2), some (.int x3), some (.int (x4 + (1 : Int32))), none]) rfl ?_
    exact hk30 x1 x2 x3 (x4 + (1 : Int32)) P
  · refine r_iload_n C dX1_judged_103 rfl rfl ?_
    refine r_ifge (tgt := 126) C dX1_judged_104 (by decide) (fun h10 => ?_) (fun h10 => ?_)
    · refine r_iinc (v := 1) (ls' := [some (.ref th), some (.int x1), some (.int x2), some (.int x3), some (.int (x4 + (1 : Int32))), some (.int x5)]) C dX1_judged_126 rfl rfl (Nat.le_of_ble_eq_true rfl) rfl rfl ?_
      refine r_goto (tgt := 30) C dX1_judged_129 (by decide) ?_
      refine r_mask [true, true, true, true, true, false] (ls' := [some (.ref th), some (.int x1), some (.int x2), some (.int x3), some (.int (x4 + (1 : Int32))), none]) rfl ?_
      exact hk30 x1 x2 x3 (x4 + (1 : Int32)) P
    · refine r_aload_n C dX1_judged_107 rfl rfl ?_
      refine r_aload_n C dX1_judged_108 rfl rfl ?_
      refine r_getRn (code := 133) C fl_X1_55 hk rfl dX1_judged_109 fun b11 h12 => ?_
      refine r_bd fun r13 h14 => ?_
      refine r_callV (As := [.ref b11]) (st := []) C (mc_X1_hanging hk h14) cv_X1_297 hk rfl (Nat.le_of_ble_eq_true rfl) (Nat.le_of_ble_eq_true rfl) rfl (Nat.le_of_ble_eq_true rfl) dX1_judged_112 ?_
      refine r_bd fun r15 h16 => ?_
      refine r_callS (As := [.int r13]) (st := []) C (mc_J17_bitCount h16) cv_X1_161  rfl (Nat.le_of_ble_eq_true rfl) (Nat.le_of_ble_eq_true rfl) rfl (Nat.le_of_ble_eq_true rfl) dX1_judged_115 ?_
      refine r_iload C dX1_judged_118 rfl ?_
      refine r_icmpge (tgt := 126) C dX1_judged_120 (by decide) (fun h17 => ?_) (fun h17 => ?_)
      · refine r_iinc (v := 1) (ls' := [some (.ref th), some (.int x1), some (.int x2), some (.int x3), some (.int (x4 + (1 : Int32))), some (.int x5)]) C dX1_judged_126 rfl rfl (Nat.le_of_ble_eq_true rfl) rfl rfl ?_
        refine r_goto (tgt := 30) C dX1_judged_129 (by decide) ?_
        refine r_mask [true, true, true, true, true, false] (ls' := [some (.ref th), some (.int x1), some (.int x2), some (.int x3), some (.int (x4 + (1 : Int32))), none]) rfl ?_
        exact hk30 x1 x2 x3 (x4 + (1 : Int32)) P
      · refine r_iload C dX1_judged_123 rfl ?_
        refine r_istore_n (ls' := [some (.ref th), some (.int x1), some (.int x2), some (.int x4), some (.int x4), some (.int x5)]) C dX1_judged_125 rfl (Nat.le_of_ble_eq_true rfl) rfl rfl ?_
        refine r_iinc (v := 1) (ls' := [some (.ref th), some (.int x1), some (.int x2), some (.int x4), some (.int (x4 + (1 : Int32))), some (.int x5)]) C dX1_judged_126 rfl rfl (Nat.le_of_ble_eq_true rfl) rfl rfl ?_
        refine r_goto (tgt := 30) C dX1_judged_129 (by decide) ?_
        refine r_mask [true, true, true, true, true, false] (ls' := [some (.ref th), some (.int x1), some (.int x2), some (.int x4), some (.int (x4 + (1 : Int32))), none]) rfl ?_
        exact hk30 x1 x2 x4 (x4 + (1 : Int32)) P
def fX1_judged_b30 (K : mm_K) (th : Nat)  : Nat → Int32 → Int32 → Int32 → Int32 → mm_P → Option (Int32 × mm_P)
  | 0, _, _, _, _, _ => none
  | n + 1, x1, x2, x3, x4, P =>
  mm_bd (gR P 131 th) fun b1 =>
  mm_gd (K.1 b1 = 21) <|
  mm_bd (fJ2_size b1 P) fun r3 =>
  if r3 ≤ x4 then
  (if x1 ≠ 0 then
  (if x1 ≠ (1 : Int32) then
  (mm_bd (gR P 133 th) fun b9 =>
  mm_bd (fX1_lawsOf K th P b9) fun r11 =>
  mm_bd (fX1_worthOf K th P r11) fun r13 =>
  some (r13, P))
  else
  (some (x3, P)))
  else
  (some (x2, P)))
  else
  (mm_bd (gR P 133 th) fun b15 =>
  mm_bd (fX1_hanging K th P b15) fun r17 =>
  mm_bd (fJ17_bitCount r17) fun r19 =>
  mm_bd (gR P 131 th) fun b21 =>
  mm_gd (K.1 b21 = 21) <|
  mm_bd (fJ2_get K b21 P x4) fun r23 =>
  mm_gd (mm_isL (K.1 r23)) <|
  mm_bd (gR P 133 th) fun b27 =>
  mm_bd (fV_isDone K r23 th b27 P) fun r29 =>
  if r29.1 ≠ 0 then
  (fX1_judged_b85 K th (fX1_judged_b30 K th n) x1 x2 x3 x4 r19 r29.2)
  else
  (if 0 ≤ x2 then
  (fX1_judged_b85 K th (fX1_judged_b30 K th n) x1 x2 x3 x4 r19 r29.2)
  else
  (fX1_judged_b85 K th (fX1_judged_b30 K th n) x1 x4 x3 x4 r19 r29.2)))
set_option maxHeartbeats 4000000 in
theorem wfX1_judged_b30 {E : mm_E} (C : mm_Cx E RX1 cX1_judged 6 (some .int) 606 13945) {K : mm_K} {th : Nat} (hk : K.1 th = 1) {nx sl : Nat} : ∀ (n : Nat), ∀ (x1 : Int32) (x2 : Int32) (x3 : Int32) (x4 : Int32) (P : mm_P), mm_V E (mm_wwI K nx sl) 30 [some (.ref th), some (.int x1), some (.int x2), some (.int x3), some (.int x4), none] [] K P nx sl (fX1_judged_b30 K th n x1 x2 x3 x4 P) := by
  intro n
  induction n with
  | zero => intro x1 x2 x3 x4 P; exact r_none
  | succ n ih =>
    intro x1 x2 x3 x4 P
    rw [fX1_judged_b30]
    refine r_iload C dX1_judged_30 rfl ?_
    refine r_aload_n C dX1_judged_32 rfl rfl ?_
    refine r_getRn (code := 131) C fl_X1_44 hk rfl dX1_judged_33 fun b1 h2 => ?_
    refine r_gd fun hK5 => ?_
    refine r_bd fun r3 h4 => ?_
    refine r_callV (As := []) (st := [.int x4]) C (mc_J2_size hK5 h4) cv_X1_138 hK5 rfl (Nat.le_of_ble_eq_true rfl) (Nat.le_of_ble_eq_true rfl) rfl (Nat.le_of_ble_eq_true rfl) dX1_judged_36 ?_
    refine r_icmpge (tgt := 132) C dX1_judged_39 (by decide) (fun h6 => ?_) (fun h6 => ?_)
    · refine r_iload_n C dX1_judged_132 rfl rfl ?_
      refine r_ifne (tgt := 140) C dX1_judged_133 (by decide) (fun h7 => ?_) (fun h7 => ?_)
      · refine r_iload_n C dX1_judged_140 rfl rfl ?_
        refine r_iconst (v := 1) C dX1_judged_141 rfl ?_
        refine r_icmpne (tgt := 149) C dX1_judged_142 (by decide) (fun h8 => ?_) (fun h8 => ?_)
        · refine r_aload_n C dX1_judged_149 rfl rfl ?_
          refine r_aload_n C dX1_judged_150 rfl rfl ?_
          refine r_aload_n C dX1_judged_151 rfl rfl ?_
          refine r_getRn (code := 133) C fl_X1_55 hk rfl dX1_judged_152 fun b9 h10 => ?_
          refine r_bd fun r11 h12 => ?_
          refine r_callV (As := [.ref b9]) (st := [.ref th]) C (mc_X1_lawsOf hk h12) cv_X1_273 hk rfl (Nat.le_of_ble_eq_true rfl) (Nat.le_of_ble_eq_true rfl) rfl (Nat.le_of_ble_eq_true rfl) dX1_judged_155 ?_
          refine r_bd fun r13 h14 => ?_
          refine r_callV (As := [.int r11]) (st := []) C (mc_X1_worthOf hk h14) cv_X1_310 hk rfl (Nat.le_of_ble_eq_true rfl) (Nat.le_of_ble_eq_true rfl) rfl (Nat.le_of_ble_eq_true rfl) dX1_judged_158 ?_
          exact r_iret C dX1_judged_161 rfl
        · refine r_iload_n C dX1_judged_145 rfl rfl ?_
          refine r_goto (tgt := 161) C dX1_judged_146 (by decide) ?_
          exact r_iret C dX1_judged_161 rfl
      · refine r_iload_n C dX1_judged_136 rfl rfl ?_
        refine r_goto (tgt := 161) C dX1_judged_137 (by decide) ?_
        exact r_iret C dX1_judged_161 rfl
    · refine r_aload_n C dX1_judged_42 rfl rfl ?_
      refine r_aload_n C dX1_judged_43 rfl rfl ?_
      refine r_getRn (code := 133) C fl_X1_55 hk rfl dX1_judged_44 fun b15 h16 => ?_
      refine r_bd fun r17 h18 => ?_
      refine r_callV (As := [.ref b15]) (st := []) C (mc_X1_hanging hk h18) cv_X1_297 hk rfl (Nat.le_of_ble_eq_true rfl) (Nat.le_of_ble_eq_true rfl) rfl (Nat.le_of_ble_eq_true rfl) dX1_judged_47 ?_
      refine r_bd fun r19 h20 => ?_
      refine r_callS (As := [.int r17]) (st := []) C (mc_J17_bitCount h20) cv_X1_161  rfl (Nat.le_of_ble_eq_true rfl) (Nat.le_of_ble_eq_true rfl) rfl (Nat.le_of_ble_eq_true rfl) dX1_judged_50 ?_
      refine r_istore (ls' := [some (.ref th), some (.int x1), some (.int x2), some (.int x3), some (.int x4), some (.int r19)]) C dX1_judged_53 (Nat.le_of_ble_eq_true rfl) rfl rfl ?_
      refine r_aload_n C dX1_judged_55 rfl rfl ?_
      refine r_getRn (code := 131) C fl_X1_44 hk rfl dX1_judged_56 fun b21 h22 => ?_
      refine r_iload C dX1_judged_59 rfl ?_
      refine r_gd fun hK25 => ?_
      refine r_bd fun r23 h24 => ?_
      refine r_callV (As := [.int x4]) (st := []) C (mc_J2_get hK25 h24) cv_X1_142 hK25 rfl (Nat.le_of_ble_eq_true rfl) (Nat.le_of_ble_eq_true rfl) rfl (Nat.le_of_ble_eq_true rfl) dX1_judged_61 ?_
      refine r_gd fun hK26 => ?_
      refine r_cast C (ca_X1_300 hK26) rfl dX1_judged_64 ?_
      refine r_aload_n C dX1_judged_67 rfl rfl ?_
      refine r_aload_n C dX1_judged_68 rfl rfl ?_
      refine r_getRn (code := 133) C fl_X1_55 hk rfl dX1_judged_69 fun b27 h28 => ?_
      refine r_bd fun r29 h30 => ?_
      refine vd_X1_302 (st := []) C (dv_isDone h30) (Nat.le_of_ble_eq_true rfl) (Nat.le_of_ble_eq_true rfl) rfl (Nat.le_of_ble_eq_true rfl) dX1_judged_72 ?_
      refine r_ifne (tgt := 85) C dX1_judged_75 (by decide) (fun h31 => ?_) (fun h31 => ?_)
      · exact wfX1_judged_b85 C hk ih x1 x2 x3 x4 r19 r29.2
      · refine r_iload_n C dX1_judged_78 rfl rfl ?_
        refine r_ifge (tgt := 85) C dX1_judged_79 (by decide) (fun h32 => ?_) (fun h32 => ?_)
        · exact wfX1_judged_b85 C hk ih x1 x2 x3 x4 r19 r29.2
        · refine r_iload C dX1_judged_82 rfl ?_
          refine r_istore_n (ls' := [some (.ref th), some (.int x1), some (.int x4), some (.int x3), some (.int x4), some (.int r19)]) C dX1_judged_84 rfl (Nat.le_of_ble_eq_true rfl) rfl rfl ?_
          exact wfX1_judged_b85 C hk ih x1 x4 x3 x4 r19 r29.2
def fX1_judged (K : mm_K) (th : Nat) (x1 : Int32) (P : mm_P) : Option (Int32 × mm_P) :=
  mm_bd (fX1_in x1 (0 : Int32) (2 : Int32)) fun r1 =>
  if r1 ≠ 0 then
  (mm_bd (gR P 133 th) fun b4 =>
  mm_bd (gR P 130 th) fun b6 =>
  mm_gd (K.1 b4 = 4) <|
  mm_bd (fX4_begin K b4 b6 P) fun r8 =>
  fX1_judged_b30 K th mm_NF x1 (-1 : Int32) (-1 : Int32) (0 : Int32) r8)
  else
  (some ((-2 : Int32), P))
set_option maxHeartbeats 4000000 in
theorem mc_X1_judged {l : Launch} {K : mm_K} {P : mm_P} {th : Nat} {x1 : Int32} {nx sl : Nat} {r : (Int32 × mm_P)} (hk : K.1 th = 1) (h : fX1_judged K th x1 P = some r) : mm_C l yX1_judged (ws_ yX1_judged cX1_judged 6 (some .int)) 606 13945 [.ref th, .int x1] K P nx sl (mm_wwI K nx sl r) :=
  mm_start (ls := [some (.ref th), some (.int x1), none, none, none, none]) h (by decide) (Nat.le_of_ble_eq_true rfl) rfl (Nat.le_refl _) (Nat.le_refl _) rfl fun E hl9 _ _ _ C => by
  have C : mm_Cx E RX1 cX1_judged 6 (some .int) 606 13945 := C
  unfold fX1_judged
  refine r_iload_n C dX1_judged_0 rfl rfl ?_
  refine r_iconst (v := 0) C dX1_judged_1 rfl ?_
  refine r_iconst (v := 2) C dX1_judged_2 rfl ?_
  refine r_bd fun r1 h2 => ?_
  refine r_callS (As := [.int x1, .int (0 : Int32), .int (2 : Int32)]) (st := []) C (mc_X1_in h2) cv_X1_150  rfl (Nat.le_of_ble_eq_true rfl) (Nat.le_of_ble_eq_true rfl) rfl (Nat.le_of_ble_eq_true rfl) dX1_judged_3 ?_
  refine r_ifne (tgt := 12) C dX1_judged_6 (by decide) (fun h3 => ?_) (fun h3 => ?_)
  · refine r_aload_n C dX1_judged_12 rfl rfl ?_
    refine r_getRn (code := 133) C fl_X1_55 hk rfl dX1_judged_13 fun b4 h5 => ?_
    refine r_aload_n C dX1_judged_16 rfl rfl ?_
    refine r_getRn (code := 130) C fl_X1_35 hk rfl dX1_judged_17 fun b6 h7 => ?_
    refine r_gd fun hK10 => ?_
    refine r_bd fun r8 h9 => ?_
    refine r_callVv (As := [.ref b6]) (st := []) C (mc_X4_begin hK10 h9) cv_X1_102 hK10 rfl (Nat.le_of_ble_eq_true rfl) (Nat.le_of_ble_eq_true rfl) rfl (Nat.le_of_ble_eq_true rfl) dX1_judged_20 ?_
    refine r_iconst (v := -1) C dX1_judged_23 rfl ?_
    refine r_istore_n (ls' := [some (.ref th), some (.int x1), some (.int (-1 : Int32)), none, none, none]) C dX1_judged_24 rfl (Nat.le_of_ble_eq_true rfl) rfl rfl ?_
    refine r_iconst (v := -1) C dX1_judged_25 rfl ?_
    refine r_istore_n (ls' := [some (.ref th), some (.int x1), some (.int (-1 : Int32)), some (.int (-1 : Int32)), none, none]) C dX1_judged_26 rfl (Nat.le_of_ble_eq_true rfl) rfl rfl ?_
    refine r_iconst (v := 0) C dX1_judged_27 rfl ?_
    refine r_istore (ls' := [some (.ref th), some (.int x1), some (.int (-1 : Int32)), some (.int (-1 : Int32)), some (.int (0 : Int32)), none]) C dX1_judged_28 (Nat.le_of_ble_eq_true rfl) rfl rfl ?_
    exact wfX1_judged_b30 C hk mm_NF x1 (-1 : Int32) (-1 : Int32) (0 : Int32) r8
  · refine r_bipush (v := -2) C dX1_judged_9 rfl ?_
    exact r_iret C dX1_judged_11 rfl
theorem nl_X1_48 : mm_NL RX1 48 36 6 := ⟨RX4, TX4, _, tyX4, rfl, in_X4, rfl, by decide +kernel, q301, q302, q139, tyX4_ok, rfl⟩
theorem cs_5_4 : mm_CS2 5 4 := ⟨RX4, TX4, 6, _, rfl, rfl, Or.inl rfl⟩
theorem cv_X1_50 : mm_CIN RX1 50 yX4_init cX4_init 1 0 := ⟨⟨⟨_, nw_in q303 rfl⟩, q305, q139, ⟨by decide +kernel, by decide +kernel, by decide +kernel⟩⟩, q304, rfl⟩
/-! X1 keeps -/
def fX1_keeps_b92 (th : Nat)  (K : mm_K) (P : mm_P) (nx : Nat) (sl : Nat) : Option mm_S :=
  mm_gd (K.1 th = 1) <|
  mm_lt (gI P 137 th) fun v2 =>
  mm_lt (sI P 137 th (v2 + (1 : Int32))) fun P3 =>
  mm_gd (mm_in v2 16) <|
  mm_bd (gB P3 136 th v2.toNatClampNeg) fun b5 =>
  mm_bd (gR P3 132 th) fun b7 =>
  mm_gd (K.1 b5 = 4) <|
  mm_bd (fX4_be K b5 b7 P3) fun r9 =>
  some (K, r9, nx, sl)
set_option maxHeartbeats 4000000 in
theorem wfX1_keeps_b92 {E : mm_E} (C : mm_Cx E RX1 cX1_keeps 3 none 2 43) {th : Nat} (K : mm_K) (P : mm_P) (nx : Nat) (sl : Nat) : mm_V E (mm_waV) 92 [some (.ref th), none, none] [] K P nx sl (fX1_keeps_b92 th K P nx sl) := by
  unfold fX1_keeps_b92
  refine r_aload_n C dX1_keeps_92 rfl rfl ?_
  refine r_gd fun hK1 => ?_
  refine r_getA C fl_X1_62 hK1 dX1_keeps_93 ?_
  refine r_aload_n C dX1_keeps_96 rfl rfl ?_
  refine r_dup C dX1_keeps_97 rfl ?_
  refine r_getI (code := 137) C fl_X1_128 hK1 rfl dX1_keeps_98 ?_
  refine r_ltI fun v2 => ?_
  refine r_dup_x1 C dX1_keeps_101 rfl rfl ?_
  refine r_iconst (v := 1) C dX1_keeps_102 rfl ?_
  refine r_iadd C dX1_keeps_103 ?_
  refine r_putI (code := 137) C fl_X1_128 hK1 rfl rfl dX1_keeps_104 ?_
  refine r_ltP fun P3 => ?_
  refine r_aaldSn C (rg_136 hK1) rfl dX1_keeps_107 fun h4 b5 h6 => ?_
  refine r_aload_n C dX1_keeps_108 rfl rfl ?_
  refine r_getRn (code := 132) C fl_X1_51 hK1 rfl dX1_keeps_109 fun b7 h8 => ?_
  refine r_gd fun hK11 => ?_
  refine r_bd fun r9 h10 => ?_
  refine r_callVv (As := [.ref b7]) (st := []) C (mc_X4_be hK11 h10) cv_X1_276 hK11 rfl (Nat.le_of_ble_eq_true rfl) (Nat.le_of_ble_eq_true rfl) rfl (Nat.le_of_ble_eq_true rfl) dX1_keeps_112 ?_
  exact r_vret C dX1_keeps_115 rfl
def fX1_keeps_b64 (th : Nat)  (K : mm_K) (P : mm_P) (nx : Nat) (sl : Nat) : Option mm_S :=
  mm_gd (K.1 th = 1) <|
  mm_gd (mm_in (gI P 137 th) 16) <|
  mm_on (gB P 136 th (gI P 137 th).toNatClampNeg)
  (mm_mo mm_waV (nx + 1) (sl + 6) <|
  mm_lt (mm_kn K nx 36 0) fun K5 =>
  mm_lt (mm_fresh P nx) fun P6 =>
  mm_bd (fX4_init nx K5 P6 (nx + 1) (sl + 6)) fun r8 =>
  mm_mo mm_waV r8.2.2.1 r8.2.2.2 <|
  mm_gd (r8.1.1 th = 1) <|
  mm_gd (r8.1.1 nx = 4) <|
  mm_gd (mm_in (gI P 137 th) 16) <|
  mm_lt (sB r8.2.1 136 th (gI P 137 th).toNatClampNeg (some nx)) fun P12 =>
  fX1_keeps_b92 th r8.1 P12 r8.2.2.1 r8.2.2.2)
  fun b4 =>
  (fX1_keeps_b92 th K P nx sl)
set_option maxHeartbeats 4000000 in
theorem wfX1_keeps_b64 {E : mm_E} (C : mm_Cx E RX1 cX1_keeps 3 none 2 43) {th : Nat} (K : mm_K) (P : mm_P) (nx : Nat) (sl : Nat) : mm_V E (mm_waV) 64 [some (.ref th), none, none] [] K P nx sl (fX1_keeps_b64 th K P nx sl) := by
  unfold fX1_keeps_b64
  refine r_aload_n C dX1_keeps_64 rfl rfl ?_
  refine r_gd fun hK1 => ?_
  refine r_getA C fl_X1_62 hK1 dX1_keeps_65 ?_
  refine r_aload_n C dX1_keeps_68 rfl rfl ?_
  refine r_getI (code := 137) C fl_X1_128 hK1 rfl dX1_keeps_69 ?_
  refine r_aaldSo C (rg_136 hK1) rfl dX1_keeps_72 fun h2 => ?_
  refine r_ifnonnull (tgt := 92) C dX1_keeps_73 (by decide) (fun b4 h3 => ?_) (fun h3 => ?_)
  · exact wfX1_keeps_b92 C K P nx sl
  · refine r_aload_n C dX1_keeps_76 rfl rfl ?_
    refine r_getA C fl_X1_62 hK1 dX1_keeps_77 ?_
    refine r_aload_n C dX1_keeps_80 rfl rfl ?_
    refine r_getI (code := 137) C fl_X1_128 hK1 rfl dX1_keeps_81 ?_
    refine r_new C nl_X1_48 dX1_keeps_84 ?_
    refine r_ltK fun K5 e7 => ?_
    refine r_ltP fun P6 => ?_
    refine r_dup C dX1_keeps_87 rfl ?_
    refine r_bd fun r8 h9 => ?_
    refine r_acallINv (As := []) (st := [.ref nx, .int (gI P 137 th), .ref (th + 21)]) C (mc_X4_init (by rw [e7]; exact mm_kn_1) h9) cv_X1_50  rfl (Nat.le_of_ble_eq_true rfl) (Nat.le_of_ble_eq_true rfl) rfl (Nat.le_of_ble_eq_true rfl) dX1_keeps_88 ?_
    refine r_gd fun hK10 => ?_
    refine r_gd fun hK13 => ?_
    refine r_aast C (by decide) cs_5_4 (rg_136 hK10) (mm_ro_of (k := 1) hK10 rfl) rfl hK13 dX1_keeps_91 fun h11 => ?_
    refine r_ltP fun P12 => ?_
    exact wfX1_keeps_b92 C r8.1 P12 r8.2.2.1 r8.2.2.2
def fX1_keeps_b18 (th : Nat)  : Nat → Nat → Int32 → mm_K → mm_P → Nat → Nat → Option mm_S
  | 0, _, _, _, _, _, _ => none
  | n + 1, x1, x2, K, P, nx, sl =>
  if (16 : Int32) ≤ (x2 + (1 : Int32)) then
  (mm_gd (K.1 th = 1) <|
  mm_gd (K.1 x1 = 4) <|
  mm_gd (mm_in (15 : Int32) 16) <|
  mm_lt (sB P 136 th (15 : Int32).toNatClampNeg (some x1)) fun P4 =>
  mm_lt (sI P4 137 th ((gI P4 137 th) - (1 : Int32))) fun P6 =>
  fX1_keeps_b64 th K P6 nx sl)
  else
  (mm_gd (K.1 th = 1) <|
  mm_gd (mm_in (x2 + (1 : Int32)) 16) <|
  mm_bd (gB P 136 th (x2 + (1 : Int32)).toNatClampNeg) fun b9 =>
  mm_gd (K.1 b9 = 4) <|
  mm_gd (mm_in x2 16) <|
  mm_lt (sB P 136 th x2.toNatClampNeg (some b9)) fun P12 =>
  fX1_keeps_b18 th n x1 (x2 + (1 : Int32)) K P12 nx sl)
set_option maxHeartbeats 4000000 in
theorem wfX1_keeps_b18 {E : mm_E} (C : mm_Cx E RX1 cX1_keeps 3 none 2 43) {th : Nat} : ∀ (n : Nat), ∀ (x1 : Nat) (x2 : Int32) (K : mm_K) (P : mm_P) (nx : Nat) (sl : Nat), mm_V E (mm_waV) 18 [some (.ref th), some (.ref x1), some (.int x2)] [] K P nx sl (fX1_keeps_b18 th n x1 x2 K P nx sl) := by
  intro n
  induction n with
  | zero => intro x1 x2 K P nx sl; exact r_none
  | succ n ih =>
    intro x1 x2 K P nx sl
    rw [fX1_keeps_b18]
    refine r_iload_n C dX1_keeps_18 rfl rfl ?_
    refine r_iconst (v := 1) C dX1_keeps_19 rfl ?_
    refine r_iadd C dX1_keeps_20 ?_
    refine r_bipush (v := 16) C dX1_keeps_21 rfl ?_
    refine r_icmpge (tgt := 46) C dX1_keeps_23 (by decide) (fun h1 => ?_) (fun h1 => ?_)
    · refine r_aload_n C dX1_keeps_46 rfl rfl ?_
      refine r_gd fun hK2 => ?_
      refine r_getA C fl_X1_62 hK2 dX1_keeps_47 ?_
      refine r_bipush (v := 15) C dX1_keeps_50 rfl ?_
      refine r_aload_n C dX1_keeps_52 rfl rfl ?_
      refine r_gd fun hK5 => ?_
      refine r_aast C (by decide) cs_5_4 (rg_136 hK2) (mm_ro_of (k := 1) hK2 rfl) rfl hK5 dX1_keeps_53 fun h3 => ?_
      refine r_ltP fun P4 => ?_
      refine r_aload_n C dX1_keeps_54 rfl rfl ?_
      refine r_dup C dX1_keeps_55 rfl ?_
      refine r_getI (code := 137) C fl_X1_128 hK2 rfl dX1_keeps_56 ?_
      refine r_iconst (v := 1) C dX1_keeps_59 rfl ?_
      refine r_isub C dX1_keeps_60 ?_
      refine r_putI (code := 137) C fl_X1_128 hK2 rfl rfl dX1_keeps_61 ?_
      refine r_ltP fun P6 => ?_
      refine r_mask [true, false, false] (ls' := [some (.ref th), none, none]) rfl ?_
      exact wfX1_keeps_b64 C K P6 nx sl
    · refine r_aload_n C dX1_keeps_26 rfl rfl ?_
      refine r_gd fun hK7 => ?_
      refine r_getA C fl_X1_62 hK7 dX1_keeps_27 ?_
      refine r_iload_n C dX1_keeps_30 rfl rfl ?_
      refine r_aload_n C dX1_keeps_31 rfl rfl ?_
      refine r_getA C fl_X1_62 hK7 dX1_keeps_32 ?_
      refine r_iload_n C dX1_keeps_35 rfl rfl ?_
      refine r_iconst (v := 1) C dX1_keeps_36 rfl ?_
      refine r_iadd C dX1_keeps_37 ?_
      refine r_aaldSn C (rg_136 hK7) rfl dX1_keeps_38 fun h8 b9 h10 => ?_
      refine r_gd fun hK13 => ?_
      refine r_aast C (by decide) cs_5_4 (rg_136 hK7) (mm_ro_of (k := 1) hK7 rfl) rfl hK13 dX1_keeps_39 fun h11 => ?_
      refine r_ltP fun P12 => ?_
      refine r_iinc (v := 1) (ls' := [some (.ref th), some (.ref x1), some (.int (x2 + (1 : Int32)))]) C dX1_keeps_40 rfl rfl (Nat.le_of_ble_eq_true rfl) rfl rfl ?_
      refine r_goto (tgt := 18) C dX1_keeps_43 (by decide) ?_
      exact ih x1 (x2 + (1 : Int32)) K P12 nx sl
def fX1_keeps (th : Nat)  (K : mm_K) (P : mm_P) (nx : Nat) (sl : Nat) : Option mm_S :=
  mm_mo mm_waV nx sl <|
  if (gI P 137 th) ≠ (16 : Int32) then
  (fX1_keeps_b64 th K P nx sl)
  else
  (mm_gd (mm_in (0 : Int32) 16) <|
  mm_bd (gB P 136 th (0 : Int32).toNatClampNeg) fun b3 =>
  fX1_keeps_b18 th mm_NF b3 (0 : Int32) K P nx sl)
set_option maxHeartbeats 4000000 in
theorem mc_X1_keeps {l : Launch} {K : mm_K} {P : mm_P} {th : Nat}  {nx sl : Nat} {r : mm_S} (hk : K.1 th = 1) (h : fX1_keeps th K P nx sl = some r) : mm_C l yX1_keeps (ws_ yX1_keeps cX1_keeps 3 none) 2 43 [.ref th] K P nx sl (mm_waV r) :=
  mm_start (ls := [some (.ref th), none, none]) h (by decide) (Nat.le_of_ble_eq_true rfl) rfl (mm_mo_some h).2.1 (mm_mo_some h).2.2 rfl fun E hl9 _ _ _ C => by
  have C : mm_Cx E RX1 cX1_keeps 3 none 2 43 := C
  unfold fX1_keeps
  refine r_mo ?_
  refine r_aload_n C dX1_keeps_0 rfl rfl ?_
  refine r_getI (code := 137) C fl_X1_128 hk rfl dX1_keeps_1 ?_
  refine r_bipush (v := 16) C dX1_keeps_4 rfl ?_
  refine r_icmpne (tgt := 64) C dX1_keeps_6 (by decide) (fun h1 => ?_) (fun h1 => ?_)
  · exact wfX1_keeps_b64 C K P nx sl
  · refine r_aload_n C dX1_keeps_9 rfl rfl ?_
    refine r_getA C fl_X1_62 hk dX1_keeps_10 ?_
    refine r_iconst (v := 0) C dX1_keeps_13 rfl ?_
    refine r_aaldSn C (rg_136 hk) rfl dX1_keeps_14 fun h2 b3 h4 => ?_
    refine r_astore_n (ls' := [some (.ref th), some (.ref b3), none]) C dX1_keeps_15 rfl (Nat.le_of_ble_eq_true rfl) rfl rfl ?_
    refine r_iconst (v := 0) C dX1_keeps_16 rfl ?_
    refine r_istore_n (ls' := [some (.ref th), some (.ref b3), some (.int (0 : Int32))]) C dX1_keeps_17 rfl (Nat.le_of_ble_eq_true rfl) rfl rfl ?_
    exact wfX1_keeps_b18 C mm_NF b3 (0 : Int32) K P nx sl
theorem cv_X1_283 : mm_CV RX1 283 yX1_keeps cX1_keeps 3 none 0 1 := ⟨RX1, TX1, 26, _, lw_V q1308 q1310 qs39 q133 q1311, ⟨rfl, by decide +kernel, by decide +kernel, by decide +kernel⟩, rfl, rfl⟩
/-! X1 hang -/
def fX1_hang (th : Nat) (x1 : Int32) (x2 : Int32) (K : mm_K) (P : mm_P) (nx : Nat) (sl : Nat) : Option (Int32 × mm_S) :=
  mm_mo mm_waI nx sl <|
  mm_bd (fX1_isCloth K th P x1) fun r1 =>
  if r1 = 0 then
  (some ((-1 : Int32), K, P, nx, sl))
  else
  (mm_bd (fX1_in x2 (1 : Int32) (255 : Int32)) fun r4 =>
  if r4 = 0 then
  (some ((-1 : Int32), K, P, nx, sl))
  else
  (mm_bd (gR P 132 th) fun b7 =>
  mm_bd (fX1_canHang K th P b7 x1 x2) fun r9 =>
  if r9 ≠ 0 then
  (mm_bd (fX1_keeps th K P nx sl) fun r12 =>
  mm_mo mm_waI r12.2.2.1 r12.2.2.2 <|
  mm_gd (r12.1.1 th = 1) <|
  mm_bd (gR r12.2.1 132 th) fun b15 =>
  mm_gd (r12.1.1 b15 = 4) <|
  mm_bd (fX4_hangs b15 x1 x2 r12.2.1) fun r17 =>
  mm_bd (gR r17 132 th) fun b20 =>
  mm_bd (fX1_left r12.1 th r17 b20) fun r22 =>
  some (r22, r12.1, r17, r12.2.2.1, r12.2.2.2))
  else
  (some ((-1 : Int32), K, P, nx, sl))))
set_option maxHeartbeats 4000000 in
theorem mc_X1_hang {l : Launch} {K : mm_K} {P : mm_P} {th : Nat} {x1 : Int32} {x2 : Int32} {nx sl : Nat} {r : (Int32 × mm_S)} (hk : K.1 th = 1) (h : fX1_hang th x1 x2 K P nx sl = some r) : mm_C l yX1_hang (ws_ yX1_hang cX1_hang 3 (some .int)) 7 154 [.ref th, .int x1, .int x2] K P nx sl (mm_waI r) :=
  mm_start (ls := [some (.ref th), some (.int x1), some (.int x2)]) h (by decide) (Nat.le_of_ble_eq_true rfl) rfl (mm_mo_some h).2.1 (mm_mo_some h).2.2 rfl fun E hl9 _ _ _ C => by
  have C : mm_Cx E RX1 cX1_hang 3 (some .int) 7 154 := C
  unfold fX1_hang
  refine r_mo ?_
  refine r_aload_n C dX1_hang_0 rfl rfl ?_
  refine r_iload_n C dX1_hang_1 rfl rfl ?_
  refine r_bd fun r1 h2 => ?_
  refine r_callV (As := [.int x1]) (st := []) C (mc_X1_isCloth hk h2) cv_X1_254 hk rfl (Nat.le_of_ble_eq_true rfl) (Nat.le_of_ble_eq_true rfl) rfl (Nat.le_of_ble_eq_true rfl) dX1_hang_2 ?_
  refine r_ifeq (tgt := 32) C dX1_hang_5 (by decide) (fun h3 => ?_) (fun h3 => ?_)
  · refine r_iconst (v := -1) C dX1_hang_32 rfl ?_
    exact r_iret C dX1_hang_33 rfl
  · refine r_iload_n C dX1_hang_8 rfl rfl ?_
    refine r_iconst (v := 1) C dX1_hang_9 rfl ?_
    refine r_sipush (v := 255) C dX1_hang_10 rfl ?_
    refine r_bd fun r4 h5 => ?_
    refine r_callS (As := [.int x2, .int (1 : Int32), .int (255 : Int32)]) (st := []) C (mc_X1_in h5) cv_X1_150  rfl (Nat.le_of_ble_eq_true rfl) (Nat.le_of_ble_eq_true rfl) rfl (Nat.le_of_ble_eq_true rfl) dX1_hang_13 ?_
    refine r_ifeq (tgt := 32) C dX1_hang_16 (by decide) (fun h6 => ?_) (fun h6 => ?_)
    · refine r_iconst (v := -1) C dX1_hang_32 rfl ?_
      exact r_iret C dX1_hang_33 rfl
    · refine r_aload_n C dX1_hang_19 rfl rfl ?_
      refine r_aload_n C dX1_hang_20 rfl rfl ?_
      refine r_getRn (code := 132) C fl_X1_51 hk rfl dX1_hang_21 fun b7 h8 => ?_
      refine r_iload_n C dX1_hang_24 rfl rfl ?_
      refine r_iload_n C dX1_hang_25 rfl rfl ?_
      refine r_bd fun r9 h10 => ?_
      refine r_callV (As := [.ref b7, .int x1, .int x2]) (st := []) C (mc_X1_canHang hk h10) cv_X1_280 hk rfl (Nat.le_of_ble_eq_true rfl) (Nat.le_of_ble_eq_true rfl) rfl (Nat.le_of_ble_eq_true rfl) dX1_hang_26 ?_
      refine r_ifne (tgt := 34) C dX1_hang_29 (by decide) (fun h11 => ?_) (fun h11 => ?_)
      · refine r_aload_n C dX1_hang_34 rfl rfl ?_
        refine r_bd fun r12 h13 => ?_
        refine r_acallVv (As := []) (st := []) C (mc_X1_keeps hk h13) cv_X1_283 hk rfl (Nat.le_of_ble_eq_true rfl) (Nat.le_of_ble_eq_true rfl) rfl (Nat.le_of_ble_eq_true rfl) dX1_hang_35 ?_
        refine r_aload_n C dX1_hang_38 rfl rfl ?_
        refine r_gd fun hK14 => ?_
        refine r_getRn (code := 132) C fl_X1_51 hK14 rfl dX1_hang_39 fun b15 h16 => ?_
        refine r_iload_n C dX1_hang_42 rfl rfl ?_
        refine r_iload_n C dX1_hang_43 rfl rfl ?_
        refine r_gd fun hK19 => ?_
        refine r_bd fun r17 h18 => ?_
        refine r_callVv (As := [.int x1, .int x2]) (st := []) C (mc_X4_hangs hK19 h18) cv_X1_286 hK19 rfl (Nat.le_of_ble_eq_true rfl) (Nat.le_of_ble_eq_true rfl) rfl (Nat.le_of_ble_eq_true rfl) dX1_hang_44 ?_
        refine r_aload_n C dX1_hang_47 rfl rfl ?_
        refine r_aload_n C dX1_hang_48 rfl rfl ?_
        refine r_getRn (code := 132) C fl_X1_51 hK14 rfl dX1_hang_49 fun b20 h21 => ?_
        refine r_bd fun r22 h23 => ?_
        refine r_callV (As := [.ref b20]) (st := []) C (mc_X1_left hK14 h23) cv_X1_196 hK14 rfl (Nat.le_of_ble_eq_true rfl) (Nat.le_of_ble_eq_true rfl) rfl (Nat.le_of_ble_eq_true rfl) dX1_hang_52 ?_
        exact r_iret C dX1_hang_55 rfl
      · refine r_iconst (v := -1) C dX1_hang_32 rfl ?_
        exact r_iret C dX1_hang_33 rfl
/-! X1 take -/
def fX1_take (th : Nat) (x1 : Int32) (K : mm_K) (P : mm_P) (nx : Nat) (sl : Nat) : Option (Int32 × mm_S) :=
  mm_mo mm_waI nx sl <|
  mm_bd (fX1_isCloth K th P x1) fun r1 =>
  if r1 = 0 then
  (some ((0 : Int32), K, P, nx, sl))
  else
  (mm_bd (gR P 132 th) fun b4 =>
  mm_gd (K.1 b4 = 4) <|
  mm_bd (fX4_by b4 P x1) fun r6 =>
  if r6 ≠ 0 then
  (mm_bd (fX1_keeps th K P nx sl) fun r10 =>
  mm_mo mm_waI r10.2.2.1 r10.2.2.2 <|
  mm_gd (r10.1.1 th = 1) <|
  mm_bd (gR r10.2.1 132 th) fun b13 =>
  mm_gd (r10.1.1 b13 = 4) <|
  mm_bd (fX4_comesIn b13 x1 r10.2.1) fun r15 =>
  some ((1 : Int32), r10.1, r15, r10.2.2.1, r10.2.2.2))
  else
  (some ((0 : Int32), K, P, nx, sl)))
set_option maxHeartbeats 4000000 in
theorem mc_X1_take {l : Launch} {K : mm_K} {P : mm_P} {th : Nat} {x1 : Int32} {nx sl : Nat} {r : (Int32 × mm_S)} (hk : K.1 th = 1) (h : fX1_take th x1 K P nx sl = some r) : mm_C l yX1_take (ws_ yX1_take cX1_take 2 (some .boolean)) 3 65 [.ref th, .int x1] K P nx sl (mm_waI r) :=
  mm_start (ls := [some (.ref th), some (.int x1)]) h (by decide) (Nat.le_of_ble_eq_true rfl) rfl (mm_mo_some h).2.1 (mm_mo_some h).2.2 rfl fun E hl9 _ _ _ C => by
  have C : mm_Cx E RX1 cX1_take 2 (some .boolean) 3 65 := C
  unfold fX1_take
  refine r_mo ?_
  refine r_aload_n C dX1_take_0 rfl rfl ?_
  refine r_iload_n C dX1_take_1 rfl rfl ?_
  refine r_bd fun r1 h2 => ?_
  refine r_callV (As := [.int x1]) (st := []) C (mc_X1_isCloth hk h2) cv_X1_254 hk rfl (Nat.le_of_ble_eq_true rfl) (Nat.le_of_ble_eq_true rfl) rfl (Nat.le_of_ble_eq_true rfl) dX1_take_2 ?_
  refine r_ifeq (tgt := 19) C dX1_take_5 (by decide) (fun h3 => ?_) (fun h3 => ?_)
  · refine r_iconst (v := 0) C dX1_take_19 rfl ?_
    exact r_zret C dX1_take_20 rfl rfl
  · refine r_aload_n C dX1_take_8 rfl rfl ?_
    refine r_getRn (code := 132) C fl_X1_51 hk rfl dX1_take_9 fun b4 h5 => ?_
    refine r_iload_n C dX1_take_12 rfl rfl ?_
    refine r_gd fun hK8 => ?_
    refine r_bd fun r6 h7 => ?_
    refine r_callV (As := [.int x1]) (st := []) C (mc_X4_by hK8 h7) cv_X1_157 hK8 rfl (Nat.le_of_ble_eq_true rfl) (Nat.le_of_ble_eq_true rfl) rfl (Nat.le_of_ble_eq_true rfl) dX1_take_13 ?_
    refine r_ifne (tgt := 21) C dX1_take_16 (by decide) (fun h9 => ?_) (fun h9 => ?_)
    · refine r_aload_n C dX1_take_21 rfl rfl ?_
      refine r_bd fun r10 h11 => ?_
      refine r_acallVv (As := []) (st := []) C (mc_X1_keeps hk h11) cv_X1_283 hk rfl (Nat.le_of_ble_eq_true rfl) (Nat.le_of_ble_eq_true rfl) rfl (Nat.le_of_ble_eq_true rfl) dX1_take_22 ?_
      refine r_aload_n C dX1_take_25 rfl rfl ?_
      refine r_gd fun hK12 => ?_
      refine r_getRn (code := 132) C fl_X1_51 hK12 rfl dX1_take_26 fun b13 h14 => ?_
      refine r_iload_n C dX1_take_29 rfl rfl ?_
      refine r_gd fun hK17 => ?_
      refine r_bd fun r15 h16 => ?_
      refine r_callVv (As := [.int x1]) (st := []) C (mc_X4_comesIn hK17 h16) cv_X1_290 hK17 rfl (Nat.le_of_ble_eq_true rfl) (Nat.le_of_ble_eq_true rfl) rfl (Nat.le_of_ble_eq_true rfl) dX1_take_30 ?_
      refine r_iconst (v := 1) C dX1_take_33 rfl ?_
      exact r_zret C dX1_take_34 rfl rfl
    · refine r_iconst (v := 0) C dX1_take_19 rfl ?_
      exact r_zret C dX1_take_20 rfl rfl
/-! X1 wash -/
def fX1_wash (th : Nat) (x1 : Int32) (K : mm_K) (P : mm_P) (nx : Nat) (sl : Nat) : Option (Int32 × mm_S) :=
  mm_mo mm_waI nx sl <|
  mm_bd (fX1_isCloth K th P x1) fun r1 =>
  if r1 = 0 then
  (some ((-1 : Int32), K, P, nx, sl))
  else
  (mm_bd (gR P 132 th) fun b4 =>
  mm_gd (K.1 b4 = 4) <|
  mm_bd (fX4_by b4 P x1) fun r6 =>
  if r6 = 0 then
  (mm_bd (fX1_keeps th K P nx sl) fun r10 =>
  mm_mo mm_waI r10.2.2.1 r10.2.2.2 <|
  mm_gd (r10.1.1 th = 1) <|
  mm_bd (gR r10.2.1 132 th) fun b13 =>
  mm_gd (r10.1.1 b13 = 4) <|
  mm_gd (mm_in x1 6) <|
  mm_lt (gA r10.2.1 515 b13 x1.toNatClampNeg) fun v17 =>
  mm_bd (gR r10.2.1 132 th) fun b18 =>
  mm_gd (r10.1.1 b18 = 4) <|
  mm_gd (mm_in x1 6) <|
  mm_lt (sA r10.2.1 514 b18 x1.toNatClampNeg (9 : Int32)) fun P22 =>
  mm_bd (gR P22 132 th) fun b23 =>
  mm_gd (r10.1.1 b23 = 4) <|
  mm_gd (mm_in x1 6) <|
  mm_lt (sA P22 515 b23 x1.toNatClampNeg (0 : Int32)) fun P27 =>
  some (v17, r10.1, P27, r10.2.2.1, r10.2.2.2))
  else
  (some ((-1 : Int32), K, P, nx, sl)))
set_option maxHeartbeats 4000000 in
theorem mc_X1_wash {l : Launch} {K : mm_K} {P : mm_P} {th : Nat} {x1 : Int32} {nx sl : Nat} {r : (Int32 × mm_S)} (hk : K.1 th = 1) (h : fX1_wash th x1 K P nx sl = some r) : mm_C l yX1_wash (ws_ yX1_wash cX1_wash 3 (some .int)) 3 65 [.ref th, .int x1] K P nx sl (mm_waI r) :=
  mm_start (ls := [some (.ref th), some (.int x1), none]) h (by decide) (Nat.le_of_ble_eq_true rfl) rfl (mm_mo_some h).2.1 (mm_mo_some h).2.2 rfl fun E hl9 _ _ _ C => by
  have C : mm_Cx E RX1 cX1_wash 3 (some .int) 3 65 := C
  unfold fX1_wash
  refine r_mo ?_
  refine r_aload_n C dX1_wash_0 rfl rfl ?_
  refine r_iload_n C dX1_wash_1 rfl rfl ?_
  refine r_bd fun r1 h2 => ?_
  refine r_callV (As := [.int x1]) (st := []) C (mc_X1_isCloth hk h2) cv_X1_254 hk rfl (Nat.le_of_ble_eq_true rfl) (Nat.le_of_ble_eq_true rfl) rfl (Nat.le_of_ble_eq_true rfl) dX1_wash_2 ?_
  refine r_ifeq (tgt := 19) C dX1_wash_5 (by decide) (fun h3 => ?_) (fun h3 => ?_)
  · refine r_iconst (v := -1) C dX1_wash_19 rfl ?_
    exact r_iret C dX1_wash_20 rfl
  · refine r_aload_n C dX1_wash_8 rfl rfl ?_
    refine r_getRn (code := 132) C fl_X1_51 hk rfl dX1_wash_9 fun b4 h5 => ?_
    refine r_iload_n C dX1_wash_12 rfl rfl ?_
    refine r_gd fun hK8 => ?_
    refine r_bd fun r6 h7 => ?_
    refine r_callV (As := [.int x1]) (st := []) C (mc_X4_by hK8 h7) cv_X1_157 hK8 rfl (Nat.le_of_ble_eq_true rfl) (Nat.le_of_ble_eq_true rfl) rfl (Nat.le_of_ble_eq_true rfl) dX1_wash_13 ?_
    refine r_ifeq (tgt := 21) C dX1_wash_16 (by decide) (fun h9 => ?_) (fun h9 => ?_)
    · refine r_aload_n C dX1_wash_21 rfl rfl ?_
      refine r_bd fun r10 h11 => ?_
      refine r_acallVv (As := []) (st := []) C (mc_X1_keeps hk h11) cv_X1_283 hk rfl (Nat.le_of_ble_eq_true rfl) (Nat.le_of_ble_eq_true rfl) rfl (Nat.le_of_ble_eq_true rfl) dX1_wash_22 ?_
      refine r_aload_n C dX1_wash_25 rfl rfl ?_
      refine r_gd fun hK12 => ?_
      refine r_getRn (code := 132) C fl_X1_51 hK12 rfl dX1_wash_26 fun b13 h14 => ?_
      refine r_gd fun hK15 => ?_
      refine r_getA C fl_X1_154 hK15 dX1_wash_29 ?_
      refine r_iload_n C dX1_wash_32 rfl rfl ?_
      refine r_iald C (rg_515 hK15) rfl dX1_wash_33 fun h16 => ?_
      refine r_ltI fun v17 => ?_
      refine r_istore_n (ls' := [some (.ref th), some (.int x1), some (.int v17)]) C dX1_wash_34 rfl (Nat.le_of_ble_eq_true rfl) rfl rfl ?_
      refine r_aload_n C dX1_wash_35 rfl rfl ?_
      refine r_getRn (code := 132) C fl_X1_51 hK12 rfl dX1_wash_36 fun b18 h19 => ?_
      refine r_gd fun hK20 => ?_
      refine r_getA C fl_X1_226 hK20 dX1_wash_39 ?_
      refine r_iload_n C dX1_wash_42 rfl rfl ?_
      refine r_bipush (v := 9) C dX1_wash_43 rfl ?_
      refine r_iast C (rg_514 hK20) (mm_ro_of (k := 4) hK20 rfl) rfl dX1_wash_45 fun h21 => ?_
      refine r_ltP fun P22 => ?_
      refine r_aload_n C dX1_wash_46 rfl rfl ?_
      refine r_getRn (code := 132) C fl_X1_51 hK12 rfl dX1_wash_47 fun b23 h24 => ?_
      refine r_gd fun hK25 => ?_
      refine r_getA C fl_X1_154 hK25 dX1_wash_50 ?_
      refine r_iload_n C dX1_wash_53 rfl rfl ?_
      refine r_iconst (v := 0) C dX1_wash_54 rfl ?_
      refine r_iast C (rg_515 hK25) (mm_ro_of (k := 4) hK25 rfl) rfl dX1_wash_55 fun h26 => ?_
      refine r_ltP fun P27 => ?_
      refine r_iload_n C dX1_wash_56 rfl rfl ?_
      exact r_iret C dX1_wash_57 rfl
    · refine r_iconst (v := -1) C dX1_wash_19 rfl ?_
      exact r_iret C dX1_wash_20 rfl
/-! X1 buy -/
def fX1_buy (th : Nat) (x1 : Int32) (K : mm_K) (P : mm_P) (nx : Nat) (sl : Nat) : Option (Int32 × mm_S) :=
  mm_mo mm_waI nx sl <|
  mm_bd (fX1_in x1 (1 : Int32) (9 : Int32)) fun r1 =>
  if r1 = 0 then
  (some ((-1 : Int32), K, P, nx, sl))
  else
  (mm_bd (gR P 132 th) fun b4 =>
  mm_gd (K.1 b4 = 4) <|
  if (gI P 517 b4) ≠ (8 : Int32) then
  (mm_bd (fX1_keeps th K P nx sl) fun r8 =>
  mm_mo mm_waI r8.2.2.1 r8.2.2.2 <|
  mm_gd (r8.1.1 th = 1) <|
  mm_bd (gR r8.2.1 132 th) fun b11 =>
  mm_gd (r8.1.1 b11 = 4) <|
  mm_bd (gR r8.2.1 132 th) fun b14 =>
  mm_gd (r8.1.1 b14 = 4) <|
  mm_gd (mm_in (gI r8.2.1 517 b14) 8) <|
  mm_lt (sA r8.2.1 512 b11 (gI r8.2.1 517 b14).toNatClampNeg x1) fun P18 =>
  mm_bd (gR P18 132 th) fun b19 =>
  mm_gd (r8.1.1 b19 = 4) <|
  mm_lt (gI P18 517 b19) fun v22 =>
  mm_lt (sI P18 517 b19 (v22 + (1 : Int32))) fun P23 =>
  some (v22, r8.1, P23, r8.2.2.1, r8.2.2.2))
  else
  (some ((-1 : Int32), K, P, nx, sl)))
set_option maxHeartbeats 4000000 in
theorem mc_X1_buy {l : Launch} {K : mm_K} {P : mm_P} {th : Nat} {x1 : Int32} {nx sl : Nat} {r : (Int32 × mm_S)} (hk : K.1 th = 1) (h : fX1_buy th x1 K P nx sl = some r) : mm_C l yX1_buy (ws_ yX1_buy cX1_buy 2 (some .int)) 3 65 [.ref th, .int x1] K P nx sl (mm_waI r) :=
  mm_start (ls := [some (.ref th), some (.int x1)]) h (by decide) (Nat.le_of_ble_eq_true rfl) rfl (mm_mo_some h).2.1 (mm_mo_some h).2.2 rfl fun E hl9 _ _ _ C => by
  have C : mm_Cx E RX1 cX1_buy 2 (some .int) 3 65 := C
  unfold fX1_buy
  refine r_mo ?_
  refine r_iload_n C dX1_buy_0 rfl rfl ?_
  refine r_iconst (v := 1) C dX1_buy_1 rfl ?_
  refine r_bipush (v := 9) C dX1_buy_2 rfl ?_
  refine r_bd fun r1 h2 => ?_
  refine r_callS (As := [.int x1, .int (1 : Int32), .int (9 : Int32)]) (st := []) C (mc_X1_in h2) cv_X1_150  rfl (Nat.le_of_ble_eq_true rfl) (Nat.le_of_ble_eq_true rfl) rfl (Nat.le_of_ble_eq_true rfl) dX1_buy_4 ?_
  refine r_ifeq (tgt := 22) C dX1_buy_7 (by decide) (fun h3 => ?_) (fun h3 => ?_)
  · refine r_iconst (v := -1) C dX1_buy_22 rfl ?_
    exact r_iret C dX1_buy_23 rfl
  · refine r_aload_n C dX1_buy_10 rfl rfl ?_
    refine r_getRn (code := 132) C fl_X1_51 hk rfl dX1_buy_11 fun b4 h5 => ?_
    refine r_gd fun hK6 => ?_
    refine r_getI (code := 517) C fl_X1_264 hK6 rfl dX1_buy_14 ?_
    refine r_bipush (v := 8) C dX1_buy_17 rfl ?_
    refine r_icmpne (tgt := 24) C dX1_buy_19 (by decide) (fun h7 => ?_) (fun h7 => ?_)
    · refine r_aload_n C dX1_buy_24 rfl rfl ?_
      refine r_bd fun r8 h9 => ?_
      refine r_acallVv (As := []) (st := []) C (mc_X1_keeps hk h9) cv_X1_283 hk rfl (Nat.le_of_ble_eq_true rfl) (Nat.le_of_ble_eq_true rfl) rfl (Nat.le_of_ble_eq_true rfl) dX1_buy_25 ?_
      refine r_aload_n C dX1_buy_28 rfl rfl ?_
      refine r_gd fun hK10 => ?_
      refine r_getRn (code := 132) C fl_X1_51 hK10 rfl dX1_buy_29 fun b11 h12 => ?_
      refine r_gd fun hK13 => ?_
      refine r_getA C fl_X1_267 hK13 dX1_buy_32 ?_
      refine r_aload_n C dX1_buy_35 rfl rfl ?_
      refine r_getRn (code := 132) C fl_X1_51 hK10 rfl dX1_buy_36 fun b14 h15 => ?_
      refine r_gd fun hK16 => ?_
      refine r_getI (code := 517) C fl_X1_264 hK16 rfl dX1_buy_39 ?_
      refine r_iload_n C dX1_buy_42 rfl rfl ?_
      refine r_iast C (rg_512 hK13) (mm_ro_of (k := 4) hK13 rfl) rfl dX1_buy_43 fun h17 => ?_
      refine r_ltP fun P18 => ?_
      refine r_aload_n C dX1_buy_44 rfl rfl ?_
      refine r_getRn (code := 132) C fl_X1_51 hK10 rfl dX1_buy_45 fun b19 h20 => ?_
      refine r_dup C dX1_buy_48 rfl ?_
      refine r_gd fun hK21 => ?_
      refine r_getI (code := 517) C fl_X1_264 hK21 rfl dX1_buy_49 ?_
      refine r_ltI fun v22 => ?_
      refine r_dup_x1 C dX1_buy_52 rfl rfl ?_
      refine r_iconst (v := 1) C dX1_buy_53 rfl ?_
      refine r_iadd C dX1_buy_54 ?_
      refine r_putI (code := 517) C fl_X1_264 hK21 rfl rfl dX1_buy_55 ?_
      refine r_ltP fun P23 => ?_
      exact r_iret C dX1_buy_58 rfl
    · refine r_iconst (v := -1) C dX1_buy_22 rfl ?_
      exact r_iret C dX1_buy_23 rfl
/-! X1 hour -/
def fX1_hour (th : Nat)  (K : mm_K) (P : mm_P) (nx : Nat) (sl : Nat) : Option (Int32 × mm_S) :=
  mm_mo mm_waI nx sl <|
  mm_bd (fX1_keeps th K P nx sl) fun r1 =>
  mm_mo mm_waI r1.2.2.1 r1.2.2.2 <|
  mm_gd (r1.1.1 th = 1) <|
  mm_bd (gR r1.2.1 132 th) fun b4 =>
  mm_bd (fX1_passes r1.1 th b4 (0 : Int32) r1.2.1) fun r6 =>
  some (r6.1, r1.1, r6.2, r1.2.2.1, r1.2.2.2)
set_option maxHeartbeats 4000000 in
theorem mc_X1_hour {l : Launch} {K : mm_K} {P : mm_P} {th : Nat}  {nx sl : Nat} {r : (Int32 × mm_S)} (hk : K.1 th = 1) (h : fX1_hour th K P nx sl = some r) : mm_C l yX1_hour (ws_ yX1_hour cX1_hour 1 (some .int)) 605 13923 [.ref th] K P nx sl (mm_waI r) :=
  mm_start (ls := [some (.ref th)]) h (by decide) (Nat.le_of_ble_eq_true rfl) rfl (mm_mo_some h).2.1 (mm_mo_some h).2.2 rfl fun E hl9 _ _ _ C => by
  have C : mm_Cx E RX1 cX1_hour 1 (some .int) 605 13923 := C
  unfold fX1_hour
  refine r_mo ?_
  refine r_aload_n C dX1_hour_0 rfl rfl ?_
  refine r_bd fun r1 h2 => ?_
  refine r_acallVv (As := []) (st := []) C (mc_X1_keeps hk h2) cv_X1_283 hk rfl (Nat.le_of_ble_eq_true rfl) (Nat.le_of_ble_eq_true rfl) rfl (Nat.le_of_ble_eq_true rfl) dX1_hour_1 ?_
  refine r_aload_n C dX1_hour_4 rfl rfl ?_
  refine r_aload_n C dX1_hour_5 rfl rfl ?_
  refine r_gd fun hK3 => ?_
  refine r_getRn (code := 132) C fl_X1_51 hK3 rfl dX1_hour_6 fun b4 h5 => ?_
  refine r_iconst (v := 0) C dX1_hour_9 rfl ?_
  refine r_bd fun r6 h7 => ?_
  refine r_callV (As := [.ref b4, .int (0 : Int32)]) (st := []) C (mc_X1_passes hK3 h7) cv_X1_293 hK3 rfl (Nat.le_of_ble_eq_true rfl) (Nat.le_of_ble_eq_true rfl) rfl (Nat.le_of_ble_eq_true rfl) dX1_hour_10 ?_
  exact r_iret C dX1_hour_13 rfl
theorem rg_142 {K : mm_K} {a : Nat} (h : K.1 a = 1) : mm_reg K 142 a 25 5 8 := Or.inl ⟨1, 14, rfl, h, by decide, rfl⟩
theorem fl_X1_75 : mm_FL RX1 75 1 14 (mm_a 25 5 8) (tyX1 14) true := ⟨RX1, TX1, 26, _, tyX1, rfl, in_X1, rfl, rfl, Nat.le_of_ble_eq_true rfl, Or.inl q357, tyX1_ok, nmX1, rfl, rfl⟩
theorem cv_X1_339 : mm_CV RX1 339 yX1_hangsBy cX1_hangsBy 10 (some .long) 3 1 := ⟨RX1, TX1, 26, _, lw_V q1459 q1461 qs48 q133 q1462, ⟨rfl, by decide +kernel, by decide +kernel, by decide +kernel⟩, rfl, rfl⟩
/-! X1 hangsBy -/
def fX1_hangsBy_b80 (th : Nat) (kS : (Nat → Int32 → Int32 → mm_K → mm_P → Nat → Nat → Option (Int64 × mm_S))) (k48 : Nat → Int32 → Int32 → Nat → Int64 → Int32 → mm_K → mm_P → Nat → Nat → Option (Int64 × mm_S)) (x1 : Nat) (x2 : Int32) (x3 : Int32) (x4 : Nat) (x5 : Int64) (x7 : Int32) (s0 : Int32) (K : mm_K) (P : mm_P) (nx : Nat) (sl : Nat) : Option (Int64 × mm_S) :=
  if s0 ≠ 0 then
  (mm_gd (K.1 x4 = 4) <|
  mm_bd (fX4_be K x4 x1 P) fun r2 =>
  mm_gd (K.1 th = 1) <|
  mm_bd (gR r2 130 th) fun b6 =>
  mm_gd (K.1 x1 = 4) <|
  mm_gd (K.1 b6 = 3) <|
  mm_bd (fX3_wind b6 r2 (gI r2 516 x1)) fun r9 =>
  mm_bd (fX1_blows K th x4 x2 (r9 + (x7 * (3 : Int32))) r2) fun r12 =>
  mm_lt (sI r12.2 516 x4 ((gI r12.2 516 x4) + (1 : Int32))) fun P14 =>
  if r12.1 ≠ 0 then
  (k48 x1 x2 x3 x4 x5 (x7 + (1 : Int32)) K P14 nx sl)
  else
  (mm_bd (kS x4 x2 (x3 - (1 : Int32)) K P14 nx sl) fun r16 =>
  mm_mo mm_waL r16.2.2.2.1 r16.2.2.2.2 <|
  mm_lt (x5 + (s0.toInt64 * r16.1)) fun v18 =>
  k48 x1 x2 x3 x4 v18 (x7 + (1 : Int32)) r16.2.1 r16.2.2.1 r16.2.2.2.1 r16.2.2.2.2))
  else
  (k48 x1 x2 x3 x4 x5 (x7 + (1 : Int32)) K P nx sl)
set_option maxHeartbeats 4000000 in
theorem wfX1_hangsBy_b80 {E : mm_E} {FR LC FRS LCS : Nat} (hFR : FRS + 1 ≤ FR) (hFb : 604 ≤ FR) (hLC : LCS + 29 ≤ LC) (hLb : 13898 ≤ LC) (C : mm_Cx E RX1 cX1_hangsBy 10 (some .long) FR LC) {th : Nat} {kS : (Nat → Int32 → Int32 → mm_K → mm_P → Nat → Nat → Option (Int64 × mm_S))} (hkS : ∀ (z0 : Nat) (z1 : Int32) (z2 : Int32) (K : mm_K) (P : mm_P) (nx sl : Nat) (r : (Int64 × mm_S)), K.1 th = 1 → kS z0 z1 z2 K P nx sl = some r → mm_C (eL E) yX1_hangsBy (ws_ yX1_hangsBy cX1_hangsBy 10 (some .long)) FRS LCS [.ref th, .ref z0, .int z1, .int z2] K P nx sl (mm_waL r)) {k48 : Nat → Int32 → Int32 → Nat → Int64 → Int32 → mm_K → mm_P → Nat → Nat → Option (Int64 × mm_S)} (hk48 : ∀ (x1 : Nat) (x2 : Int32) (x3 : Int32) (x4 : Nat) (x5 : Int64) (x7 : Int32) (K : mm_K) (P : mm_P) (nx : Nat) (sl : Nat), mm_V E (mm_waL) 48 [some (.ref th), some (.ref x1), some (.int x2), some (.int x3), some (.ref x4), some (.long x5), none, some (.int x7), none, none] [] K P nx sl (k48 x1 x2 x3 x4 x5 x7 K P nx sl)) (x1 : Nat) (x2 : Int32) (x3 : Int32) (x4 : Nat) (x5 : Int64) (x7 : Int32) (s0 : Int32) (K : mm_K) (P : mm_P) (nx : Nat) (sl : Nat) : mm_V E (mm_waL) 80 [some (.ref th), some (.ref x1), some (.int x2), some (.int x3), some (.ref x4), some (.long x5), none, some (.int x7), none, none] [.int s0] K P nx sl (fX1_hangsBy_b80 th kS k48 x1 x2 x3 x4 x5 x7 s0 K P nx sl) := by
  unfold fX1_hangsBy_b80
  refine r_istore (ls' := [some (.ref th), some (.ref x1), some (.int x2), some (.int x3), some (.ref x4), some (.long x5), none, some (.int x7), some (.int s0), none]) C dX1_hangsBy_80 (Nat.le_of_ble_eq_true rfl) rfl rfl ?_
  refine r_iload C dX1_hangsBy_82 rfl ?_
  refine r_ifne (tgt := 90) C dX1_hangsBy_84 (by decide) (fun h1 => ?_) (fun h1 => ?_)
  · refine r_aload C dX1_hangsBy_90 rfl ?_
    refine r_aload_n C dX1_hangsBy_92 rfl rfl ?_
    refine r_gd fun hK4 => ?_
    refine r_bd fun r2 h3 => ?_
    refine r_callVv (As := [.ref x1]) (st := []) C (mc_X4_be hK4 h3) cv_X1_276 hK4 rfl (by omega) (by omega) rfl (Nat.le_of_ble_eq_true rfl) dX1_hangsBy_93 ?_
    refine r_aload_n C dX1_hangsBy_96 rfl rfl ?_
    refine r_aload C dX1_hangsBy_97 rfl ?_
    refine r_iload_n C dX1_hangsBy_99 rfl rfl ?_
    refine r_aload_n C dX1_hangsBy_100 rfl rfl ?_
    refine r_gd fun hK5 => ?_
    refine r_getRn (code := 130) C fl_X1_35 hK5 rfl dX1_hangsBy_101 fun b6 h7 => ?_
    refine r_aload_n C dX1_hangsBy_104 rfl rfl ?_
    refine r_gd fun hK8 => ?_
    refine r_getI (code := 516) C fl_X1_244 hK8 rfl dX1_hangsBy_105 ?_
    refine r_gd fun hK11 => ?_
    refine r_bd fun r9 h10 => ?_
    refine r_callV (As := [.int (gI r2 516 x1)]) (st := [.int x2, .ref x4, .ref th]) C (mc_X3_wind hK11 h10) cv_X1_247 hK11 rfl (by omega) (by omega) rfl (Nat.le_of_ble_eq_true rfl) dX1_hangsBy_108 ?_
    refine r_iload C dX1_hangsBy_111 rfl ?_
    refine r_iconst (v := 3) C dX1_hangsBy_113 rfl ?_
    refine r_imul C dX1_hangsBy_114 ?_
    refine r_iadd C dX1_hangsBy_115 ?_
    refine r_bd fun r12 h13 => ?_
    refine r_callV (As := [.ref x4, .int x2, .int (r9 + (x7 * (3 : Int32)))]) (st := []) C (mc_X1_blows hK5 h13) cv_X1_250 hK5 rfl (by omega) (by omega) rfl (Nat.le_of_ble_eq_true rfl) dX1_hangsBy_116 ?_
    refine r_istore (ls' := [some (.ref th), some (.ref x1), some (.int x2), some (.int x3), some (.ref x4), some (.long x5), none, some (.int x7), some (.int s0), some (.int r12.1)]) C dX1_hangsBy_119 (Nat.le_of_ble_eq_true rfl) rfl rfl ?_
    refine r_aload C dX1_hangsBy_121 rfl ?_
    refine r_dup C dX1_hangsBy_123 rfl ?_
    refine r_getI (code := 516) C fl_X1_244 hK4 rfl dX1_hangsBy_124 ?_
    refine r_iconst (v := 1) C dX1_hangsBy_127 rfl ?_
    refine r_iadd C dX1_hangsBy_128 ?_
    refine r_putI (code := 516) C fl_X1_244 hK4 rfl rfl dX1_hangsBy_129 ?_
    refine r_ltP fun P14 => ?_
    refine r_iload C dX1_hangsBy_132 rfl ?_
    refine r_ifne (tgt := 156) C dX1_hangsBy_134 (by decide) (fun h15 => ?_) (fun h15 => ?_)
    · refine r_iinc (v := 1) (ls' := [some (.ref th), some (.ref x1), some (.int x2), some (.int x3), some (.ref x4), some (.long x5), none, some (.int (x7 + (1 : Int32))), some (.int s0), some (.int r12.1)]) C dX1_hangsBy_156 rfl rfl (Nat.le_of_ble_eq_true rfl) rfl rfl ?_
      refine r_goto (tgt := 48) C dX1_hangsBy_159 (by decide) ?_
      refine r_mask [true, true, true, true, true, true, true, true, false, false] (ls' := [some (.ref th), some (.ref x1), some (.int x2), some (.int x3), some (.ref x4), some (.long x5), none, some (.int (x7 + (1 : Int32))), none, none]) rfl ?_
      exact hk48 x1 x2 x3 x4 x5 (x7 + (1 : Int32)) K P14 nx sl
    · refine r_lload C dX1_hangsBy_137 rfl ?_
      refine r_iload C dX1_hangsBy_139 rfl ?_
      refine r_i2l C dX1_hangsBy_141 ?_
      refine r_aload_n C dX1_hangsBy_142 rfl rfl ?_
      refine r_aload C dX1_hangsBy_143 rfl ?_
      refine r_iload_n C dX1_hangsBy_145 rfl rfl ?_
      refine r_iload_n C dX1_hangsBy_146 rfl rfl ?_
      refine r_iconst (v := 1) C dX1_hangsBy_147 rfl ?_
      refine r_isub C dX1_hangsBy_148 ?_
      refine r_bd fun r16 h17 => ?_
      refine r_acallV (As := [.ref x4, .int x2, .int (x3 - (1 : Int32))]) (st := [.long s0.toInt64, .long x5]) C (hkS _ _ _ _ _ _ _ _ hK5 h17) cv_X1_339 hK5 rfl (by omega) (by omega) rfl (Nat.le_of_ble_eq_true rfl) dX1_hangsBy_149 ?_
      refine r_lmul C dX1_hangsBy_152 ?_
      refine r_ladd C dX1_hangsBy_153 ?_
      refine r_ltL fun v18 => ?_
      refine r_lstore (ls' := [some (.ref th), some (.ref x1), some (.int x2), some (.int x3), some (.ref x4), some (.long v18), none, some (.int x7), some (.int s0), some (.int r12.1)]) C dX1_hangsBy_154 (Nat.le_of_ble_eq_true rfl) rfl rfl ?_
      refine r_iinc (v := 1) (ls' := [some (.ref th), some (.ref x1), some (.int x2), some (.int x3), some (.ref x4), some (.long v18), none, some (.int (x7 + (1 : Int32))), some (.int s0), some (.int r12.1)]) C dX1_hangsBy_156 rfl rfl (Nat.le_of_ble_eq_true rfl) rfl rfl ?_
      refine r_goto (tgt := 48) C dX1_hangsBy_159 (by decide) ?_
      refine r_mask [true, true, true, true, true, true, true, true, false, false] (ls' := [some (.ref th), some (.ref x1), some (.int x2), some (.int x3), some (.ref x4), some (.long v18), none, some (.int (x7 + (1 : Int32))), none, none]) rfl ?_
      exact hk48 x1 x2 x3 x4 v18 (x7 + (1 : Int32)) r16.2.1 r16.2.2.1 r16.2.2.2.1 r16.2.2.2.2
  · refine r_goto (tgt := 156) C dX1_hangsBy_87 (by decide) ?_
    refine r_iinc (v := 1) (ls' := [some (.ref th), some (.ref x1), some (.int x2), some (.int x3), some (.ref x4), some (.long x5), none, some (.int (x7 + (1 : Int32))), some (.int s0), none]) C dX1_hangsBy_156 rfl rfl (Nat.le_of_ble_eq_true rfl) rfl rfl ?_
    refine r_goto (tgt := 48) C dX1_hangsBy_159 (by decide) ?_
    refine r_mask [true, true, true, true, true, true, true, true, false, true] (ls' := [some (.ref th), some (.ref x1), some (.int x2), some (.int x3), some (.ref x4), some (.long x5), none, some (.int (x7 + (1 : Int32))), none, none]) rfl ?_
    exact hk48 x1 x2 x3 x4 x5 (x7 + (1 : Int32)) K P nx sl
def fX1_hangsBy_b48 (th : Nat) (kS : (Nat → Int32 → Int32 → mm_K → mm_P → Nat → Nat → Option (Int64 × mm_S)))  : Nat → Nat → Int32 → Int32 → Nat → Int64 → Int32 → mm_K → mm_P → Nat → Nat → Option (Int64 × mm_S)
  | 0, _, _, _, _, _, _, _, _, _, _ => none
  | n + 1, x1, x2, x3, x4, x5, x7, K, P, nx, sl =>
  if (2 : Int32) ≤ x7 then
  (some (x5, K, P, nx, sl))
  else
  (if x7 ≠ (1 : Int32) then
  (mm_gd (K.1 th = 1) <|
  mm_bd (gR P 130 th) fun b4 =>
  mm_gd (K.1 b4 = 3) <|
  mm_bd (fX3_gusts b4 P) fun r6 =>
  fX1_hangsBy_b80 th kS (fX1_hangsBy_b48 th kS n) x1 x2 x3 x4 x5 x7 ((10 : Int32) - r6) K P nx sl)
  else
  (mm_gd (K.1 th = 1) <|
  mm_bd (gR P 130 th) fun b10 =>
  mm_gd (K.1 b10 = 3) <|
  mm_bd (fX3_gusts b10 P) fun r12 =>
  fX1_hangsBy_b80 th kS (fX1_hangsBy_b48 th kS n) x1 x2 x3 x4 x5 x7 r12 K P nx sl))
set_option maxHeartbeats 4000000 in
theorem wfX1_hangsBy_b48 {E : mm_E} {FR LC FRS LCS : Nat} (hFR : FRS + 1 ≤ FR) (hFb : 604 ≤ FR) (hLC : LCS + 29 ≤ LC) (hLb : 13898 ≤ LC) (C : mm_Cx E RX1 cX1_hangsBy 10 (some .long) FR LC) {th : Nat} {kS : (Nat → Int32 → Int32 → mm_K → mm_P → Nat → Nat → Option (Int64 × mm_S))} (hkS : ∀ (z0 : Nat) (z1 : Int32) (z2 : Int32) (K : mm_K) (P : mm_P) (nx sl : Nat) (r : (Int64 × mm_S)), K.1 th = 1 → kS z0 z1 z2 K P nx sl = some r → mm_C (eL E) yX1_hangsBy (ws_ yX1_hangsBy cX1_hangsBy 10 (some .long)) FRS LCS [.ref th, .ref z0, .int z1, .int z2] K P nx sl (mm_waL r)) : ∀ (n : Nat), ∀ (x1 : Nat) (x2 : Int32) (x3 : Int32) (x4 : Nat) (x5 : Int64) (x7 : Int32) (K : mm_K) (P : mm_P) (nx : Nat) (sl : Nat), mm_V E (mm_waL) 48 [some (.ref th), some (.ref x1), some (.int x2), some (.int x3), some (.ref x4), some (.long x5), none, some (.int x7), none, none] [] K P nx sl (fX1_hangsBy_b48 th kS n x1 x2 x3 x4 x5 x7 K P nx sl) := by
  intro n
  induction n with
  | zero => intro x1 x2 x3 x4 x5 x7 K P nx sl; exact r_none
  | succ n ih =>
    intro x1 x2 x3 x4 x5 x7 K P nx sl
    rw [fX1_hangsBy_b48]
    refine r_iload C dX1_hangsBy_48 rfl ?_
    refine r_iconst (v := 2) C dX1_hangsBy_50 rfl ?_
    refine r_icmpge (tgt := 162) C dX1_hangsBy_51 (by decide) (fun h1 => ?_) (fun h1 => ?_)
    · refine r_lload C dX1_hangsBy_162 rfl ?_
      exact r_lret C dX1_hangsBy_164 rfl
    · refine r_iload C dX1_hangsBy_54 rfl ?_
      refine r_iconst (v := 1) C dX1_hangsBy_56 rfl ?_
      refine r_icmpne (tgt := 70) C dX1_hangsBy_57 (by decide) (fun h2 => ?_) (fun h2 => ?_)
      · refine r_bipush (v := 10) C dX1_hangsBy_70 rfl ?_
        refine r_aload_n C dX1_hangsBy_72 rfl rfl ?_
        refine r_gd fun hK3 => ?_
        refine r_getRn (code := 130) C fl_X1_35 hK3 rfl dX1_hangsBy_73 fun b4 h5 => ?_
        refine r_gd fun hK8 => ?_
        refine r_bd fun r6 h7 => ?_
        refine r_callV (As := []) (st := [.int (10 : Int32)]) C (mc_X3_gusts hK8 h7) cv_X1_336 hK8 rfl (by omega) (by omega) rfl (Nat.le_of_ble_eq_true rfl) dX1_hangsBy_76 ?_
        refine r_isub C dX1_hangsBy_79 ?_
        exact wfX1_hangsBy_b80 hFR hFb hLC hLb C hkS ih x1 x2 x3 x4 x5 x7 ((10 : Int32) - r6) K P nx sl
      · refine r_aload_n C dX1_hangsBy_60 rfl rfl ?_
        refine r_gd fun hK9 => ?_
        refine r_getRn (code := 130) C fl_X1_35 hK9 rfl dX1_hangsBy_61 fun b10 h11 => ?_
        refine r_gd fun hK14 => ?_
        refine r_bd fun r12 h13 => ?_
        refine r_callV (As := []) (st := []) C (mc_X3_gusts hK14 h13) cv_X1_336 hK14 rfl (by omega) (by omega) rfl (Nat.le_of_ble_eq_true rfl) dX1_hangsBy_64 ?_
        refine r_goto (tgt := 80) C dX1_hangsBy_67 (by decide) ?_
        exact wfX1_hangsBy_b80 hFR hFb hLC hLb C hkS ih x1 x2 x3 x4 x5 x7 r12 K P nx sl
def fX1_hangsBy_b32 (th : Nat) (kS : (Nat → Int32 → Int32 → mm_K → mm_P → Nat → Nat → Option (Int64 × mm_S)))  (x1 : Nat) (x2 : Int32) (x3 : Int32) (K : mm_K) (P : mm_P) (nx : Nat) (sl : Nat) : Option (Int64 × mm_S) :=
  mm_gd (K.1 th = 1) <|
  mm_gd (mm_in (x3 - (1 : Int32)) 8) <|
  mm_bd (gB P 142 th (x3 - (1 : Int32)).toNatClampNeg) fun b3 =>
  fX1_hangsBy_b48 th kS mm_NF x1 x2 x3 b3 (0 : Int64) (0 : Int32) K P nx sl
set_option maxHeartbeats 4000000 in
theorem wfX1_hangsBy_b32 {E : mm_E} {FR LC FRS LCS : Nat} (hFR : FRS + 1 ≤ FR) (hFb : 604 ≤ FR) (hLC : LCS + 29 ≤ LC) (hLb : 13898 ≤ LC) (C : mm_Cx E RX1 cX1_hangsBy 10 (some .long) FR LC) {th : Nat} {kS : (Nat → Int32 → Int32 → mm_K → mm_P → Nat → Nat → Option (Int64 × mm_S))} (hkS : ∀ (z0 : Nat) (z1 : Int32) (z2 : Int32) (K : mm_K) (P : mm_P) (nx sl : Nat) (r : (Int64 × mm_S)), K.1 th = 1 → kS z0 z1 z2 K P nx sl = some r → mm_C (eL E) yX1_hangsBy (ws_ yX1_hangsBy cX1_hangsBy 10 (some .long)) FRS LCS [.ref th, .ref z0, .int z1, .int z2] K P nx sl (mm_waL r)) (x1 : Nat) (x2 : Int32) (x3 : Int32) (K : mm_K) (P : mm_P) (nx : Nat) (sl : Nat) : mm_V E (mm_waL) 32 [some (.ref th), some (.ref x1), some (.int x2), some (.int x3), none, none, none, none, none, none] [] K P nx sl (fX1_hangsBy_b32 th kS x1 x2 x3 K P nx sl) := by
  unfold fX1_hangsBy_b32
  refine r_aload_n C dX1_hangsBy_32 rfl rfl ?_
  refine r_gd fun hK1 => ?_
  refine r_getA C fl_X1_75 hK1 dX1_hangsBy_33 ?_
  refine r_iload_n C dX1_hangsBy_36 rfl rfl ?_
  refine r_iconst (v := 1) C dX1_hangsBy_37 rfl ?_
  refine r_isub C dX1_hangsBy_38 ?_
  refine r_aaldSn C (rg_142 hK1) rfl dX1_hangsBy_39 fun h2 b3 h4 => ?_
  refine r_astore (ls' := [some (.ref th), some (.ref x1), some (.int x2), some (.int x3), some (.ref b3), none, none, none, none, none]) C dX1_hangsBy_40 (Nat.le_of_ble_eq_true rfl) rfl rfl ?_
  refine r_lconst (v := 0) C dX1_hangsBy_42 rfl ?_
  refine r_lstore (ls' := [some (.ref th), some (.ref x1), some (.int x2), some (.int x3), some (.ref b3), some (.long (0 : Int64)), none, none, none, none]) C dX1_hangsBy_43 (Nat.le_of_ble_eq_true rfl) rfl rfl ?_
  refine r_iconst (v := 0) C dX1_hangsBy_45 rfl ?_
  refine r_istore (ls' := [some (.ref th), some (.ref x1), some (.int x2), some (.int x3), some (.ref b3), some (.long (0 : Int64)), none, some (.int (0 : Int32)), none, none]) C dX1_hangsBy_46 (Nat.le_of_ble_eq_true rfl) rfl rfl ?_
  exact wfX1_hangsBy_b48 hFR hFb hLC hLb C hkS mm_NF x1 x2 x3 b3 (0 : Int64) (0 : Int32) K P nx sl
def fX1_hangsBy_o (th : Nat) (kS : (Nat → Int32 → Int32 → mm_K → mm_P → Nat → Nat → Option (Int64 × mm_S))) (x1 : Nat) (x2 : Int32) (x3 : Int32) (K : mm_K) (P : mm_P) (nx : Nat) (sl : Nat) : Option (Int64 × mm_S) :=
  mm_mo mm_waL nx sl <|
  if x3 ≠ 0 then
  (mm_gd (mm_in (x3 - (1 : Int32)) 8) <|
  mm_on (gB P 142 th (x3 - (1 : Int32)).toNatClampNeg)
  (mm_mo mm_waL (nx + 1) (sl + 6) <|
  mm_lt (mm_kn K nx 36 0) fun K5 =>
  mm_lt (mm_fresh P nx) fun P6 =>
  mm_bd (fX4_init nx K5 P6 (nx + 1) (sl + 6)) fun r8 =>
  mm_mo mm_waL r8.2.2.1 r8.2.2.2 <|
  mm_gd (r8.1.1 th = 1) <|
  mm_gd (r8.1.1 nx = 4) <|
  mm_gd (mm_in (x3 - (1 : Int32)) 8) <|
  mm_lt (sB r8.2.1 142 th (x3 - (1 : Int32)).toNatClampNeg (some nx)) fun P12 =>
  fX1_hangsBy_b32 th kS x1 x2 x3 r8.1 P12 r8.2.2.1 r8.2.2.2)
  fun b4 =>
  (fX1_hangsBy_b32 th kS x1 x2 x3 K P nx sl))
  else
  (some ((1 : Int64), K, P, nx, sl))
def fX1_hangsBy (th : Nat) : Nat → Nat → Int32 → Int32 → mm_K → mm_P → Nat → Nat → Option (Int64 × mm_S)
  | 0, _, _, _, _, _, _, _ => none
  | d + 1, x1, x2, x3, K, P, nx, sl => fX1_hangsBy_o th (fX1_hangsBy th d) x1 x2 x3 K P nx sl
set_option maxHeartbeats 4000000 in
theorem mc_X1_hangsBy {l : Launch} {th : Nat} : ∀ (d : Nat) {x1 : Nat} {x2 : Int32} {x3 : Int32} {K : mm_K} {P : mm_P} {nx : Nat} {sl : Nat} {r : (Int64 × mm_S)} (hk : K.1 th = 1) (_ : fX1_hangsBy th d x1 x2 x3 K P nx sl = some r), mm_C l yX1_hangsBy (ws_ yX1_hangsBy cX1_hangsBy 10 (some .long)) (1 * d + 604) (29 * d + 13898) [.ref th, .ref x1, .int x2, .int x3] K P nx sl (mm_waL r) := by
  intro d
  induction d with
  | zero => intro x1 x2 x3 K P nx sl r hk h; cases h
  | succ d ih =>
  intro x1 x2 x3 K P nx sl r hk h
  refine mm_start (ls := [some (.ref th), some (.ref x1), some (.int x2), some (.int x3), none, none, none, none, none, none]) (x := fX1_hangsBy_o th (fX1_hangsBy th d) x1 x2 x3 K P nx sl) h (by decide) (Nat.le_of_ble_eq_true rfl) rfl (mm_mo_some h).2.1 (mm_mo_some h).2.2 rfl fun E hl _ _ _ C => ?_
  have C : mm_Cx E RX1 cX1_hangsBy 10 (some .long) (1 * (d + 1) + 604) (29 * (d + 1) + 13898) := C
  generalize hFe : (1 * (d + 1) + 604) = FR at C
  generalize hLe : (29 * (d + 1) + 13898) = LC at C
  generalize hFs : (1 * d + 604) = FRS at ih
  generalize hLs : (29 * d + 13898) = LCS at ih
  have hFR : FRS + 1 ≤ FR := by omega
  have hFb : 604 ≤ FR := by omega
  have hLC : LCS + 29 ≤ LC := by omega
  have hLb : 13898 ≤ LC := by omega
  subst hl
  have hkS := fun x1 x2 x3 K P nx sl r (hk : K.1 th = 1) (hq : fX1_hangsBy th d x1 x2 x3 K P nx sl = some r) => ih hk hq
  clear hFe hLe h hFs hLs ih
  generalize fX1_hangsBy th d = kS at hkS ⊢
  unfold fX1_hangsBy_o
  refine r_mo ?_
  refine r_iload_n C dX1_hangsBy_0 rfl rfl ?_
  refine r_ifne (tgt := 6) C dX1_hangsBy_1 (by decide) (fun h1 => ?_) (fun h1 => ?_)
  · refine r_aload_n C dX1_hangsBy_6 rfl rfl ?_
    refine r_getA C fl_X1_75 hk dX1_hangsBy_7 ?_
    refine r_iload_n C dX1_hangsBy_10 rfl rfl ?_
    refine r_iconst (v := 1) C dX1_hangsBy_11 rfl ?_
    refine r_isub C dX1_hangsBy_12 ?_
    refine r_aaldSo C (rg_142 hk) rfl dX1_hangsBy_13 fun h2 => ?_
    refine r_ifnonnull (tgt := 32) C dX1_hangsBy_14 (by decide) (fun b4 h3 => ?_) (fun h3 => ?_)
    · exact wfX1_hangsBy_b32 hFR hFb hLC hLb C hkS x1 x2 x3 K P nx sl
    · refine r_aload_n C dX1_hangsBy_17 rfl rfl ?_
      refine r_getA C fl_X1_75 hk dX1_hangsBy_18 ?_
      refine r_iload_n C dX1_hangsBy_21 rfl rfl ?_
      refine r_iconst (v := 1) C dX1_hangsBy_22 rfl ?_
      refine r_isub C dX1_hangsBy_23 ?_
      refine r_new C nl_X1_48 dX1_hangsBy_24 ?_
      refine r_ltK fun K5 e7 => ?_
      refine r_ltP fun P6 => ?_
      refine r_dup C dX1_hangsBy_27 rfl ?_
      refine r_bd fun r8 h9 => ?_
      refine r_acallINv (As := []) (st := [.ref nx, .int (x3 - (1 : Int32)), .ref (th + 25)]) C (mc_X4_init (by rw [e7]; exact mm_kn_1) h9) cv_X1_50  rfl (by omega) (by omega) rfl (Nat.le_of_ble_eq_true rfl) dX1_hangsBy_28 ?_
      refine r_gd fun hK10 => ?_
      refine r_gd fun hK13 => ?_
      refine r_aast C (by decide) cs_5_4 (rg_142 hK10) (mm_ro_of (k := 1) hK10 rfl) rfl hK13 dX1_hangsBy_31 fun h11 => ?_
      refine r_ltP fun P12 => ?_
      exact wfX1_hangsBy_b32 hFR hFb hLC hLb C hkS x1 x2 x3 r8.1 P12 r8.2.2.1 r8.2.2.2
  · refine r_lconst (v := 1) C dX1_hangsBy_4 rfl ?_
    exact r_lret C dX1_hangsBy_5 rfl
/-! X1 odds -/
def fX1_odds_b36 (th : Nat)  : Nat → Int32 → Int32 → Int64 → Int32 → mm_K → mm_P → Nat → Nat → Option (Int32 × mm_S)
  | 0, _, _, _, _, _, _, _, _ => none
  | n + 1, x1, x2, x3, x5, K, P, nx, sl =>
  if x2 ≤ x5 then
  (mm_gd (K.1 th = 1) <|
  mm_bd (gR P 133 th) fun b3 =>
  mm_bd (gR P 132 th) fun b5 =>
  mm_gd (K.1 b3 = 4) <|
  mm_bd (fX4_be K b3 b5 P) fun r7 =>
  mm_bd (gR r7 133 th) fun b10 =>
  mm_bd (fX1_hangsBy th 10 b10 x1 x2 K r7 nx sl) fun r12 =>
  mm_mo mm_waI r12.2.2.2.1 r12.2.2.2.2 <|
  mm_gd (¬ x3 = 0) <|
  some (((r12.1 * (1000000 : Int64)) / x3).toInt32, r12.2.1, r12.2.2.1, r12.2.2.2.1, r12.2.2.2.2))
  else
  (mm_lt (x3 * (10 : Int64)) fun v15 =>
  fX1_odds_b36 th n x1 x2 v15 (x5 + (1 : Int32)) K P nx sl)
set_option maxHeartbeats 4000000 in
theorem wfX1_odds_b36 {E : mm_E} (C : mm_Cx E RX1 cX1_odds 6 (some .int) 615 14217) {th : Nat} : ∀ (n : Nat), ∀ (x1 : Int32) (x2 : Int32) (x3 : Int64) (x5 : Int32) (K : mm_K) (P : mm_P) (nx : Nat) (sl : Nat), mm_V E (mm_waI) 36 [some (.ref th), some (.int x1), some (.int x2), some (.long x3), none, some (.int x5)] [] K P nx sl (fX1_odds_b36 th n x1 x2 x3 x5 K P nx sl) := by
  intro n
  induction n with
  | zero => intro x1 x2 x3 x5 K P nx sl; exact r_none
  | succ n ih =>
    intro x1 x2 x3 x5 K P nx sl
    rw [fX1_odds_b36]
    refine r_iload C dX1_odds_36 rfl ?_
    refine r_iload_n C dX1_odds_38 rfl rfl ?_
    refine r_icmpge (tgt := 54) C dX1_odds_39 (by decide) (fun h1 => ?_) (fun h1 => ?_)
    · refine r_aload_n C dX1_odds_54 rfl rfl ?_
      refine r_gd fun hK2 => ?_
      refine r_getRn (code := 133) C fl_X1_55 hK2 rfl dX1_odds_55 fun b3 h4 => ?_
      refine r_aload_n C dX1_odds_58 rfl rfl ?_
      refine r_getRn (code := 132) C fl_X1_51 hK2 rfl dX1_odds_59 fun b5 h6 => ?_
      refine r_gd fun hK9 => ?_
      refine r_bd fun r7 h8 => ?_
      refine r_callVv (As := [.ref b5]) (st := []) C (mc_X4_be hK9 h8) cv_X1_276 hK9 rfl (Nat.le_of_ble_eq_true rfl) (Nat.le_of_ble_eq_true rfl) rfl (Nat.le_of_ble_eq_true rfl) dX1_odds_62 ?_
      refine r_aload_n C dX1_odds_65 rfl rfl ?_
      refine r_aload_n C dX1_odds_66 rfl rfl ?_
      refine r_getRn (code := 133) C fl_X1_55 hK2 rfl dX1_odds_67 fun b10 h11 => ?_
      refine r_iload_n C dX1_odds_70 rfl rfl ?_
      refine r_iload_n C dX1_odds_71 rfl rfl ?_
      refine r_bd fun r12 h13 => ?_
      refine r_acallV (As := [.ref b10, .int x1, .int x2]) (st := []) C (mc_X1_hangsBy 10 hK2 h13) cv_X1_339 hK2 rfl (Nat.le_of_ble_eq_true rfl) (Nat.le_of_ble_eq_true rfl) rfl (Nat.le_of_ble_eq_true rfl) dX1_odds_72 ?_
      refine r_ldc2 (v := 1000000) C dX1_odds_75 q1468 ?_
      refine r_lmul C dX1_odds_78 ?_
      refine r_lload_n C dX1_odds_79 rfl rfl ?_
      refine r_gd fun h14 => ?_
      refine r_ldiv C dX1_odds_80 h14 ?_
      refine r_l2i C dX1_odds_81 ?_
      exact r_iret C dX1_odds_82 rfl
    · refine r_lload_n C dX1_odds_42 rfl rfl ?_
      refine r_ldc2 (v := 10) C dX1_odds_43 q1458 ?_
      refine r_lmul C dX1_odds_46 ?_
      refine r_ltL fun v15 => ?_
      refine r_lstore_n (ls' := [some (.ref th), some (.int x1), some (.int x2), some (.long v15), none, some (.int x5)]) C dX1_odds_47 rfl (Nat.le_of_ble_eq_true rfl) rfl rfl ?_
      refine r_iinc (v := 1) (ls' := [some (.ref th), some (.int x1), some (.int x2), some (.long v15), none, some (.int (x5 + (1 : Int32)))]) C dX1_odds_48 rfl rfl (Nat.le_of_ble_eq_true rfl) rfl rfl ?_
      refine r_goto (tgt := 36) C dX1_odds_51 (by decide) ?_
      exact ih x1 x2 v15 (x5 + (1 : Int32)) K P nx sl
def fX1_odds (th : Nat) (x1 : Int32) (x2 : Int32) (K : mm_K) (P : mm_P) (nx : Nat) (sl : Nat) : Option (Int32 × mm_S) :=
  mm_mo mm_waI nx sl <|
  mm_bd (fX1_isCloth K th P x1) fun r1 =>
  if r1 = 0 then
  (some ((-1 : Int32), K, P, nx, sl))
  else
  (mm_bd (gR P 132 th) fun b4 =>
  mm_gd (K.1 b4 = 4) <|
  mm_bd (fX4_by b4 P x1) fun r6 =>
  if r6 = 0 then
  (some ((-1 : Int32), K, P, nx, sl))
  else
  (mm_bd (fX1_in x2 (1 : Int32) (8 : Int32)) fun r10 =>
  if r10 ≠ 0 then
  (fX1_odds_b36 th mm_NF x1 x2 (1 : Int64) (0 : Int32) K P nx sl)
  else
  (some ((-1 : Int32), K, P, nx, sl))))
set_option maxHeartbeats 4000000 in
theorem mc_X1_odds {l : Launch} {K : mm_K} {P : mm_P} {th : Nat} {x1 : Int32} {x2 : Int32} {nx sl : Nat} {r : (Int32 × mm_S)} (hk : K.1 th = 1) (h : fX1_odds th x1 x2 K P nx sl = some r) : mm_C l yX1_odds (ws_ yX1_odds cX1_odds 6 (some .int)) 615 14217 [.ref th, .int x1, .int x2] K P nx sl (mm_waI r) :=
  mm_start (ls := [some (.ref th), some (.int x1), some (.int x2), none, none, none]) h (by decide) (Nat.le_of_ble_eq_true rfl) rfl (mm_mo_some h).2.1 (mm_mo_some h).2.2 rfl fun E hl9 _ _ _ C => by
  have C : mm_Cx E RX1 cX1_odds 6 (some .int) 615 14217 := C
  unfold fX1_odds
  refine r_mo ?_
  refine r_aload_n C dX1_odds_0 rfl rfl ?_
  refine r_iload_n C dX1_odds_1 rfl rfl ?_
  refine r_bd fun r1 h2 => ?_
  refine r_callV (As := [.int x1]) (st := []) C (mc_X1_isCloth hk h2) cv_X1_254 hk rfl (Nat.le_of_ble_eq_true rfl) (Nat.le_of_ble_eq_true rfl) rfl (Nat.le_of_ble_eq_true rfl) dX1_odds_2 ?_
  refine r_ifeq (tgt := 29) C dX1_odds_5 (by decide) (fun h3 => ?_) (fun h3 => ?_)
  · refine r_iconst (v := -1) C dX1_odds_29 rfl ?_
    exact r_iret C dX1_odds_30 rfl
  · refine r_aload_n C dX1_odds_8 rfl rfl ?_
    refine r_getRn (code := 132) C fl_X1_51 hk rfl dX1_odds_9 fun b4 h5 => ?_
    refine r_iload_n C dX1_odds_12 rfl rfl ?_
    refine r_gd fun hK8 => ?_
    refine r_bd fun r6 h7 => ?_
    refine r_callV (As := [.int x1]) (st := []) C (mc_X4_by hK8 h7) cv_X1_157 hK8 rfl (Nat.le_of_ble_eq_true rfl) (Nat.le_of_ble_eq_true rfl) rfl (Nat.le_of_ble_eq_true rfl) dX1_odds_13 ?_
    refine r_ifeq (tgt := 29) C dX1_odds_16 (by decide) (fun h9 => ?_) (fun h9 => ?_)
    · refine r_iconst (v := -1) C dX1_odds_29 rfl ?_
      exact r_iret C dX1_odds_30 rfl
    · refine r_iload_n C dX1_odds_19 rfl rfl ?_
      refine r_iconst (v := 1) C dX1_odds_20 rfl ?_
      refine r_bipush (v := 8) C dX1_odds_21 rfl ?_
      refine r_bd fun r10 h11 => ?_
      refine r_callS (As := [.int x2, .int (1 : Int32), .int (8 : Int32)]) (st := []) C (mc_X1_in h11) cv_X1_150  rfl (Nat.le_of_ble_eq_true rfl) (Nat.le_of_ble_eq_true rfl) rfl (Nat.le_of_ble_eq_true rfl) dX1_odds_23 ?_
      refine r_ifne (tgt := 31) C dX1_odds_26 (by decide) (fun h12 => ?_) (fun h12 => ?_)
      · refine r_lconst (v := 1) C dX1_odds_31 rfl ?_
        refine r_lstore_n (ls' := [some (.ref th), some (.int x1), some (.int x2), some (.long (1 : Int64)), none, none]) C dX1_odds_32 rfl (Nat.le_of_ble_eq_true rfl) rfl rfl ?_
        refine r_iconst (v := 0) C dX1_odds_33 rfl ?_
        refine r_istore (ls' := [some (.ref th), some (.int x1), some (.int x2), some (.long (1 : Int64)), none, some (.int (0 : Int32))]) C dX1_odds_34 (Nat.le_of_ble_eq_true rfl) rfl rfl ?_
        exact wfX1_odds_b36 C mm_NF x1 x2 (1 : Int64) (0 : Int32) K P nx sl
      · refine r_iconst (v := -1) C dX1_odds_29 rfl ?_
        exact r_iret C dX1_odds_30 rfl
theorem rg_153 {K : mm_K} {a : Nat} (h : K.1 a = 1) : mm_reg K 153 a 32 6 4 := Or.inl ⟨1, 25, rfl, h, by decide, rfl⟩
theorem rg_2561 {K : mm_K} {a : Nat} (h : K.1 a = 20) : mm_reg K 2561 a 6 0 8 := Or.inl ⟨20, 1, rfl, h, by decide, rfl⟩
theorem rg_2562 {K : mm_K} {a : Nat} (h : K.1 a = 20) : mm_reg K 2562 a 7 0 8 := Or.inl ⟨20, 2, rfl, h, by decide, rfl⟩
theorem rg_2563 {K : mm_K} {a : Nat} (h : K.1 a = 20) : mm_reg K 2563 a 8 0 8 := Or.inl ⟨20, 3, rfl, h, by decide, rfl⟩
theorem nl_X1_96 : mm_NL RX1 96 52 5 := ⟨RX22, TX22, _, tyX22, rfl, in_X22, rfl, by decide +kernel, q337, q1534, q174, tyX22_ok, rfl⟩
theorem cs_6_20 : mm_CS2 6 20 := ⟨RX22, TX22, 5, _, rfl, rfl, Or.inl rfl⟩
theorem fl_X1_407 : mm_FL RX1 407 20 0 mm_r (tyX22 0) true := ⟨RX22, TX22, 5, _, tyX22, rfl, in_X22, rfl, rfl, Nat.le_of_ble_eq_true rfl, Or.inr (Or.inl ⟨_, nw_in q1542 rfl⟩), tyX22_ok, nmX22, rfl, rfl⟩
theorem fl_X1_408 : mm_FL RX1 408 20 1 (mm_a 6 0 8) (tyX22 1) true := ⟨RX22, TX22, 5, _, tyX22, rfl, in_X22, rfl, rfl, Nat.le_of_ble_eq_true rfl, Or.inr (Or.inl ⟨_, nw_in q1544 rfl⟩), tyX22_ok, nmX22, rfl, rfl⟩
theorem fl_X1_410 : mm_FL RX1 410 20 2 (mm_a 7 0 8) (tyX22 2) true := ⟨RX22, TX22, 5, _, tyX22, rfl, in_X22, rfl, rfl, Nat.le_of_ble_eq_true rfl, Or.inr (Or.inl ⟨_, nw_in q1546 rfl⟩), tyX22_ok, nmX22, rfl, rfl⟩
theorem fl_X1_413 : mm_FL RX1 413 20 3 (mm_a 8 0 8) (tyX22 3) true := ⟨RX22, TX22, 5, _, tyX22, rfl, in_X22, rfl, rfl, Nat.le_of_ble_eq_true rfl, Or.inr (Or.inl ⟨_, nw_in q1548 rfl⟩), tyX22_ok, nmX22, rfl, rfl⟩
theorem fl_X1_414 : mm_FL RX1 414 20 4 mm_i .int false := ⟨RX22, TX22, 5, _, tyX22, rfl, in_X22, rfl, rfl, Nat.le_of_ble_eq_true rfl, Or.inr (Or.inl ⟨_, nw_in q1549 rfl⟩), tyX22_ok, nmX22, rfl, rfl⟩
theorem fl_X1_98 : mm_FL RX1 98 1 25 (mm_a 32 6 4) (tyX1 25) true := ⟨RX1, TX1, 26, _, tyX1, rfl, in_X1, rfl, rfl, Nat.le_of_ble_eq_true rfl, Or.inl q368, tyX1_ok, nmX1, rfl, rfl⟩
theorem cv_X1_406 : mm_CIN RX1 406 yX22_init cX22_init 1 0 := ⟨⟨⟨_, nw_in q1535 rfl⟩, q1537, q174, ⟨by decide +kernel, by decide +kernel, by decide +kernel⟩⟩, q1536, rfl⟩
/-! X1 mark -/
def fX1_mark_b46 (th : Nat)  (x1 : Int32) (x2 : Int32) (K : mm_K) (P : mm_P) (nx : Nat) (sl : Nat) : Option (Int32 × mm_S) :=
  mm_gd (K.1 th = 1) <|
  mm_gd (mm_in x1 4) <|
  mm_bd (gB P 153 th x1.toNatClampNeg) fun b3 =>
  if x2 = 0 then
  (mm_gd (K.1 b3 = 20) <|
  mm_bd (gR P 2560 b3) fun b7 =>
  mm_bd (gR P 132 th) fun b9 =>
  mm_gd (K.1 b7 = 4) <|
  mm_bd (fX4_be K b7 b9 P) fun r11 =>
  mm_bd (fX1_copies 147 th 8 2561 b3 8 r11) fun r14 =>
  mm_bd (fX1_copies 148 th 8 2562 b3 8 r14) fun r16 =>
  mm_bd (fX1_copies 149 th 8 2563 b3 8 r16) fun r18 =>
  mm_lt (sI r18 2564 b3 (gI r18 150 th)) fun P20 =>
  some ((1 : Int32), K, P20, nx, sl))
  else
  (mm_bd (gR P 132 th) fun b21 =>
  mm_gd (K.1 b3 = 20) <|
  mm_bd (gR P 2560 b3) fun b24 =>
  mm_gd (K.1 b21 = 4) <|
  mm_bd (fX4_be K b21 b24 P) fun r26 =>
  mm_bd (fX1_copies 2561 b3 8 147 th 8 r26) fun r29 =>
  mm_bd (fX1_copies 2562 b3 8 148 th 8 r29) fun r31 =>
  mm_bd (fX1_copies 2563 b3 8 149 th 8 r31) fun r33 =>
  mm_lt (sI r33 150 th (gI r33 2564 b3)) fun P35 =>
  mm_lt (sI P35 137 th (0 : Int32)) fun P36 =>
  some ((1 : Int32), K, P36, nx, sl))
set_option maxHeartbeats 4000000 in
theorem wfX1_mark_b46 {E : mm_E} (C : mm_Cx E RX1 cX1_mark 4 (some .boolean) 3 60) {th : Nat} (x1 : Int32) (x2 : Int32) (K : mm_K) (P : mm_P) (nx : Nat) (sl : Nat) : mm_V E (mm_waI) 46 [some (.ref th), some (.int x1), some (.int x2), none] [] K P nx sl (fX1_mark_b46 th x1 x2 K P nx sl) := by
  unfold fX1_mark_b46
  refine r_aload_n C dX1_mark_46 rfl rfl ?_
  refine r_gd fun hK1 => ?_
  refine r_getA C fl_X1_98 hK1 dX1_mark_47 ?_
  refine r_iload_n C dX1_mark_50 rfl rfl ?_
  refine r_aaldMn C (rg_153 hK1) rfl dX1_mark_51 fun h2 b3 h4 => ?_
  refine r_astore_n (ls' := [some (.ref th), some (.int x1), some (.int x2), some (.ref b3)]) C dX1_mark_52 rfl (Nat.le_of_ble_eq_true rfl) rfl rfl ?_
  refine r_iload_n C dX1_mark_53 rfl rfl ?_
  refine r_ifeq (tgt := 117) C dX1_mark_54 (by decide) (fun h5 => ?_) (fun h5 => ?_)
  · refine r_aload_n C dX1_mark_117 rfl rfl ?_
    refine r_gd fun hK6 => ?_
    refine r_getRn (code := 2560) C fl_X1_407 hK6 rfl dX1_mark_118 fun b7 h8 => ?_
    refine r_aload_n C dX1_mark_121 rfl rfl ?_
    refine r_getRn (code := 132) C fl_X1_51 hK1 rfl dX1_mark_122 fun b9 h10 => ?_
    refine r_gd fun hK13 => ?_
    refine r_bd fun r11 h12 => ?_
    refine r_callVv (As := [.ref b9]) (st := []) C (mc_X4_be hK13 h12) cv_X1_276 hK13 rfl (Nat.le_of_ble_eq_true rfl) (Nat.le_of_ble_eq_true rfl) rfl (Nat.le_of_ble_eq_true rfl) dX1_mark_125 ?_
    refine r_aload_n C dX1_mark_128 rfl rfl ?_
    refine r_getA C fl_X1_84 hK1 dX1_mark_129 ?_
    refine r_aload_n C dX1_mark_132 rfl rfl ?_
    refine r_getA C fl_X1_408 hK6 dX1_mark_133 ?_
    refine r_bd fun r14 h15 => ?_
    refine r_callSv (As := [.ref (th + 28), .ref (b3 + 6)]) (st := []) C (mc_X1_copies (rg_147 hK1) (mm_ro_of (k := 1) hK1 rfl) (rg_2561 hK6) (mm_ro_of (k := 20) hK6 rfl) h15) cv_X1_325  rfl (Nat.le_of_ble_eq_true rfl) (Nat.le_of_ble_eq_true rfl) rfl (Nat.le_of_ble_eq_true rfl) dX1_mark_136 ?_
    refine r_aload_n C dX1_mark_139 rfl rfl ?_
    refine r_getA C fl_X1_87 hK1 dX1_mark_140 ?_
    refine r_aload_n C dX1_mark_143 rfl rfl ?_
    refine r_getA C fl_X1_410 hK6 dX1_mark_144 ?_
    refine r_bd fun r16 h17 => ?_
    refine r_callSv (As := [.ref (th + 29), .ref (b3 + 7)]) (st := []) C (mc_X1_copies (rg_148 hK1) (mm_ro_of (k := 1) hK1 rfl) (rg_2562 hK6) (mm_ro_of (k := 20) hK6 rfl) h17) cv_X1_325  rfl (Nat.le_of_ble_eq_true rfl) (Nat.le_of_ble_eq_true rfl) rfl (Nat.le_of_ble_eq_true rfl) dX1_mark_147 ?_
    refine r_aload_n C dX1_mark_150 rfl rfl ?_
    refine r_getA C fl_X1_90 hK1 dX1_mark_151 ?_
    refine r_aload_n C dX1_mark_154 rfl rfl ?_
    refine r_getA C fl_X1_413 hK6 dX1_mark_155 ?_
    refine r_bd fun r18 h19 => ?_
    refine r_callSv (As := [.ref (th + 30), .ref (b3 + 8)]) (st := []) C (mc_X1_copies (rg_149 hK1) (mm_ro_of (k := 1) hK1 rfl) (rg_2563 hK6) (mm_ro_of (k := 20) hK6 rfl) h19) cv_X1_325  rfl (Nat.le_of_ble_eq_true rfl) (Nat.le_of_ble_eq_true rfl) rfl (Nat.le_of_ble_eq_true rfl) dX1_mark_158 ?_
    refine r_aload_n C dX1_mark_161 rfl rfl ?_
    refine r_aload_n C dX1_mark_162 rfl rfl ?_
    refine r_getI (code := 150) C fl_X1_125 hK1 rfl dX1_mark_163 ?_
    refine r_putI (code := 2564) C fl_X1_414 hK6 rfl rfl dX1_mark_166 ?_
    refine r_ltP fun P20 => ?_
    refine r_iconst (v := 1) C dX1_mark_169 rfl ?_
    exact r_zret C dX1_mark_170 rfl rfl
  · refine r_aload_n C dX1_mark_57 rfl rfl ?_
    refine r_getRn (code := 132) C fl_X1_51 hK1 rfl dX1_mark_58 fun b21 h22 => ?_
    refine r_aload_n C dX1_mark_61 rfl rfl ?_
    refine r_gd fun hK23 => ?_
    refine r_getRn (code := 2560) C fl_X1_407 hK23 rfl dX1_mark_62 fun b24 h25 => ?_
    refine r_gd fun hK28 => ?_
    refine r_bd fun r26 h27 => ?_
    refine r_callVv (As := [.ref b24]) (st := []) C (mc_X4_be hK28 h27) cv_X1_276 hK28 rfl (Nat.le_of_ble_eq_true rfl) (Nat.le_of_ble_eq_true rfl) rfl (Nat.le_of_ble_eq_true rfl) dX1_mark_65 ?_
    refine r_aload_n C dX1_mark_68 rfl rfl ?_
    refine r_getA C fl_X1_408 hK23 dX1_mark_69 ?_
    refine r_aload_n C dX1_mark_72 rfl rfl ?_
    refine r_getA C fl_X1_84 hK1 dX1_mark_73 ?_
    refine r_bd fun r29 h30 => ?_
    refine r_callSv (As := [.ref (b3 + 6), .ref (th + 28)]) (st := []) C (mc_X1_copies (rg_2561 hK23) (mm_ro_of (k := 20) hK23 rfl) (rg_147 hK1) (mm_ro_of (k := 1) hK1 rfl) h30) cv_X1_325  rfl (Nat.le_of_ble_eq_true rfl) (Nat.le_of_ble_eq_true rfl) rfl (Nat.le_of_ble_eq_true rfl) dX1_mark_76 ?_
    refine r_aload_n C dX1_mark_79 rfl rfl ?_
    refine r_getA C fl_X1_410 hK23 dX1_mark_80 ?_
    refine r_aload_n C dX1_mark_83 rfl rfl ?_
    refine r_getA C fl_X1_87 hK1 dX1_mark_84 ?_
    refine r_bd fun r31 h32 => ?_
    refine r_callSv (As := [.ref (b3 + 7), .ref (th + 29)]) (st := []) C (mc_X1_copies (rg_2562 hK23) (mm_ro_of (k := 20) hK23 rfl) (rg_148 hK1) (mm_ro_of (k := 1) hK1 rfl) h32) cv_X1_325  rfl (Nat.le_of_ble_eq_true rfl) (Nat.le_of_ble_eq_true rfl) rfl (Nat.le_of_ble_eq_true rfl) dX1_mark_87 ?_
    refine r_aload_n C dX1_mark_90 rfl rfl ?_
    refine r_getA C fl_X1_413 hK23 dX1_mark_91 ?_
    refine r_aload_n C dX1_mark_94 rfl rfl ?_
    refine r_getA C fl_X1_90 hK1 dX1_mark_95 ?_
    refine r_bd fun r33 h34 => ?_
    refine r_callSv (As := [.ref (b3 + 8), .ref (th + 30)]) (st := []) C (mc_X1_copies (rg_2563 hK23) (mm_ro_of (k := 20) hK23 rfl) (rg_149 hK1) (mm_ro_of (k := 1) hK1 rfl) h34) cv_X1_325  rfl (Nat.le_of_ble_eq_true rfl) (Nat.le_of_ble_eq_true rfl) rfl (Nat.le_of_ble_eq_true rfl) dX1_mark_98 ?_
    refine r_aload_n C dX1_mark_101 rfl rfl ?_
    refine r_aload_n C dX1_mark_102 rfl rfl ?_
    refine r_getI (code := 2564) C fl_X1_414 hK23 rfl dX1_mark_103 ?_
    refine r_putI (code := 150) C fl_X1_125 hK1 rfl rfl dX1_mark_106 ?_
    refine r_ltP fun P35 => ?_
    refine r_aload_n C dX1_mark_109 rfl rfl ?_
    refine r_iconst (v := 0) C dX1_mark_110 rfl ?_
    refine r_putI (code := 137) C fl_X1_128 hK1 rfl rfl dX1_mark_111 ?_
    refine r_ltP fun P36 => ?_
    refine r_goto (tgt := 169) C dX1_mark_114 (by decide) ?_
    refine r_iconst (v := 1) C dX1_mark_169 rfl ?_
    exact r_zret C dX1_mark_170 rfl rfl
def fX1_mark_b24 (th : Nat)  (x1 : Int32) (x2 : Int32) (K : mm_K) (P : mm_P) (nx : Nat) (sl : Nat) : Option (Int32 × mm_S) :=
  mm_gd (K.1 th = 1) <|
  mm_gd (mm_in x1 4) <|
  mm_on (gB P 153 th x1.toNatClampNeg)
  (mm_mo mm_waI (nx + 1) (sl + 5) <|
  mm_lt (mm_kn K nx 52 0) fun K5 =>
  mm_lt (mm_fresh P nx) fun P6 =>
  mm_bd (fX22_init nx K5 P6 (nx + 1) (sl + 5)) fun r8 =>
  mm_mo mm_waI r8.2.2.1 r8.2.2.2 <|
  mm_gd (r8.1.1 th = 1) <|
  mm_gd (r8.1.1 nx = 20) <|
  mm_gd (mm_in x1 4) <|
  mm_lt (sB r8.2.1 153 th x1.toNatClampNeg (some nx)) fun P12 =>
  fX1_mark_b46 th x1 x2 r8.1 P12 r8.2.2.1 r8.2.2.2)
  fun b4 =>
  (fX1_mark_b46 th x1 x2 K P nx sl)
set_option maxHeartbeats 4000000 in
theorem wfX1_mark_b24 {E : mm_E} (C : mm_Cx E RX1 cX1_mark 4 (some .boolean) 3 60) {th : Nat} (x1 : Int32) (x2 : Int32) (K : mm_K) (P : mm_P) (nx : Nat) (sl : Nat) : mm_V E (mm_waI) 24 [some (.ref th), some (.int x1), some (.int x2), none] [] K P nx sl (fX1_mark_b24 th x1 x2 K P nx sl) := by
  unfold fX1_mark_b24
  refine r_aload_n C dX1_mark_24 rfl rfl ?_
  refine r_gd fun hK1 => ?_
  refine r_getA C fl_X1_98 hK1 dX1_mark_25 ?_
  refine r_iload_n C dX1_mark_28 rfl rfl ?_
  refine r_aaldMo C (rg_153 hK1) rfl dX1_mark_29 fun h2 => ?_
  refine r_ifnonnull (tgt := 46) C dX1_mark_30 (by decide) (fun b4 h3 => ?_) (fun h3 => ?_)
  · exact wfX1_mark_b46 C x1 x2 K P nx sl
  · refine r_aload_n C dX1_mark_33 rfl rfl ?_
    refine r_getA C fl_X1_98 hK1 dX1_mark_34 ?_
    refine r_iload_n C dX1_mark_37 rfl rfl ?_
    refine r_new C nl_X1_96 dX1_mark_38 ?_
    refine r_ltK fun K5 e7 => ?_
    refine r_ltP fun P6 => ?_
    refine r_dup C dX1_mark_41 rfl ?_
    refine r_bd fun r8 h9 => ?_
    refine r_acallINv (As := []) (st := [.ref nx, .int x1, .ref (th + 32)]) C (mc_X22_init (by rw [e7]; exact mm_kn_1) h9) cv_X1_406  rfl (Nat.le_of_ble_eq_true rfl) (Nat.le_of_ble_eq_true rfl) rfl (Nat.le_of_ble_eq_true rfl) dX1_mark_42 ?_
    refine r_gd fun hK10 => ?_
    refine r_gd fun hK13 => ?_
    refine r_aast C (by decide) cs_6_20 (rg_153 hK10) (mm_ro_of (k := 1) hK10 rfl) rfl hK13 dX1_mark_45 fun h11 => ?_
    refine r_ltP fun P12 => ?_
    exact wfX1_mark_b46 C x1 x2 r8.1 P12 r8.2.2.1 r8.2.2.2
def fX1_mark (th : Nat) (x1 : Int32) (x2 : Int32) (K : mm_K) (P : mm_P) (nx : Nat) (sl : Nat) : Option (Int32 × mm_S) :=
  mm_mo mm_waI nx sl <|
  mm_bd (fX1_in x1 (0 : Int32) (3 : Int32)) fun r1 =>
  if r1 = 0 then
  (some ((0 : Int32), K, P, nx, sl))
  else
  (if x2 = 0 then
  (fX1_mark_b24 th x1 x2 K P nx sl)
  else
  (mm_gd (mm_in x1 4) <|
  mm_on (gB P 153 th x1.toNatClampNeg)
  (some ((0 : Int32), K, P, nx, sl))
  fun b7 =>
  (fX1_mark_b24 th x1 x2 K P nx sl)))
set_option maxHeartbeats 4000000 in
theorem mc_X1_mark {l : Launch} {K : mm_K} {P : mm_P} {th : Nat} {x1 : Int32} {x2 : Int32} {nx sl : Nat} {r : (Int32 × mm_S)} (hk : K.1 th = 1) (h : fX1_mark th x1 x2 K P nx sl = some r) : mm_C l yX1_mark (ws_ yX1_mark cX1_mark 4 (some .boolean)) 3 60 [.ref th, .int x1, .int x2] K P nx sl (mm_waI r) :=
  mm_start (ls := [some (.ref th), some (.int x1), some (.int x2), none]) h (by decide) (Nat.le_of_ble_eq_true rfl) rfl (mm_mo_some h).2.1 (mm_mo_some h).2.2 rfl fun E hl9 _ _ _ C => by
  have C : mm_Cx E RX1 cX1_mark 4 (some .boolean) 3 60 := C
  unfold fX1_mark
  refine r_mo ?_
  refine r_iload_n C dX1_mark_0 rfl rfl ?_
  refine r_iconst (v := 0) C dX1_mark_1 rfl ?_
  refine r_iconst (v := 3) C dX1_mark_2 rfl ?_
  refine r_bd fun r1 h2 => ?_
  refine r_callS (As := [.int x1, .int (0 : Int32), .int (3 : Int32)]) (st := []) C (mc_X1_in h2) cv_X1_150  rfl (Nat.le_of_ble_eq_true rfl) (Nat.le_of_ble_eq_true rfl) rfl (Nat.le_of_ble_eq_true rfl) dX1_mark_3 ?_
  refine r_ifeq (tgt := 22) C dX1_mark_6 (by decide) (fun h3 => ?_) (fun h3 => ?_)
  · refine r_iconst (v := 0) C dX1_mark_22 rfl ?_
    exact r_zret C dX1_mark_23 rfl rfl
  · refine r_iload_n C dX1_mark_9 rfl rfl ?_
    refine r_ifeq (tgt := 24) C dX1_mark_10 (by decide) (fun h4 => ?_) (fun h4 => ?_)
    · exact wfX1_mark_b24 C x1 x2 K P nx sl
    · refine r_aload_n C dX1_mark_13 rfl rfl ?_
      refine r_getA C fl_X1_98 hk dX1_mark_14 ?_
      refine r_iload_n C dX1_mark_17 rfl rfl ?_
      refine r_aaldMo C (rg_153 hk) rfl dX1_mark_18 fun h5 => ?_
      refine r_ifnonnull (tgt := 24) C dX1_mark_19 (by decide) (fun b7 h6 => ?_) (fun h6 => ?_)
      · exact wfX1_mark_b24 C x1 x2 K P nx sl
      · refine r_iconst (v := 0) C dX1_mark_22 rfl ?_
        exact r_zret C dX1_mark_23 rfl rfl
theorem ff_X1_21_33 : mm_FF RX1 21 33 0 mm_r (tyX1 0) := ⟨RX1, TX1, 26, _, tyX1, rfl, in_X1, rfl, rfl, Nat.le_of_ble_eq_true rfl, q343, tyX1_ok, nmX1, rfl, rfl, rfl⟩
theorem ff_X1_28_33 : mm_FF RX1 28 33 1 mm_r (tyX1 1) := ⟨RX1, TX1, 26, _, tyX1, rfl, in_X1, rfl, rfl, Nat.le_of_ble_eq_true rfl, q344, tyX1_ok, nmX1, rfl, rfl, rfl⟩
theorem ff_X1_51_33 : mm_FF RX1 51 33 4 mm_r (tyX1 4) := ⟨RX1, TX1, 26, _, tyX1, rfl, in_X1, rfl, rfl, Nat.le_of_ble_eq_true rfl, q347, tyX1_ok, nmX1, rfl, rfl, rfl⟩
theorem ff_X1_55_33 : mm_FF RX1 55 33 5 mm_r (tyX1 5) := ⟨RX1, TX1, 26, _, tyX1, rfl, in_X1, rfl, rfl, Nat.le_of_ble_eq_true rfl, q348, tyX1_ok, nmX1, rfl, rfl, rfl⟩
theorem ff_X1_58_33 : mm_FF RX1 58 33 6 mm_r (tyX1 6) := ⟨RX1, TX1, 26, _, tyX1, rfl, in_X1, rfl, rfl, Nat.le_of_ble_eq_true rfl, q349, tyX1_ok, nmX1, rfl, rfl, rfl⟩
theorem ff_X1_62_33 : mm_FF RX1 62 33 8 mm_r (tyX1 8) := ⟨RX1, TX1, 26, _, tyX1, rfl, in_X1, rfl, rfl, Nat.le_of_ble_eq_true rfl, q351, tyX1_ok, nmX1, rfl, rfl, rfl⟩
theorem ff_X1_66_33 : mm_FF RX1 66 33 10 mm_r (tyX1 10) := ⟨RX1, TX1, 26, _, tyX1, rfl, in_X1, rfl, rfl, Nat.le_of_ble_eq_true rfl, q353, tyX1_ok, nmX1, rfl, rfl, rfl⟩
theorem ff_X1_69_33 : mm_FF RX1 69 33 11 mm_r (tyX1 11) := ⟨RX1, TX1, 26, _, tyX1, rfl, in_X1, rfl, rfl, Nat.le_of_ble_eq_true rfl, q354, tyX1_ok, nmX1, rfl, rfl, rfl⟩
theorem ff_X1_72_33 : mm_FF RX1 72 33 12 mm_r (tyX1 12) := ⟨RX1, TX1, 26, _, tyX1, rfl, in_X1, rfl, rfl, Nat.le_of_ble_eq_true rfl, q355, tyX1_ok, nmX1, rfl, rfl, rfl⟩
theorem ff_X1_75_33 : mm_FF RX1 75 33 14 mm_r (tyX1 14) := ⟨RX1, TX1, 26, _, tyX1, rfl, in_X1, rfl, rfl, Nat.le_of_ble_eq_true rfl, q357, tyX1_ok, nmX1, rfl, rfl, rfl⟩
theorem ff_X1_78_33 : mm_FF RX1 78 33 15 mm_r (tyX1 15) := ⟨RX1, TX1, 26, _, tyX1, rfl, in_X1, rfl, rfl, Nat.le_of_ble_eq_true rfl, q358, tyX1_ok, nmX1, rfl, rfl, rfl⟩
theorem ff_X1_81_33 : mm_FF RX1 81 33 16 mm_r (tyX1 16) := ⟨RX1, TX1, 26, _, tyX1, rfl, in_X1, rfl, rfl, Nat.le_of_ble_eq_true rfl, q359, tyX1_ok, nmX1, rfl, rfl, rfl⟩
theorem ff_X1_84_33 : mm_FF RX1 84 33 19 mm_r (tyX1 19) := ⟨RX1, TX1, 26, _, tyX1, rfl, in_X1, rfl, rfl, Nat.le_of_ble_eq_true rfl, q362, tyX1_ok, nmX1, rfl, rfl, rfl⟩
theorem ff_X1_87_33 : mm_FF RX1 87 33 20 mm_r (tyX1 20) := ⟨RX1, TX1, 26, _, tyX1, rfl, in_X1, rfl, rfl, Nat.le_of_ble_eq_true rfl, q363, tyX1_ok, nmX1, rfl, rfl, rfl⟩
theorem ff_X1_90_33 : mm_FF RX1 90 33 21 mm_r (tyX1 21) := ⟨RX1, TX1, 26, _, tyX1, rfl, in_X1, rfl, rfl, Nat.le_of_ble_eq_true rfl, q364, tyX1_ok, nmX1, rfl, rfl, rfl⟩
theorem ff_X1_93_33 : mm_FF RX1 93 33 23 mm_r (tyX1 23) := ⟨RX1, TX1, 26, _, tyX1, rfl, in_X1, rfl, rfl, Nat.le_of_ble_eq_true rfl, q366, tyX1_ok, nmX1, rfl, rfl, rfl⟩
theorem ff_X1_98_33 : mm_FF RX1 98 33 25 mm_r (tyX1 25) := ⟨RX1, TX1, 26, _, tyX1, rfl, in_X1, rfl, rfl, Nat.le_of_ble_eq_true rfl, q368, tyX1_ok, nmX1, rfl, rfl, rfl⟩
theorem nl_X1_25 : mm_NL RX1 25 2 8 := ⟨RX2, TX2, _, tyX2, rfl, in_X2, rfl, by decide +kernel, q183, q184, q134, tyX2_ok, rfl⟩
theorem nl_X1_32 : mm_NL RX1 32 35 11 := ⟨RX3, TX3, _, tyX3, rfl, in_X3, rfl, by decide +kernel, q215, q216, q135, tyX3_ok, rfl⟩
theorem nl_X1_39 : mm_NL RX1 39 21 3 := ⟨RJ2, TJ2, _, tyJ2, rfl, in_J2, rfl, by decide +kernel, q299, q222, q138, tyJ2_ok, rfl⟩
theorem fl_X1_35_33 : mm_FL RX1 35 33 2 mm_r (tyX1 2) false := ⟨RX1, TX1, 26, _, tyX1, rfl, in_X1, rfl, rfl, Nat.le_of_ble_eq_true rfl, Or.inl q345, tyX1_ok, nmX1, rfl, rfl⟩
theorem fl_X1_44_33 : mm_FL RX1 44 33 3 mm_r (tyX1 3) false := ⟨RX1, TX1, 26, _, tyX1, rfl, in_X1, rfl, rfl, Nat.le_of_ble_eq_true rfl, Or.inl q346, tyX1_ok, nmX1, rfl, rfl⟩
theorem fl_X1_51_33 : mm_FL RX1 51 33 4 mm_r (tyX1 4) true := ⟨RX1, TX1, 26, _, tyX1, rfl, in_X1, rfl, rfl, Nat.le_of_ble_eq_true rfl, Or.inl q347, tyX1_ok, nmX1, rfl, rfl⟩
theorem cv_X1_27 : mm_CIN RX1 27 yX2_init cX2_init 1 0 := ⟨⟨⟨_, nw_in q185 rfl⟩, q187, q134, ⟨by decide +kernel, by decide +kernel, by decide +kernel⟩⟩, q186, rfl⟩
theorem cv_X1_34 : mm_CIN RX1 34 yX3_init cX3_init 1 0 := ⟨⟨⟨_, nw_in q217 rfl⟩, q219, q135, ⟨by decide +kernel, by decide +kernel, by decide +kernel⟩⟩, q218, rfl⟩
theorem cv_X1_41 : mm_CI RX1 41 yJ2_init cJ2_init 2 1 := ⟨q225, q138, q300, q224, rfl, ⟨by decide +kernel, by decide +kernel, by decide +kernel⟩⟩
/-! X1 init -/
def fX1_init (th : Nat)  (K : mm_K) (P : mm_P) (nx : Nat) (sl : Nat) : Option mm_S :=
  mm_mo mm_waV nx sl <|
  mm_mo mm_waV (nx + 1) (sl + 1000) <|
  mm_lt (mm_kn K nx 65 1000) fun K1 =>
  mm_lt (mm_fresh P nx) fun P2 =>
  mm_gd (K1.1 th = 33) <|
  mm_lt (sR P2 4224 th (some nx)) fun P5 =>
  mm_mo mm_waV (nx + 1 + 1) (sl + 1000 + 8) <|
  mm_lt (mm_kn K1 (nx + 1) 2 0) fun K6 =>
  mm_lt (mm_fresh P5 (nx + 1)) fun P7 =>
  mm_bd (fX2_init (nx + 1) P7) fun r9 =>
  mm_gd (K6.1 th = 33) <|
  mm_lt (sR r9 4225 th (some (nx + 1))) fun P12 =>
  mm_mo mm_waV (nx + 1 + 1 + 1) (sl + 1000 + 8 + 11) <|
  mm_lt (mm_kn K6 (nx + 1 + 1) 35 0) fun K13 =>
  mm_lt (mm_fresh P12 (nx + 1 + 1)) fun P14 =>
  mm_bd (fX3_init (nx + 1 + 1) K13 P14 (nx + 1 + 1 + 1) (sl + 1000 + 8 + 11)) fun r16 =>
  mm_mo mm_waV r16.2.2.1 r16.2.2.2 <|
  mm_gd (r16.1.1 th = 33) <|
  mm_lt (sR r16.2.1 4226 th (some (nx + 1 + 1))) fun P19 =>
  mm_mo mm_waV (r16.2.2.1 + 1) (r16.2.2.2 + 3) <|
  mm_lt (mm_kn r16.1 r16.2.2.1 21 0) fun K20 =>
  mm_lt (mm_fresh P19 r16.2.2.1) fun P21 =>
  mm_bd (fJ2_init r16.2.2.1 (0 : Int32) K20 P21 (r16.2.2.1 + 1) (r16.2.2.2 + 3)) fun r23 =>
  mm_mo mm_waV r23.2.2.1 r23.2.2.2 <|
  mm_gd (r23.1.1 th = 33) <|
  mm_lt (sR r23.2.1 4227 th (some r16.2.2.1)) fun P26 =>
  mm_mo mm_waV (r23.2.2.1 + 1) (r23.2.2.2 + 6) <|
  mm_lt (mm_kn r23.1 r23.2.2.1 36 0) fun K27 =>
  mm_lt (mm_fresh P26 r23.2.2.1) fun P28 =>
  mm_bd (fX4_init r23.2.2.1 K27 P28 (r23.2.2.1 + 1) (r23.2.2.2 + 6)) fun r30 =>
  mm_mo mm_waV r30.2.2.1 r30.2.2.2 <|
  mm_gd (r30.1.1 th = 33) <|
  mm_lt (sR r30.2.1 4228 th (some r23.2.2.1)) fun P33 =>
  mm_mo mm_waV (r30.2.2.1 + 1) (r30.2.2.2 + 6) <|
  mm_lt (mm_kn r30.1 r30.2.2.1 36 0) fun K34 =>
  mm_lt (mm_fresh P33 r30.2.2.1) fun P35 =>
  mm_bd (fX4_init r30.2.2.1 K34 P35 (r30.2.2.1 + 1) (r30.2.2.2 + 6)) fun r37 =>
  mm_mo mm_waV r37.2.2.1 r37.2.2.2 <|
  mm_gd (r37.1.1 th = 33) <|
  mm_lt (sR r37.2.1 4229 th (some r30.2.2.1)) fun P40 =>
  mm_mo mm_waV (r37.2.2.1 + 1) (r37.2.2.2 + 3) <|
  mm_lt (mm_kn r37.1 r37.2.2.1 64 3) fun K41 =>
  mm_lt (mm_fresh P40 r37.2.2.1) fun P42 =>
  mm_gd (K41.1 th = 33) <|
  mm_lt (sR P42 4230 th (some r37.2.2.1)) fun P45 =>
  mm_mo mm_waV (r37.2.2.1 + 1 + 1) (r37.2.2.2 + 3 + 16) <|
  mm_lt (mm_kn K41 (r37.2.2.1 + 1) 69 16) fun K46 =>
  mm_lt (mm_fresh P45 (r37.2.2.1 + 1)) fun P47 =>
  mm_gd (K46.1 th = 33) <|
  mm_lt (sR P47 4232 th (some (r37.2.2.1 + 1))) fun P50 =>
  mm_mo mm_waV (r37.2.2.1 + 1 + 1 + 1) (r37.2.2.2 + 3 + 16 + 6) <|
  mm_lt (mm_kn K46 (r37.2.2.1 + 1 + 1) 64 6) fun K51 =>
  mm_lt (mm_fresh P50 (r37.2.2.1 + 1 + 1)) fun P52 =>
  mm_gd (K51.1 th = 33) <|
  mm_lt (sR P52 4234 th (some (r37.2.2.1 + 1 + 1))) fun P55 =>
  mm_mo mm_waV (r37.2.2.1 + 1 + 1 + 1 + 1) (r37.2.2.2 + 3 + 16 + 6 + 6) <|
  mm_lt (mm_kn K51 (r37.2.2.1 + 1 + 1 + 1) 64 6) fun K56 =>
  mm_lt (mm_fresh P55 (r37.2.2.1 + 1 + 1 + 1)) fun P57 =>
  mm_gd (K56.1 th = 33) <|
  mm_lt (sR P57 4235 th (some (r37.2.2.1 + 1 + 1 + 1))) fun P60 =>
  mm_mo mm_waV (r37.2.2.1 + 1 + 1 + 1 + 1 + 1) (r37.2.2.2 + 3 + 16 + 6 + 6 + 6) <|
  mm_lt (mm_kn K56 (r37.2.2.1 + 1 + 1 + 1 + 1) 64 6) fun K61 =>
  mm_lt (mm_fresh P60 (r37.2.2.1 + 1 + 1 + 1 + 1)) fun P62 =>
  mm_gd (K61.1 th = 33) <|
  mm_lt (sR P62 4236 th (some (r37.2.2.1 + 1 + 1 + 1 + 1))) fun P65 =>
  mm_mo mm_waV (r37.2.2.1 + 1 + 1 + 1 + 1 + 1 + 1) (r37.2.2.2 + 3 + 16 + 6 + 6 + 6 + 8) <|
  mm_lt (mm_kn K61 (r37.2.2.1 + 1 + 1 + 1 + 1 + 1) 69 8) fun K66 =>
  mm_lt (mm_fresh P65 (r37.2.2.1 + 1 + 1 + 1 + 1 + 1)) fun P67 =>
  mm_gd (K66.1 th = 33) <|
  mm_lt (sR P67 4238 th (some (r37.2.2.1 + 1 + 1 + 1 + 1 + 1))) fun P70 =>
  mm_mo mm_waV (r37.2.2.1 + 1 + 1 + 1 + 1 + 1 + 1 + 1) (r37.2.2.2 + 3 + 16 + 6 + 6 + 6 + 8 + 6) <|
  mm_lt (mm_kn K66 (r37.2.2.1 + 1 + 1 + 1 + 1 + 1 + 1) 64 6) fun K71 =>
  mm_lt (mm_fresh P70 (r37.2.2.1 + 1 + 1 + 1 + 1 + 1 + 1)) fun P72 =>
  mm_gd (K71.1 th = 33) <|
  mm_lt (sR P72 4239 th (some (r37.2.2.1 + 1 + 1 + 1 + 1 + 1 + 1))) fun P75 =>
  mm_mo mm_waV (r37.2.2.1 + 1 + 1 + 1 + 1 + 1 + 1 + 1 + 1) (r37.2.2.2 + 3 + 16 + 6 + 6 + 6 + 8 + 6 + 6) <|
  mm_lt (mm_kn K71 (r37.2.2.1 + 1 + 1 + 1 + 1 + 1 + 1 + 1) 64 6) fun K76 =>
  mm_lt (mm_fresh P75 (r37.2.2.1 + 1 + 1 + 1 + 1 + 1 + 1 + 1)) fun P77 =>
  mm_gd (K76.1 th = 33) <|
  mm_lt (sR P77 4240 th (some (r37.2.2.1 + 1 + 1 + 1 + 1 + 1 + 1 + 1))) fun P80 =>
  mm_mo mm_waV (r37.2.2.1 + 1 + 1 + 1 + 1 + 1 + 1 + 1 + 1 + 1) (r37.2.2.2 + 3 + 16 + 6 + 6 + 6 + 8 + 6 + 6 + 8) <|
  mm_lt (mm_kn K76 (r37.2.2.1 + 1 + 1 + 1 + 1 + 1 + 1 + 1 + 1) 64 8) fun K81 =>
  mm_lt (mm_fresh P80 (r37.2.2.1 + 1 + 1 + 1 + 1 + 1 + 1 + 1 + 1)) fun P82 =>
  mm_gd (K81.1 th = 33) <|
  mm_lt (sR P82 4243 th (some (r37.2.2.1 + 1 + 1 + 1 + 1 + 1 + 1 + 1 + 1))) fun P85 =>
  mm_mo mm_waV (r37.2.2.1 + 1 + 1 + 1 + 1 + 1 + 1 + 1 + 1 + 1 + 1) (r37.2.2.2 + 3 + 16 + 6 + 6 + 6 + 8 + 6 + 6 + 8 + 8) <|
  mm_lt (mm_kn K81 (r37.2.2.1 + 1 + 1 + 1 + 1 + 1 + 1 + 1 + 1 + 1) 64 8) fun K86 =>
  mm_lt (mm_fresh P85 (r37.2.2.1 + 1 + 1 + 1 + 1 + 1 + 1 + 1 + 1 + 1)) fun P87 =>
  mm_gd (K86.1 th = 33) <|
  mm_lt (sR P87 4244 th (some (r37.2.2.1 + 1 + 1 + 1 + 1 + 1 + 1 + 1 + 1 + 1))) fun P90 =>
  mm_mo mm_waV (r37.2.2.1 + 1 + 1 + 1 + 1 + 1 + 1 + 1 + 1 + 1 + 1 + 1) (r37.2.2.2 + 3 + 16 + 6 + 6 + 6 + 8 + 6 + 6 + 8 + 8 + 8) <|
  mm_lt (mm_kn K86 (r37.2.2.1 + 1 + 1 + 1 + 1 + 1 + 1 + 1 + 1 + 1 + 1) 64 8) fun K91 =>
  mm_lt (mm_fresh P90 (r37.2.2.1 + 1 + 1 + 1 + 1 + 1 + 1 + 1 + 1 + 1 + 1)) fun P92 =>
  mm_gd (K91.1 th = 33) <|
  mm_lt (sR P92 4245 th (some (r37.2.2.1 + 1 + 1 + 1 + 1 + 1 + 1 + 1 + 1 + 1 + 1))) fun P95 =>
  mm_mo mm_waV (r37.2.2.1 + 1 + 1 + 1 + 1 + 1 + 1 + 1 + 1 + 1 + 1 + 1 + 1) (r37.2.2.2 + 3 + 16 + 6 + 6 + 6 + 8 + 6 + 6 + 8 + 8 + 8 + 10) <|
  mm_lt (mm_kn K91 (r37.2.2.1 + 1 + 1 + 1 + 1 + 1 + 1 + 1 + 1 + 1 + 1 + 1) 64 10) fun K96 =>
  mm_lt (mm_fresh P95 (r37.2.2.1 + 1 + 1 + 1 + 1 + 1 + 1 + 1 + 1 + 1 + 1 + 1)) fun P97 =>
  mm_gd (K96.1 th = 33) <|
  mm_lt (sR P97 4247 th (some (r37.2.2.1 + 1 + 1 + 1 + 1 + 1 + 1 + 1 + 1 + 1 + 1 + 1))) fun P100 =>
  mm_mo mm_waV (r37.2.2.1 + 1 + 1 + 1 + 1 + 1 + 1 + 1 + 1 + 1 + 1 + 1 + 1 + 1) (r37.2.2.2 + 3 + 16 + 6 + 6 + 6 + 8 + 6 + 6 + 8 + 8 + 8 + 10 + 4) <|
  mm_lt (mm_kn K96 (r37.2.2.1 + 1 + 1 + 1 + 1 + 1 + 1 + 1 + 1 + 1 + 1 + 1 + 1) 70 4) fun K101 =>
  mm_lt (mm_fresh P100 (r37.2.2.1 + 1 + 1 + 1 + 1 + 1 + 1 + 1 + 1 + 1 + 1 + 1 + 1)) fun P102 =>
  mm_gd (K101.1 th = 33) <|
  mm_lt (sR P102 4249 th (some (r37.2.2.1 + 1 + 1 + 1 + 1 + 1 + 1 + 1 + 1 + 1 + 1 + 1 + 1))) fun P105 =>
  mm_bd (gR P105 4228 th) fun b106 =>
  mm_bd (gR P105 4226 th) fun b108 =>
  mm_gd (K101.1 b106 = 4) <|
  mm_bd (fX4_begin K101 b106 b108 P105) fun r110 =>
  mm_gd (mm_pok K101 r110 th 1 = true) <|
  some (mm_packK K101 th 1, mm_packP r110 th 1, r37.2.2.1 + 1 + 1 + 1 + 1 + 1 + 1 + 1 + 1 + 1 + 1 + 1 + 1 + 1, r37.2.2.2 + 3 + 16 + 6 + 6 + 6 + 8 + 6 + 6 + 8 + 8 + 8 + 10 + 4)
set_option maxHeartbeats 4000000 in
theorem mc_X1_init {l : Launch} {K : mm_K} {P : mm_P} {th : Nat}  {nx sl : Nat} {r : mm_S} (hk : K.1 th = 33) (h : fX1_init th K P nx sl = some r) : mm_C l yX1_init (ws_ yX1_init cX1_init 1 none) 5 101 [.ref th] K P nx sl (mm_waV r) :=
  mm_start (ls := [some (.ref th)]) h (by decide) (Nat.le_of_ble_eq_true rfl) rfl (mm_mo_some h).2.1 (mm_mo_some h).2.2 rfl fun E hl9 _ _ hin C => by
  have hin := hin rfl
  have C : mm_Cx E RX1 cX1_init 1 none 5 101 := C
  unfold fX1_init
  refine r_mo ?_
  refine r_aload_n C dX1_init_0 rfl rfl ?_
  refine r_objinit C q180 q181 q182 (Nat.le_of_ble_eq_true rfl) (Nat.le_of_ble_eq_true rfl) (Nat.le_of_ble_eq_true rfl) dX1_init_1 ?_
  refine r_aload_n C dX1_init_4 rfl rfl ?_
  refine r_sipush (v := 1000) C dX1_init_5 rfl ?_
  refine mm_newa (ek := 1) C (by decide) q214 rfl (by decide) (N := 1000) (by decide) (by decide) dX1_init_8 ?_
  refine r_ltK fun K1 e3 => ?_
  refine r_ltP fun P2 => ?_
  refine r_gd fun hK4 => ?_
  refine r_putRF (code := 4224) (x := (some nx)) C hin ff_X1_21_33 hK4 rfl rfl rfl (mm_nrA _) (mm_ftA _) dX1_init_10 ?_
  refine r_ltP fun P5 => ?_
  refine r_aload_n C dX1_init_13 rfl rfl ?_
  refine r_new C nl_X1_25 dX1_init_14 ?_
  refine r_ltK fun K6 e8 => ?_
  refine r_ltP fun P7 => ?_
  refine r_dup C dX1_init_17 rfl ?_
  refine r_bd fun r9 h10 => ?_
  refine r_callINv (As := []) (st := [.ref (nx + 1), .ref th]) C (mc_X2_init (by rw [e8]; exact mm_kn_1) h10) cv_X1_27  rfl (Nat.le_of_ble_eq_true rfl) (Nat.le_of_ble_eq_true rfl) rfl (Nat.le_of_ble_eq_true rfl) dX1_init_18 ?_
  refine r_gd fun hK11 => ?_
  refine r_putRF (code := 4225) (x := (some (nx + 1))) C hin ff_X1_28_33 hK11 rfl rfl rfl (mm_nrO _) (mm_ftO _) dX1_init_21 ?_
  refine r_ltP fun P12 => ?_
  refine r_aload_n C dX1_init_24 rfl rfl ?_
  refine r_new C nl_X1_32 dX1_init_25 ?_
  refine r_ltK fun K13 e15 => ?_
  refine r_ltP fun P14 => ?_
  refine r_dup C dX1_init_28 rfl ?_
  refine r_bd fun r16 h17 => ?_
  refine r_acallINv (As := []) (st := [.ref (nx + 1 + 1), .ref th]) C (mc_X3_init (by rw [e15]; exact mm_kn_1) h17) cv_X1_34  rfl (Nat.le_of_ble_eq_true rfl) (Nat.le_of_ble_eq_true rfl) rfl (Nat.le_of_ble_eq_true rfl) dX1_init_29 ?_
  refine r_gd fun hK18 => ?_
  refine r_putR (code := 4226) (x := (some (nx + 1 + 1))) C fl_X1_35_33 hK18 rfl rfl rfl (mm_nrO _) (mm_ftO _) dX1_init_32 ?_
  refine r_ltP fun P19 => ?_
  refine r_aload_n C dX1_init_35 rfl rfl ?_
  refine r_new C nl_X1_39 dX1_init_36 ?_
  refine r_ltK fun K20 e22 => ?_
  refine r_ltP fun P21 => ?_
  refine r_dup C dX1_init_39 rfl ?_
  refine r_iconst (v := 0) C dX1_init_40 rfl ?_
  refine r_bd fun r23 h24 => ?_
  refine r_acallIv (As := [.int (0 : Int32)]) (st := [.ref r16.2.2.1, .ref th]) C (mc_J2_init (by rw [e22]; exact mm_kn_1) h24) cv_X1_41  rfl (Nat.le_of_ble_eq_true rfl) (Nat.le_of_ble_eq_true rfl) rfl (Nat.le_of_ble_eq_true rfl) dX1_init_41 ?_
  refine r_gd fun hK25 => ?_
  refine r_putR (code := 4227) (x := (some r16.2.2.1)) C fl_X1_44_33 hK25 rfl rfl rfl (mm_nrO _) (mm_ftO _) dX1_init_44 ?_
  refine r_ltP fun P26 => ?_
  refine r_aload_n C dX1_init_47 rfl rfl ?_
  refine r_new C nl_X1_48 dX1_init_48 ?_
  refine r_ltK fun K27 e29 => ?_
  refine r_ltP fun P28 => ?_
  refine r_dup C dX1_init_51 rfl ?_
  refine r_bd fun r30 h31 => ?_
  refine r_acallINv (As := []) (st := [.ref r23.2.2.1, .ref th]) C (mc_X4_init (by rw [e29]; exact mm_kn_1) h31) cv_X1_50  rfl (Nat.le_of_ble_eq_true rfl) (Nat.le_of_ble_eq_true rfl) rfl (Nat.le_of_ble_eq_true rfl) dX1_init_52 ?_
  refine r_gd fun hK32 => ?_
  refine r_putRF (code := 4228) (x := (some r23.2.2.1)) C hin ff_X1_51_33 hK32 rfl rfl rfl (mm_nrO _) (mm_ftO _) dX1_init_55 ?_
  refine r_ltP fun P33 => ?_
  refine r_aload_n C dX1_init_58 rfl rfl ?_
  refine r_new C nl_X1_48 dX1_init_59 ?_
  refine r_ltK fun K34 e36 => ?_
  refine r_ltP fun P35 => ?_
  refine r_dup C dX1_init_62 rfl ?_
  refine r_bd fun r37 h38 => ?_
  refine r_acallINv (As := []) (st := [.ref r30.2.2.1, .ref th]) C (mc_X4_init (by rw [e36]; exact mm_kn_1) h38) cv_X1_50  rfl (Nat.le_of_ble_eq_true rfl) (Nat.le_of_ble_eq_true rfl) rfl (Nat.le_of_ble_eq_true rfl) dX1_init_63 ?_
  refine r_gd fun hK39 => ?_
  refine r_putRF (code := 4229) (x := (some r30.2.2.1)) C hin ff_X1_55_33 hK39 rfl rfl rfl (mm_nrO _) (mm_ftO _) dX1_init_66 ?_
  refine r_ltP fun P40 => ?_
  refine r_aload_n C dX1_init_69 rfl rfl ?_
  refine r_iconst (v := 3) C dX1_init_70 rfl ?_
  refine mm_newa (ek := 0) C (by decide) q298 rfl (by decide) (N := 3) (by decide) (by decide) dX1_init_71 ?_
  refine r_ltK fun K41 e43 => ?_
  refine r_ltP fun P42 => ?_
  refine r_gd fun hK44 => ?_
  refine r_putRF (code := 4230) (x := (some r37.2.2.1)) C hin ff_X1_58_33 hK44 rfl rfl rfl (mm_nrA _) (mm_ftA _) dX1_init_73 ?_
  refine r_ltP fun P45 => ?_
  refine r_aload_n C dX1_init_76 rfl rfl ?_
  refine r_bipush (v := 16) C dX1_init_77 rfl ?_
  refine mm_anewa (ek := 5) C (by decide) q301 (by decide) (N := 16) (by decide) (by decide) dX1_init_79 ?_
  refine r_ltK fun K46 e48 => ?_
  refine r_ltP fun P47 => ?_
  refine r_gd fun hK49 => ?_
  refine r_putRF (code := 4232) (x := (some (r37.2.2.1 + 1))) C hin ff_X1_62_33 hK49 rfl rfl rfl (mm_nrA _) (mm_ftA _) dX1_init_82 ?_
  refine r_ltP fun P50 => ?_
  refine r_aload_n C dX1_init_85 rfl rfl ?_
  refine r_bipush (v := 6) C dX1_init_86 rfl ?_
  refine mm_newa (ek := 0) C (by decide) q298 rfl (by decide) (N := 6) (by decide) (by decide) dX1_init_88 ?_
  refine r_ltK fun K51 e53 => ?_
  refine r_ltP fun P52 => ?_
  refine r_gd fun hK54 => ?_
  refine r_putRF (code := 4234) (x := (some (r37.2.2.1 + 1 + 1))) C hin ff_X1_66_33 hK54 rfl rfl rfl (mm_nrA _) (mm_ftA _) dX1_init_90 ?_
  refine r_ltP fun P55 => ?_
  refine r_aload_n C dX1_init_93 rfl rfl ?_
  refine r_bipush (v := 6) C dX1_init_94 rfl ?_
  refine mm_newa (ek := 0) C (by decide) q298 rfl (by decide) (N := 6) (by decide) (by decide) dX1_init_96 ?_
  refine r_ltK fun K56 e58 => ?_
  refine r_ltP fun P57 => ?_
  refine r_gd fun hK59 => ?_
  refine r_putRF (code := 4235) (x := (some (r37.2.2.1 + 1 + 1 + 1))) C hin ff_X1_69_33 hK59 rfl rfl rfl (mm_nrA _) (mm_ftA _) dX1_init_98 ?_
  refine r_ltP fun P60 => ?_
  refine r_aload_n C dX1_init_101 rfl rfl ?_
  refine r_bipush (v := 6) C dX1_init_102 rfl ?_
  refine mm_newa (ek := 0) C (by decide) q298 rfl (by decide) (N := 6) (by decide) (by decide) dX1_init_104 ?_
  refine r_ltK fun K61 e63 => ?_
  refine r_ltP fun P62 => ?_
  refine r_gd fun hK64 => ?_
  refine r_putRF (code := 4236) (x := (some (r37.2.2.1 + 1 + 1 + 1 + 1))) C hin ff_X1_72_33 hK64 rfl rfl rfl (mm_nrA _) (mm_ftA _) dX1_init_106 ?_
  refine r_ltP fun P65 => ?_
  refine r_aload_n C dX1_init_109 rfl rfl ?_
  refine r_bipush (v := 8) C dX1_init_110 rfl ?_
  refine mm_anewa (ek := 5) C (by decide) q301 (by decide) (N := 8) (by decide) (by decide) dX1_init_112 ?_
  refine r_ltK fun K66 e68 => ?_
  refine r_ltP fun P67 => ?_
  refine r_gd fun hK69 => ?_
  refine r_putRF (code := 4238) (x := (some (r37.2.2.1 + 1 + 1 + 1 + 1 + 1))) C hin ff_X1_75_33 hK69 rfl rfl rfl (mm_nrA _) (mm_ftA _) dX1_init_115 ?_
  refine r_ltP fun P70 => ?_
  refine r_aload_n C dX1_init_118 rfl rfl ?_
  refine r_bipush (v := 6) C dX1_init_119 rfl ?_
  refine mm_newa (ek := 0) C (by decide) q298 rfl (by decide) (N := 6) (by decide) (by decide) dX1_init_121 ?_
  refine r_ltK fun K71 e73 => ?_
  refine r_ltP fun P72 => ?_
  refine r_gd fun hK74 => ?_
  refine r_putRF (code := 4239) (x := (some (r37.2.2.1 + 1 + 1 + 1 + 1 + 1 + 1))) C hin ff_X1_78_33 hK74 rfl rfl rfl (mm_nrA _) (mm_ftA _) dX1_init_123 ?_
  refine r_ltP fun P75 => ?_
  refine r_aload_n C dX1_init_126 rfl rfl ?_
  refine r_bipush (v := 6) C dX1_init_127 rfl ?_
  refine mm_newa (ek := 0) C (by decide) q298 rfl (by decide) (N := 6) (by decide) (by decide) dX1_init_129 ?_
  refine r_ltK fun K76 e78 => ?_
  refine r_ltP fun P77 => ?_
  refine r_gd fun hK79 => ?_
  refine r_putRF (code := 4240) (x := (some (r37.2.2.1 + 1 + 1 + 1 + 1 + 1 + 1 + 1))) C hin ff_X1_81_33 hK79 rfl rfl rfl (mm_nrA _) (mm_ftA _) dX1_init_131 ?_
  refine r_ltP fun P80 => ?_
  refine r_aload_n C dX1_init_134 rfl rfl ?_
  refine r_bipush (v := 8) C dX1_init_135 rfl ?_
  refine mm_newa (ek := 0) C (by decide) q298 rfl (by decide) (N := 8) (by decide) (by decide) dX1_init_137 ?_
  refine r_ltK fun K81 e83 => ?_
  refine r_ltP fun P82 => ?_
  refine r_gd fun hK84 => ?_
  refine r_putRF (code := 4243) (x := (some (r37.2.2.1 + 1 + 1 + 1 + 1 + 1 + 1 + 1 + 1))) C hin ff_X1_84_33 hK84 rfl rfl rfl (mm_nrA _) (mm_ftA _) dX1_init_139 ?_
  refine r_ltP fun P85 => ?_
  refine r_aload_n C dX1_init_142 rfl rfl ?_
  refine r_bipush (v := 8) C dX1_init_143 rfl ?_
  refine mm_newa (ek := 0) C (by decide) q298 rfl (by decide) (N := 8) (by decide) (by decide) dX1_init_145 ?_
  refine r_ltK fun K86 e88 => ?_
  refine r_ltP fun P87 => ?_
  refine r_gd fun hK89 => ?_
  refine r_putRF (code := 4244) (x := (some (r37.2.2.1 + 1 + 1 + 1 + 1 + 1 + 1 + 1 + 1 + 1))) C hin ff_X1_87_33 hK89 rfl rfl rfl (mm_nrA _) (mm_ftA _) dX1_init_147 ?_
  refine r_ltP fun P90 => ?_
  refine r_aload_n C dX1_init_150 rfl rfl ?_
  refine r_bipush (v := 8) C dX1_init_151 rfl ?_
  refine mm_newa (ek := 0) C (by decide) q298 rfl (by decide) (N := 8) (by decide) (by decide) dX1_init_153 ?_
  refine r_ltK fun K91 e93 => ?_
  refine r_ltP fun P92 => ?_
  refine r_gd fun hK94 => ?_
  refine r_putRF (code := 4245) (x := (some (r37.2.2.1 + 1 + 1 + 1 + 1 + 1 + 1 + 1 + 1 + 1 + 1))) C hin ff_X1_90_33 hK94 rfl rfl rfl (mm_nrA _) (mm_ftA _) dX1_init_155 ?_
  refine r_ltP fun P95 => ?_
  refine r_aload_n C dX1_init_158 rfl rfl ?_
  refine r_bipush (v := 10) C dX1_init_159 rfl ?_
  refine mm_newa (ek := 0) C (by decide) q298 rfl (by decide) (N := 10) (by decide) (by decide) dX1_init_161 ?_
  refine r_ltK fun K96 e98 => ?_
  refine r_ltP fun P97 => ?_
  refine r_gd fun hK99 => ?_
  refine r_putRF (code := 4247) (x := (some (r37.2.2.1 + 1 + 1 + 1 + 1 + 1 + 1 + 1 + 1 + 1 + 1 + 1))) C hin ff_X1_93_33 hK99 rfl rfl rfl (mm_nrA _) (mm_ftA _) dX1_init_163 ?_
  refine r_ltP fun P100 => ?_
  refine r_aload_n C dX1_init_166 rfl rfl ?_
  refine r_iconst (v := 4) C dX1_init_167 rfl ?_
  refine mm_anewa (ek := 6) C (by decide) q337 (by decide) (N := 4) (by decide) (by decide) dX1_init_168 ?_
  refine r_ltK fun K101 e103 => ?_
  refine r_ltP fun P102 => ?_
  refine r_gd fun hK104 => ?_
  refine r_putRF (code := 4249) (x := (some (r37.2.2.1 + 1 + 1 + 1 + 1 + 1 + 1 + 1 + 1 + 1 + 1 + 1 + 1))) C hin ff_X1_98_33 hK104 rfl rfl rfl (mm_nrA _) (mm_ftA _) dX1_init_171 ?_
  refine r_ltP fun P105 => ?_
  refine r_aload_n C dX1_init_174 rfl rfl ?_
  refine r_getRn (code := 4228) C fl_X1_51_33 hK104 rfl dX1_init_175 fun b106 h107 => ?_
  refine r_aload_n C dX1_init_178 rfl rfl ?_
  refine r_getRn (code := 4226) C fl_X1_35_33 hK104 rfl dX1_init_179 fun b108 h109 => ?_
  refine r_gd fun hK112 => ?_
  refine r_bd fun r110 h111 => ?_
  refine r_callVv (As := [.ref b108]) (st := []) C (mc_X4_begin hK112 h111) cv_X1_102 hK112 rfl (Nat.le_of_ble_eq_true rfl) (Nat.le_of_ble_eq_true rfl) rfl (Nat.le_of_ble_eq_true rfl) dX1_init_182 ?_
  refine r_pack rfl (by decide) rfl rfl ?_
  exact r_vret C dX1_init_185 rfl
