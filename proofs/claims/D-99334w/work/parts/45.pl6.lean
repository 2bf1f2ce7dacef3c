/-! printed by gen_pl.py: PegLaws.line, day -/
set_option maxRecDepth 100000
theorem fl_X1_28 : mm_FL RX1 28 1 1 mm_r (tyX1 1) true := ⟨RX1, TX1, 26, _, tyX1, rfl, in_X1, rfl, rfl, Nat.le_of_ble_eq_true rfl, Or.inl q344, tyX1_ok, nmX1, rfl, rfl⟩
theorem cv_X1_110 : mm_CV RX1 110 yX2_begin cX2_begin 3 none 2 2 := ⟨RX2, TX2, 8, _, lw_V q435 q436 q437 q134 q438, ⟨rfl, by decide +kernel, by decide +kernel, by decide +kernel⟩, rfl, rfl⟩
/-! X1 reads -/
def fX1_reads (K : mm_K) (th : Nat)  (P : mm_P) : Option mm_P :=
  mm_bd (gR P 129 th) fun b1 =>
  mm_gd (K.1 b1 = 2) <|
  mm_bd (fX2_begin K b1 th (gI P 135 th) P) fun r3 =>
  mm_lt (sI r3 135 th (0 : Int32)) fun P6 =>
  some P6
set_option maxHeartbeats 4000000 in
theorem mc_X1_reads {l : Launch} {K : mm_K} {P : mm_P} {th : Nat}  {nx sl : Nat} {r : mm_P} (hk : K.1 th = 1) (h : fX1_reads K th P = some r) : mm_C l yX1_reads (ws_ yX1_reads cX1_reads 1 none) 6 133 [.ref th] K P nx sl (mm_wwV K nx sl r) :=
  mm_start (ls := [some (.ref th)]) h (by decide) (Nat.le_of_ble_eq_true rfl) rfl (Nat.le_refl _) (Nat.le_refl _) rfl fun E hl9 _ _ _ C => by
  have C : mm_Cx E RX1 cX1_reads 1 none 6 133 := C
  unfold fX1_reads
  refine r_aload_n C dX1_reads_0 rfl rfl ?_
  refine r_getRn (code := 129) C fl_X1_28 hk rfl dX1_reads_1 fun b1 h2 => ?_
  refine r_aload_n C dX1_reads_4 rfl rfl ?_
  refine r_getA C fl_X1_21 hk dX1_reads_5 ?_
  refine r_aload_n C dX1_reads_8 rfl rfl ?_
  refine r_getI (code := 135) C fl_X1_106 hk rfl dX1_reads_9 ?_
  refine r_gd fun hK5 => ?_
  refine r_bd fun r3 h4 => ?_
  refine r_callVv (As := [.ref (th + 1), .int (gI P 135 th)]) (st := []) C (mc_X2_begin hK5 hk h4) cv_X1_110 hK5 rfl (Nat.le_of_ble_eq_true rfl) (Nat.le_of_ble_eq_true rfl) rfl (Nat.le_of_ble_eq_true rfl) dX1_reads_12 ?_
  refine r_aload_n C dX1_reads_15 rfl rfl ?_
  refine r_iconst (v := 0) C dX1_reads_16 rfl ?_
  refine r_putI (code := 135) C fl_X1_106 hk rfl rfl dX1_reads_17 ?_
  refine r_ltP fun P6 => ?_
  exact r_vret C dX1_reads_20 rfl
theorem fl_X1_122 : mm_FL RX1 122 6 6 mm_i .int true := ⟨RX6, TX6, 7, _, tyX6, rfl, in_X6, rfl, rfl, Nat.le_of_ble_eq_true rfl, Or.inr (Or.inl ⟨_, nw_in q630 rfl⟩), tyX6_ok, nmX6, rfl, rfl⟩
theorem cv_X1_113 : mm_CV RX1 113 yX1_reads cX1_reads 1 none 0 1 := ⟨RX1, TX1, 26, _, lw_V q431 q433 qs0 q133 q434, ⟨rfl, by decide +kernel, by decide +kernel, by decide +kernel⟩, rfl, rfl⟩
theorem cv_X1_116 : mm_CV RX1 116 yX2_line cX2_line 2 (some (.object "PegLaws$Rope")) 0 2 := ⟨RX2, TX2, 8, _, lw_V q540 q541 q542 q134 q543, ⟨rfl, by decide +kernel, by decide +kernel, by decide +kernel⟩, rfl, rfl⟩
/-! X1 line -/
def fX1_line_b59 (th : Nat)  : Nat → Int32 → mm_K → mm_P → Nat → Nat → Option (Int32 × mm_S)
  | 0, _, _, _, _, _ => none
  | n + 1, x1, K, P, nx, sl =>
  if (4 : Int32) ≤ x1 then
  (some ((0 : Int32), K, P, nx, sl))
  else
  (mm_gd (K.1 th = 1) <|
  mm_gd (mm_in x1 4) <|
  mm_lt (sB P 153 th x1.toNatClampNeg none) fun P4 =>
  fX1_line_b59 th n (x1 + (1 : Int32)) K P4 nx sl)
set_option maxHeartbeats 4000000 in
theorem wfX1_line_b59 {E : mm_E} (C : mm_Cx E RX1 cX1_line 2 (some .int) 56 1241) {th : Nat} (hT : mm_tab E (4, 15, 18, 120)) : ∀ (n : Nat), ∀ (x1 : Int32) (K : mm_K) (P : mm_P) (nx : Nat) (sl : Nat), mm_V E (mm_waI) 59 [some (.ref th), some (.int x1)] [] K P nx sl (fX1_line_b59 th n x1 K P nx sl) := by
  intro n
  induction n with
  | zero => intro x1 K P nx sl; exact r_none
  | succ n ih =>
    intro x1 K P nx sl
    rw [fX1_line_b59]
    refine r_iload_n C dX1_line_59 rfl rfl ?_
    refine r_iconst (v := 4) C dX1_line_60 rfl ?_
    refine r_icmpge (tgt := 77) C dX1_line_61 (by decide) (fun h1 => ?_) (fun h1 => ?_)
    · refine r_iconst (v := 0) C dX1_line_77 rfl ?_
      exact r_iret C dX1_line_78 rfl
    · refine r_aload_n C dX1_line_64 rfl rfl ?_
      refine r_gd fun hK2 => ?_
      refine r_getA C fl_X1_98 hK2 dX1_line_65 ?_
      refine r_iload_n C dX1_line_68 rfl rfl ?_
      refine r_null C dX1_line_69 ?_
      refine r_aastN C (by decide) (rg_153 hK2) (mm_ro_of (k := 1) hK2 rfl) rfl dX1_line_70 fun h3 => ?_
      refine r_ltP fun P4 => ?_
      refine r_iinc (v := 1) (ls' := [some (.ref th), some (.int (x1 + (1 : Int32)))]) C dX1_line_71 rfl rfl (Nat.le_of_ble_eq_true rfl) rfl rfl ?_
      refine r_goto (tgt := 59) C dX1_line_74 (by decide) ?_
      exact ih (x1 + (1 : Int32)) K P4 nx sl
def fX1_line (th : Nat)  (K : mm_K) (P : mm_P) (nx : Nat) (sl : Nat) : Option (Int32 × mm_S) :=
  mm_mo mm_waI nx sl <|
  mm_bd (fX1_reads K th P) fun r1 =>
  mm_bd (gR r1 129 th) fun b3 =>
  mm_gd (K.1 b3 = 2) <|
  mm_bc (fX2_line b3 K r1 nx sl) (fun t8 =>
  mm_gd (t8.2.1.1 t8.1 = 6) <|
  mm_mo mm_waI t8.2.2.2.1 t8.2.2.2.2 <|
  some (gI t8.2.2.1 774 t8.1, t8.2.1, t8.2.2.1, t8.2.2.2.1, t8.2.2.2.2)) fun r5 =>
  mm_mo mm_waI r5.2.2.2.1 r5.2.2.2.2 <|
  mm_gd (r5.2.1.1 th = 1) <|
  mm_lt (sR r5.2.2.1 130 th (some r5.1)) fun P12 =>
  mm_bd (gR P12 132 th) fun b13 =>
  mm_bd (gR P12 130 th) fun b15 =>
  mm_gd (r5.2.1.1 b13 = 4) <|
  mm_bd (fX4_begin r5.2.1 b13 b15 P12) fun r17 =>
  mm_mo mm_waI (r5.2.2.2.1 + 1) (r5.2.2.2.2 + 3) <|
  mm_lt (mm_kn r5.2.1 r5.2.2.2.1 21 0) fun K20 =>
  mm_lt (mm_fresh r17 r5.2.2.2.1) fun P21 =>
  mm_bd (fJ2_init r5.2.2.2.1 (0 : Int32) K20 P21 (r5.2.2.2.1 + 1) (r5.2.2.2.2 + 3)) fun r23 =>
  mm_mo mm_waI r23.2.2.1 r23.2.2.2 <|
  mm_gd (r23.1.1 th = 1) <|
  mm_lt (sR r23.2.1 131 th (some r5.2.2.2.1)) fun P26 =>
  mm_lt (sI P26 150 th (0 : Int32)) fun P27 =>
  mm_lt (sI P27 137 th (0 : Int32)) fun P28 =>
  fX1_line_b59 th mm_NF (0 : Int32) r23.1 P28 r23.2.2.1 r23.2.2.2
set_option maxHeartbeats 4000000 in
theorem mc_X1_line {l : Launch} {K : mm_K} {P : mm_P} {th : Nat}  {nx sl : Nat} {r : (Int32 × mm_S)} (hk : K.1 th = 1) (h : fX1_line th K P nx sl = some r) : mm_C l yX1_line (wsW_ yX1_line cX1_line 2 (some .int) [(4, 15, 18, 120)]) 56 1241 [.ref th] K P nx sl (mm_waI r) :=
  mm_startW (ls := [some (.ref th), none]) h (by decide) (Nat.le_of_ble_eq_true rfl) rfl (mm_mo_some h).2.1 (mm_mo_some h).2.2 rfl fun E hl9 _ _ hT C => by
  have C : mm_Cx E RX1 cX1_line 2 (some .int) 56 1241 := C
  unfold fX1_line
  refine r_mo ?_
  refine r_aload_n C dX1_line_0 rfl rfl ?_
  refine r_bd fun r1 h2 => ?_
  refine r_callVv (As := []) (st := []) C (mc_X1_reads hk h2) cv_X1_113 hk rfl (Nat.le_of_ble_eq_true rfl) (Nat.le_of_ble_eq_true rfl) rfl (Nat.le_of_ble_eq_true rfl) dX1_line_1 ?_
  refine r_aload_n C dX1_line_4 rfl rfl ?_
  refine r_aload_n C dX1_line_5 rfl rfl ?_
  refine r_getRn (code := 129) C fl_X1_28 hk rfl dX1_line_6 fun b3 h4 => ?_
  refine r_gd fun hK7 => ?_
  refine r_bc (fun r5 h6 => ?_) (fun t8 h9 => ?_)
  · refine r_acallV (As := []) (st := [.ref th]) C (mm_CX_n (mc_X2_line hK7 h6) rfl) cv_X1_116 hK7 rfl (Nat.le_of_ble_eq_true rfl) (Nat.le_of_ble_eq_true rfl) rfl (Nat.le_of_ble_eq_true rfl) dX1_line_9 ?_
    refine r_gd fun hK11 => ?_
    refine r_putR (code := 130) (x := (some r5.1)) C fl_X1_35 hK11 rfl rfl rfl (mm_nrO _) (mm_ftO _) dX1_line_12 ?_
    refine r_ltP fun P12 => ?_
    refine r_goto (tgt := 24) C dX1_line_15 (by decide) ?_
    refine r_aload_n C dX1_line_24 rfl rfl ?_
    refine r_getRn (code := 132) C fl_X1_51 hK11 rfl dX1_line_25 fun b13 h14 => ?_
    refine r_aload_n C dX1_line_28 rfl rfl ?_
    refine r_getRn (code := 130) C fl_X1_35 hK11 rfl dX1_line_29 fun b15 h16 => ?_
    refine r_gd fun hK19 => ?_
    refine r_bd fun r17 h18 => ?_
    refine r_callVv (As := [.ref b15]) (st := []) C (mc_X4_begin hK19 h18) cv_X1_102 hK19 rfl (Nat.le_of_ble_eq_true rfl) (Nat.le_of_ble_eq_true rfl) rfl (Nat.le_of_ble_eq_true rfl) dX1_line_32 ?_
    refine r_aload_n C dX1_line_35 rfl rfl ?_
    refine r_new C nl_X1_39 dX1_line_36 ?_
    refine r_ltK fun K20 e22 => ?_
    refine r_ltP fun P21 => ?_
    refine r_dup C dX1_line_39 rfl ?_
    refine r_iconst (v := 0) C dX1_line_40 rfl ?_
    refine r_bd fun r23 h24 => ?_
    refine r_acallIv (As := [.int (0 : Int32)]) (st := [.ref r5.2.2.2.1, .ref th]) C (mc_J2_init (by rw [e22]; exact mm_kn_1) h24) cv_X1_41  rfl (Nat.le_of_ble_eq_true rfl) (Nat.le_of_ble_eq_true rfl) rfl (Nat.le_of_ble_eq_true rfl) dX1_line_41 ?_
    refine r_gd fun hK25 => ?_
    refine r_putR (code := 131) (x := (some r5.2.2.2.1)) C fl_X1_44 hK25 rfl rfl rfl (mm_nrO _) (mm_ftO _) dX1_line_44 ?_
    refine r_ltP fun P26 => ?_
    refine r_aload_n C dX1_line_47 rfl rfl ?_
    refine r_iconst (v := 0) C dX1_line_48 rfl ?_
    refine r_putI (code := 150) C fl_X1_125 hK25 rfl rfl dX1_line_49 ?_
    refine r_ltP fun P27 => ?_
    refine r_aload_n C dX1_line_52 rfl rfl ?_
    refine r_iconst (v := 0) C dX1_line_53 rfl ?_
    refine r_putI (code := 137) C fl_X1_128 hK25 rfl rfl dX1_line_54 ?_
    refine r_ltP fun P28 => ?_
    refine r_iconst (v := 0) C dX1_line_57 rfl ?_
    refine r_istore_n (ls' := [some (.ref th), some (.int (0 : Int32))]) C dX1_line_58 rfl (Nat.le_of_ble_eq_true rfl) rfl rfl ?_
    exact wfX1_line_b59 C hT mm_NF (0 : Int32) r23.1 P28 r23.2.2.1 r23.2.2.2
  · refine r_gd fun hK10 => ?_
    refine r_catW (As := []) (st := [.ref th]) C hT ⟨by decide, by decide⟩ (by decide) (hp := 18) rfl q430 (Or.inl rfl) (kq := 6) rfl rfl (mm_CX_t (mc_X2_line hK7 h9) rfl) hK10 cv_X1_116 hK7 rfl (Nat.le_of_ble_eq_true rfl) (Nat.le_of_ble_eq_true rfl) rfl (Nat.le_of_ble_eq_true rfl) dX1_line_9 ?_
    refine r_astore_n (ls' := [some (.ref th), some (.ref t8.1)]) C dX1_line_18 rfl (Nat.le_of_ble_eq_true rfl) rfl rfl ?_
    refine r_aload_n C dX1_line_19 rfl rfl ?_
    refine r_getI (code := 774) C fl_X1_122 hK10 rfl dX1_line_20 ?_
    exact r_iret C dX1_line_23 rfl
theorem cv_X1_131 : mm_CV RX1 131 yX2_day cX2_day 4 (some (.object "java/util/ArrayList")) 1 2 := ⟨RX2, TX2, 8, _, lw_V q1087 q1088 q1089 q134 q1090, ⟨rfl, by decide +kernel, by decide +kernel, by decide +kernel⟩, rfl, rfl⟩
/-! X1 day -/
def fX1_day (th : Nat)  (K : mm_K) (P : mm_P) (nx : Nat) (sl : Nat) : Option (Int32 × mm_S) :=
  mm_mo mm_waI nx sl <|
  mm_bd (fX1_reads K th P) fun r1 =>
  mm_bd (gR r1 129 th) fun b3 =>
  mm_bd (gR r1 130 th) fun b5 =>
  mm_gd (K.1 b3 = 2) <|
  mm_bc (fX2_day b3 b5 K r1 nx sl) (fun t10 =>
  mm_gd (t10.2.1.1 t10.1 = 6) <|
  mm_mo mm_waI t10.2.2.2.1 t10.2.2.2.2 <|
  some (gI t10.2.2.1 774 t10.1, t10.2.1, t10.2.2.1, t10.2.2.2.1, t10.2.2.2.2)) fun r7 =>
  mm_mo mm_waI r7.2.2.2.1 r7.2.2.2.2 <|
  mm_gd (r7.2.1.1 th = 1) <|
  mm_lt (sR r7.2.2.1 131 th (some r7.1)) fun P14 =>
  some ((0 : Int32), r7.2.1, P14, r7.2.2.2.1, r7.2.2.2.2)
set_option maxHeartbeats 4000000 in
theorem mc_X1_day {l : Launch} {K : mm_K} {P : mm_P} {th : Nat}  {nx sl : Nat} {r : (Int32 × mm_S)} (hk : K.1 th = 1) (h : fX1_day th K P nx sl = some r) : mm_C l yX1_day (wsW_ yX1_day cX1_day 2 (some .int) [(4, 19, 22, 120)]) 10 241 [.ref th] K P nx sl (mm_waI r) :=
  mm_startW (ls := [some (.ref th), none]) h (by decide) (Nat.le_of_ble_eq_true rfl) rfl (mm_mo_some h).2.1 (mm_mo_some h).2.2 rfl fun E hl9 _ _ hT C => by
  have C : mm_Cx E RX1 cX1_day 2 (some .int) 10 241 := C
  unfold fX1_day
  refine r_mo ?_
  refine r_aload_n C dX1_day_0 rfl rfl ?_
  refine r_bd fun r1 h2 => ?_
  refine r_callVv (As := []) (st := []) C (mc_X1_reads hk h2) cv_X1_113 hk rfl (Nat.le_of_ble_eq_true rfl) (Nat.le_of_ble_eq_true rfl) rfl (Nat.le_of_ble_eq_true rfl) dX1_day_1 ?_
  refine r_aload_n C dX1_day_4 rfl rfl ?_
  refine r_aload_n C dX1_day_5 rfl rfl ?_
  refine r_getRn (code := 129) C fl_X1_28 hk rfl dX1_day_6 fun b3 h4 => ?_
  refine r_aload_n C dX1_day_9 rfl rfl ?_
  refine r_getRn (code := 130) C fl_X1_35 hk rfl dX1_day_10 fun b5 h6 => ?_
  refine r_gd fun hK9 => ?_
  refine r_bc (fun r7 h8 => ?_) (fun t10 h11 => ?_)
  · refine r_acallV (As := [.ref b5]) (st := [.ref th]) C (mm_CX_n (mc_X2_day hK9 h8) rfl) cv_X1_131 hK9 rfl (Nat.le_of_ble_eq_true rfl) (Nat.le_of_ble_eq_true rfl) rfl (Nat.le_of_ble_eq_true rfl) dX1_day_13 ?_
    refine r_gd fun hK13 => ?_
    refine r_putR (code := 131) (x := (some r7.1)) C fl_X1_44 hK13 rfl rfl rfl (mm_nrO _) (mm_ftO _) dX1_day_16 ?_
    refine r_ltP fun P14 => ?_
    refine r_goto (tgt := 28) C dX1_day_19 (by decide) ?_
    refine r_iconst (v := 0) C dX1_day_28 rfl ?_
    exact r_iret C dX1_day_29 rfl
  · refine r_gd fun hK12 => ?_
    refine r_catW (As := [.ref b5]) (st := [.ref th]) C hT ⟨by decide, by decide⟩ (by decide) (hp := 22) rfl q430 (Or.inl rfl) (kq := 6) rfl rfl (mm_CX_t (mc_X2_day hK9 h11) rfl) hK12 cv_X1_131 hK9 rfl (Nat.le_of_ble_eq_true rfl) (Nat.le_of_ble_eq_true rfl) rfl (Nat.le_of_ble_eq_true rfl) dX1_day_13 ?_
    refine r_astore_n (ls' := [some (.ref th), some (.ref t10.1)]) C dX1_day_22 rfl (Nat.le_of_ble_eq_true rfl) rfl rfl ?_
    refine r_aload_n C dX1_day_23 rfl rfl ?_
    refine r_getI (code := 774) C fl_X1_122 hK12 rfl dX1_day_24 ?_
    exact r_iret C dX1_day_27 rfl
