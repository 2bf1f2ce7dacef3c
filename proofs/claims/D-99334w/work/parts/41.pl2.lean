/-! printed by gen_pl.py: PegLaws -/
set_option maxRecDepth 100000
theorem rg_128 {K : mm_K} {a : Nat} (h : K.1 a = 1) : mm_reg K 128 a 1 1 1000 := Or.inl ⟨1, 0, rfl, h, by decide, rfl⟩
theorem fl_X1_106 : mm_FL RX1 106 1 7 mm_i .int false := ⟨RX1, TX1, 26, _, tyX1, rfl, in_X1, rfl, rfl, Nat.le_of_ble_eq_true rfl, Or.inl q350, tyX1_ok, nmX1, rfl, rfl⟩
theorem fl_X1_21 : mm_FL RX1 21 1 0 (mm_a 1 1 1000) (tyX1 0) true := ⟨RX1, TX1, 26, _, tyX1, rfl, in_X1, rfl, rfl, Nat.le_of_ble_eq_true rfl, Or.inl q343, tyX1_ok, nmX1, rfl, rfl⟩
/-! X1 feed -/
def fX1_feed_b74 (th : Nat) (k3 : Int64 → Int64 → Int64 → Int32 → mm_P → Option (Int32 × mm_P)) (x1 : Int64) (x3 : Int64) (x5 : Int64) (x7 : Int32) (x8 : Int32) (P : mm_P) : Option (Int32 × mm_P) :=
  if (1000 : Int32) ≤ (gI P 135 th) then
  (k3 x1 x3 x5 (x7 + (1 : Int32)) P)
  else
  (mm_lt (gI P 135 th) fun v2 =>
  mm_lt (sI P 135 th (v2 + (1 : Int32))) fun P3 =>
  mm_gd (mm_in v2 1000) <|
  mm_lt (sA P3 128 th v2.toNatClampNeg x8.toInt8.toInt32.toInt8.toInt32) fun P5 =>
  k3 x1 x3 x5 (x7 + (1 : Int32)) P5)
set_option maxHeartbeats 4000000 in
theorem wfX1_feed_b74 {E : mm_E} (C : mm_Cx E RX1 cX1_feed 9 (some .int) 0 0) {K : mm_K} {th : Nat} (hk : K.1 th = 1) {nx sl : Nat} {k3 : Int64 → Int64 → Int64 → Int32 → mm_P → Option (Int32 × mm_P)} (hk3 : ∀ (x1 : Int64) (x3 : Int64) (x5 : Int64) (x7 : Int32) (P : mm_P), mm_V E (mm_wwI K nx sl) 3 [some (.ref th), some (.long x1), none, some (.long x3), none, some (.long x5), none, some (.int x7), none] [] K P nx sl (k3 x1 x3 x5 x7 P)) (x1 : Int64) (x3 : Int64) (x5 : Int64) (x7 : Int32) (x8 : Int32) (P : mm_P) : mm_V E (mm_wwI K nx sl) 74 [some (.ref th), some (.long x1), none, some (.long x3), none, some (.long x5), none, some (.int x7), some (.int x8)] [] K P nx sl (fX1_feed_b74 th k3 x1 x3 x5 x7 x8 P) := by
  unfold fX1_feed_b74
  refine r_aload_n C dX1_feed_74 rfl rfl ?_
  refine r_getI (code := 135) C fl_X1_106 hk rfl dX1_feed_75 ?_
  refine r_sipush (v := 1000) C dX1_feed_78 rfl ?_
  refine r_icmpge (tgt := 103) C dX1_feed_81 (by decide) (fun h1 => ?_) (fun h1 => ?_)
  · refine r_iinc (v := 1) (ls' := [some (.ref th), some (.long x1), none, some (.long x3), none, some (.long x5), none, some (.int (x7 + (1 : Int32))), some (.int x8)]) C dX1_feed_103 rfl rfl (Nat.le_of_ble_eq_true rfl) rfl rfl ?_
    refine r_goto (tgt := 3) C dX1_feed_106 (by decide) ?_
    refine r_mask [true, true, true, true, true, true, true, true, false] (ls' := [some (.ref th), some (.long x1), none, some (.long x3), none, some (.long x5), none, some (.int (x7 + (1 : Int32))), none]) rfl ?_
    exact hk3 x1 x3 x5 (x7 + (1 : Int32)) P
  · refine r_aload_n C dX1_feed_84 rfl rfl ?_
    refine r_getA C fl_X1_21 hk dX1_feed_85 ?_
    refine r_aload_n C dX1_feed_88 rfl rfl ?_
    refine r_dup C dX1_feed_89 rfl ?_
    refine r_getI (code := 135) C fl_X1_106 hk rfl dX1_feed_90 ?_
    refine r_ltI fun v2 => ?_
    refine r_dup_x1 C dX1_feed_93 rfl rfl ?_
    refine r_iconst (v := 1) C dX1_feed_94 rfl ?_
    refine r_iadd C dX1_feed_95 ?_
    refine r_putI (code := 135) C fl_X1_106 hk rfl rfl dX1_feed_96 ?_
    refine r_ltP fun P3 => ?_
    refine r_iload C dX1_feed_99 rfl ?_
    refine r_i2b C dX1_feed_101 ?_
    refine r_bast C (rg_128 hk) (mm_ro_of (k := 1) hk rfl) rfl dX1_feed_102 fun h4 => ?_
    refine r_ltP fun P5 => ?_
    refine r_iinc (v := 1) (ls' := [some (.ref th), some (.long x1), none, some (.long x3), none, some (.long x5), none, some (.int (x7 + (1 : Int32))), some (.int x8)]) C dX1_feed_103 rfl rfl (Nat.le_of_ble_eq_true rfl) rfl rfl ?_
    refine r_goto (tgt := 3) C dX1_feed_106 (by decide) ?_
    refine r_mask [true, true, true, true, true, true, true, true, false] (ls' := [some (.ref th), some (.long x1), none, some (.long x3), none, some (.long x5), none, some (.int (x7 + (1 : Int32))), none]) rfl ?_
    exact hk3 x1 x3 x5 (x7 + (1 : Int32)) P5
def fX1_feed_b34 (th : Nat) (k3 : Int64 → Int64 → Int64 → Int32 → mm_P → Option (Int32 × mm_P)) (x1 : Int64) (x3 : Int64) (x5 : Int64) (x7 : Int32) (s0 : Int64) (P : mm_P) : Option (Int32 × mm_P) :=
  mm_lt (((mm_shrL s0 ((56 : Int32) - ((8 : Int32) * (mm_rem x7 (8 : Int32))))).toInt32) &&& (255 : Int32)) fun v1 =>
  if v1 = (10 : Int32) then
  (fX1_feed_b74 th k3 x1 x3 x5 x7 v1 P)
  else
  (if v1 < (32 : Int32) then
  (k3 x1 x3 x5 (x7 + (1 : Int32)) P)
  else
  (if (126 : Int32) < v1 then
  (k3 x1 x3 x5 (x7 + (1 : Int32)) P)
  else
  (fX1_feed_b74 th k3 x1 x3 x5 x7 v1 P)))
set_option maxHeartbeats 4000000 in
theorem wfX1_feed_b34 {E : mm_E} (C : mm_Cx E RX1 cX1_feed 9 (some .int) 0 0) {K : mm_K} {th : Nat} (hk : K.1 th = 1) {nx sl : Nat} {k3 : Int64 → Int64 → Int64 → Int32 → mm_P → Option (Int32 × mm_P)} (hk3 : ∀ (x1 : Int64) (x3 : Int64) (x5 : Int64) (x7 : Int32) (P : mm_P), mm_V E (mm_wwI K nx sl) 3 [some (.ref th), some (.long x1), none, some (.long x3), none, some (.long x5), none, some (.int x7), none] [] K P nx sl (k3 x1 x3 x5 x7 P)) (x1 : Int64) (x3 : Int64) (x5 : Int64) (x7 : Int32) (s0 : Int64) (P : mm_P) : mm_V E (mm_wwI K nx sl) 34 [some (.ref th), some (.long x1), none, some (.long x3), none, some (.long x5), none, some (.int x7), none] [.long s0] K P nx sl (fX1_feed_b34 th k3 x1 x3 x5 x7 s0 P) := by
  unfold fX1_feed_b34
  refine r_bipush (v := 56) C dX1_feed_34 rfl ?_
  refine r_bipush (v := 8) C dX1_feed_36 rfl ?_
  refine r_iload C dX1_feed_38 rfl ?_
  refine r_bipush (v := 8) C dX1_feed_40 rfl ?_
  refine r_irem C dX1_feed_42 (by decide) ?_
  refine r_imul C dX1_feed_43 ?_
  refine r_isub C dX1_feed_44 ?_
  refine r_lshr C dX1_feed_45 ?_
  refine r_l2i C dX1_feed_46 ?_
  refine r_sipush (v := 255) C dX1_feed_47 rfl ?_
  refine r_iand C dX1_feed_50 ?_
  refine r_ltI fun v1 => ?_
  refine r_istore (ls' := [some (.ref th), some (.long x1), none, some (.long x3), none, some (.long x5), none, some (.int x7), some (.int v1)]) C dX1_feed_51 (Nat.le_of_ble_eq_true rfl) rfl rfl ?_
  refine r_iload C dX1_feed_53 rfl ?_
  refine r_bipush (v := 10) C dX1_feed_55 rfl ?_
  refine r_icmpeq (tgt := 74) C dX1_feed_57 (by decide) (fun h2 => ?_) (fun h2 => ?_)
  · exact wfX1_feed_b74 C hk hk3 x1 x3 x5 x7 v1 P
  · refine r_iload C dX1_feed_60 rfl ?_
    refine r_bipush (v := 32) C dX1_feed_62 rfl ?_
    refine r_icmplt (tgt := 103) C dX1_feed_64 (by decide) (fun h3 => ?_) (fun h3 => ?_)
    · refine r_iinc (v := 1) (ls' := [some (.ref th), some (.long x1), none, some (.long x3), none, some (.long x5), none, some (.int (x7 + (1 : Int32))), some (.int v1)]) C dX1_feed_103 rfl rfl (Nat.le_of_ble_eq_true rfl) rfl rfl ?_
      refine r_goto (tgt := 3) C dX1_feed_106 (by decide) ?_
      refine r_mask [true, true, true, true, true, true, true, true, false] (ls' := [some (.ref th), some (.long x1), none, some (.long x3), none, some (.long x5), none, some (.int (x7 + (1 : Int32))), none]) rfl ?_
      exact hk3 x1 x3 x5 (x7 + (1 : Int32)) P
    · refine r_iload C dX1_feed_67 rfl ?_
      refine r_bipush (v := 126) C dX1_feed_69 rfl ?_
      refine r_icmpgt (tgt := 103) C dX1_feed_71 (by decide) (fun h4 => ?_) (fun h4 => ?_)
      · refine r_iinc (v := 1) (ls' := [some (.ref th), some (.long x1), none, some (.long x3), none, some (.long x5), none, some (.int (x7 + (1 : Int32))), some (.int v1)]) C dX1_feed_103 rfl rfl (Nat.le_of_ble_eq_true rfl) rfl rfl ?_
        refine r_goto (tgt := 3) C dX1_feed_106 (by decide) ?_
        refine r_mask [true, true, true, true, true, true, true, true, false] (ls' := [some (.ref th), some (.long x1), none, some (.long x3), none, some (.long x5), none, some (.int (x7 + (1 : Int32))), none]) rfl ?_
        exact hk3 x1 x3 x5 (x7 + (1 : Int32)) P
      · exact wfX1_feed_b74 C hk hk3 x1 x3 x5 x7 v1 P
def fX1_feed_b3 (th : Nat)  : Nat → Int64 → Int64 → Int64 → Int32 → mm_P → Option (Int32 × mm_P)
  | 0, _, _, _, _, _ => none
  | n + 1, x1, x3, x5, x7, P =>
  if (24 : Int32) ≤ x7 then
  (some (gI P 135 th, P))
  else
  (if (8 : Int32) ≤ x7 then
  (if (16 : Int32) ≤ x7 then
  (fX1_feed_b34 th (fX1_feed_b3 th n) x1 x3 x5 x7 x5 P)
  else
  (fX1_feed_b34 th (fX1_feed_b3 th n) x1 x3 x5 x7 x3 P))
  else
  (fX1_feed_b34 th (fX1_feed_b3 th n) x1 x3 x5 x7 x1 P))
set_option maxHeartbeats 4000000 in
theorem wfX1_feed_b3 {E : mm_E} (C : mm_Cx E RX1 cX1_feed 9 (some .int) 0 0) {K : mm_K} {th : Nat} (hk : K.1 th = 1) {nx sl : Nat} : ∀ (n : Nat), ∀ (x1 : Int64) (x3 : Int64) (x5 : Int64) (x7 : Int32) (P : mm_P), mm_V E (mm_wwI K nx sl) 3 [some (.ref th), some (.long x1), none, some (.long x3), none, some (.long x5), none, some (.int x7), none] [] K P nx sl (fX1_feed_b3 th n x1 x3 x5 x7 P) := by
  intro n
  induction n with
  | zero => intro x1 x3 x5 x7 P; exact r_none
  | succ n ih =>
    intro x1 x3 x5 x7 P
    rw [fX1_feed_b3]
    refine r_iload C dX1_feed_3 rfl ?_
    refine r_bipush (v := 24) C dX1_feed_5 rfl ?_
    refine r_icmpge (tgt := 109) C dX1_feed_7 (by decide) (fun h1 => ?_) (fun h1 => ?_)
    · refine r_aload_n C dX1_feed_109 rfl rfl ?_
      refine r_getI (code := 135) C fl_X1_106 hk rfl dX1_feed_110 ?_
      exact r_iret C dX1_feed_113 rfl
    · refine r_iload C dX1_feed_10 rfl ?_
      refine r_bipush (v := 8) C dX1_feed_12 rfl ?_
      refine r_icmpge (tgt := 21) C dX1_feed_14 (by decide) (fun h2 => ?_) (fun h2 => ?_)
      · refine r_iload C dX1_feed_21 rfl ?_
        refine r_bipush (v := 16) C dX1_feed_23 rfl ?_
        refine r_icmpge (tgt := 32) C dX1_feed_25 (by decide) (fun h3 => ?_) (fun h3 => ?_)
        · refine r_lload C dX1_feed_32 rfl ?_
          exact wfX1_feed_b34 C hk ih x1 x3 x5 x7 x5 P
        · refine r_lload_n C dX1_feed_28 rfl rfl ?_
          refine r_goto (tgt := 34) C dX1_feed_29 (by decide) ?_
          exact wfX1_feed_b34 C hk ih x1 x3 x5 x7 x3 P
      · refine r_lload_n C dX1_feed_17 rfl rfl ?_
        refine r_goto (tgt := 34) C dX1_feed_18 (by decide) ?_
        exact wfX1_feed_b34 C hk ih x1 x3 x5 x7 x1 P
def fX1_feed (th : Nat) (x1 : Int64) (x3 : Int64) (x5 : Int64) (P : mm_P) : Option (Int32 × mm_P) :=
  fX1_feed_b3 th mm_NF x1 x3 x5 (0 : Int32) P
set_option maxHeartbeats 4000000 in
theorem mc_X1_feed {l : Launch} {K : mm_K} {P : mm_P} {th : Nat} {x1 : Int64} {x3 : Int64} {x5 : Int64} {nx sl : Nat} {r : (Int32 × mm_P)} (hk : K.1 th = 1) (h : fX1_feed th x1 x3 x5 P = some r) : mm_C l yX1_feed (ws_ yX1_feed cX1_feed 9 (some .int)) 0 0 [.ref th, .long x1, .long x3, .long x5] K P nx sl (mm_wwI K nx sl r) :=
  mm_start (ls := [some (.ref th), some (.long x1), none, some (.long x3), none, some (.long x5), none, none, none]) h (by decide) (Nat.le_of_ble_eq_true rfl) rfl (Nat.le_refl _) (Nat.le_refl _) rfl fun E hl9 _ _ _ C => by
  have C : mm_Cx E RX1 cX1_feed 9 (some .int) 0 0 := C
  unfold fX1_feed
  refine r_iconst (v := 0) C dX1_feed_0 rfl ?_
  refine r_istore (ls' := [some (.ref th), some (.long x1), none, some (.long x3), none, some (.long x5), none, some (.int (0 : Int32)), none]) C dX1_feed_1 (Nat.le_of_ble_eq_true rfl) rfl rfl ?_
  exact wfX1_feed_b3 C hk mm_NF x1 x3 x5 (0 : Int32) P
theorem fl_X1_135 : mm_FL RX1 135 3 0 mm_r (tyX3 0) true := ⟨RX3, TX3, 11, _, tyX3, rfl, in_X3, rfl, rfl, Nat.le_of_ble_eq_true rfl, Or.inr (Or.inl ⟨_, nw_in q250 rfl⟩), tyX3_ok, nmX3, rfl, rfl⟩
theorem fl_X1_35 : mm_FL RX1 35 1 2 mm_r (tyX1 2) false := ⟨RX1, TX1, 26, _, tyX1, rfl, in_X1, rfl, rfl, Nat.le_of_ble_eq_true rfl, Or.inl q345, tyX1_ok, nmX1, rfl, rfl⟩
theorem cv_X1_138 : mm_CV RX1 138 yJ2_size cJ2_size 1 (some .int) 0 21 := ⟨RJ2, TJ2, 3, _, lw_V q1169 q651 q652 q138 q653, ⟨rfl, by decide +kernel, by decide +kernel, by decide +kernel⟩, rfl, rfl⟩
/-! X1 cloths -/
def fX1_cloths (K : mm_K) (th : Nat) (P : mm_P)  : Option Int32 :=
  mm_bd (gR P 130 th) fun b1 =>
  mm_gd (K.1 b1 = 3) <|
  mm_bd (gR P 384 b1) fun b4 =>
  mm_gd (K.1 b4 = 21) <|
  mm_bd (fJ2_size b4 P) fun r6 =>
  some (r6)
set_option maxHeartbeats 4000000 in
theorem mc_X1_cloths {l : Launch} {K : mm_K} {P : mm_P} {th : Nat}  {nx sl : Nat} {r : Int32} (hk : K.1 th = 1) (h : fX1_cloths K th P = some r) : mm_C l yX1_cloths (ws_ yX1_cloths cX1_cloths 1 (some .int)) 1 20 [.ref th] K P nx sl (mm_wrI K P nx sl r) :=
  mm_start (ls := [some (.ref th)]) h (by decide) (Nat.le_of_ble_eq_true rfl) rfl (Nat.le_refl _) (Nat.le_refl _) rfl fun E hl9 _ _ _ C => by
  have C : mm_Cx E RX1 cX1_cloths 1 (some .int) 1 20 := C
  unfold fX1_cloths
  refine r_aload_n C dX1_cloths_0 rfl rfl ?_
  refine r_getRn (code := 130) C fl_X1_35 hk rfl dX1_cloths_1 fun b1 h2 => ?_
  refine r_gd fun hK3 => ?_
  refine r_getRn (code := 384) C fl_X1_135 hK3 rfl dX1_cloths_4 fun b4 h5 => ?_
  refine r_gd fun hK8 => ?_
  refine r_bd fun r6 h7 => ?_
  refine r_callV (As := []) (st := []) C (mc_J2_size hK8 h7) cv_X1_138 hK8 rfl (Nat.le_of_ble_eq_true rfl) (Nat.le_of_ble_eq_true rfl) rfl (Nat.le_of_ble_eq_true rfl) dX1_cloths_7 ?_
  exact r_iret C dX1_cloths_10 rfl
theorem cv_X1_148 : mm_CV RX1 148 yX1_cloths cX1_cloths 1 (some .int) 0 1 := ⟨RX1, TX1, 26, _, lw_V q1165 q1167 qs29 q133 q1168, ⟨rfl, by decide +kernel, by decide +kernel, by decide +kernel⟩, rfl, rfl⟩
theorem cv_X1_150 : mm_CS RX1 150 yX1_in cX1_in 3 (some .boolean) 3 := ⟨lw_S q1170 q994 q133 q995, by decide +kernel, by decide +kernel, by decide +kernel⟩
/-! X1 isCloth -/
def fX1_isCloth (K : mm_K) (th : Nat) (P : mm_P) (x1 : Int32) : Option Int32 :=
  mm_bd (fX1_cloths K th P) fun r1 =>
  mm_bd (fX1_in x1 (0 : Int32) (r1 - (1 : Int32))) fun r3 =>
  mm_gd (r3 &&& 1 = r3) <|
  some (r3)
set_option maxHeartbeats 4000000 in
theorem mc_X1_isCloth {l : Launch} {K : mm_K} {P : mm_P} {th : Nat} {x1 : Int32} {nx sl : Nat} {r : Int32} (hk : K.1 th = 1) (h : fX1_isCloth K th P x1 = some r) : mm_C l yX1_isCloth (ws_ yX1_isCloth cX1_isCloth 2 (some .boolean)) 2 40 [.ref th, .int x1] K P nx sl (mm_wrI K P nx sl r) :=
  mm_start (ls := [some (.ref th), some (.int x1)]) h (by decide) (Nat.le_of_ble_eq_true rfl) rfl (Nat.le_refl _) (Nat.le_refl _) rfl fun E hl9 _ _ _ C => by
  have C : mm_Cx E RX1 cX1_isCloth 2 (some .boolean) 2 40 := C
  unfold fX1_isCloth
  refine r_iload_n C dX1_isCloth_0 rfl rfl ?_
  refine r_iconst (v := 0) C dX1_isCloth_1 rfl ?_
  refine r_aload_n C dX1_isCloth_2 rfl rfl ?_
  refine r_bd fun r1 h2 => ?_
  refine r_callV (As := []) (st := [.int (0 : Int32), .int x1]) C (mc_X1_cloths hk h2) cv_X1_148 hk rfl (Nat.le_of_ble_eq_true rfl) (Nat.le_of_ble_eq_true rfl) rfl (Nat.le_of_ble_eq_true rfl) dX1_isCloth_3 ?_
  refine r_iconst (v := 1) C dX1_isCloth_6 rfl ?_
  refine r_isub C dX1_isCloth_7 ?_
  refine r_bd fun r3 h4 => ?_
  refine r_callS (As := [.int x1, .int (0 : Int32), .int (r1 - (1 : Int32))]) (st := []) C (mc_X1_in h4) cv_X1_150  rfl (Nat.le_of_ble_eq_true rfl) (Nat.le_of_ble_eq_true rfl) rfl (Nat.le_of_ble_eq_true rfl) dX1_isCloth_8 ?_
  refine r_gd fun h5 => ?_
  exact r_zret C dX1_isCloth_11 (mm_nz h5) rfl
theorem cv_X1_142 : mm_CV RX1 142 yJ2_get cJ2_get 2 (some (.object "java/lang/Object")) 1 21 := ⟨RJ2, TJ2, 3, _, lw_V q1179 q831 q832 q138 q833, ⟨rfl, by decide +kernel, by decide +kernel, by decide +kernel⟩, rfl, rfl⟩
theorem ca_X1_146 {k : Nat} (h : mm_isC k) : mm_CA RX1 146 k := by
  rcases mm_isC_or h with rfl | rfl | rfl | rfl
  · exact ⟨RX7, _, TX7, 4, _, q1180, rfl, rfl, Or.inl rfl⟩
  · exact ⟨RX8, _, TX8, 4, _, q1180, rfl, rfl, Or.inr (nw_in q2205 rfl)⟩
  · exact ⟨RX9, _, TX9, 4, _, q1180, rfl, rfl, Or.inr (nw_in q2204 rfl)⟩
  · exact ⟨RX10, _, TX10, 4, _, q1180, rfl, rfl, Or.inr (nw_in q2206 rfl)⟩
/-! X1 cloth_2 -/
def fX1_cloth_2 (K : mm_K) (th : Nat) (P : mm_P) (x1 : Int32) : Option Nat :=
  mm_bd (gR P 130 th) fun b1 =>
  mm_gd (K.1 b1 = 3) <|
  mm_bd (gR P 384 b1) fun b4 =>
  mm_gd (K.1 b4 = 21) <|
  mm_bd (fJ2_get K b4 P x1) fun r6 =>
  mm_gd (mm_isC (K.1 r6)) <|
  some (r6)
set_option maxHeartbeats 4000000 in
theorem mc_X1_cloth_2 {l : Launch} {K : mm_K} {P : mm_P} {th : Nat} {x1 : Int32} {nx sl : Nat} {r : Nat} (hk : K.1 th = 1) (h : fX1_cloth_2 K th P x1 = some r) : mm_C l yX1_cloth_2 (ws_ yX1_cloth_2 cX1_cloth_2 2 (some (.object "PegLaws$Cloth"))) 3 64 [.ref th, .int x1] K P nx sl (mm_wrR K P nx sl r) :=
  mm_start (ls := [some (.ref th), some (.int x1)]) h (by decide) (Nat.le_of_ble_eq_true rfl) rfl (Nat.le_refl _) (Nat.le_refl _) rfl fun E hl9 _ _ _ C => by
  have C : mm_Cx E RX1 cX1_cloth_2 2 (some (.object "PegLaws$Cloth")) 3 64 := C
  unfold fX1_cloth_2
  refine r_aload_n C dX1_cloth_2_0 rfl rfl ?_
  refine r_getRn (code := 130) C fl_X1_35 hk rfl dX1_cloth_2_1 fun b1 h2 => ?_
  refine r_gd fun hK3 => ?_
  refine r_getRn (code := 384) C fl_X1_135 hK3 rfl dX1_cloth_2_4 fun b4 h5 => ?_
  refine r_iload_n C dX1_cloth_2_7 rfl rfl ?_
  refine r_gd fun hK8 => ?_
  refine r_bd fun r6 h7 => ?_
  refine r_callV (As := [.int x1]) (st := []) C (mc_J2_get hK8 h7) cv_X1_142 hK8 rfl (Nat.le_of_ble_eq_true rfl) (Nat.le_of_ble_eq_true rfl) rfl (Nat.le_of_ble_eq_true rfl) dX1_cloth_2_8 ?_
  refine r_gd fun hK9 => ?_
  refine r_cast C (ca_X1_146 hK9) rfl dX1_cloth_2_11 ?_
  exact r_aretR C (Or.inl ⟨_, rfl⟩) dX1_cloth_2_14 rfl
theorem fl_X1_154 : mm_FL RX1 154 4 3 (mm_a 4 0 6) (tyX4 3) true := ⟨RX4, TX4, 6, _, tyX4, rfl, in_X4, rfl, rfl, Nat.le_of_ble_eq_true rfl, Or.inr (Or.inl ⟨_, nw_in q317 rfl⟩), tyX4_ok, nmX4, rfl, rfl⟩
theorem cv_X1_157 : mm_CV RX1 157 yX4_by cX4_by 4 (some .int) 1 4 := ⟨RX4, TX4, 6, _, lw_V q1171 q1172 q1173 q139 q1174, ⟨rfl, by decide +kernel, by decide +kernel, by decide +kernel⟩, rfl, rfl⟩
theorem cv_X1_161 : mm_CS RX1 161 yJ17_bitCount cJ17_bitCount 1 (some .int) 1 := ⟨lw_S q1199 q1139 q171 q1140, by decide +kernel, by decide +kernel, by decide +kernel⟩
theorem cv_X1_166 : mm_CV RX1 166 yX1_cloth_2 cX1_cloth_2 2 (some (.object "PegLaws$Cloth")) 1 1 := ⟨RX1, TX1, 26, _, lw_V q1175 q1177 qs30 q133 q1178, ⟨rfl, by decide +kernel, by decide +kernel, by decide +kernel⟩, rfl, rfl⟩
theorem cv_X1_170_7 : mm_CV RX1 170 yX7_needs cX7_needs 1 (some .int) 0 7 := ⟨RX7, TX7, 4, _, lw_V q1200 q1201 q1202 q157 q1209, ⟨rfl, by decide +kernel, by decide +kernel, by decide +kernel⟩, rfl, rfl⟩
theorem cv_X1_170_8 : mm_CU RX1 170 ⟨"PegLaws$Cloth", "needs", "()I"⟩ yX8_needs cX8_needs 1 (some .int) 0 8 := ⟨RX8, "PegLaws$Cloth", TX8, 4, _, ⟨by decide +kernel, by decide +kernel, by decide +kernel⟩, rfl, rfl, Or.inr ⟨lw_app (lw_in _ [1200, 1203, 1201, 1205, 1206, 158] (by decide +kernel) (by decide +kernel)) (lw_meth q1207), _, _, _, q1209⟩⟩
theorem cv_X1_170_9 : mm_CU RX1 170 ⟨"PegLaws$Cloth", "needs", "()I"⟩ yX7_needs cX7_needs 1 (some .int) 0 9 := ⟨RX9, "PegLaws$Cloth", TX9, 4, _, ⟨by decide +kernel, by decide +kernel, by decide +kernel⟩, rfl, rfl, Or.inl ⟨lw_app (lw_in _ [1200, 1203, 1204, 1201, 157] (by decide +kernel) (by decide +kernel)) (lw_meth q1209), Or.inl rfl⟩⟩
theorem cv_X1_170_10 : mm_CU RX1 170 ⟨"PegLaws$Cloth", "needs", "()I"⟩ yX7_needs cX7_needs 1 (some .int) 0 10 := ⟨RX10, "PegLaws$Cloth", TX10, 4, _, ⟨by decide +kernel, by decide +kernel, by decide +kernel⟩, rfl, rfl, Or.inl ⟨lw_app (lw_in _ [1200, 1203, 1208, 1201, 157] (by decide +kernel) (by decide +kernel)) (lw_meth q1209), Or.inl rfl⟩⟩
theorem vd_X1_170 {α : Type} {E : mm_E} {cc : ByteArray} {nL : Nat} {ret : Option FieldType} {FR LC : Nat} {w : α → mm_O} {pc : Nat} {ls : List (Option Value)} {st st0 : List Value} {K : mm_K} {P : mm_P} {nx sl : Nat} {f : Option α} {fr lc : Nat} {a : Nat} {r : Int32} (C : mm_Cx E RX1 cc nL ret FR LC) (h : dC_needs (eL E) fr lc K P  nx sl a  r) (hfr : fr ≤ FR) (hlc : lc ≤ LC) (hst : st0 = [].reverse ++ .ref a :: st) (hw : (st.map fun v => v.category).sum ≤ 8) (dd : decode cc pc = .ok (.invokevirtual 170, 3)) (kk : mm_V E w (pc + 3) ls (.int r :: st) K P nx sl f) : mm_V E w pc ls st0 K P nx sl f := by
  rcases h with ⟨hk, g, c, h1, h2, hM⟩ | ⟨hk, g, c, h1, h2, hM⟩ | ⟨hk, g, c, h1, h2, hM⟩ | ⟨hk, g, c, h1, h2, hM⟩
  · exact r_callV (As := []) C hM cv_X1_170_7 hk rfl (by omega) (by omega) hst hw dd kk
  · exact r_callU (As := []) C hM cv_X1_170_8 hk rfl (by omega) (by omega) hst hw dd kk
  · exact r_callU (As := []) C hM cv_X1_170_9 hk rfl (by omega) (by omega) hst hw dd kk
  · exact r_callU (As := []) C hM cv_X1_170_10 hk rfl (by omega) (by omega) hst hw dd kk
/-! X1 isLaw -/
def fX1_isLaw (K : mm_K) (th : Nat) (P : mm_P) (x1 : Nat) (x2 : Int32) : Option Int32 :=
  mm_gd (K.1 x1 = 4) <|
  mm_gd (mm_in x2 6) <|
  if (3 : Int32) ≤ (gA P 515 x1 x2.toNatClampNeg) then
  (some ((0 : Int32)))
  else
  (mm_bd (fX4_by x1 P x2) fun r4 =>
  mm_bd (fJ17_bitCount r4) fun r6 =>
  mm_bd (fX1_cloth_2 K th P x2) fun r8 =>
  mm_bd (fV_needs K r8) fun r10 =>
  if r6 ≠ r10 then
  (some ((0 : Int32)))
  else
  (some ((1 : Int32))))
set_option maxHeartbeats 4000000 in
theorem mc_X1_isLaw {l : Launch} {K : mm_K} {P : mm_P} {th : Nat} {x1 : Nat} {x2 : Int32} {nx sl : Nat} {r : Int32} (hk : K.1 th = 1) (h : fX1_isLaw K th P x1 x2 = some r) : mm_C l yX1_isLaw (ws_ yX1_isLaw cX1_isLaw 3 (some .boolean)) 4 85 [.ref th, .ref x1, .int x2] K P nx sl (mm_wrI K P nx sl r) :=
  mm_start (ls := [some (.ref th), some (.ref x1), some (.int x2)]) h (by decide) (Nat.le_of_ble_eq_true rfl) rfl (Nat.le_refl _) (Nat.le_refl _) rfl fun E hl9 _ _ _ C => by
  have C : mm_Cx E RX1 cX1_isLaw 3 (some .boolean) 4 85 := C
  unfold fX1_isLaw
  refine r_aload_n C dX1_isLaw_0 rfl rfl ?_
  refine r_gd fun hK1 => ?_
  refine r_getA C fl_X1_154 hK1 dX1_isLaw_1 ?_
  refine r_iload_n C dX1_isLaw_4 rfl rfl ?_
  refine r_iald C (rg_515 hK1) rfl dX1_isLaw_5 fun h2 => ?_
  refine r_iconst (v := 3) C dX1_isLaw_6 rfl ?_
  refine r_icmpge (tgt := 33) C dX1_isLaw_7 (by decide) (fun h3 => ?_) (fun h3 => ?_)
  · refine r_iconst (v := 0) C dX1_isLaw_33 rfl ?_
    exact r_zret C dX1_isLaw_34 rfl rfl
  · refine r_aload_n C dX1_isLaw_10 rfl rfl ?_
    refine r_iload_n C dX1_isLaw_11 rfl rfl ?_
    refine r_bd fun r4 h5 => ?_
    refine r_callV (As := [.int x2]) (st := []) C (mc_X4_by hK1 h5) cv_X1_157 hK1 rfl (Nat.le_of_ble_eq_true rfl) (Nat.le_of_ble_eq_true rfl) rfl (Nat.le_of_ble_eq_true rfl) dX1_isLaw_12 ?_
    refine r_bd fun r6 h7 => ?_
    refine r_callS (As := [.int r4]) (st := []) C (mc_J17_bitCount h7) cv_X1_161  rfl (Nat.le_of_ble_eq_true rfl) (Nat.le_of_ble_eq_true rfl) rfl (Nat.le_of_ble_eq_true rfl) dX1_isLaw_15 ?_
    refine r_aload_n C dX1_isLaw_18 rfl rfl ?_
    refine r_iload_n C dX1_isLaw_19 rfl rfl ?_
    refine r_bd fun r8 h9 => ?_
    refine r_callV (As := [.int x2]) (st := [.int r6]) C (mc_X1_cloth_2 hk h9) cv_X1_166 hk rfl (Nat.le_of_ble_eq_true rfl) (Nat.le_of_ble_eq_true rfl) rfl (Nat.le_of_ble_eq_true rfl) dX1_isLaw_20 ?_
    refine r_bd fun r10 h11 => ?_
    refine vd_X1_170 (st := [.int r6]) C (dv_needs h11) (Nat.le_of_ble_eq_true rfl) (Nat.le_of_ble_eq_true rfl) rfl (Nat.le_of_ble_eq_true rfl) dX1_isLaw_23 ?_
    refine r_icmpne (tgt := 33) C dX1_isLaw_26 (by decide) (fun h12 => ?_) (fun h12 => ?_)
    · refine r_iconst (v := 0) C dX1_isLaw_33 rfl ?_
      exact r_zret C dX1_isLaw_34 rfl rfl
    · refine r_iconst (v := 1) C dX1_isLaw_29 rfl ?_
      refine r_goto (tgt := 34) C dX1_isLaw_30 (by decide) ?_
      exact r_zret C dX1_isLaw_34 rfl rfl
/-! X1 isTurned -/
def fX1_isTurned (K : mm_K) (th : Nat) (P : mm_P) (x1 : Nat) (x2 : Int32) : Option Int32 :=
  mm_gd (K.1 x1 = 4) <|
  mm_bd (fX4_by x1 P x2) fun r1 =>
  mm_bd (fJ17_bitCount r1) fun r4 =>
  if r4 ≠ (1 : Int32) then
  (some ((0 : Int32)))
  else
  (some ((1 : Int32)))
set_option maxHeartbeats 4000000 in
theorem mc_X1_isTurned {l : Launch} {K : mm_K} {P : mm_P} {th : Nat} {x1 : Nat} {x2 : Int32} {nx sl : Nat} {r : Int32} (hk : K.1 th = 1) (h : fX1_isTurned K th P x1 x2 = some r) : mm_C l yX1_isTurned (ws_ yX1_isTurned cX1_isTurned 3 (some .boolean)) 1 23 [.ref th, .ref x1, .int x2] K P nx sl (mm_wrI K P nx sl r) :=
  mm_start (ls := [some (.ref th), some (.ref x1), some (.int x2)]) h (by decide) (Nat.le_of_ble_eq_true rfl) rfl (Nat.le_refl _) (Nat.le_refl _) rfl fun E hl9 _ _ _ C => by
  have C : mm_Cx E RX1 cX1_isTurned 3 (some .boolean) 1 23 := C
  unfold fX1_isTurned
  refine r_aload_n C dX1_isTurned_0 rfl rfl ?_
  refine r_iload_n C dX1_isTurned_1 rfl rfl ?_
  refine r_gd fun hK3 => ?_
  refine r_bd fun r1 h2 => ?_
  refine r_callV (As := [.int x2]) (st := []) C (mc_X4_by hK3 h2) cv_X1_157 hK3 rfl (Nat.le_of_ble_eq_true rfl) (Nat.le_of_ble_eq_true rfl) rfl (Nat.le_of_ble_eq_true rfl) dX1_isTurned_2 ?_
  refine r_bd fun r4 h5 => ?_
  refine r_callS (As := [.int r1]) (st := []) C (mc_J17_bitCount h5) cv_X1_161  rfl (Nat.le_of_ble_eq_true rfl) (Nat.le_of_ble_eq_true rfl) rfl (Nat.le_of_ble_eq_true rfl) dX1_isTurned_5 ?_
  refine r_iconst (v := 1) C dX1_isTurned_8 rfl ?_
  refine r_icmpne (tgt := 16) C dX1_isTurned_9 (by decide) (fun h6 => ?_) (fun h6 => ?_)
  · refine r_iconst (v := 0) C dX1_isTurned_16 rfl ?_
    exact r_zret C dX1_isTurned_17 rfl rfl
  · refine r_iconst (v := 1) C dX1_isTurned_12 rfl ?_
    refine r_goto (tgt := 17) C dX1_isTurned_13 (by decide) ?_
    exact r_zret C dX1_isTurned_17 rfl rfl
theorem fl_X1_184 {k : Nat} (h : mm_isC k) : mm_FL RX1 184 k 1 mm_i .int false := by
  rcases mm_isC_or h with rfl | rfl | rfl | rfl
  · exact ⟨RX7, TX7, 4, _, tyX7, rfl, in_X7, rfl, rfl, Nat.le_of_ble_eq_true rfl, Or.inl q864, tyX7_ok, nmX7, rfl, rfl⟩
  · exact ⟨RX8, TX8, 4, _, tyX8, rfl, in_X8, rfl, rfl, Nat.le_of_ble_eq_true rfl, Or.inl q864, tyX8_ok, nmX8, rfl, rfl⟩
  · exact ⟨RX9, TX9, 4, _, tyX9, rfl, in_X9, rfl, rfl, Nat.le_of_ble_eq_true rfl, Or.inl q864, tyX9_ok, nmX9, rfl, rfl⟩
  · exact ⟨RX10, TX10, 4, _, tyX10, rfl, in_X10, rfl, rfl, Nat.le_of_ble_eq_true rfl, Or.inl q864, tyX10_ok, nmX10, rfl, rfl⟩
/-! X1 roomBy -/
def fX1_roomBy (K : mm_K) (th : Nat) (P : mm_P) (x1 : Int32) (x2 : Int32) : Option Int32 :=
  if x2 ≠ (1 : Int32) then
  (if x2 ≠ 0 then
  (mm_bd (fX1_cloth_2 K th P x1) fun r3 =>
  mm_gd (mm_isC (K.1 r3)) <|
  some (gI P 897 r3))
  else
  (some ((0 : Int32))))
  else
  (mm_bd (fX1_cloth_2 K th P x1) fun r6 =>
  mm_gd (mm_isC (K.1 r6)) <|
  some (((gI P 897 r6) / (2 : Int32)) + (1 : Int32)))
set_option maxHeartbeats 4000000 in
theorem mc_X1_roomBy {l : Launch} {K : mm_K} {P : mm_P} {th : Nat} {x1 : Int32} {x2 : Int32} {nx sl : Nat} {r : Int32} (hk : K.1 th = 1) (h : fX1_roomBy K th P x1 x2 = some r) : mm_C l yX1_roomBy (ws_ yX1_roomBy cX1_roomBy 3 (some .int)) 4 85 [.ref th, .int x1, .int x2] K P nx sl (mm_wrI K P nx sl r) :=
  mm_start (ls := [some (.ref th), some (.int x1), some (.int x2)]) h (by decide) (Nat.le_of_ble_eq_true rfl) rfl (Nat.le_refl _) (Nat.le_refl _) rfl fun E hl9 _ _ _ C => by
  have C : mm_Cx E RX1 cX1_roomBy 3 (some .int) 4 85 := C
  unfold fX1_roomBy
  refine r_iload_n C dX1_roomBy_0 rfl rfl ?_
  refine r_iconst (v := 1) C dX1_roomBy_1 rfl ?_
  refine r_icmpne (tgt := 20) C dX1_roomBy_2 (by decide) (fun h1 => ?_) (fun h1 => ?_)
  · refine r_iload_n C dX1_roomBy_20 rfl rfl ?_
    refine r_ifne (tgt := 28) C dX1_roomBy_21 (by decide) (fun h2 => ?_) (fun h2 => ?_)
    · refine r_aload_n C dX1_roomBy_28 rfl rfl ?_
      refine r_iload_n C dX1_roomBy_29 rfl rfl ?_
      refine r_bd fun r3 h4 => ?_
      refine r_callV (As := [.int x1]) (st := []) C (mc_X1_cloth_2 hk h4) cv_X1_166 hk rfl (Nat.le_of_ble_eq_true rfl) (Nat.le_of_ble_eq_true rfl) rfl (Nat.le_of_ble_eq_true rfl) dX1_roomBy_30 ?_
      refine r_gd fun hK5 => ?_
      refine r_getI (code := 897) C (fl_X1_184 hK5) rfl (mm_bsC hK5 _) dX1_roomBy_33 ?_
      exact r_iret C dX1_roomBy_36 rfl
    · refine r_iconst (v := 0) C dX1_roomBy_24 rfl ?_
      refine r_goto (tgt := 36) C dX1_roomBy_25 (by decide) ?_
      exact r_iret C dX1_roomBy_36 rfl
  · refine r_aload_n C dX1_roomBy_5 rfl rfl ?_
    refine r_iload_n C dX1_roomBy_6 rfl rfl ?_
    refine r_bd fun r6 h7 => ?_
    refine r_callV (As := [.int x1]) (st := []) C (mc_X1_cloth_2 hk h7) cv_X1_166 hk rfl (Nat.le_of_ble_eq_true rfl) (Nat.le_of_ble_eq_true rfl) rfl (Nat.le_of_ble_eq_true rfl) dX1_roomBy_7 ?_
    refine r_gd fun hK8 => ?_
    refine r_getI (code := 897) C (fl_X1_184 hK8) rfl (mm_bsC hK8 _) dX1_roomBy_10 ?_
    refine r_iconst (v := 2) C dX1_roomBy_13 rfl ?_
    refine r_idiv C dX1_roomBy_14 (by decide) ?_
    refine r_iconst (v := 1) C dX1_roomBy_15 rfl ?_
    refine r_iadd C dX1_roomBy_16 ?_
    refine r_goto (tgt := 36) C dX1_roomBy_17 (by decide) ?_
    exact r_iret C dX1_roomBy_36 rfl
theorem fl_X1_58 : mm_FL RX1 58 1 6 (mm_a 20 0 3) (tyX1 6) true := ⟨RX1, TX1, 26, _, tyX1, rfl, in_X1, rfl, rfl, Nat.le_of_ble_eq_true rfl, Or.inl q349, tyX1_ok, nmX1, rfl, rfl⟩
theorem cv_X1_200 : mm_CS RX1 200 yX1_between cX1_between 3 (some .int) 3 := ⟨lw_S q1240 q1241 q133 q1242, by decide +kernel, by decide +kernel, by decide +kernel⟩
theorem cv_X1_204_7 : mm_CV RX1 204 yX7_mass cX7_mass 2 (some .int) 1 7 := ⟨RX7, TX7, 4, _, lw_V q1226 q1227 q1228 q157 q1235, ⟨rfl, by decide +kernel, by decide +kernel, by decide +kernel⟩, rfl, rfl⟩
theorem cv_X1_204_8 : mm_CU RX1 204 ⟨"PegLaws$Cloth", "mass", "(I)I"⟩ yX7_mass cX7_mass 2 (some .int) 1 8 := ⟨RX8, "PegLaws$Cloth", TX8, 4, _, ⟨by decide +kernel, by decide +kernel, by decide +kernel⟩, rfl, rfl, Or.inl ⟨lw_app (lw_in _ [1226, 1229, 1231, 1227, 157] (by decide +kernel) (by decide +kernel)) (lw_meth q1235), Or.inl rfl⟩⟩
theorem cv_X1_204_9 : mm_CU RX1 204 ⟨"PegLaws$Cloth", "mass", "(I)I"⟩ yX7_mass cX7_mass 2 (some .int) 1 9 := ⟨RX9, "PegLaws$Cloth", TX9, 4, _, ⟨by decide +kernel, by decide +kernel, by decide +kernel⟩, rfl, rfl, Or.inl ⟨lw_app (lw_in _ [1226, 1229, 1230, 1227, 157] (by decide +kernel) (by decide +kernel)) (lw_meth q1235), Or.inl rfl⟩⟩
theorem cv_X1_204_10 : mm_CU RX1 204 ⟨"PegLaws$Cloth", "mass", "(I)I"⟩ yX10_mass cX10_mass 2 (some .int) 1 10 := ⟨RX10, "PegLaws$Cloth", TX10, 4, _, ⟨by decide +kernel, by decide +kernel, by decide +kernel⟩, rfl, rfl, Or.inr ⟨lw_app (lw_in _ [1226, 1229, 1227, 1232, 1233, 160] (by decide +kernel) (by decide +kernel)) (lw_meth q1234), _, _, _, q1235⟩⟩
theorem vd_X1_204 {α : Type} {E : mm_E} {cc : ByteArray} {nL : Nat} {ret : Option FieldType} {FR LC : Nat} {w : α → mm_O} {pc : Nat} {ls : List (Option Value)} {st st0 : List Value} {K : mm_K} {P : mm_P} {nx sl : Nat} {f : Option α} {fr lc : Nat} {a : Nat} {z0 : Int32} {r : Int32} (C : mm_Cx E RX1 cc nL ret FR LC) (h : dC_mass (eL E) fr lc K P  nx sl a z0 r) (hfr : fr ≤ FR) (hlc : lc ≤ LC) (hst : st0 = [.int z0].reverse ++ .ref a :: st) (hw : (st.map fun v => v.category).sum ≤ 8) (dd : decode cc pc = .ok (.invokevirtual 204, 3)) (kk : mm_V E w (pc + 3) ls (.int r :: st) K P nx sl f) : mm_V E w pc ls st0 K P nx sl f := by
  rcases h with ⟨hk, g, c, h1, h2, hM⟩ | ⟨hk, g, c, h1, h2, hM⟩ | ⟨hk, g, c, h1, h2, hM⟩ | ⟨hk, g, c, h1, h2, hM⟩
  · exact r_callV (As := [.int z0]) C hM cv_X1_204_7 hk rfl (by omega) (by omega) hst hw dd kk
  · exact r_callU (As := [.int z0]) C hM cv_X1_204_8 hk rfl (by omega) (by omega) hst hw dd kk
  · exact r_callU (As := [.int z0]) C hM cv_X1_204_9 hk rfl (by omega) (by omega) hst hw dd kk
  · exact r_callU (As := [.int z0]) C hM cv_X1_204_10 hk rfl (by omega) (by omega) hst hw dd kk
theorem cv_X1_207_11 : mm_CU RX1 207 ⟨"PegLaws$Expression", "worked", "([I)I"⟩ yX12_worked cX12_worked 2 (some .int) 1 11 := ⟨RX12, "PegLaws$Expression", TX12, 1, _, ⟨by decide +kernel, by decide +kernel, by decide +kernel⟩, rfl, rfl, Or.inl ⟨lw_app (lw_in _ [1245, 1247, 1251, 1252, 162] (by decide +kernel) (by decide +kernel)) (lw_meth q1253), Or.inr (nw_in q1246 rfl)⟩⟩
theorem cv_X1_207_12 : mm_CU RX1 207 ⟨"PegLaws$Expression", "worked", "([I)I"⟩ yX13_worked cX13_worked 2 (some .int) 1 12 := ⟨RX13, "PegLaws$Expression", TX13, 1, _, ⟨by decide +kernel, by decide +kernel, by decide +kernel⟩, rfl, rfl, Or.inl ⟨lw_app (lw_in _ [1245, 1247, 1248, 1249, 163] (by decide +kernel) (by decide +kernel)) (lw_meth q1250), Or.inr (nw_in q1246 rfl)⟩⟩
theorem cv_X1_207_13 : mm_CU RX1 207 ⟨"PegLaws$Expression", "worked", "([I)I"⟩ yX14_worked cX14_worked 2 (some .int) 1 13 := ⟨RX14, "PegLaws$Expression", TX14, 1, _, ⟨by decide +kernel, by decide +kernel, by decide +kernel⟩, rfl, rfl, Or.inl ⟨lw_app (lw_in _ [1245, 1247, 1254, 1255, 164] (by decide +kernel) (by decide +kernel)) (lw_meth q1256), Or.inr (nw_in q1246 rfl)⟩⟩
theorem cv_X1_207_14 : mm_CU RX1 207 ⟨"PegLaws$Expression", "worked", "([I)I"⟩ yX15_worked cX15_worked 4 (some .int) 1 14 := ⟨RX15, "PegLaws$Expression", TX15, 3, _, ⟨by decide +kernel, by decide +kernel, by decide +kernel⟩, rfl, rfl, Or.inl ⟨lw_app (lw_in _ [1245, 1247, 1261, 1258, 165] (by decide +kernel) (by decide +kernel)) (lw_meth q1259), Or.inr (nw_in q1246 rfl)⟩⟩
theorem vd_X1_207 {α : Type} {E : mm_E} {cc : ByteArray} {nL : Nat} {ret : Option FieldType} {FR LC : Nat} {w : α → mm_O} {pc : Nat} {ls : List (Option Value)} {st st0 : List Value} {K : mm_K} {P : mm_P} {nx sl : Nat} {f : Option α} {fr lc : Nat} {z0 : Nat} {a : Nat} {r : Int32} (C : mm_Cx E RX1 cc nL ret FR LC) (h : dC_worked (eL E) fr lc K P z0 nx sl a  r) (hfr : fr ≤ FR) (hlc : lc ≤ LC) (hst : st0 = [.ref (z0 + 20)].reverse ++ .ref a :: st) (hw : (st.map fun v => v.category).sum ≤ 8) (dd : decode cc pc = .ok (.invokevirtual 207, 3)) (kk : mm_V E w (pc + 3) ls (.int r :: st) K P nx sl f) : mm_V E w pc ls st0 K P nx sl f := by
  rcases h with ⟨hk, g, c, h1, h2, hM⟩ | ⟨hk, g, c, h1, h2, hM⟩ | ⟨hk, g, c, h1, h2, hM⟩ | ⟨hk, g, c, h1, h2, hM⟩
  · exact r_callU (As := [.ref (z0 + 20)]) C hM cv_X1_207_11 hk rfl (by omega) (by omega) hst hw dd kk
  · exact r_callU (As := [.ref (z0 + 20)]) C hM cv_X1_207_12 hk rfl (by omega) (by omega) hst hw dd kk
  · exact r_callU (As := [.ref (z0 + 20)]) C hM cv_X1_207_13 hk rfl (by omega) (by omega) hst hw dd kk
  · exact r_callU (As := [.ref (z0 + 20)]) C hM cv_X1_207_14 hk rfl (by omega) (by omega) hst hw dd kk
/-! X1 worked -/
def fX1_worked (K : mm_K) (th : Nat) (x1 : Option Nat) (x2 : Int32) (x3 : Int32) (x4 : Int32) (x5 : Int32) (x6 : Int32) (P : mm_P) : Option (Int32 × mm_P) :=
  mm_on x1
  (mm_bd (fX1_between x5 (0 : Int32) x6) fun r3 =>
  some (r3, P))
  fun b2 =>
  (mm_gd (mm_in (0 : Int32) 3) <|
  mm_lt (sA P 134 th (0 : Int32).toNatClampNeg x4) fun P6 =>
  mm_bd (fX1_cloth_2 K th P6 x2) fun r7 =>
  mm_bd (fV_mass K P6 r7 x3) fun r9 =>
  mm_gd (mm_in (1 : Int32) 3) <|
  mm_lt (sA P6 134 th (1 : Int32).toNatClampNeg r9) fun P12 =>
  mm_bd (fX1_cloth_2 K th P12 x2) fun r13 =>
  mm_gd (mm_isC (K.1 r13)) <|
  mm_gd (mm_in (2 : Int32) 3) <|
  mm_lt (sA P12 134 th (2 : Int32).toNatClampNeg (gI P12 897 r13)) fun P17 =>
  mm_bd (fV_worked K P17 th 600 b2) fun r18 =>
  mm_bd (fX1_between r18 (0 : Int32) x6) fun r20 =>
  some (r20, P17))
set_option maxHeartbeats 4000000 in
theorem mc_X1_worked {l : Launch} {K : mm_K} {P : mm_P} {th : Nat} {x1 : Option Nat} {x2 : Int32} {x3 : Int32} {x4 : Int32} {x5 : Int32} {x6 : Int32} {nx sl : Nat} {r : (Int32 × mm_P)} (hk : K.1 th = 1) (h : fX1_worked K th x1 x2 x3 x4 x5 x6 P = some r) : mm_C l yX1_worked (ws_ yX1_worked cX1_worked 7 (some .int)) 601 13823 [.ref th, va_rf x1, .int x2, .int x3, .int x4, .int x5, .int x6] K P nx sl (mm_wwI K nx sl r) :=
  mm_start (ls := [some (.ref th), some (va_rf x1), some (.int x2), some (.int x3), some (.int x4), some (.int x5), some (.int x6)]) h (by decide) (by cases x1 <;> exact (Nat.le_of_ble_eq_true rfl)) (by cases x1 <;> exact rfl) (Nat.le_refl _) (Nat.le_refl _) rfl fun E hl9 _ _ _ C => by
  have C : mm_Cx E RX1 cX1_worked 7 (some .int) 601 13823 := C
  unfold fX1_worked
  refine r_aload_nO C dX1_worked_0 rfl rfl ?_
  refine r_ifnonnull (tgt := 13) C dX1_worked_1 (by decide) (fun b2 h1 => ?_) (fun h1 => ?_)
  · subst h1
    refine r_aload_n C dX1_worked_13 rfl rfl ?_
    refine r_getA C fl_X1_58 hk dX1_worked_14 ?_
    refine r_iconst (v := 0) C dX1_worked_17 rfl ?_
    refine r_iload C dX1_worked_18 rfl ?_
    refine r_iast C (rg_134 hk) (mm_ro_of (k := 1) hk rfl) rfl dX1_worked_20 fun h5 => ?_
    refine r_ltP fun P6 => ?_
    refine r_aload_n C dX1_worked_21 rfl rfl ?_
    refine r_getA C fl_X1_58 hk dX1_worked_22 ?_
    refine r_iconst (v := 1) C dX1_worked_25 rfl ?_
    refine r_aload_n C dX1_worked_26 rfl rfl ?_
    refine r_iload_n C dX1_worked_27 rfl rfl ?_
    refine r_bd fun r7 h8 => ?_
    refine r_callV (As := [.int x2]) (st := [.int (1 : Int32), .ref (th + 20)]) C (mc_X1_cloth_2 hk h8) cv_X1_166 hk rfl (Nat.le_of_ble_eq_true rfl) (Nat.le_of_ble_eq_true rfl) rfl (Nat.le_of_ble_eq_true rfl) dX1_worked_28 ?_
    refine r_iload_n C dX1_worked_31 rfl rfl ?_
    refine r_bd fun r9 h10 => ?_
    refine vd_X1_204 (st := [.int (1 : Int32), .ref (th + 20)]) C (dv_mass h10) (Nat.le_of_ble_eq_true rfl) (Nat.le_of_ble_eq_true rfl) rfl (Nat.le_of_ble_eq_true rfl) dX1_worked_32 ?_
    refine r_iast C (rg_134 hk) (mm_ro_of (k := 1) hk rfl) rfl dX1_worked_35 fun h11 => ?_
    refine r_ltP fun P12 => ?_
    refine r_aload_n C dX1_worked_36 rfl rfl ?_
    refine r_getA C fl_X1_58 hk dX1_worked_37 ?_
    refine r_iconst (v := 2) C dX1_worked_40 rfl ?_
    refine r_aload_n C dX1_worked_41 rfl rfl ?_
    refine r_iload_n C dX1_worked_42 rfl rfl ?_
    refine r_bd fun r13 h14 => ?_
    refine r_callV (As := [.int x2]) (st := [.int (2 : Int32), .ref (th + 20)]) C (mc_X1_cloth_2 hk h14) cv_X1_166 hk rfl (Nat.le_of_ble_eq_true rfl) (Nat.le_of_ble_eq_true rfl) rfl (Nat.le_of_ble_eq_true rfl) dX1_worked_43 ?_
    refine r_gd fun hK15 => ?_
    refine r_getI (code := 897) C (fl_X1_184 hK15) rfl (mm_bsC hK15 _) dX1_worked_46 ?_
    refine r_iast C (rg_134 hk) (mm_ro_of (k := 1) hk rfl) rfl dX1_worked_49 fun h16 => ?_
    refine r_ltP fun P17 => ?_
    refine r_aload_n C dX1_worked_50 rfl rfl ?_
    refine r_aload_n C dX1_worked_51 rfl rfl ?_
    refine r_getA C fl_X1_58 hk dX1_worked_52 ?_
    refine r_bd fun r18 h19 => ?_
    refine vd_X1_207 (st := []) C (dv_worked hk 600 h19) (Nat.le_of_ble_eq_true rfl) (Nat.le_of_ble_eq_true rfl) rfl (Nat.le_of_ble_eq_true rfl) dX1_worked_55 ?_
    refine r_iconst (v := 0) C dX1_worked_58 rfl ?_
    refine r_iload C dX1_worked_59 rfl ?_
    refine r_bd fun r20 h21 => ?_
    refine r_callS (As := [.int r18, .int (0 : Int32), .int x6]) (st := []) C (mc_X1_between h21) cv_X1_200  rfl (Nat.le_of_ble_eq_true rfl) (Nat.le_of_ble_eq_true rfl) rfl (Nat.le_of_ble_eq_true rfl) dX1_worked_61 ?_
    exact r_iret C dX1_worked_64 rfl
  · subst h1
    refine r_iload C dX1_worked_4 rfl ?_
    refine r_iconst (v := 0) C dX1_worked_6 rfl ?_
    refine r_iload C dX1_worked_7 rfl ?_
    refine r_bd fun r3 h4 => ?_
    refine r_callS (As := [.int x5, .int (0 : Int32), .int x6]) (st := []) C (mc_X1_between h4) cv_X1_200  rfl (Nat.le_of_ble_eq_true rfl) (Nat.le_of_ble_eq_true rfl) rfl (Nat.le_of_ble_eq_true rfl) dX1_worked_9 ?_
    exact r_iret C dX1_worked_12 rfl
theorem fl_X1_213 : mm_FL RX1 213 3 9 mm_r (tyX3 9) false := ⟨RX3, TX3, 11, _, tyX3, rfl, in_X3, rfl, rfl, Nat.le_of_ble_eq_true rfl, Or.inr (Or.inl ⟨_, nw_in q272 rfl⟩), tyX3_ok, nmX3, rfl, rfl⟩
theorem cv_X1_217 : mm_CV RX1 217 yX1_worked cX1_worked 7 (some .int) 6 1 := ⟨RX1, TX1, 26, _, lw_V q1236 q1238 qs35 q133 q1239, ⟨rfl, by decide +kernel, by decide +kernel, by decide +kernel⟩, rfl, rfl⟩
theorem cv_X1_220_7 : mm_CV RX1 220 yX7_pulled cX7_pulled 2 (some .int) 1 7 := ⟨RX7, TX7, 4, _, lw_V q1262 q1263 q1264 q157 q1271, ⟨rfl, by decide +kernel, by decide +kernel, by decide +kernel⟩, rfl, rfl⟩
theorem cv_X1_220_8 : mm_CU RX1 220 ⟨"PegLaws$Cloth", "pulled", "(I)I"⟩ yX7_pulled cX7_pulled 2 (some .int) 1 8 := ⟨RX8, "PegLaws$Cloth", TX8, 4, _, ⟨by decide +kernel, by decide +kernel, by decide +kernel⟩, rfl, rfl, Or.inl ⟨lw_app (lw_in _ [1262, 1265, 1269, 1263, 157] (by decide +kernel) (by decide +kernel)) (lw_meth q1271), Or.inl rfl⟩⟩
theorem cv_X1_220_9 : mm_CU RX1 220 ⟨"PegLaws$Cloth", "pulled", "(I)I"⟩ yX9_pulled cX9_pulled 2 (some .int) 1 9 := ⟨RX9, "PegLaws$Cloth", TX9, 4, _, ⟨by decide +kernel, by decide +kernel, by decide +kernel⟩, rfl, rfl, Or.inr ⟨lw_app (lw_in _ [1262, 1265, 1263, 1266, 1267, 159] (by decide +kernel) (by decide +kernel)) (lw_meth q1268), _, _, _, q1271⟩⟩
theorem cv_X1_220_10 : mm_CU RX1 220 ⟨"PegLaws$Cloth", "pulled", "(I)I"⟩ yX7_pulled cX7_pulled 2 (some .int) 1 10 := ⟨RX10, "PegLaws$Cloth", TX10, 4, _, ⟨by decide +kernel, by decide +kernel, by decide +kernel⟩, rfl, rfl, Or.inl ⟨lw_app (lw_in _ [1262, 1265, 1270, 1263, 157] (by decide +kernel) (by decide +kernel)) (lw_meth q1271), Or.inl rfl⟩⟩
theorem vd_X1_220 {α : Type} {E : mm_E} {cc : ByteArray} {nL : Nat} {ret : Option FieldType} {FR LC : Nat} {w : α → mm_O} {pc : Nat} {ls : List (Option Value)} {st st0 : List Value} {K : mm_K} {P : mm_P} {nx sl : Nat} {f : Option α} {fr lc : Nat} {a : Nat} {z0 : Int32} {r : Int32} (C : mm_Cx E RX1 cc nL ret FR LC) (h : dC_pulled (eL E) fr lc K P  nx sl a z0 r) (hfr : fr ≤ FR) (hlc : lc ≤ LC) (hst : st0 = [.int z0].reverse ++ .ref a :: st) (hw : (st.map fun v => v.category).sum ≤ 8) (dd : decode cc pc = .ok (.invokevirtual 220, 3)) (kk : mm_V E w (pc + 3) ls (.int r :: st) K P nx sl f) : mm_V E w pc ls st0 K P nx sl f := by
  rcases h with ⟨hk, g, c, h1, h2, hM⟩ | ⟨hk, g, c, h1, h2, hM⟩ | ⟨hk, g, c, h1, h2, hM⟩ | ⟨hk, g, c, h1, h2, hM⟩
  · exact r_callV (As := [.int z0]) C hM cv_X1_220_7 hk rfl (by omega) (by omega) hst hw dd kk
  · exact r_callU (As := [.int z0]) C hM cv_X1_220_8 hk rfl (by omega) (by omega) hst hw dd kk
  · exact r_callU (As := [.int z0]) C hM cv_X1_220_9 hk rfl (by omega) (by omega) hst hw dd kk
  · exact r_callU (As := [.int z0]) C hM cv_X1_220_10 hk rfl (by omega) (by omega) hst hw dd kk
/-! X1 pullOf -/
def fX1_pullOf (K : mm_K) (th : Nat) (x1 : Int32) (x2 : Int32) (x3 : Int32) (P : mm_P) : Option (Int32 × mm_P) :=
  mm_bd (fX1_cloth_2 K th P x1) fun r1 =>
  mm_bd (gR P 130 th) fun b3 =>
  mm_gd (K.1 b3 = 3) <|
  mm_bd (fX1_cloth_2 K th P x1) fun r6 =>
  mm_gd (mm_isC (K.1 r6)) <|
  mm_bd (fX1_cloth_2 K th P x1) fun r9 =>
  mm_bd (fV_mass K P r9 x2) fun r11 =>
  mm_bd (fX1_worked K th (gR P 393 b3) x1 x2 x3 ((x3 + (gI P 897 r6)) - r11) (99 : Int32) P) fun r13 =>
  mm_bd (fV_pulled K r1 r13.1) fun r15 =>
  some (r15, r13.2)
set_option maxHeartbeats 4000000 in
theorem mc_X1_pullOf {l : Launch} {K : mm_K} {P : mm_P} {th : Nat} {x1 : Int32} {x2 : Int32} {x3 : Int32} {nx sl : Nat} {r : (Int32 × mm_P)} (hk : K.1 th = 1) (h : fX1_pullOf K th x1 x2 x3 P = some r) : mm_C l yX1_pullOf (ws_ yX1_pullOf cX1_pullOf 4 (some .int)) 602 13849 [.ref th, .int x1, .int x2, .int x3] K P nx sl (mm_wwI K nx sl r) :=
  mm_start (ls := [some (.ref th), some (.int x1), some (.int x2), some (.int x3)]) h (by decide) (Nat.le_of_ble_eq_true rfl) rfl (Nat.le_refl _) (Nat.le_refl _) rfl fun E hl9 _ _ _ C => by
  have C : mm_Cx E RX1 cX1_pullOf 4 (some .int) 602 13849 := C
  unfold fX1_pullOf
  refine r_aload_n C dX1_pullOf_0 rfl rfl ?_
  refine r_iload_n C dX1_pullOf_1 rfl rfl ?_
  refine r_bd fun r1 h2 => ?_
  refine r_callV (As := [.int x1]) (st := []) C (mc_X1_cloth_2 hk h2) cv_X1_166 hk rfl (Nat.le_of_ble_eq_true rfl) (Nat.le_of_ble_eq_true rfl) rfl (Nat.le_of_ble_eq_true rfl) dX1_pullOf_2 ?_
  refine r_aload_n C dX1_pullOf_5 rfl rfl ?_
  refine r_aload_n C dX1_pullOf_6 rfl rfl ?_
  refine r_getRn (code := 130) C fl_X1_35 hk rfl dX1_pullOf_7 fun b3 h4 => ?_
  refine r_gd fun hK5 => ?_
  refine r_getRo (code := 393) C fl_X1_213 hK5 rfl dX1_pullOf_10 ?_
  refine r_iload_n C dX1_pullOf_13 rfl rfl ?_
  refine r_iload_n C dX1_pullOf_14 rfl rfl ?_
  refine r_iload_n C dX1_pullOf_15 rfl rfl ?_
  refine r_iload_n C dX1_pullOf_16 rfl rfl ?_
  refine r_aload_n C dX1_pullOf_17 rfl rfl ?_
  refine r_iload_n C dX1_pullOf_18 rfl rfl ?_
  refine r_bd fun r6 h7 => ?_
  refine r_callV (As := [.int x1]) (st := [.int x3, .int x3, .int x2, .int x1, va_rf (gR P 393 b3), .ref th, .ref r1]) C (mc_X1_cloth_2 hk h7) cv_X1_166 hk rfl (Nat.le_of_ble_eq_true rfl) (Nat.le_of_ble_eq_true rfl) rfl (by simp only [List.map_cons, List.map_nil, mm_cat]; exact Nat.le_of_ble_eq_true rfl) dX1_pullOf_19 ?_
  refine r_gd fun hK8 => ?_
  refine r_getI (code := 897) C (fl_X1_184 hK8) rfl (mm_bsC hK8 _) dX1_pullOf_22 ?_
  refine r_iadd C dX1_pullOf_25 ?_
  refine r_aload_n C dX1_pullOf_26 rfl rfl ?_
  refine r_iload_n C dX1_pullOf_27 rfl rfl ?_
  refine r_bd fun r9 h10 => ?_
  refine r_callV (As := [.int x1]) (st := [.int (x3 + (gI P 897 r6)), .int x3, .int x2, .int x1, va_rf (gR P 393 b3), .ref th, .ref r1]) C (mc_X1_cloth_2 hk h10) cv_X1_166 hk rfl (Nat.le_of_ble_eq_true rfl) (Nat.le_of_ble_eq_true rfl) rfl (by simp only [List.map_cons, List.map_nil, mm_cat]; exact Nat.le_of_ble_eq_true rfl) dX1_pullOf_28 ?_
  refine r_iload_n C dX1_pullOf_31 rfl rfl ?_
  refine r_bd fun r11 h12 => ?_
  refine vd_X1_204 (st := [.int (x3 + (gI P 897 r6)), .int x3, .int x2, .int x1, va_rf (gR P 393 b3), .ref th, .ref r1]) C (dv_mass h12) (Nat.le_of_ble_eq_true rfl) (Nat.le_of_ble_eq_true rfl) rfl (by simp only [List.map_cons, List.map_nil, mm_cat]; exact Nat.le_of_ble_eq_true rfl) dX1_pullOf_32 ?_
  refine r_isub C dX1_pullOf_35 ?_
  refine r_bipush (v := 99) C dX1_pullOf_36 rfl ?_
  refine r_bd fun r13 h14 => ?_
  refine r_callV (As := [va_rf (gR P 393 b3), .int x1, .int x2, .int x3, .int ((x3 + (gI P 897 r6)) - r11), .int (99 : Int32)]) (st := [.ref r1]) C (mc_X1_worked hk h14) cv_X1_217 hk rfl (Nat.le_of_ble_eq_true rfl) (Nat.le_of_ble_eq_true rfl) rfl (Nat.le_of_ble_eq_true rfl) dX1_pullOf_38 ?_
  refine r_bd fun r15 h16 => ?_
  refine vd_X1_220 (st := []) C (dv_pulled h16) (Nat.le_of_ble_eq_true rfl) (Nat.le_of_ble_eq_true rfl) rfl (Nat.le_of_ble_eq_true rfl) dX1_pullOf_41 ?_
  exact r_iret C dX1_pullOf_44 rfl
theorem fl_X1_226 : mm_FL RX1 226 4 2 (mm_a 3 0 6) (tyX4 2) true := ⟨RX4, TX4, 6, _, tyX4, rfl, in_X4, rfl, rfl, Nat.le_of_ble_eq_true rfl, Or.inr (Or.inl ⟨_, nw_in q314 rfl⟩), tyX4_ok, nmX4, rfl, rfl⟩
theorem fl_X1_244 : mm_FL RX1 244 4 4 mm_i .int false := ⟨RX4, TX4, 6, _, tyX4, rfl, in_X4, rfl, rfl, Nat.le_of_ble_eq_true rfl, Or.inr (Or.inl ⟨_, nw_in q319 rfl⟩), tyX4_ok, nmX4, rfl, rfl⟩
theorem fl_X1_51 : mm_FL RX1 51 1 4 mm_r (tyX1 4) true := ⟨RX1, TX1, 26, _, tyX1, rfl, in_X1, rfl, rfl, Nat.le_of_ble_eq_true rfl, Or.inl q347, tyX1_ok, nmX1, rfl, rfl⟩
theorem cv_X1_173 : mm_CV RX1 173 yX1_isLaw cX1_isLaw 3 (some .boolean) 2 1 := ⟨RX1, TX1, 26, _, lw_V q1195 q1197 qs31 q133 q1198, ⟨rfl, by decide +kernel, by decide +kernel, by decide +kernel⟩, rfl, rfl⟩
theorem cv_X1_190 : mm_CV RX1 190 yX1_roomBy cX1_roomBy 3 (some .int) 2 1 := ⟨RX1, TX1, 26, _, lw_V q1214 q1216 qs33 q133 q1217, ⟨rfl, by decide +kernel, by decide +kernel, by decide +kernel⟩, rfl, rfl⟩
theorem cv_X1_229 : mm_CV RX1 229 yX1_pullOf cX1_pullOf 4 (some .int) 3 1 := ⟨RX1, TX1, 26, _, lw_V q1222 q1224 qs34 q133 q1225, ⟨rfl, by decide +kernel, by decide +kernel, by decide +kernel⟩, rfl, rfl⟩
theorem cv_X1_247 : mm_CV RX1 247 yX3_wind cX3_wind 2 (some .int) 1 3 := ⟨RX3, TX3, 11, _, lw_V q1218 q1219 q1220 q135 q1221, ⟨rfl, by decide +kernel, by decide +kernel, by decide +kernel⟩, rfl, rfl⟩
theorem cv_X1_254 : mm_CV RX1 254 yX1_isCloth cX1_isCloth 2 (some .boolean) 1 1 := ⟨RX1, TX1, 26, _, lw_V q1161 q1163 qs28 q133 q1164, ⟨rfl, by decide +kernel, by decide +kernel, by decide +kernel⟩, rfl, rfl⟩
theorem cv_X1_261 : mm_CV RX1 261 yX1_isTurned cX1_isTurned 3 (some .boolean) 2 1 := ⟨RX1, TX1, 26, _, lw_V q1210 q1212 qs32 q133 q1213, ⟨rfl, by decide +kernel, by decide +kernel, by decide +kernel⟩, rfl, rfl⟩
theorem cv_X1_258_7 : mm_CV RX1 258 yX7_kind cX7_kind 1 (some .int) 0 7 := ⟨RX7, TX7, 4, _, lw_V q1181 q1182 q1183 q157 q1194, ⟨rfl, by decide +kernel, by decide +kernel, by decide +kernel⟩, rfl, rfl⟩
theorem cv_X1_258_8 : mm_CU RX1 258 ⟨"PegLaws$Cloth", "kind", "()I"⟩ yX8_kind cX8_kind 1 (some .int) 0 8 := ⟨RX8, "PegLaws$Cloth", TX8, 4, _, ⟨by decide +kernel, by decide +kernel, by decide +kernel⟩, rfl, rfl, Or.inr ⟨lw_app (lw_in _ [1181, 1184, 1182, 1188, 1189, 158] (by decide +kernel) (by decide +kernel)) (lw_meth q1190), _, _, _, q1194⟩⟩
theorem cv_X1_258_9 : mm_CU RX1 258 ⟨"PegLaws$Cloth", "kind", "()I"⟩ yX9_kind cX9_kind 1 (some .int) 0 9 := ⟨RX9, "PegLaws$Cloth", TX9, 4, _, ⟨by decide +kernel, by decide +kernel, by decide +kernel⟩, rfl, rfl, Or.inr ⟨lw_app (lw_in _ [1181, 1184, 1182, 1185, 1186, 159] (by decide +kernel) (by decide +kernel)) (lw_meth q1187), _, _, _, q1194⟩⟩
theorem cv_X1_258_10 : mm_CU RX1 258 ⟨"PegLaws$Cloth", "kind", "()I"⟩ yX10_kind cX10_kind 1 (some .int) 0 10 := ⟨RX10, "PegLaws$Cloth", TX10, 4, _, ⟨by decide +kernel, by decide +kernel, by decide +kernel⟩, rfl, rfl, Or.inr ⟨lw_app (lw_in _ [1181, 1184, 1182, 1191, 1192, 160] (by decide +kernel) (by decide +kernel)) (lw_meth q1193), _, _, _, q1194⟩⟩
theorem vd_X1_258 {α : Type} {E : mm_E} {cc : ByteArray} {nL : Nat} {ret : Option FieldType} {FR LC : Nat} {w : α → mm_O} {pc : Nat} {ls : List (Option Value)} {st st0 : List Value} {K : mm_K} {P : mm_P} {nx sl : Nat} {f : Option α} {fr lc : Nat} {a : Nat} {r : Int32} (C : mm_Cx E RX1 cc nL ret FR LC) (h : dC_kind (eL E) fr lc K P  nx sl a  r) (hfr : fr ≤ FR) (hlc : lc ≤ LC) (hst : st0 = [].reverse ++ .ref a :: st) (hw : (st.map fun v => v.category).sum ≤ 8) (dd : decode cc pc = .ok (.invokevirtual 258, 3)) (kk : mm_V E w (pc + 3) ls (.int r :: st) K P nx sl f) : mm_V E w pc ls st0 K P nx sl f := by
  rcases h with ⟨hk, g, c, h1, h2, hM⟩ | ⟨hk, g, c, h1, h2, hM⟩ | ⟨hk, g, c, h1, h2, hM⟩ | ⟨hk, g, c, h1, h2, hM⟩
  · exact r_callV (As := []) C hM cv_X1_258_7 hk rfl (by omega) (by omega) hst hw dd kk
  · exact r_callU (As := []) C hM cv_X1_258_8 hk rfl (by omega) (by omega) hst hw dd kk
  · exact r_callU (As := []) C hM cv_X1_258_9 hk rfl (by omega) (by omega) hst hw dd kk
  · exact r_callU (As := []) C hM cv_X1_258_10 hk rfl (by omega) (by omega) hst hw dd kk
/-! X1 cloth -/
def fX1_cloth (K : mm_K) (th : Nat) (x1 : Int32) (x2 : Int32) (P : mm_P) : Option (Int32 × mm_P) :=
  mm_bd (fX1_isCloth K th P x1) fun r1 =>
  if r1 ≠ 0 then
  (mm_bd (gR P 132 th) fun b4 =>
  mm_gd (K.1 b4 = 4) <|
  mm_bd (fX4_by b4 P x1) fun r6 =>
  if x2 = (0 : Int32) then
  (mm_bd (fX1_cloth_2 K th P x1) fun r10 =>
  mm_bd (fV_kind K r10) fun r12 =>
  some (r12, P))
  else
  (if x2 = (1 : Int32) then
  (mm_bd (gR P 132 th) fun b15 =>
  mm_gd (K.1 b15 = 4) <|
  mm_gd (mm_in x1 6) <|
  some (gA P 514 b15 x1.toNatClampNeg, P))
  else
  (if x2 = (2 : Int32) then
  (mm_bd (gR P 132 th) fun b20 =>
  mm_gd (K.1 b20 = 4) <|
  mm_gd (mm_in x1 6) <|
  some (gA P 515 b20 x1.toNatClampNeg, P))
  else
  (if x2 = (3 : Int32) then
  (some (r6, P))
  else
  (if x2 = (4 : Int32) then
  (mm_bd (gR P 132 th) fun b26 =>
  mm_bd (fX1_isLaw K th P b26 x1) fun r28 =>
  if r28 = 0 then
  (some ((0 : Int32), P))
  else
  (some ((1 : Int32), P)))
  else
  (if x2 = (5 : Int32) then
  (mm_bd (gR P 132 th) fun b32 =>
  mm_bd (fX1_isTurned K th P b32 x1) fun r34 =>
  if r34 = 0 then
  (some ((0 : Int32), P))
  else
  (some ((1 : Int32), P)))
  else
  (if x2 = (6 : Int32) then
  (mm_bd (fJ17_bitCount r6) fun r38 =>
  mm_bd (fX1_roomBy K th P x1 r38) fun r40 =>
  some (r40, P))
  else
  (if x2 = (7 : Int32) then
  (mm_bd (gR P 132 th) fun b43 =>
  mm_gd (K.1 b43 = 4) <|
  mm_gd (mm_in x1 6) <|
  mm_bd (gR P 130 th) fun b47 =>
  mm_bd (gR P 132 th) fun b49 =>
  mm_gd (K.1 b49 = 4) <|
  mm_gd (K.1 b47 = 3) <|
  mm_bd (fX3_wind b47 P (gI P 516 b49)) fun r52 =>
  mm_bd (fX1_pullOf K th x1 (gA P 514 b43 x1.toNatClampNeg) r52 P) fun r55 =>
  some (r55.1, r55.2))
  else
  (some ((-1 : Int32), P))))))))))
  else
  (some ((-1 : Int32), P))
set_option maxHeartbeats 4000000 in
theorem mc_X1_cloth {l : Launch} {K : mm_K} {P : mm_P} {th : Nat} {x1 : Int32} {x2 : Int32} {nx sl : Nat} {r : (Int32 × mm_P)} (hk : K.1 th = 1) (h : fX1_cloth K th x1 x2 P = some r) : mm_C l yX1_cloth (ws_ yX1_cloth cX1_cloth 4 (some .int)) 603 13872 [.ref th, .int x1, .int x2] K P nx sl (mm_wwI K nx sl r) :=
  mm_start (ls := [some (.ref th), some (.int x1), some (.int x2), none]) h (by decide) (Nat.le_of_ble_eq_true rfl) rfl (Nat.le_refl _) (Nat.le_refl _) rfl fun E hl9 _ _ _ C => by
  have C : mm_Cx E RX1 cX1_cloth 4 (some .int) 603 13872 := C
  unfold fX1_cloth
  refine r_aload_n C dX1_cloth_0 rfl rfl ?_
  refine r_iload_n C dX1_cloth_1 rfl rfl ?_
  refine r_bd fun r1 h2 => ?_
  refine r_callV (As := [.int x1]) (st := []) C (mc_X1_isCloth hk h2) cv_X1_254 hk rfl (Nat.le_of_ble_eq_true rfl) (Nat.le_of_ble_eq_true rfl) rfl (Nat.le_of_ble_eq_true rfl) dX1_cloth_2 ?_
  refine r_ifne (tgt := 10) C dX1_cloth_5 (by decide) (fun h3 => ?_) (fun h3 => ?_)
  · refine r_aload_n C dX1_cloth_10 rfl rfl ?_
    refine r_getRn (code := 132) C fl_X1_51 hk rfl dX1_cloth_11 fun b4 h5 => ?_
    refine r_iload_n C dX1_cloth_14 rfl rfl ?_
    refine r_gd fun hK8 => ?_
    refine r_bd fun r6 h7 => ?_
    refine r_callV (As := [.int x1]) (st := []) C (mc_X4_by hK8 h7) cv_X1_157 hK8 rfl (Nat.le_of_ble_eq_true rfl) (Nat.le_of_ble_eq_true rfl) rfl (Nat.le_of_ble_eq_true rfl) dX1_cloth_15 ?_
    refine r_istore_n (ls' := [some (.ref th), some (.int x1), some (.int x2), some (.int r6)]) C dX1_cloth_18 rfl (Nat.le_of_ble_eq_true rfl) rfl rfl ?_
    refine r_iload_n C dX1_cloth_19 rfl rfl ?_
    refine r_if (fun h9 => ?_) (fun h9 => ?_)
    · refine r_tableC (tgt := 68) (off := 48) C dX1_cloth_20 h9 (by decide) (by decide) (by decide) (by decide) ?_
      refine r_aload_n C dX1_cloth_68 rfl rfl ?_
      refine r_iload_n C dX1_cloth_69 rfl rfl ?_
      refine r_bd fun r10 h11 => ?_
      refine r_callV (As := [.int x1]) (st := []) C (mc_X1_cloth_2 hk h11) cv_X1_166 hk rfl (Nat.le_of_ble_eq_true rfl) (Nat.le_of_ble_eq_true rfl) rfl (Nat.le_of_ble_eq_true rfl) dX1_cloth_70 ?_
      refine r_bd fun r12 h13 => ?_
      refine vd_X1_258 (st := []) C (dv_kind h13) (Nat.le_of_ble_eq_true rfl) (Nat.le_of_ble_eq_true rfl) rfl (Nat.le_of_ble_eq_true rfl) dX1_cloth_73 ?_
      exact r_iret C dX1_cloth_76 rfl
    refine r_if (fun h14 => ?_) (fun h14 => ?_)
    · refine r_tableC (tgt := 77) (off := 57) C dX1_cloth_20 h14 (by decide) (by decide) (by decide) (by decide) ?_
      refine r_aload_n C dX1_cloth_77 rfl rfl ?_
      refine r_getRn (code := 132) C fl_X1_51 hk rfl dX1_cloth_78 fun b15 h16 => ?_
      refine r_gd fun hK17 => ?_
      refine r_getA C fl_X1_226 hK17 dX1_cloth_81 ?_
      refine r_iload_n C dX1_cloth_84 rfl rfl ?_
      refine r_iald C (rg_514 hK17) rfl dX1_cloth_85 fun h18 => ?_
      exact r_iret C dX1_cloth_86 rfl
    refine r_if (fun h19 => ?_) (fun h19 => ?_)
    · refine r_tableC (tgt := 87) (off := 67) C dX1_cloth_20 h19 (by decide) (by decide) (by decide) (by decide) ?_
      refine r_aload_n C dX1_cloth_87 rfl rfl ?_
      refine r_getRn (code := 132) C fl_X1_51 hk rfl dX1_cloth_88 fun b20 h21 => ?_
      refine r_gd fun hK22 => ?_
      refine r_getA C fl_X1_154 hK22 dX1_cloth_91 ?_
      refine r_iload_n C dX1_cloth_94 rfl rfl ?_
      refine r_iald C (rg_515 hK22) rfl dX1_cloth_95 fun h23 => ?_
      exact r_iret C dX1_cloth_96 rfl
    refine r_if (fun h24 => ?_) (fun h24 => ?_)
    · refine r_tableC (tgt := 97) (off := 77) C dX1_cloth_20 h24 (by decide) (by decide) (by decide) (by decide) ?_
      refine r_iload_n C dX1_cloth_97 rfl rfl ?_
      exact r_iret C dX1_cloth_98 rfl
    refine r_if (fun h25 => ?_) (fun h25 => ?_)
    · refine r_tableC (tgt := 99) (off := 79) C dX1_cloth_20 h25 (by decide) (by decide) (by decide) (by decide) ?_
      refine r_aload_n C dX1_cloth_99 rfl rfl ?_
      refine r_aload_n C dX1_cloth_100 rfl rfl ?_
      refine r_getRn (code := 132) C fl_X1_51 hk rfl dX1_cloth_101 fun b26 h27 => ?_
      refine r_iload_n C dX1_cloth_104 rfl rfl ?_
      refine r_bd fun r28 h29 => ?_
      refine r_callV (As := [.ref b26, .int x1]) (st := []) C (mc_X1_isLaw hk h29) cv_X1_173 hk rfl (Nat.le_of_ble_eq_true rfl) (Nat.le_of_ble_eq_true rfl) rfl (Nat.le_of_ble_eq_true rfl) dX1_cloth_105 ?_
      refine r_ifeq (tgt := 115) C dX1_cloth_108 (by decide) (fun h30 => ?_) (fun h30 => ?_)
      · refine r_iconst (v := 0) C dX1_cloth_115 rfl ?_
        exact r_iret C dX1_cloth_116 rfl
      · refine r_iconst (v := 1) C dX1_cloth_111 rfl ?_
        refine r_goto (tgt := 116) C dX1_cloth_112 (by decide) ?_
        exact r_iret C dX1_cloth_116 rfl
    refine r_if (fun h31 => ?_) (fun h31 => ?_)
    · refine r_tableC (tgt := 117) (off := 97) C dX1_cloth_20 h31 (by decide) (by decide) (by decide) (by decide) ?_
      refine r_aload_n C dX1_cloth_117 rfl rfl ?_
      refine r_aload_n C dX1_cloth_118 rfl rfl ?_
      refine r_getRn (code := 132) C fl_X1_51 hk rfl dX1_cloth_119 fun b32 h33 => ?_
      refine r_iload_n C dX1_cloth_122 rfl rfl ?_
      refine r_bd fun r34 h35 => ?_
      refine r_callV (As := [.ref b32, .int x1]) (st := []) C (mc_X1_isTurned hk h35) cv_X1_261 hk rfl (Nat.le_of_ble_eq_true rfl) (Nat.le_of_ble_eq_true rfl) rfl (Nat.le_of_ble_eq_true rfl) dX1_cloth_123 ?_
      refine r_ifeq (tgt := 133) C dX1_cloth_126 (by decide) (fun h36 => ?_) (fun h36 => ?_)
      · refine r_iconst (v := 0) C dX1_cloth_133 rfl ?_
        exact r_iret C dX1_cloth_134 rfl
      · refine r_iconst (v := 1) C dX1_cloth_129 rfl ?_
        refine r_goto (tgt := 134) C dX1_cloth_130 (by decide) ?_
        exact r_iret C dX1_cloth_134 rfl
    refine r_if (fun h37 => ?_) (fun h37 => ?_)
    · refine r_tableC (tgt := 135) (off := 115) C dX1_cloth_20 h37 (by decide) (by decide) (by decide) (by decide) ?_
      refine r_aload_n C dX1_cloth_135 rfl rfl ?_
      refine r_iload_n C dX1_cloth_136 rfl rfl ?_
      refine r_iload_n C dX1_cloth_137 rfl rfl ?_
      refine r_bd fun r38 h39 => ?_
      refine r_callS (As := [.int r6]) (st := [.int x1, .ref th]) C (mc_J17_bitCount h39) cv_X1_161  rfl (Nat.le_of_ble_eq_true rfl) (Nat.le_of_ble_eq_true rfl) rfl (Nat.le_of_ble_eq_true rfl) dX1_cloth_138 ?_
      refine r_bd fun r40 h41 => ?_
      refine r_callV (As := [.int x1, .int r38]) (st := []) C (mc_X1_roomBy hk h41) cv_X1_190 hk rfl (Nat.le_of_ble_eq_true rfl) (Nat.le_of_ble_eq_true rfl) rfl (Nat.le_of_ble_eq_true rfl) dX1_cloth_141 ?_
      exact r_iret C dX1_cloth_144 rfl
    refine r_if (fun h42 => ?_) (fun h42 => ?_)
    · refine r_tableC (tgt := 145) (off := 125) C dX1_cloth_20 h42 (by decide) (by decide) (by decide) (by decide) ?_
      refine r_aload_n C dX1_cloth_145 rfl rfl ?_
      refine r_iload_n C dX1_cloth_146 rfl rfl ?_
      refine r_aload_n C dX1_cloth_147 rfl rfl ?_
      refine r_getRn (code := 132) C fl_X1_51 hk rfl dX1_cloth_148 fun b43 h44 => ?_
      refine r_gd fun hK45 => ?_
      refine r_getA C fl_X1_226 hK45 dX1_cloth_151 ?_
      refine r_iload_n C dX1_cloth_154 rfl rfl ?_
      refine r_iald C (rg_514 hK45) rfl dX1_cloth_155 fun h46 => ?_
      refine r_aload_n C dX1_cloth_156 rfl rfl ?_
      refine r_getRn (code := 130) C fl_X1_35 hk rfl dX1_cloth_157 fun b47 h48 => ?_
      refine r_aload_n C dX1_cloth_160 rfl rfl ?_
      refine r_getRn (code := 132) C fl_X1_51 hk rfl dX1_cloth_161 fun b49 h50 => ?_
      refine r_gd fun hK51 => ?_
      refine r_getI (code := 516) C fl_X1_244 hK51 rfl dX1_cloth_164 ?_
      refine r_gd fun hK54 => ?_
      refine r_bd fun r52 h53 => ?_
      refine r_callV (As := [.int (gI P 516 b49)]) (st := [.int (gA P 514 b43 x1.toNatClampNeg), .int x1, .ref th]) C (mc_X3_wind hK54 h53) cv_X1_247 hK54 rfl (Nat.le_of_ble_eq_true rfl) (Nat.le_of_ble_eq_true rfl) rfl (Nat.le_of_ble_eq_true rfl) dX1_cloth_167 ?_
      refine r_bd fun r55 h56 => ?_
      refine r_callV (As := [.int x1, .int (gA P 514 b43 x1.toNatClampNeg), .int r52]) (st := []) C (mc_X1_pullOf hk h56) cv_X1_229 hk rfl (Nat.le_of_ble_eq_true rfl) (Nat.le_of_ble_eq_true rfl) rfl (Nat.le_of_ble_eq_true rfl) dX1_cloth_170 ?_
      exact r_iret C dX1_cloth_173 rfl
    refine r_tableD (tgt := 174) (n := 8) C dX1_cloth_20 (mm_fa h9 (mm_fa h14 (mm_fa h19 (mm_fa h24 (mm_fa h25 (mm_fa h31 (mm_fa h37 (mm_fa h42 (mm_fn))))))))) (by decide +kernel) (by decide) (by decide) ?_
    refine r_iconst (v := -1) C dX1_cloth_174 rfl ?_
    exact r_iret C dX1_cloth_175 rfl
  · refine r_iconst (v := -1) C dX1_cloth_8 rfl ?_
    exact r_iret C dX1_cloth_9 rfl
theorem fl_X1_264 : mm_FL RX1 264 4 5 mm_i .int false := ⟨RX4, TX4, 6, _, tyX4, rfl, in_X4, rfl, rfl, Nat.le_of_ble_eq_true rfl, Or.inr (Or.inl ⟨_, nw_in q322 rfl⟩), tyX4_ok, nmX4, rfl, rfl⟩
theorem fl_X1_267 : mm_FL RX1 267 4 0 (mm_a 1 0 8) (tyX4 0) true := ⟨RX4, TX4, 6, _, tyX4, rfl, in_X4, rfl, rfl, Nat.le_of_ble_eq_true rfl, Or.inr (Or.inl ⟨_, nw_in q309 rfl⟩), tyX4_ok, nmX4, rfl, rfl⟩
theorem fl_X1_270 : mm_FL RX1 270 4 1 (mm_a 2 0 8) (tyX4 1) true := ⟨RX4, TX4, 6, _, tyX4, rfl, in_X4, rfl, rfl, Nat.le_of_ble_eq_true rfl, Or.inr (Or.inl ⟨_, nw_in q311 rfl⟩), tyX4_ok, nmX4, rfl, rfl⟩
/-! X1 peg -/
def fX1_peg (K : mm_K) (th : Nat) (P : mm_P) (x1 : Int32) (x2 : Int32) : Option Int32 :=
  mm_bd (gR P 132 th) fun b1 =>
  mm_gd (K.1 b1 = 4) <|
  mm_bd (fX1_in x1 (0 : Int32) ((gI P 517 b1) - (1 : Int32))) fun r4 =>
  if r4 = 0 then
  (some ((-2 : Int32)))
  else
  (mm_bd (fX1_in x2 (0 : Int32) (1 : Int32)) fun r7 =>
  if r7 ≠ 0 then
  (if x2 ≠ 0 then
  (mm_bd (gR P 132 th) fun b11 =>
  mm_gd (K.1 b11 = 4) <|
  mm_gd (mm_in x1 8) <|
  some (gA P 513 b11 x1.toNatClampNeg))
  else
  (mm_bd (gR P 132 th) fun b15 =>
  mm_gd (K.1 b15 = 4) <|
  mm_gd (mm_in x1 8) <|
  some (gA P 512 b15 x1.toNatClampNeg)))
  else
  (some ((-2 : Int32))))
set_option maxHeartbeats 4000000 in
theorem mc_X1_peg {l : Launch} {K : mm_K} {P : mm_P} {th : Nat} {x1 : Int32} {x2 : Int32} {nx sl : Nat} {r : Int32} (hk : K.1 th = 1) (h : fX1_peg K th P x1 x2 = some r) : mm_C l yX1_peg (ws_ yX1_peg cX1_peg 3 (some .int)) 1 22 [.ref th, .int x1, .int x2] K P nx sl (mm_wrI K P nx sl r) :=
  mm_start (ls := [some (.ref th), some (.int x1), some (.int x2)]) h (by decide) (Nat.le_of_ble_eq_true rfl) rfl (Nat.le_refl _) (Nat.le_refl _) rfl fun E hl9 _ _ _ C => by
  have C : mm_Cx E RX1 cX1_peg 3 (some .int) 1 22 := C
  unfold fX1_peg
  refine r_iload_n C dX1_peg_0 rfl rfl ?_
  refine r_iconst (v := 0) C dX1_peg_1 rfl ?_
  refine r_aload_n C dX1_peg_2 rfl rfl ?_
  refine r_getRn (code := 132) C fl_X1_51 hk rfl dX1_peg_3 fun b1 h2 => ?_
  refine r_gd fun hK3 => ?_
  refine r_getI (code := 517) C fl_X1_264 hK3 rfl dX1_peg_6 ?_
  refine r_iconst (v := 1) C dX1_peg_9 rfl ?_
  refine r_isub C dX1_peg_10 ?_
  refine r_bd fun r4 h5 => ?_
  refine r_callS (As := [.int x1, .int (0 : Int32), .int ((gI P 517 b1) - (1 : Int32))]) (st := []) C (mc_X1_in h5) cv_X1_150  rfl (Nat.le_of_ble_eq_true rfl) (Nat.le_of_ble_eq_true rfl) rfl (Nat.le_of_ble_eq_true rfl) dX1_peg_11 ?_
  refine r_ifeq (tgt := 26) C dX1_peg_14 (by decide) (fun h6 => ?_) (fun h6 => ?_)
  · refine r_bipush (v := -2) C dX1_peg_26 rfl ?_
    exact r_iret C dX1_peg_28 rfl
  · refine r_iload_n C dX1_peg_17 rfl rfl ?_
    refine r_iconst (v := 0) C dX1_peg_18 rfl ?_
    refine r_iconst (v := 1) C dX1_peg_19 rfl ?_
    refine r_bd fun r7 h8 => ?_
    refine r_callS (As := [.int x2, .int (0 : Int32), .int (1 : Int32)]) (st := []) C (mc_X1_in h8) cv_X1_150  rfl (Nat.le_of_ble_eq_true rfl) (Nat.le_of_ble_eq_true rfl) rfl (Nat.le_of_ble_eq_true rfl) dX1_peg_20 ?_
    refine r_ifne (tgt := 29) C dX1_peg_23 (by decide) (fun h9 => ?_) (fun h9 => ?_)
    · refine r_iload_n C dX1_peg_29 rfl rfl ?_
      refine r_ifne (tgt := 45) C dX1_peg_30 (by decide) (fun h10 => ?_) (fun h10 => ?_)
      · refine r_aload_n C dX1_peg_45 rfl rfl ?_
        refine r_getRn (code := 132) C fl_X1_51 hk rfl dX1_peg_46 fun b11 h12 => ?_
        refine r_gd fun hK13 => ?_
        refine r_getA C fl_X1_270 hK13 dX1_peg_49 ?_
        refine r_iload_n C dX1_peg_52 rfl rfl ?_
        refine r_iald C (rg_513 hK13) rfl dX1_peg_53 fun h14 => ?_
        exact r_iret C dX1_peg_54 rfl
      · refine r_aload_n C dX1_peg_33 rfl rfl ?_
        refine r_getRn (code := 132) C fl_X1_51 hk rfl dX1_peg_34 fun b15 h16 => ?_
        refine r_gd fun hK17 => ?_
        refine r_getA C fl_X1_267 hK17 dX1_peg_37 ?_
        refine r_iload_n C dX1_peg_40 rfl rfl ?_
        refine r_iald C (rg_512 hK17) rfl dX1_peg_41 fun h18 => ?_
        refine r_goto (tgt := 54) C dX1_peg_42 (by decide) ?_
        exact r_iret C dX1_peg_54 rfl
    · refine r_bipush (v := -2) C dX1_peg_26 rfl ?_
      exact r_iret C dX1_peg_28 rfl
/-! X1 lawsOf -/
def fX1_lawsOf_b4 (K : mm_K) (th : Nat) (P : mm_P)  : Nat → Nat → Int32 → Int32 → Option Int32
  | 0, _, _, _ => none
  | n + 1, x1, x2, x3 =>
  mm_bd (fX1_cloths K th P) fun r1 =>
  if r1 ≤ x3 then
  (some (x2))
  else
  (mm_bd (fX1_isLaw K th P x1 x3) fun r4 =>
  if r4 = 0 then
  (fX1_lawsOf_b4 K th P n x1 x2 (x3 + (1 : Int32)))
  else
  (mm_lt (x2 ||| (mm_shl (1 : Int32) x3)) fun v7 =>
  fX1_lawsOf_b4 K th P n x1 v7 (x3 + (1 : Int32))))
set_option maxHeartbeats 4000000 in
theorem wfX1_lawsOf_b4 {E : mm_E} (C : mm_Cx E RX1 cX1_lawsOf 4 (some .int) 5 107) {K : mm_K} {th : Nat} (hk : K.1 th = 1) {P : mm_P} {nx sl : Nat} : ∀ (n : Nat), ∀ (x1 : Nat) (x2 : Int32) (x3 : Int32), mm_V E (mm_wrI K P nx sl) 4 [some (.ref th), some (.ref x1), some (.int x2), some (.int x3)] [] K P nx sl (fX1_lawsOf_b4 K th P n x1 x2 x3) := by
  intro n
  induction n with
  | zero => intro x1 x2 x3; exact r_none
  | succ n ih =>
    intro x1 x2 x3
    rw [fX1_lawsOf_b4]
    refine r_iload_n C dX1_lawsOf_4 rfl rfl ?_
    refine r_aload_n C dX1_lawsOf_5 rfl rfl ?_
    refine r_bd fun r1 h2 => ?_
    refine r_callV (As := []) (st := [.int x3]) C (mc_X1_cloths hk h2) cv_X1_148 hk rfl (Nat.le_of_ble_eq_true rfl) (Nat.le_of_ble_eq_true rfl) rfl (Nat.le_of_ble_eq_true rfl) dX1_lawsOf_6 ?_
    refine r_icmpge (tgt := 33) C dX1_lawsOf_9 (by decide) (fun h3 => ?_) (fun h3 => ?_)
    · refine r_iload_n C dX1_lawsOf_33 rfl rfl ?_
      exact r_iret C dX1_lawsOf_34 rfl
    · refine r_aload_n C dX1_lawsOf_12 rfl rfl ?_
      refine r_aload_n C dX1_lawsOf_13 rfl rfl ?_
      refine r_iload_n C dX1_lawsOf_14 rfl rfl ?_
      refine r_bd fun r4 h5 => ?_
      refine r_callV (As := [.ref x1, .int x3]) (st := []) C (mc_X1_isLaw hk h5) cv_X1_173 hk rfl (Nat.le_of_ble_eq_true rfl) (Nat.le_of_ble_eq_true rfl) rfl (Nat.le_of_ble_eq_true rfl) dX1_lawsOf_15 ?_
      refine r_ifeq (tgt := 27) C dX1_lawsOf_18 (by decide) (fun h6 => ?_) (fun h6 => ?_)
      · refine r_iinc (v := 1) (ls' := [some (.ref th), some (.ref x1), some (.int x2), some (.int (x3 + (1 : Int32)))]) C dX1_lawsOf_27 rfl rfl (Nat.le_of_ble_eq_true rfl) rfl rfl ?_
        refine r_goto (tgt := 4) C dX1_lawsOf_30 (by decide) ?_
        exact ih x1 x2 (x3 + (1 : Int32))
      · refine r_iload_n C dX1_lawsOf_21 rfl rfl ?_
        refine r_iconst (v := 1) C dX1_lawsOf_22 rfl ?_
        refine r_iload_n C dX1_lawsOf_23 rfl rfl ?_
        refine r_ishl C dX1_lawsOf_24 ?_
        refine r_ior C dX1_lawsOf_25 ?_
        refine r_ltI fun v7 => ?_
        refine r_istore_n (ls' := [some (.ref th), some (.ref x1), some (.int v7), some (.int x3)]) C dX1_lawsOf_26 rfl (Nat.le_of_ble_eq_true rfl) rfl rfl ?_
        refine r_iinc (v := 1) (ls' := [some (.ref th), some (.ref x1), some (.int v7), some (.int (x3 + (1 : Int32)))]) C dX1_lawsOf_27 rfl rfl (Nat.le_of_ble_eq_true rfl) rfl rfl ?_
        refine r_goto (tgt := 4) C dX1_lawsOf_30 (by decide) ?_
        exact ih x1 v7 (x3 + (1 : Int32))
def fX1_lawsOf (K : mm_K) (th : Nat) (P : mm_P) (x1 : Nat) : Option Int32 :=
  fX1_lawsOf_b4 K th P mm_NF x1 (0 : Int32) (0 : Int32)
set_option maxHeartbeats 4000000 in
theorem mc_X1_lawsOf {l : Launch} {K : mm_K} {P : mm_P} {th : Nat} {x1 : Nat} {nx sl : Nat} {r : Int32} (hk : K.1 th = 1) (h : fX1_lawsOf K th P x1 = some r) : mm_C l yX1_lawsOf (ws_ yX1_lawsOf cX1_lawsOf 4 (some .int)) 5 107 [.ref th, .ref x1] K P nx sl (mm_wrI K P nx sl r) :=
  mm_start (ls := [some (.ref th), some (.ref x1), none, none]) h (by decide) (Nat.le_of_ble_eq_true rfl) rfl (Nat.le_refl _) (Nat.le_refl _) rfl fun E hl9 _ _ _ C => by
  have C : mm_Cx E RX1 cX1_lawsOf 4 (some .int) 5 107 := C
  unfold fX1_lawsOf
  refine r_iconst (v := 0) C dX1_lawsOf_0 rfl ?_
  refine r_istore_n (ls' := [some (.ref th), some (.ref x1), some (.int (0 : Int32)), none]) C dX1_lawsOf_1 rfl (Nat.le_of_ble_eq_true rfl) rfl rfl ?_
  refine r_iconst (v := 0) C dX1_lawsOf_2 rfl ?_
  refine r_istore_n (ls' := [some (.ref th), some (.ref x1), some (.int (0 : Int32)), some (.int (0 : Int32))]) C dX1_lawsOf_3 rfl (Nat.le_of_ble_eq_true rfl) rfl rfl ?_
  exact wfX1_lawsOf_b4 C hk mm_NF x1 (0 : Int32) (0 : Int32)
theorem cv_X1_273 : mm_CV RX1 273 yX1_lawsOf cX1_lawsOf 4 (some .int) 1 1 := ⟨RX1, TX1, 26, _, lw_V q1280 q1282 qs36 q133 q1283, ⟨rfl, by decide +kernel, by decide +kernel, by decide +kernel⟩, rfl, rfl⟩
/-! X1 laws -/
def fX1_laws (K : mm_K) (th : Nat) (P : mm_P)  : Option Int32 :=
  mm_bd (gR P 132 th) fun b1 =>
  mm_bd (fX1_lawsOf K th P b1) fun r3 =>
  some (r3)
set_option maxHeartbeats 4000000 in
theorem mc_X1_laws {l : Launch} {K : mm_K} {P : mm_P} {th : Nat}  {nx sl : Nat} {r : Int32} (hk : K.1 th = 1) (h : fX1_laws K th P = some r) : mm_C l yX1_laws (ws_ yX1_laws cX1_laws 1 (some .int)) 6 130 [.ref th] K P nx sl (mm_wrI K P nx sl r) :=
  mm_start (ls := [some (.ref th)]) h (by decide) (Nat.le_of_ble_eq_true rfl) rfl (Nat.le_refl _) (Nat.le_refl _) rfl fun E hl9 _ _ _ C => by
  have C : mm_Cx E RX1 cX1_laws 1 (some .int) 6 130 := C
  unfold fX1_laws
  refine r_aload_n C dX1_laws_0 rfl rfl ?_
  refine r_aload_n C dX1_laws_1 rfl rfl ?_
  refine r_getRn (code := 132) C fl_X1_51 hk rfl dX1_laws_2 fun b1 h2 => ?_
  refine r_bd fun r3 h4 => ?_
  refine r_callV (As := [.ref b1]) (st := []) C (mc_X1_lawsOf hk h4) cv_X1_273 hk rfl (Nat.le_of_ble_eq_true rfl) (Nat.le_of_ble_eq_true rfl) rfl (Nat.le_of_ble_eq_true rfl) dX1_laws_5 ?_
  exact r_iret C dX1_laws_8 rfl
theorem cv_X1_193 : mm_CV RX1 193 yX4_free cX4_free 3 (some .int) 0 4 := ⟨RX4, TX4, 6, _, lw_V q1288 q1289 q1290 q139 q1291, ⟨rfl, by decide +kernel, by decide +kernel, by decide +kernel⟩, rfl, rfl⟩
/-! X1 free -/
def fX1_free (K : mm_K) (th : Nat) (P : mm_P)  : Option Int32 :=
  mm_bd (gR P 132 th) fun b1 =>
  mm_gd (K.1 b1 = 4) <|
  mm_bd (fX4_free b1 P) fun r3 =>
  some (r3)
set_option maxHeartbeats 4000000 in
theorem mc_X1_free {l : Launch} {K : mm_K} {P : mm_P} {th : Nat}  {nx sl : Nat} {r : Int32} (hk : K.1 th = 1) (h : fX1_free K th P = some r) : mm_C l yX1_free (ws_ yX1_free cX1_free 1 (some .int)) 1 22 [.ref th] K P nx sl (mm_wrI K P nx sl r) :=
  mm_start (ls := [some (.ref th)]) h (by decide) (Nat.le_of_ble_eq_true rfl) rfl (Nat.le_refl _) (Nat.le_refl _) rfl fun E hl9 _ _ _ C => by
  have C : mm_Cx E RX1 cX1_free 1 (some .int) 1 22 := C
  unfold fX1_free
  refine r_aload_n C dX1_free_0 rfl rfl ?_
  refine r_getRn (code := 132) C fl_X1_51 hk rfl dX1_free_1 fun b1 h2 => ?_
  refine r_gd fun hK5 => ?_
  refine r_bd fun r3 h4 => ?_
  refine r_callV (As := []) (st := []) C (mc_X4_free hK5 h4) cv_X1_193 hK5 rfl (Nat.le_of_ble_eq_true rfl) (Nat.le_of_ble_eq_true rfl) rfl (Nat.le_of_ble_eq_true rfl) dX1_free_4 ?_
  exact r_iret C dX1_free_7 rfl
theorem cv_X1_187 : mm_CV RX1 187 yX3_yards cX3_yards 1 (some .int) 0 3 := ⟨RX3, TX3, 11, _, lw_V q1304 q1305 q1306 q135 q1307, ⟨rfl, by decide +kernel, by decide +kernel, by decide +kernel⟩, rfl, rfl⟩
/-! X1 left -/
def fX1_left_b10 (K : mm_K) (th : Nat) (P : mm_P)  : Nat → Nat → Int32 → Int32 → Option Int32
  | 0, _, _, _ => none
  | n + 1, x1, x2, x3 =>
  mm_bd (fX1_cloths K th P) fun r1 =>
  if r1 ≤ x3 then
  (some (x2))
  else
  (mm_gd (K.1 x1 = 4) <|
  mm_bd (fX4_by x1 P x3) fun r4 =>
  mm_bd (fJ17_bitCount r4) fun r7 =>
  mm_bd (fX1_roomBy K th P x3 r7) fun r9 =>
  mm_lt (x2 - r9) fun v11 =>
  fX1_left_b10 K th P n x1 v11 (x3 + (1 : Int32)))
set_option maxHeartbeats 4000000 in
theorem wfX1_left_b10 {E : mm_E} (C : mm_Cx E RX1 cX1_left 4 (some .int) 5 107) {K : mm_K} {th : Nat} (hk : K.1 th = 1) {P : mm_P} {nx sl : Nat} : ∀ (n : Nat), ∀ (x1 : Nat) (x2 : Int32) (x3 : Int32), mm_V E (mm_wrI K P nx sl) 10 [some (.ref th), some (.ref x1), some (.int x2), some (.int x3)] [] K P nx sl (fX1_left_b10 K th P n x1 x2 x3) := by
  intro n
  induction n with
  | zero => intro x1 x2 x3; exact r_none
  | succ n ih =>
    intro x1 x2 x3
    rw [fX1_left_b10]
    refine r_iload_n C dX1_left_10 rfl rfl ?_
    refine r_aload_n C dX1_left_11 rfl rfl ?_
    refine r_bd fun r1 h2 => ?_
    refine r_callV (As := []) (st := [.int x3]) C (mc_X1_cloths hk h2) cv_X1_148 hk rfl (Nat.le_of_ble_eq_true rfl) (Nat.le_of_ble_eq_true rfl) rfl (Nat.le_of_ble_eq_true rfl) dX1_left_12 ?_
    refine r_icmpge (tgt := 40) C dX1_left_15 (by decide) (fun h3 => ?_) (fun h3 => ?_)
    · refine r_iload_n C dX1_left_40 rfl rfl ?_
      exact r_iret C dX1_left_41 rfl
    · refine r_iload_n C dX1_left_18 rfl rfl ?_
      refine r_aload_n C dX1_left_19 rfl rfl ?_
      refine r_iload_n C dX1_left_20 rfl rfl ?_
      refine r_aload_n C dX1_left_21 rfl rfl ?_
      refine r_iload_n C dX1_left_22 rfl rfl ?_
      refine r_gd fun hK6 => ?_
      refine r_bd fun r4 h5 => ?_
      refine r_callV (As := [.int x3]) (st := [.int x3, .ref th, .int x2]) C (mc_X4_by hK6 h5) cv_X1_157 hK6 rfl (Nat.le_of_ble_eq_true rfl) (Nat.le_of_ble_eq_true rfl) rfl (Nat.le_of_ble_eq_true rfl) dX1_left_23 ?_
      refine r_bd fun r7 h8 => ?_
      refine r_callS (As := [.int r4]) (st := [.int x3, .ref th, .int x2]) C (mc_J17_bitCount h8) cv_X1_161  rfl (Nat.le_of_ble_eq_true rfl) (Nat.le_of_ble_eq_true rfl) rfl (Nat.le_of_ble_eq_true rfl) dX1_left_26 ?_
      refine r_bd fun r9 h10 => ?_
      refine r_callV (As := [.int x3, .int r7]) (st := [.int x2]) C (mc_X1_roomBy hk h10) cv_X1_190 hk rfl (Nat.le_of_ble_eq_true rfl) (Nat.le_of_ble_eq_true rfl) rfl (Nat.le_of_ble_eq_true rfl) dX1_left_29 ?_
      refine r_isub C dX1_left_32 ?_
      refine r_ltI fun v11 => ?_
      refine r_istore_n (ls' := [some (.ref th), some (.ref x1), some (.int v11), some (.int x3)]) C dX1_left_33 rfl (Nat.le_of_ble_eq_true rfl) rfl rfl ?_
      refine r_iinc (v := 1) (ls' := [some (.ref th), some (.ref x1), some (.int v11), some (.int (x3 + (1 : Int32)))]) C dX1_left_34 rfl rfl (Nat.le_of_ble_eq_true rfl) rfl rfl ?_
      refine r_goto (tgt := 10) C dX1_left_37 (by decide) ?_
      exact ih x1 v11 (x3 + (1 : Int32))
def fX1_left (K : mm_K) (th : Nat) (P : mm_P) (x1 : Nat) : Option Int32 :=
  mm_bd (gR P 130 th) fun b1 =>
  mm_gd (K.1 b1 = 3) <|
  mm_bd (fX3_yards b1 P) fun r3 =>
  fX1_left_b10 K th P mm_NF x1 r3 (0 : Int32)
set_option maxHeartbeats 4000000 in
theorem mc_X1_left {l : Launch} {K : mm_K} {P : mm_P} {th : Nat} {x1 : Nat} {nx sl : Nat} {r : Int32} (hk : K.1 th = 1) (h : fX1_left K th P x1 = some r) : mm_C l yX1_left (ws_ yX1_left cX1_left 4 (some .int)) 5 107 [.ref th, .ref x1] K P nx sl (mm_wrI K P nx sl r) :=
  mm_start (ls := [some (.ref th), some (.ref x1), none, none]) h (by decide) (Nat.le_of_ble_eq_true rfl) rfl (Nat.le_refl _) (Nat.le_refl _) rfl fun E hl9 _ _ _ C => by
  have C : mm_Cx E RX1 cX1_left 4 (some .int) 5 107 := C
  unfold fX1_left
  refine r_aload_n C dX1_left_0 rfl rfl ?_
  refine r_getRn (code := 130) C fl_X1_35 hk rfl dX1_left_1 fun b1 h2 => ?_
  refine r_gd fun hK5 => ?_
  refine r_bd fun r3 h4 => ?_
  refine r_callV (As := []) (st := []) C (mc_X3_yards hK5 h4) cv_X1_187 hK5 rfl (Nat.le_of_ble_eq_true rfl) (Nat.le_of_ble_eq_true rfl) rfl (Nat.le_of_ble_eq_true rfl) dX1_left_4 ?_
  refine r_istore_n (ls' := [some (.ref th), some (.ref x1), some (.int r3), none]) C dX1_left_7 rfl (Nat.le_of_ble_eq_true rfl) rfl rfl ?_
  refine r_iconst (v := 0) C dX1_left_8 rfl ?_
  refine r_istore_n (ls' := [some (.ref th), some (.ref x1), some (.int r3), some (.int (0 : Int32))]) C dX1_left_9 rfl (Nat.le_of_ble_eq_true rfl) rfl rfl ?_
  exact wfX1_left_b10 C hk mm_NF x1 r3 (0 : Int32)
theorem cv_X1_196 : mm_CV RX1 196 yX1_left cX1_left 4 (some .int) 1 1 := ⟨RX1, TX1, 26, _, lw_V q1300 q1302 qs38 q133 q1303, ⟨rfl, by decide +kernel, by decide +kernel, by decide +kernel⟩, rfl, rfl⟩
/-! X1 canHang -/
def fX1_canHang_b44 (K : mm_K) (th : Nat) (P : mm_P)  (x1 : Nat) (x2 : Int32) (x4 : Int32) : Option Int32 :=
  mm_bd (fX1_roomBy K th P x2 x4) fun r1 =>
  mm_bd (fX1_left K th P x1) fun r3 =>
  if r3 < r1 then
  (some ((0 : Int32)))
  else
  (some ((1 : Int32)))
set_option maxHeartbeats 4000000 in
theorem wfX1_canHang_b44 {E : mm_E} (C : mm_Cx E RX1 cX1_canHang 5 (some .boolean) 6 130) {K : mm_K} {th : Nat} (hk : K.1 th = 1) {P : mm_P} {nx sl : Nat} (x1 : Nat) (x2 : Int32) (x4 : Int32) : mm_V E (mm_wrI K P nx sl) 44 [some (.ref th), some (.ref x1), some (.int x2), none, some (.int x4)] [] K P nx sl (fX1_canHang_b44 K th P x1 x2 x4) := by
  unfold fX1_canHang_b44
  refine r_aload_n C dX1_canHang_44 rfl rfl ?_
  refine r_iload_n C dX1_canHang_45 rfl rfl ?_
  refine r_iload C dX1_canHang_46 rfl ?_
  refine r_bd fun r1 h2 => ?_
  refine r_callV (As := [.int x2, .int x4]) (st := []) C (mc_X1_roomBy hk h2) cv_X1_190 hk rfl (Nat.le_of_ble_eq_true rfl) (Nat.le_of_ble_eq_true rfl) rfl (Nat.le_of_ble_eq_true rfl) dX1_canHang_48 ?_
  refine r_aload_n C dX1_canHang_51 rfl rfl ?_
  refine r_aload_n C dX1_canHang_52 rfl rfl ?_
  refine r_bd fun r3 h4 => ?_
  refine r_callV (As := [.ref x1]) (st := [.int r1]) C (mc_X1_left hk h4) cv_X1_196 hk rfl (Nat.le_of_ble_eq_true rfl) (Nat.le_of_ble_eq_true rfl) rfl (Nat.le_of_ble_eq_true rfl) dX1_canHang_53 ?_
  refine r_icmpgt (tgt := 63) C dX1_canHang_56 (by decide) (fun h5 => ?_) (fun h5 => ?_)
  · refine r_iconst (v := 0) C dX1_canHang_63 rfl ?_
    exact r_zret C dX1_canHang_64 rfl rfl
  · refine r_iconst (v := 1) C dX1_canHang_59 rfl ?_
    refine r_goto (tgt := 64) C dX1_canHang_60 (by decide) ?_
    exact r_zret C dX1_canHang_64 rfl rfl
def fX1_canHang (K : mm_K) (th : Nat) (P : mm_P) (x1 : Nat) (x2 : Int32) (x3 : Int32) : Option Int32 :=
  mm_bd (fJ17_bitCount x3) fun r1 =>
  mm_gd (K.1 x1 = 4) <|
  mm_bd (fX4_by x1 P x2) fun r3 =>
  if r3 ≠ 0 then
  (some ((0 : Int32)))
  else
  (mm_bd (fX4_free x1 P) fun r7 =>
  if (x3 &&& (r7 ^^^ (-1 : Int32))) ≠ 0 then
  (some ((0 : Int32)))
  else
  (if r1 = (1 : Int32) then
  (fX1_canHang_b44 K th P x1 x2 r1)
  else
  (mm_bd (fX1_cloth_2 K th P x2) fun r11 =>
  mm_bd (fV_needs K r11) fun r13 =>
  if r1 ≠ r13 then
  (some ((0 : Int32)))
  else
  (fX1_canHang_b44 K th P x1 x2 r1))))
set_option maxHeartbeats 4000000 in
theorem mc_X1_canHang {l : Launch} {K : mm_K} {P : mm_P} {th : Nat} {x1 : Nat} {x2 : Int32} {x3 : Int32} {nx sl : Nat} {r : Int32} (hk : K.1 th = 1) (h : fX1_canHang K th P x1 x2 x3 = some r) : mm_C l yX1_canHang (ws_ yX1_canHang cX1_canHang 5 (some .boolean)) 6 130 [.ref th, .ref x1, .int x2, .int x3] K P nx sl (mm_wrI K P nx sl r) :=
  mm_start (ls := [some (.ref th), some (.ref x1), some (.int x2), some (.int x3), none]) h (by decide) (Nat.le_of_ble_eq_true rfl) rfl (Nat.le_refl _) (Nat.le_refl _) rfl fun E hl9 _ _ _ C => by
  have C : mm_Cx E RX1 cX1_canHang 5 (some .boolean) 6 130 := C
  unfold fX1_canHang
  refine r_iload_n C dX1_canHang_0 rfl rfl ?_
  refine r_bd fun r1 h2 => ?_
  refine r_callS (As := [.int x3]) (st := []) C (mc_J17_bitCount h2) cv_X1_161  rfl (Nat.le_of_ble_eq_true rfl) (Nat.le_of_ble_eq_true rfl) rfl (Nat.le_of_ble_eq_true rfl) dX1_canHang_1 ?_
  refine r_istore (ls' := [some (.ref th), some (.ref x1), some (.int x2), some (.int x3), some (.int r1)]) C dX1_canHang_4 (Nat.le_of_ble_eq_true rfl) rfl rfl ?_
  refine r_aload_n C dX1_canHang_6 rfl rfl ?_
  refine r_iload_n C dX1_canHang_7 rfl rfl ?_
  refine r_gd fun hK5 => ?_
  refine r_bd fun r3 h4 => ?_
  refine r_callV (As := [.int x2]) (st := []) C (mc_X4_by hK5 h4) cv_X1_157 hK5 rfl (Nat.le_of_ble_eq_true rfl) (Nat.le_of_ble_eq_true rfl) rfl (Nat.le_of_ble_eq_true rfl) dX1_canHang_8 ?_
  refine r_ifne (tgt := 63) C dX1_canHang_11 (by decide) (fun h6 => ?_) (fun h6 => ?_)
  · refine r_iconst (v := 0) C dX1_canHang_63 rfl ?_
    exact r_zret C dX1_canHang_64 rfl rfl
  · refine r_iload_n C dX1_canHang_14 rfl rfl ?_
    refine r_aload_n C dX1_canHang_15 rfl rfl ?_
    refine r_bd fun r7 h8 => ?_
    refine r_callV (As := []) (st := [.int x3]) C (mc_X4_free hK5 h8) cv_X1_193 hK5 rfl (Nat.le_of_ble_eq_true rfl) (Nat.le_of_ble_eq_true rfl) rfl (Nat.le_of_ble_eq_true rfl) dX1_canHang_16 ?_
    refine r_iconst (v := -1) C dX1_canHang_19 rfl ?_
    refine r_ixor C dX1_canHang_20 ?_
    refine r_iand C dX1_canHang_21 ?_
    refine r_ifne (tgt := 63) C dX1_canHang_22 (by decide) (fun h9 => ?_) (fun h9 => ?_)
    · refine r_iconst (v := 0) C dX1_canHang_63 rfl ?_
      exact r_zret C dX1_canHang_64 rfl rfl
    · refine r_iload C dX1_canHang_25 rfl ?_
      refine r_iconst (v := 1) C dX1_canHang_27 rfl ?_
      refine r_icmpeq (tgt := 44) C dX1_canHang_28 (by decide) (fun h10 => ?_) (fun h10 => ?_)
      · refine r_mask [true, true, true, false, true] (ls' := [some (.ref th), some (.ref x1), some (.int x2), none, some (.int r1)]) rfl ?_
        exact wfX1_canHang_b44 C hk x1 x2 r1
      · refine r_iload C dX1_canHang_31 rfl ?_
        refine r_aload_n C dX1_canHang_33 rfl rfl ?_
        refine r_iload_n C dX1_canHang_34 rfl rfl ?_
        refine r_bd fun r11 h12 => ?_
        refine r_callV (As := [.int x2]) (st := [.int r1]) C (mc_X1_cloth_2 hk h12) cv_X1_166 hk rfl (Nat.le_of_ble_eq_true rfl) (Nat.le_of_ble_eq_true rfl) rfl (Nat.le_of_ble_eq_true rfl) dX1_canHang_35 ?_
        refine r_bd fun r13 h14 => ?_
        refine vd_X1_170 (st := [.int r1]) C (dv_needs h14) (Nat.le_of_ble_eq_true rfl) (Nat.le_of_ble_eq_true rfl) rfl (Nat.le_of_ble_eq_true rfl) dX1_canHang_38 ?_
        refine r_icmpne (tgt := 63) C dX1_canHang_41 (by decide) (fun h15 => ?_) (fun h15 => ?_)
        · refine r_iconst (v := 0) C dX1_canHang_63 rfl ?_
          exact r_zret C dX1_canHang_64 rfl rfl
        · refine r_mask [true, true, true, false, true] (ls' := [some (.ref th), some (.ref x1), some (.int x2), none, some (.int r1)]) rfl ?_
          exact wfX1_canHang_b44 C hk x1 x2 r1
theorem fl_X1_223 : mm_FL RX1 223 3 10 mm_r (tyX3 10) false := ⟨RX3, TX3, 11, _, tyX3, rfl, in_X3, rfl, rfl, Nat.le_of_ble_eq_true rfl, Or.inr (Or.inl ⟨_, nw_in q274 rfl⟩), tyX3_ok, nmX3, rfl, rfl⟩
/-! X1 driedOf -/
def fX1_driedOf (K : mm_K) (th : Nat) (x1 : Int32) (x2 : Int32) (x3 : Int32) (P : mm_P) : Option (Int32 × mm_P) :=
  mm_bd (gR P 130 th) fun b1 =>
  mm_gd (K.1 b1 = 3) <|
  mm_bd (fX1_worked K th (gR P 394 b1) x1 x2 x3 x3 (9 : Int32) P) fun r4 =>
  some (mm_max (0 : Int32) (x2 - r4.1), r4.2)
set_option maxHeartbeats 4000000 in
theorem mc_X1_driedOf {l : Launch} {K : mm_K} {P : mm_P} {th : Nat} {x1 : Int32} {x2 : Int32} {x3 : Int32} {nx sl : Nat} {r : (Int32 × mm_P)} (hk : K.1 th = 1) (h : fX1_driedOf K th x1 x2 x3 P = some r) : mm_C l yX1_driedOf (ws_ yX1_driedOf cX1_driedOf 4 (some .int)) 602 13849 [.ref th, .int x1, .int x2, .int x3] K P nx sl (mm_wwI K nx sl r) :=
  mm_start (ls := [some (.ref th), some (.int x1), some (.int x2), some (.int x3)]) h (by decide) (Nat.le_of_ble_eq_true rfl) rfl (Nat.le_refl _) (Nat.le_refl _) rfl fun E hl9 _ _ _ C => by
  have C : mm_Cx E RX1 cX1_driedOf 4 (some .int) 602 13849 := C
  unfold fX1_driedOf
  refine r_iconst (v := 0) C dX1_driedOf_0 rfl ?_
  refine r_iload_n C dX1_driedOf_1 rfl rfl ?_
  refine r_aload_n C dX1_driedOf_2 rfl rfl ?_
  refine r_aload_n C dX1_driedOf_3 rfl rfl ?_
  refine r_getRn (code := 130) C fl_X1_35 hk rfl dX1_driedOf_4 fun b1 h2 => ?_
  refine r_gd fun hK3 => ?_
  refine r_getRo (code := 394) C fl_X1_223 hK3 rfl dX1_driedOf_7 ?_
  refine r_iload_n C dX1_driedOf_10 rfl rfl ?_
  refine r_iload_n C dX1_driedOf_11 rfl rfl ?_
  refine r_iload_n C dX1_driedOf_12 rfl rfl ?_
  refine r_iload_n C dX1_driedOf_13 rfl rfl ?_
  refine r_bipush (v := 9) C dX1_driedOf_14 rfl ?_
  refine r_bd fun r4 h5 => ?_
  refine r_callV (As := [va_rf (gR P 394 b1), .int x1, .int x2, .int x3, .int x3, .int (9 : Int32)]) (st := [.int x2, .int (0 : Int32)]) C (mc_X1_worked hk h5) cv_X1_217 hk rfl (Nat.le_of_ble_eq_true rfl) (Nat.le_of_ble_eq_true rfl) rfl (Nat.le_of_ble_eq_true rfl) dX1_driedOf_16 ?_
  refine r_isub C dX1_driedOf_19 ?_
  refine r_mmax C q1244 q483 q143 q484 (Nat.le_of_ble_eq_true rfl) (Nat.le_of_ble_eq_true rfl) (Nat.le_of_ble_eq_true rfl) dX1_driedOf_20 ?_
  exact r_iret C dX1_driedOf_23 rfl
theorem cv_X1_232 : mm_CV RX1 232 yX4_grips cX4_grips 4 (some .int) 1 4 := ⟨RX4, TX4, 6, _, lw_V q1352 q1353 q1354 q139 q1355, ⟨rfl, by decide +kernel, by decide +kernel, by decide +kernel⟩, rfl, rfl⟩
theorem cv_X1_235 : mm_CV RX1 235 yX4_wears cX4_wears 3 none 1 4 := ⟨RX4, TX4, 6, _, lw_V q1356 q1357 q1358 q139 q1359, ⟨rfl, by decide +kernel, by decide +kernel, by decide +kernel⟩, rfl, rfl⟩
theorem cv_X1_238 : mm_CV RX1 238 yX4_falls cX4_falls 2 none 1 4 := ⟨RX4, TX4, 6, _, lw_V q1361 q1362 q1363 q139 q1364, ⟨rfl, by decide +kernel, by decide +kernel, by decide +kernel⟩, rfl, rfl⟩
theorem cv_X1_241 : mm_CV RX1 241 yX1_driedOf cX1_driedOf 4 (some .int) 3 1 := ⟨RX1, TX1, 26, _, lw_V q1367 q1369 qs42 q133 q1370, ⟨rfl, by decide +kernel, by decide +kernel, by decide +kernel⟩, rfl, rfl⟩
/-! X1 blows -/
def fX1_blows_b75 (K : mm_K) (th : Nat)  (x1 : Nat) (x2 : Int32) (P : mm_P) : Option (Int32 × mm_P) :=
  mm_gd (K.1 x1 = 4) <|
  mm_bd (fX4_falls x1 x2 P) fun r1 =>
  some ((1 : Int32), r1)
set_option maxHeartbeats 4000000 in
theorem wfX1_blows_b75 {E : mm_E} (C : mm_Cx E RX1 cX1_blows 7 (some .boolean) 603 13872) {K : mm_K} {th : Nat} (hk : K.1 th = 1) {nx sl : Nat} (x1 : Nat) (x2 : Int32) (P : mm_P) : mm_V E (mm_wwI K nx sl) 75 [none, some (.ref x1), some (.int x2), none, none, none, none] [] K P nx sl (fX1_blows_b75 K th x1 x2 P) := by
  unfold fX1_blows_b75
  refine r_aload_n C dX1_blows_75 rfl rfl ?_
  refine r_iload_n C dX1_blows_76 rfl rfl ?_
  refine r_gd fun hK3 => ?_
  refine r_bd fun r1 h2 => ?_
  refine r_callVv (As := [.int x2]) (st := []) C (mc_X4_falls hK3 h2) cv_X1_238 hK3 rfl (Nat.le_of_ble_eq_true rfl) (Nat.le_of_ble_eq_true rfl) rfl (Nat.le_of_ble_eq_true rfl) dX1_blows_77 ?_
  refine r_iconst (v := 1) C dX1_blows_80 rfl ?_
  exact r_zret C dX1_blows_81 rfl rfl
def fX1_blows_b62 (K : mm_K) (th : Nat)  (x1 : Nat) (x2 : Int32) (x3 : Int32) (x6 : Int32) (P : mm_P) : Option (Int32 × mm_P) :=
  if x6 ≠ 0 then
  (fX1_blows_b75 K th x1 x2 P)
  else
  (mm_gd (K.1 x1 = 4) <|
  mm_bd (fX4_by x1 P x2) fun r2 =>
  if r2 ≠ 0 then
  (mm_gd (mm_in x2 6) <|
  mm_bd (fX1_driedOf K th x2 (gA P 514 x1 x2.toNatClampNeg) x3 P) fun r7 =>
  mm_gd (mm_in x2 6) <|
  mm_lt (sA r7.2 514 x1 x2.toNatClampNeg r7.1) fun P10 =>
  some ((0 : Int32), P10))
  else
  (fX1_blows_b75 K th x1 x2 P))
set_option maxHeartbeats 4000000 in
theorem wfX1_blows_b62 {E : mm_E} (C : mm_Cx E RX1 cX1_blows 7 (some .boolean) 603 13872) {K : mm_K} {th : Nat} (hk : K.1 th = 1) {nx sl : Nat} (x1 : Nat) (x2 : Int32) (x3 : Int32) (x6 : Int32) (P : mm_P) : mm_V E (mm_wwI K nx sl) 62 [some (.ref th), some (.ref x1), some (.int x2), some (.int x3), none, none, some (.int x6)] [] K P nx sl (fX1_blows_b62 K th x1 x2 x3 x6 P) := by
  unfold fX1_blows_b62
  refine r_iload C dX1_blows_62 rfl ?_
  refine r_ifne (tgt := 75) C dX1_blows_64 (by decide) (fun h1 => ?_) (fun h1 => ?_)
  · refine r_mask [false, true, true, false, true, true, false] (ls' := [none, some (.ref x1), some (.int x2), none, none, none, none]) rfl ?_
    exact wfX1_blows_b75 C hk x1 x2 P
  · refine r_aload_n C dX1_blows_67 rfl rfl ?_
    refine r_iload_n C dX1_blows_68 rfl rfl ?_
    refine r_gd fun hK4 => ?_
    refine r_bd fun r2 h3 => ?_
    refine r_callV (As := [.int x2]) (st := []) C (mc_X4_by hK4 h3) cv_X1_157 hK4 rfl (Nat.le_of_ble_eq_true rfl) (Nat.le_of_ble_eq_true rfl) rfl (Nat.le_of_ble_eq_true rfl) dX1_blows_69 ?_
    refine r_ifne (tgt := 82) C dX1_blows_72 (by decide) (fun h5 => ?_) (fun h5 => ?_)
    · refine r_aload_n C dX1_blows_82 rfl rfl ?_
      refine r_getA C fl_X1_226 hK4 dX1_blows_83 ?_
      refine r_iload_n C dX1_blows_86 rfl rfl ?_
      refine r_aload_n C dX1_blows_87 rfl rfl ?_
      refine r_iload_n C dX1_blows_88 rfl rfl ?_
      refine r_aload_n C dX1_blows_89 rfl rfl ?_
      refine r_getA C fl_X1_226 hK4 dX1_blows_90 ?_
      refine r_iload_n C dX1_blows_93 rfl rfl ?_
      refine r_iald C (rg_514 hK4) rfl dX1_blows_94 fun h6 => ?_
      refine r_iload_n C dX1_blows_95 rfl rfl ?_
      refine r_bd fun r7 h8 => ?_
      refine r_callV (As := [.int x2, .int (gA P 514 x1 x2.toNatClampNeg), .int x3]) (st := [.int x2, .ref (x1 + 3)]) C (mc_X1_driedOf hk h8) cv_X1_241 hk rfl (Nat.le_of_ble_eq_true rfl) (Nat.le_of_ble_eq_true rfl) rfl (Nat.le_of_ble_eq_true rfl) dX1_blows_96 ?_
      refine r_iast C (rg_514 hK4) (mm_ro_of (k := 4) hK4 rfl) rfl dX1_blows_99 fun h9 => ?_
      refine r_ltP fun P10 => ?_
      refine r_iconst (v := 0) C dX1_blows_100 rfl ?_
      exact r_zret C dX1_blows_101 rfl rfl
    · refine r_mask [false, true, true, false, true, true, false] (ls' := [none, some (.ref x1), some (.int x2), none, none, none, none]) rfl ?_
      exact wfX1_blows_b75 C hk x1 x2 P
def fX1_blows_b57 (K : mm_K) (th : Nat)  (x1 : Nat) (x2 : Int32) (x3 : Int32) (x6 : Int32) (P : mm_P) : Option (Int32 × mm_P) :=
  mm_gd (K.1 x1 = 4) <|
  mm_bd (fX4_wears x1 x2 P) fun r1 =>
  fX1_blows_b62 K th x1 x2 x3 x6 r1
set_option maxHeartbeats 4000000 in
theorem wfX1_blows_b57 {E : mm_E} (C : mm_Cx E RX1 cX1_blows 7 (some .boolean) 603 13872) {K : mm_K} {th : Nat} (hk : K.1 th = 1) {nx sl : Nat} (x1 : Nat) (x2 : Int32) (x3 : Int32) (x6 : Int32) (P : mm_P) : mm_V E (mm_wwI K nx sl) 57 [some (.ref th), some (.ref x1), some (.int x2), some (.int x3), none, none, some (.int x6)] [] K P nx sl (fX1_blows_b57 K th x1 x2 x3 x6 P) := by
  unfold fX1_blows_b57
  refine r_aload_n C dX1_blows_57 rfl rfl ?_
  refine r_iload_n C dX1_blows_58 rfl rfl ?_
  refine r_gd fun hK3 => ?_
  refine r_bd fun r1 h2 => ?_
  refine r_callVv (As := [.int x2]) (st := []) C (mc_X4_wears hK3 h2) cv_X1_235 hK3 rfl (Nat.le_of_ble_eq_true rfl) (Nat.le_of_ble_eq_true rfl) rfl (Nat.le_of_ble_eq_true rfl) dX1_blows_59 ?_
  exact wfX1_blows_b62 C hk x1 x2 x3 x6 r1
def fX1_blows_b37 (K : mm_K) (th : Nat)  (x1 : Nat) (x2 : Int32) (x3 : Int32) (x4 : Int32) (x5 : Int32) (s0 : Int32) (P : mm_P) : Option (Int32 × mm_P) :=
  if s0 ≠ 0 then
  (fX1_blows_b57 K th x1 x2 x3 s0 P)
  else
  (mm_gd (K.1 x1 = 4) <|
  mm_bd (fX4_grips x1 P x4) fun r2 =>
  if (x5 * (2 : Int32)) ≤ r2 then
  (fX1_blows_b62 K th x1 x2 x3 s0 P)
  else
  (fX1_blows_b57 K th x1 x2 x3 s0 P))
set_option maxHeartbeats 4000000 in
theorem wfX1_blows_b37 {E : mm_E} (C : mm_Cx E RX1 cX1_blows 7 (some .boolean) 603 13872) {K : mm_K} {th : Nat} (hk : K.1 th = 1) {nx sl : Nat} (x1 : Nat) (x2 : Int32) (x3 : Int32) (x4 : Int32) (x5 : Int32) (s0 : Int32) (P : mm_P) : mm_V E (mm_wwI K nx sl) 37 [some (.ref th), some (.ref x1), some (.int x2), some (.int x3), some (.int x4), some (.int x5), none] [.int s0] K P nx sl (fX1_blows_b37 K th x1 x2 x3 x4 x5 s0 P) := by
  unfold fX1_blows_b37
  refine r_istore (ls' := [some (.ref th), some (.ref x1), some (.int x2), some (.int x3), some (.int x4), some (.int x5), some (.int s0)]) C dX1_blows_37 (Nat.le_of_ble_eq_true rfl) rfl rfl ?_
  refine r_iload C dX1_blows_39 rfl ?_
  refine r_ifne (tgt := 57) C dX1_blows_41 (by decide) (fun h1 => ?_) (fun h1 => ?_)
  · refine r_mask [true, true, true, true, false, false, true] (ls' := [some (.ref th), some (.ref x1), some (.int x2), some (.int x3), none, none, some (.int s0)]) rfl ?_
    exact wfX1_blows_b57 C hk x1 x2 x3 s0 P
  · refine r_iload C dX1_blows_44 rfl ?_
    refine r_iconst (v := 2) C dX1_blows_46 rfl ?_
    refine r_imul C dX1_blows_47 ?_
    refine r_aload_n C dX1_blows_48 rfl rfl ?_
    refine r_iload C dX1_blows_49 rfl ?_
    refine r_gd fun hK4 => ?_
    refine r_bd fun r2 h3 => ?_
    refine r_callV (As := [.int x4]) (st := [.int (x5 * (2 : Int32))]) C (mc_X4_grips hK4 h3) cv_X1_232 hK4 rfl (Nat.le_of_ble_eq_true rfl) (Nat.le_of_ble_eq_true rfl) rfl (Nat.le_of_ble_eq_true rfl) dX1_blows_51 ?_
    refine r_icmple (tgt := 62) C dX1_blows_54 (by decide) (fun h5 => ?_) (fun h5 => ?_)
    · refine r_mask [true, true, true, true, false, false, true] (ls' := [some (.ref th), some (.ref x1), some (.int x2), some (.int x3), none, none, some (.int s0)]) rfl ?_
      exact wfX1_blows_b62 C hk x1 x2 x3 s0 P
    · refine r_mask [true, true, true, true, false, false, true] (ls' := [some (.ref th), some (.ref x1), some (.int x2), some (.int x3), none, none, some (.int s0)]) rfl ?_
      exact wfX1_blows_b57 C hk x1 x2 x3 s0 P
def fX1_blows (K : mm_K) (th : Nat) (x1 : Nat) (x2 : Int32) (x3 : Int32) (P : mm_P) : Option (Int32 × mm_P) :=
  mm_gd (K.1 x1 = 4) <|
  mm_bd (fX4_by x1 P x2) fun r1 =>
  mm_gd (mm_in x2 6) <|
  mm_bd (fX1_pullOf K th x2 (gA P 514 x1 x2.toNatClampNeg) x3 P) fun r5 =>
  mm_bd (fX4_grips x1 r5.2 r1) fun r7 =>
  if r5.1 ≤ r7 then
  (fX1_blows_b37 K th x1 x2 x3 r1 r5.1 (0 : Int32) r5.2)
  else
  (fX1_blows_b37 K th x1 x2 x3 r1 r5.1 (1 : Int32) r5.2)
set_option maxHeartbeats 4000000 in
theorem mc_X1_blows {l : Launch} {K : mm_K} {P : mm_P} {th : Nat} {x1 : Nat} {x2 : Int32} {x3 : Int32} {nx sl : Nat} {r : (Int32 × mm_P)} (hk : K.1 th = 1) (h : fX1_blows K th x1 x2 x3 P = some r) : mm_C l yX1_blows (ws_ yX1_blows cX1_blows 7 (some .boolean)) 603 13872 [.ref th, .ref x1, .int x2, .int x3] K P nx sl (mm_wwI K nx sl r) :=
  mm_start (ls := [some (.ref th), some (.ref x1), some (.int x2), some (.int x3), none, none, none]) h (by decide) (Nat.le_of_ble_eq_true rfl) rfl (Nat.le_refl _) (Nat.le_refl _) rfl fun E hl9 _ _ _ C => by
  have C : mm_Cx E RX1 cX1_blows 7 (some .boolean) 603 13872 := C
  unfold fX1_blows
  refine r_aload_n C dX1_blows_0 rfl rfl ?_
  refine r_iload_n C dX1_blows_1 rfl rfl ?_
  refine r_gd fun hK3 => ?_
  refine r_bd fun r1 h2 => ?_
  refine r_callV (As := [.int x2]) (st := []) C (mc_X4_by hK3 h2) cv_X1_157 hK3 rfl (Nat.le_of_ble_eq_true rfl) (Nat.le_of_ble_eq_true rfl) rfl (Nat.le_of_ble_eq_true rfl) dX1_blows_2 ?_
  refine r_istore (ls' := [some (.ref th), some (.ref x1), some (.int x2), some (.int x3), some (.int r1), none, none]) C dX1_blows_5 (Nat.le_of_ble_eq_true rfl) rfl rfl ?_
  refine r_aload_n C dX1_blows_7 rfl rfl ?_
  refine r_iload_n C dX1_blows_8 rfl rfl ?_
  refine r_aload_n C dX1_blows_9 rfl rfl ?_
  refine r_getA C fl_X1_226 hK3 dX1_blows_10 ?_
  refine r_iload_n C dX1_blows_13 rfl rfl ?_
  refine r_iald C (rg_514 hK3) rfl dX1_blows_14 fun h4 => ?_
  refine r_iload_n C dX1_blows_15 rfl rfl ?_
  refine r_bd fun r5 h6 => ?_
  refine r_callV (As := [.int x2, .int (gA P 514 x1 x2.toNatClampNeg), .int x3]) (st := []) C (mc_X1_pullOf hk h6) cv_X1_229 hk rfl (Nat.le_of_ble_eq_true rfl) (Nat.le_of_ble_eq_true rfl) rfl (Nat.le_of_ble_eq_true rfl) dX1_blows_16 ?_
  refine r_istore (ls' := [some (.ref th), some (.ref x1), some (.int x2), some (.int x3), some (.int r1), some (.int r5.1), none]) C dX1_blows_19 (Nat.le_of_ble_eq_true rfl) rfl rfl ?_
  refine r_iload C dX1_blows_21 rfl ?_
  refine r_aload_n C dX1_blows_23 rfl rfl ?_
  refine r_iload C dX1_blows_24 rfl ?_
  refine r_bd fun r7 h8 => ?_
  refine r_callV (As := [.int r1]) (st := [.int r5.1]) C (mc_X4_grips hK3 h8) cv_X1_232 hK3 rfl (Nat.le_of_ble_eq_true rfl) (Nat.le_of_ble_eq_true rfl) rfl (Nat.le_of_ble_eq_true rfl) dX1_blows_26 ?_
  refine r_icmple (tgt := 36) C dX1_blows_29 (by decide) (fun h9 => ?_) (fun h9 => ?_)
  · refine r_iconst (v := 0) C dX1_blows_36 rfl ?_
    exact wfX1_blows_b37 C hk x1 x2 x3 r1 r5.1 (0 : Int32) r5.2
  · refine r_iconst (v := 1) C dX1_blows_32 rfl ?_
    refine r_goto (tgt := 37) C dX1_blows_33 (by decide) ?_
    exact wfX1_blows_b37 C hk x1 x2 x3 r1 r5.1 (1 : Int32) r5.2
theorem cv_X1_250 : mm_CV RX1 250 yX1_blows cX1_blows 7 (some .boolean) 3 1 := ⟨RX1, TX1, 26, _, lw_V q1348 q1350 qs41 q133 q1351, ⟨rfl, by decide +kernel, by decide +kernel, by decide +kernel⟩, rfl, rfl⟩
/-! X1 passes -/
def fX1_passes_b20 (K : mm_K) (th : Nat)  : Nat → Nat → Int32 → Int32 → Int32 → mm_P → Option (Int32 × mm_P)
  | 0, _, _, _, _, _ => none
  | n + 1, x1, x3, x4, x5, P =>
  mm_bd (fX1_cloths K th P) fun r1 =>
  if r1 ≤ x5 then
  (mm_gd (K.1 x1 = 4) <|
  mm_lt (sI P 516 x1 ((gI P 516 x1) + (1 : Int32))) fun P5 =>
  some (x3, P5))
  else
  (mm_gd (K.1 x1 = 4) <|
  mm_bd (fX4_by x1 P x5) fun r6 =>
  if r6 = 0 then
  (fX1_passes_b20 K th n x1 x3 x4 (x5 + (1 : Int32)) P)
  else
  (mm_bd (fX1_blows K th x1 x5 x4 P) fun r10 =>
  if r10.1 = 0 then
  (fX1_passes_b20 K th n x1 x3 x4 (x5 + (1 : Int32)) r10.2)
  else
  (fX1_passes_b20 K th n x1 (x3 + (1 : Int32)) x4 (x5 + (1 : Int32)) r10.2)))
set_option maxHeartbeats 4000000 in
theorem wfX1_passes_b20 {E : mm_E} (C : mm_Cx E RX1 cX1_passes 6 (some .int) 604 13898) {K : mm_K} {th : Nat} (hk : K.1 th = 1) {nx sl : Nat} : ∀ (n : Nat), ∀ (x1 : Nat) (x3 : Int32) (x4 : Int32) (x5 : Int32) (P : mm_P), mm_V E (mm_wwI K nx sl) 20 [some (.ref th), some (.ref x1), none, some (.int x3), some (.int x4), some (.int x5)] [] K P nx sl (fX1_passes_b20 K th n x1 x3 x4 x5 P) := by
  intro n
  induction n with
  | zero => intro x1 x3 x4 x5 P; exact r_none
  | succ n ih =>
    intro x1 x3 x4 x5 P
    rw [fX1_passes_b20]
    refine r_iload C dX1_passes_20 rfl ?_
    refine r_aload_n C dX1_passes_22 rfl rfl ?_
    refine r_bd fun r1 h2 => ?_
    refine r_callV (As := []) (st := [.int x5]) C (mc_X1_cloths hk h2) cv_X1_148 hk rfl (Nat.le_of_ble_eq_true rfl) (Nat.le_of_ble_eq_true rfl) rfl (Nat.le_of_ble_eq_true rfl) dX1_passes_23 ?_
    refine r_icmpge (tgt := 59) C dX1_passes_26 (by decide) (fun h3 => ?_) (fun h3 => ?_)
    · refine r_aload_n C dX1_passes_59 rfl rfl ?_
      refine r_dup C dX1_passes_60 rfl ?_
      refine r_gd fun hK4 => ?_
      refine r_getI (code := 516) C fl_X1_244 hK4 rfl dX1_passes_61 ?_
      refine r_iconst (v := 1) C dX1_passes_64 rfl ?_
      refine r_iadd C dX1_passes_65 ?_
      refine r_putI (code := 516) C fl_X1_244 hK4 rfl rfl dX1_passes_66 ?_
      refine r_ltP fun P5 => ?_
      refine r_iload_n C dX1_passes_69 rfl rfl ?_
      exact r_iret C dX1_passes_70 rfl
    · refine r_aload_n C dX1_passes_29 rfl rfl ?_
      refine r_iload C dX1_passes_30 rfl ?_
      refine r_gd fun hK8 => ?_
      refine r_bd fun r6 h7 => ?_
      refine r_callV (As := [.int x5]) (st := []) C (mc_X4_by hK8 h7) cv_X1_157 hK8 rfl (Nat.le_of_ble_eq_true rfl) (Nat.le_of_ble_eq_true rfl) rfl (Nat.le_of_ble_eq_true rfl) dX1_passes_32 ?_
      refine r_ifeq (tgt := 53) C dX1_passes_35 (by decide) (fun h9 => ?_) (fun h9 => ?_)
      · refine r_iinc (v := 1) (ls' := [some (.ref th), some (.ref x1), none, some (.int x3), some (.int x4), some (.int (x5 + (1 : Int32)))]) C dX1_passes_53 rfl rfl (Nat.le_of_ble_eq_true rfl) rfl rfl ?_
        refine r_goto (tgt := 20) C dX1_passes_56 (by decide) ?_
        exact ih x1 x3 x4 (x5 + (1 : Int32)) P
      · refine r_aload_n C dX1_passes_38 rfl rfl ?_
        refine r_aload_n C dX1_passes_39 rfl rfl ?_
        refine r_iload C dX1_passes_40 rfl ?_
        refine r_iload C dX1_passes_42 rfl ?_
        refine r_bd fun r10 h11 => ?_
        refine r_callV (As := [.ref x1, .int x5, .int x4]) (st := []) C (mc_X1_blows hk h11) cv_X1_250 hk rfl (Nat.le_of_ble_eq_true rfl) (Nat.le_of_ble_eq_true rfl) rfl (Nat.le_of_ble_eq_true rfl) dX1_passes_44 ?_
        refine r_ifeq (tgt := 53) C dX1_passes_47 (by decide) (fun h12 => ?_) (fun h12 => ?_)
        · refine r_iinc (v := 1) (ls' := [some (.ref th), some (.ref x1), none, some (.int x3), some (.int x4), some (.int (x5 + (1 : Int32)))]) C dX1_passes_53 rfl rfl (Nat.le_of_ble_eq_true rfl) rfl rfl ?_
          refine r_goto (tgt := 20) C dX1_passes_56 (by decide) ?_
          exact ih x1 x3 x4 (x5 + (1 : Int32)) r10.2
        · refine r_iinc (v := 1) (ls' := [some (.ref th), some (.ref x1), none, some (.int (x3 + (1 : Int32))), some (.int x4), some (.int x5)]) C dX1_passes_50 rfl rfl (Nat.le_of_ble_eq_true rfl) rfl rfl ?_
          refine r_iinc (v := 1) (ls' := [some (.ref th), some (.ref x1), none, some (.int (x3 + (1 : Int32))), some (.int x4), some (.int (x5 + (1 : Int32)))]) C dX1_passes_53 rfl rfl (Nat.le_of_ble_eq_true rfl) rfl rfl ?_
          refine r_goto (tgt := 20) C dX1_passes_56 (by decide) ?_
          exact ih x1 (x3 + (1 : Int32)) x4 (x5 + (1 : Int32)) r10.2
def fX1_passes (K : mm_K) (th : Nat) (x1 : Nat) (x2 : Int32) (P : mm_P) : Option (Int32 × mm_P) :=
  mm_bd (gR P 130 th) fun b1 =>
  mm_gd (K.1 x1 = 4) <|
  mm_gd (K.1 b1 = 3) <|
  mm_bd (fX3_wind b1 P (gI P 516 x1)) fun r4 =>
  mm_lt (r4 + x2) fun v7 =>
  fX1_passes_b20 K th mm_NF x1 (0 : Int32) v7 (0 : Int32) P
set_option maxHeartbeats 4000000 in
theorem mc_X1_passes {l : Launch} {K : mm_K} {P : mm_P} {th : Nat} {x1 : Nat} {x2 : Int32} {nx sl : Nat} {r : (Int32 × mm_P)} (hk : K.1 th = 1) (h : fX1_passes K th x1 x2 P = some r) : mm_C l yX1_passes (ws_ yX1_passes cX1_passes 6 (some .int)) 604 13898 [.ref th, .ref x1, .int x2] K P nx sl (mm_wwI K nx sl r) :=
  mm_start (ls := [some (.ref th), some (.ref x1), some (.int x2), none, none, none]) h (by decide) (Nat.le_of_ble_eq_true rfl) rfl (Nat.le_refl _) (Nat.le_refl _) rfl fun E hl9 _ _ _ C => by
  have C : mm_Cx E RX1 cX1_passes 6 (some .int) 604 13898 := C
  unfold fX1_passes
  refine r_iconst (v := 0) C dX1_passes_0 rfl ?_
  refine r_istore_n (ls' := [some (.ref th), some (.ref x1), some (.int x2), some (.int (0 : Int32)), none, none]) C dX1_passes_1 rfl (Nat.le_of_ble_eq_true rfl) rfl rfl ?_
  refine r_aload_n C dX1_passes_2 rfl rfl ?_
  refine r_getRn (code := 130) C fl_X1_35 hk rfl dX1_passes_3 fun b1 h2 => ?_
  refine r_aload_n C dX1_passes_6 rfl rfl ?_
  refine r_gd fun hK3 => ?_
  refine r_getI (code := 516) C fl_X1_244 hK3 rfl dX1_passes_7 ?_
  refine r_gd fun hK6 => ?_
  refine r_bd fun r4 h5 => ?_
  refine r_callV (As := [.int (gI P 516 x1)]) (st := []) C (mc_X3_wind hK6 h5) cv_X1_247 hK6 rfl (Nat.le_of_ble_eq_true rfl) (Nat.le_of_ble_eq_true rfl) rfl (Nat.le_of_ble_eq_true rfl) dX1_passes_10 ?_
  refine r_iload_n C dX1_passes_13 rfl rfl ?_
  refine r_iadd C dX1_passes_14 ?_
  refine r_ltI fun v7 => ?_
  refine r_istore (ls' := [some (.ref th), some (.ref x1), some (.int x2), some (.int (0 : Int32)), some (.int v7), none]) C dX1_passes_15 (Nat.le_of_ble_eq_true rfl) rfl rfl ?_
  refine r_iconst (v := 0) C dX1_passes_17 rfl ?_
  refine r_istore (ls' := [some (.ref th), some (.ref x1), some (.int x2), some (.int (0 : Int32)), some (.int v7), some (.int (0 : Int32))]) C dX1_passes_18 (Nat.le_of_ble_eq_true rfl) rfl rfl ?_
  refine r_mask [true, true, false, true, true, true] (ls' := [some (.ref th), some (.ref x1), none, some (.int (0 : Int32)), some (.int v7), some (.int (0 : Int32))]) rfl ?_
  exact wfX1_passes_b20 C hk mm_NF x1 (0 : Int32) v7 (0 : Int32) P
theorem rg_136 {K : mm_K} {a : Nat} (h : K.1 a = 1) : mm_reg K 136 a 21 5 16 := Or.inl ⟨1, 8, rfl, h, by decide, rfl⟩
theorem fl_X1_128 : mm_FL RX1 128 1 9 mm_i .int false := ⟨RX1, TX1, 26, _, tyX1, rfl, in_X1, rfl, rfl, Nat.le_of_ble_eq_true rfl, Or.inl q352, tyX1_ok, nmX1, rfl, rfl⟩
theorem fl_X1_62 : mm_FL RX1 62 1 8 (mm_a 21 5 16) (tyX1 8) true := ⟨RX1, TX1, 26, _, tyX1, rfl, in_X1, rfl, rfl, Nat.le_of_ble_eq_true rfl, Or.inl q351, tyX1_ok, nmX1, rfl, rfl⟩
theorem cv_X1_276 : mm_CV RX1 276 yX4_be cX4_be 2 none 1 4 := ⟨RX4, TX4, 6, _, lw_V q1312 q1313 q1314 q139 q1315, ⟨rfl, by decide +kernel, by decide +kernel, by decide +kernel⟩, rfl, rfl⟩
/-! X1 undo -/
def fX1_undo (K : mm_K) (th : Nat)  (P : mm_P) : Option (Int32 × mm_P) :=
  if (gI P 137 th) ≠ 0 then
  (mm_bd (gR P 132 th) fun b2 =>
  mm_lt ((gI P 137 th) - (1 : Int32)) fun v4 =>
  mm_lt (sI P 137 th v4) fun P5 =>
  mm_gd (mm_in v4 16) <|
  mm_bd (gB P5 136 th v4.toNatClampNeg) fun b7 =>
  mm_gd (K.1 b2 = 4) <|
  mm_bd (fX4_be K b2 b7 P5) fun r9 =>
  some ((1 : Int32), r9))
  else
  (some ((0 : Int32), P))
set_option maxHeartbeats 4000000 in
theorem mc_X1_undo {l : Launch} {K : mm_K} {P : mm_P} {th : Nat}  {nx sl : Nat} {r : (Int32 × mm_P)} (hk : K.1 th = 1) (h : fX1_undo K th P = some r) : mm_C l yX1_undo (ws_ yX1_undo cX1_undo 1 (some .boolean)) 2 43 [.ref th] K P nx sl (mm_wwI K nx sl r) :=
  mm_start (ls := [some (.ref th)]) h (by decide) (Nat.le_of_ble_eq_true rfl) rfl (Nat.le_refl _) (Nat.le_refl _) rfl fun E hl9 _ _ _ C => by
  have C : mm_Cx E RX1 cX1_undo 1 (some .boolean) 2 43 := C
  unfold fX1_undo
  refine r_aload_n C dX1_undo_0 rfl rfl ?_
  refine r_getI (code := 137) C fl_X1_128 hk rfl dX1_undo_1 ?_
  refine r_ifne (tgt := 9) C dX1_undo_4 (by decide) (fun h1 => ?_) (fun h1 => ?_)
  · refine r_aload_n C dX1_undo_9 rfl rfl ?_
    refine r_getRn (code := 132) C fl_X1_51 hk rfl dX1_undo_10 fun b2 h3 => ?_
    refine r_aload_n C dX1_undo_13 rfl rfl ?_
    refine r_getA C fl_X1_62 hk dX1_undo_14 ?_
    refine r_aload_n C dX1_undo_17 rfl rfl ?_
    refine r_dup C dX1_undo_18 rfl ?_
    refine r_getI (code := 137) C fl_X1_128 hk rfl dX1_undo_19 ?_
    refine r_iconst (v := 1) C dX1_undo_22 rfl ?_
    refine r_isub C dX1_undo_23 ?_
    refine r_ltI fun v4 => ?_
    refine r_dup_x1 C dX1_undo_24 rfl rfl ?_
    refine r_putI (code := 137) C fl_X1_128 hk rfl rfl dX1_undo_25 ?_
    refine r_ltP fun P5 => ?_
    refine r_aaldSn C (rg_136 hk) rfl dX1_undo_28 fun h6 b7 h8 => ?_
    refine r_gd fun hK11 => ?_
    refine r_bd fun r9 h10 => ?_
    refine r_callVv (As := [.ref b7]) (st := []) C (mc_X4_be hK11 h10) cv_X1_276 hK11 rfl (Nat.le_of_ble_eq_true rfl) (Nat.le_of_ble_eq_true rfl) rfl (Nat.le_of_ble_eq_true rfl) dX1_undo_29 ?_
    refine r_iconst (v := 1) C dX1_undo_32 rfl ?_
    exact r_zret C dX1_undo_33 rfl rfl
  · refine r_iconst (v := 0) C dX1_undo_7 rfl ?_
    exact r_zret C dX1_undo_8 rfl rfl
/-! X1 hanging -/
def fX1_hanging_b25 (K : mm_K) (th : Nat) (P : mm_P) (k4 : Nat → Int32 → Int32 → Option Int32) (x1 : Nat) (x2 : Int32) (x3 : Int32) (s0 : Int32) : Option Int32 :=
  if s0 = 0 then
  (k4 x1 x2 (x3 + (1 : Int32)))
  else
  (mm_lt (x2 ||| (mm_shl (1 : Int32) x3)) fun v2 =>
  k4 x1 v2 (x3 + (1 : Int32)))
set_option maxHeartbeats 4000000 in
theorem wfX1_hanging_b25 {E : mm_E} (C : mm_Cx E RX1 cX1_hanging 5 (some .int) 2 40) {K : mm_K} {th : Nat} (hk : K.1 th = 1) {P : mm_P} {nx sl : Nat} {k4 : Nat → Int32 → Int32 → Option Int32} (hk4 : ∀ (x1 : Nat) (x2 : Int32) (x3 : Int32), mm_V E (mm_wrI K P nx sl) 4 [some (.ref th), some (.ref x1), some (.int x2), some (.int x3), none] [] K P nx sl (k4 x1 x2 x3)) (x1 : Nat) (x2 : Int32) (x3 : Int32) (s0 : Int32) : mm_V E (mm_wrI K P nx sl) 25 [some (.ref th), some (.ref x1), some (.int x2), some (.int x3), none] [.int s0] K P nx sl (fX1_hanging_b25 K th P k4 x1 x2 x3 s0) := by
  unfold fX1_hanging_b25
  refine r_istore (ls' := [some (.ref th), some (.ref x1), some (.int x2), some (.int x3), some (.int s0)]) C dX1_hanging_25 (Nat.le_of_ble_eq_true rfl) rfl rfl ?_
  refine r_iload C dX1_hanging_27 rfl ?_
  refine r_ifeq (tgt := 38) C dX1_hanging_29 (by decide) (fun h1 => ?_) (fun h1 => ?_)
  · refine r_iinc (v := 1) (ls' := [some (.ref th), some (.ref x1), some (.int x2), some (.int (x3 + (1 : Int32))), some (.int s0)]) C dX1_hanging_38 rfl rfl (Nat.le_of_ble_eq_true rfl) rfl rfl ?_
    refine r_goto (tgt := 4) C dX1_hanging_41 (by decide) ?_
    refine r_mask [true, true, true, true, false] (ls' := [some (.ref th), some (.ref x1), some (.int x2), some (.int (x3 + (1 : Int32))), none]) rfl ?_
    exact hk4 x1 x2 (x3 + (1 : Int32))
  · refine r_iload_n C dX1_hanging_32 rfl rfl ?_
    refine r_iconst (v := 1) C dX1_hanging_33 rfl ?_
    refine r_iload_n C dX1_hanging_34 rfl rfl ?_
    refine r_ishl C dX1_hanging_35 ?_
    refine r_ior C dX1_hanging_36 ?_
    refine r_ltI fun v2 => ?_
    refine r_istore_n (ls' := [some (.ref th), some (.ref x1), some (.int v2), some (.int x3), some (.int s0)]) C dX1_hanging_37 rfl (Nat.le_of_ble_eq_true rfl) rfl rfl ?_
    refine r_iinc (v := 1) (ls' := [some (.ref th), some (.ref x1), some (.int v2), some (.int (x3 + (1 : Int32))), some (.int s0)]) C dX1_hanging_38 rfl rfl (Nat.le_of_ble_eq_true rfl) rfl rfl ?_
    refine r_goto (tgt := 4) C dX1_hanging_41 (by decide) ?_
    refine r_mask [true, true, true, true, false] (ls' := [some (.ref th), some (.ref x1), some (.int v2), some (.int (x3 + (1 : Int32))), none]) rfl ?_
    exact hk4 x1 v2 (x3 + (1 : Int32))
def fX1_hanging_b4 (K : mm_K) (th : Nat) (P : mm_P)  : Nat → Nat → Int32 → Int32 → Option Int32
  | 0, _, _, _ => none
  | n + 1, x1, x2, x3 =>
  mm_bd (fX1_cloths K th P) fun r1 =>
  if r1 ≤ x3 then
  (some (x2))
  else
  (mm_gd (K.1 x1 = 4) <|
  mm_bd (fX4_by x1 P x3) fun r4 =>
  if r4 = 0 then
  (fX1_hanging_b25 K th P (fX1_hanging_b4 K th P n) x1 x2 x3 (0 : Int32))
  else
  (fX1_hanging_b25 K th P (fX1_hanging_b4 K th P n) x1 x2 x3 (1 : Int32)))
set_option maxHeartbeats 4000000 in
theorem wfX1_hanging_b4 {E : mm_E} (C : mm_Cx E RX1 cX1_hanging 5 (some .int) 2 40) {K : mm_K} {th : Nat} (hk : K.1 th = 1) {P : mm_P} {nx sl : Nat} : ∀ (n : Nat), ∀ (x1 : Nat) (x2 : Int32) (x3 : Int32), mm_V E (mm_wrI K P nx sl) 4 [some (.ref th), some (.ref x1), some (.int x2), some (.int x3), none] [] K P nx sl (fX1_hanging_b4 K th P n x1 x2 x3) := by
  intro n
  induction n with
  | zero => intro x1 x2 x3; exact r_none
  | succ n ih =>
    intro x1 x2 x3
    rw [fX1_hanging_b4]
    refine r_iload_n C dX1_hanging_4 rfl rfl ?_
    refine r_aload_n C dX1_hanging_5 rfl rfl ?_
    refine r_bd fun r1 h2 => ?_
    refine r_callV (As := []) (st := [.int x3]) C (mc_X1_cloths hk h2) cv_X1_148 hk rfl (Nat.le_of_ble_eq_true rfl) (Nat.le_of_ble_eq_true rfl) rfl (Nat.le_of_ble_eq_true rfl) dX1_hanging_6 ?_
    refine r_icmpge (tgt := 44) C dX1_hanging_9 (by decide) (fun h3 => ?_) (fun h3 => ?_)
    · refine r_iload_n C dX1_hanging_44 rfl rfl ?_
      exact r_iret C dX1_hanging_45 rfl
    · refine r_aload_n C dX1_hanging_12 rfl rfl ?_
      refine r_iload_n C dX1_hanging_13 rfl rfl ?_
      refine r_gd fun hK6 => ?_
      refine r_bd fun r4 h5 => ?_
      refine r_callV (As := [.int x3]) (st := []) C (mc_X4_by hK6 h5) cv_X1_157 hK6 rfl (Nat.le_of_ble_eq_true rfl) (Nat.le_of_ble_eq_true rfl) rfl (Nat.le_of_ble_eq_true rfl) dX1_hanging_14 ?_
      refine r_ifeq (tgt := 24) C dX1_hanging_17 (by decide) (fun h7 => ?_) (fun h7 => ?_)
      · refine r_iconst (v := 0) C dX1_hanging_24 rfl ?_
        exact wfX1_hanging_b25 C hk ih x1 x2 x3 (0 : Int32)
      · refine r_iconst (v := 1) C dX1_hanging_20 rfl ?_
        refine r_goto (tgt := 25) C dX1_hanging_21 (by decide) ?_
        exact wfX1_hanging_b25 C hk ih x1 x2 x3 (1 : Int32)
def fX1_hanging (K : mm_K) (th : Nat) (P : mm_P) (x1 : Nat) : Option Int32 :=
  fX1_hanging_b4 K th P mm_NF x1 (0 : Int32) (0 : Int32)
set_option maxHeartbeats 4000000 in
theorem mc_X1_hanging {l : Launch} {K : mm_K} {P : mm_P} {th : Nat} {x1 : Nat} {nx sl : Nat} {r : Int32} (hk : K.1 th = 1) (h : fX1_hanging K th P x1 = some r) : mm_C l yX1_hanging (ws_ yX1_hanging cX1_hanging 5 (some .int)) 2 40 [.ref th, .ref x1] K P nx sl (mm_wrI K P nx sl r) :=
  mm_start (ls := [some (.ref th), some (.ref x1), none, none, none]) h (by decide) (Nat.le_of_ble_eq_true rfl) rfl (Nat.le_refl _) (Nat.le_refl _) rfl fun E hl9 _ _ _ C => by
  have C : mm_Cx E RX1 cX1_hanging 5 (some .int) 2 40 := C
  unfold fX1_hanging
  refine r_iconst (v := 0) C dX1_hanging_0 rfl ?_
  refine r_istore_n (ls' := [some (.ref th), some (.ref x1), some (.int (0 : Int32)), none, none]) C dX1_hanging_1 rfl (Nat.le_of_ble_eq_true rfl) rfl rfl ?_
  refine r_iconst (v := 0) C dX1_hanging_2 rfl ?_
  refine r_istore_n (ls' := [some (.ref th), some (.ref x1), some (.int (0 : Int32)), some (.int (0 : Int32)), none]) C dX1_hanging_3 rfl (Nat.le_of_ble_eq_true rfl) rfl rfl ?_
  exact wfX1_hanging_b4 C hk mm_NF x1 (0 : Int32) (0 : Int32)
theorem fl_X1_181 {k : Nat} (h : mm_isC k) : mm_FL RX1 181 k 3 mm_i .int false := by
  rcases mm_isC_or h with rfl | rfl | rfl | rfl
  · exact ⟨RX7, TX7, 4, _, tyX7, rfl, in_X7, rfl, rfl, Nat.le_of_ble_eq_true rfl, Or.inl q870, tyX7_ok, nmX7, rfl, rfl⟩
  · exact ⟨RX8, TX8, 4, _, tyX8, rfl, in_X8, rfl, rfl, Nat.le_of_ble_eq_true rfl, Or.inl q870, tyX8_ok, nmX8, rfl, rfl⟩
  · exact ⟨RX9, TX9, 4, _, tyX9, rfl, in_X9, rfl, rfl, Nat.le_of_ble_eq_true rfl, Or.inl q870, tyX9_ok, nmX9, rfl, rfl⟩
  · exact ⟨RX10, TX10, 4, _, tyX10, rfl, in_X10, rfl, rfl, Nat.le_of_ble_eq_true rfl, Or.inl q870, tyX10_ok, nmX10, rfl, rfl⟩
theorem cv_X1_177 : mm_CS RX1 177 yX1_isIn cX1_isIn 2 (some .boolean) 2 := ⟨lw_S q1423 q1005 q133 q1006, by decide +kernel, by decide +kernel, by decide +kernel⟩
/-! X1 worthOf -/
def fX1_worthOf_b4 (K : mm_K) (th : Nat) (P : mm_P)  : Nat → Int32 → Int32 → Int32 → Option Int32
  | 0, _, _, _ => none
  | n + 1, x1, x2, x3 =>
  mm_bd (fX1_cloths K th P) fun r1 =>
  if r1 ≤ x3 then
  (some (x2))
  else
  (mm_bd (fX1_isIn x1 x3) fun r4 =>
  if r4 = 0 then
  (fX1_worthOf_b4 K th P n x1 x2 (x3 + (1 : Int32)))
  else
  (mm_bd (fX1_cloth_2 K th P x3) fun r7 =>
  mm_gd (mm_isC (K.1 r7)) <|
  mm_lt (x2 + (gI P 899 r7)) fun v10 =>
  fX1_worthOf_b4 K th P n x1 v10 (x3 + (1 : Int32))))
set_option maxHeartbeats 4000000 in
theorem wfX1_worthOf_b4 {E : mm_E} (C : mm_Cx E RX1 cX1_worthOf 4 (some .int) 4 85) {K : mm_K} {th : Nat} (hk : K.1 th = 1) {P : mm_P} {nx sl : Nat} : ∀ (n : Nat), ∀ (x1 : Int32) (x2 : Int32) (x3 : Int32), mm_V E (mm_wrI K P nx sl) 4 [some (.ref th), some (.int x1), some (.int x2), some (.int x3)] [] K P nx sl (fX1_worthOf_b4 K th P n x1 x2 x3) := by
  intro n
  induction n with
  | zero => intro x1 x2 x3; exact r_none
  | succ n ih =>
    intro x1 x2 x3
    rw [fX1_worthOf_b4]
    refine r_iload_n C dX1_worthOf_4 rfl rfl ?_
    refine r_aload_n C dX1_worthOf_5 rfl rfl ?_
    refine r_bd fun r1 h2 => ?_
    refine r_callV (As := []) (st := [.int x3]) C (mc_X1_cloths hk h2) cv_X1_148 hk rfl (Nat.le_of_ble_eq_true rfl) (Nat.le_of_ble_eq_true rfl) rfl (Nat.le_of_ble_eq_true rfl) dX1_worthOf_6 ?_
    refine r_icmpge (tgt := 37) C dX1_worthOf_9 (by decide) (fun h3 => ?_) (fun h3 => ?_)
    · refine r_iload_n C dX1_worthOf_37 rfl rfl ?_
      exact r_iret C dX1_worthOf_38 rfl
    · refine r_iload_n C dX1_worthOf_12 rfl rfl ?_
      refine r_iload_n C dX1_worthOf_13 rfl rfl ?_
      refine r_bd fun r4 h5 => ?_
      refine r_callS (As := [.int x1, .int x3]) (st := []) C (mc_X1_isIn h5) cv_X1_177  rfl (Nat.le_of_ble_eq_true rfl) (Nat.le_of_ble_eq_true rfl) rfl (Nat.le_of_ble_eq_true rfl) dX1_worthOf_14 ?_
      refine r_ifeq (tgt := 31) C dX1_worthOf_17 (by decide) (fun h6 => ?_) (fun h6 => ?_)
      · refine r_iinc (v := 1) (ls' := [some (.ref th), some (.int x1), some (.int x2), some (.int (x3 + (1 : Int32)))]) C dX1_worthOf_31 rfl rfl (Nat.le_of_ble_eq_true rfl) rfl rfl ?_
        refine r_goto (tgt := 4) C dX1_worthOf_34 (by decide) ?_
        exact ih x1 x2 (x3 + (1 : Int32))
      · refine r_iload_n C dX1_worthOf_20 rfl rfl ?_
        refine r_aload_n C dX1_worthOf_21 rfl rfl ?_
        refine r_iload_n C dX1_worthOf_22 rfl rfl ?_
        refine r_bd fun r7 h8 => ?_
        refine r_callV (As := [.int x3]) (st := [.int x2]) C (mc_X1_cloth_2 hk h8) cv_X1_166 hk rfl (Nat.le_of_ble_eq_true rfl) (Nat.le_of_ble_eq_true rfl) rfl (Nat.le_of_ble_eq_true rfl) dX1_worthOf_23 ?_
        refine r_gd fun hK9 => ?_
        refine r_getI (code := 899) C (fl_X1_181 hK9) rfl (mm_bsC hK9 _) dX1_worthOf_26 ?_
        refine r_iadd C dX1_worthOf_29 ?_
        refine r_ltI fun v10 => ?_
        refine r_istore_n (ls' := [some (.ref th), some (.int x1), some (.int v10), some (.int x3)]) C dX1_worthOf_30 rfl (Nat.le_of_ble_eq_true rfl) rfl rfl ?_
        refine r_iinc (v := 1) (ls' := [some (.ref th), some (.int x1), some (.int v10), some (.int (x3 + (1 : Int32)))]) C dX1_worthOf_31 rfl rfl (Nat.le_of_ble_eq_true rfl) rfl rfl ?_
        refine r_goto (tgt := 4) C dX1_worthOf_34 (by decide) ?_
        exact ih x1 v10 (x3 + (1 : Int32))
def fX1_worthOf (K : mm_K) (th : Nat) (P : mm_P) (x1 : Int32) : Option Int32 :=
  fX1_worthOf_b4 K th P mm_NF x1 (0 : Int32) (0 : Int32)
set_option maxHeartbeats 4000000 in
theorem mc_X1_worthOf {l : Launch} {K : mm_K} {P : mm_P} {th : Nat} {x1 : Int32} {nx sl : Nat} {r : Int32} (hk : K.1 th = 1) (h : fX1_worthOf K th P x1 = some r) : mm_C l yX1_worthOf (ws_ yX1_worthOf cX1_worthOf 4 (some .int)) 4 85 [.ref th, .int x1] K P nx sl (mm_wrI K P nx sl r) :=
  mm_start (ls := [some (.ref th), some (.int x1), none, none]) h (by decide) (Nat.le_of_ble_eq_true rfl) rfl (Nat.le_refl _) (Nat.le_refl _) rfl fun E hl9 _ _ _ C => by
  have C : mm_Cx E RX1 cX1_worthOf 4 (some .int) 4 85 := C
  unfold fX1_worthOf
  refine r_iconst (v := 0) C dX1_worthOf_0 rfl ?_
  refine r_istore_n (ls' := [some (.ref th), some (.int x1), some (.int (0 : Int32)), none]) C dX1_worthOf_1 rfl (Nat.le_of_ble_eq_true rfl) rfl rfl ?_
  refine r_iconst (v := 0) C dX1_worthOf_2 rfl ?_
  refine r_istore_n (ls' := [some (.ref th), some (.int x1), some (.int (0 : Int32)), some (.int (0 : Int32))]) C dX1_worthOf_3 rfl (Nat.le_of_ble_eq_true rfl) rfl rfl ?_
  exact wfX1_worthOf_b4 C hk mm_NF x1 (0 : Int32) (0 : Int32)
theorem fl_X1_55 : mm_FL RX1 55 1 5 mm_r (tyX1 5) true := ⟨RX1, TX1, 26, _, tyX1, rfl, in_X1, rfl, rfl, Nat.le_of_ble_eq_true rfl, Or.inl q348, tyX1_ok, nmX1, rfl, rfl⟩
/-! X1 holds -/
def fX1_holds_b34 (K : mm_K) (th : Nat)  : Nat → Int32 → Int32 → mm_P → Option (Int32 × mm_P)
  | 0, _, _, _ => none
  | n + 1, x1, x2, P =>
  if (40 : Int32) < x2 then
  (some ((-1 : Int32), P))
  else
  (mm_bd (gR P 133 th) fun b2 =>
  mm_bd (gR P 130 th) fun b4 =>
  mm_bd (gR P 132 th) fun b6 =>
  mm_gd (K.1 b6 = 4) <|
  mm_gd (K.1 b4 = 3) <|
  mm_bd (fX3_wind b4 P (((gI P 516 b6) + x2) - (1 : Int32))) fun r9 =>
  mm_bd (fX1_blows K th b2 x1 r9 P) fun r12 =>
  if r12.1 = 0 then
  (fX1_holds_b34 K th n x1 (x2 + (1 : Int32)) r12.2)
  else
  (some (x2, r12.2)))
set_option maxHeartbeats 4000000 in
theorem wfX1_holds_b34 {E : mm_E} (C : mm_Cx E RX1 cX1_holds 3 (some .int) 604 13898) {K : mm_K} {th : Nat} (hk : K.1 th = 1) {nx sl : Nat} : ∀ (n : Nat), ∀ (x1 : Int32) (x2 : Int32) (P : mm_P), mm_V E (mm_wwI K nx sl) 34 [some (.ref th), some (.int x1), some (.int x2)] [] K P nx sl (fX1_holds_b34 K th n x1 x2 P) := by
  intro n
  induction n with
  | zero => intro x1 x2 P; exact r_none
  | succ n ih =>
    intro x1 x2 P
    rw [fX1_holds_b34]
    refine r_iload_n C dX1_holds_34 rfl rfl ?_
    refine r_bipush (v := 40) C dX1_holds_35 rfl ?_
    refine r_icmpgt (tgt := 78) C dX1_holds_37 (by decide) (fun h1 => ?_) (fun h1 => ?_)
    · refine r_iconst (v := -1) C dX1_holds_78 rfl ?_
      exact r_iret C dX1_holds_79 rfl
    · refine r_aload_n C dX1_holds_40 rfl rfl ?_
      refine r_aload_n C dX1_holds_41 rfl rfl ?_
      refine r_getRn (code := 133) C fl_X1_55 hk rfl dX1_holds_42 fun b2 h3 => ?_
      refine r_iload_n C dX1_holds_45 rfl rfl ?_
      refine r_aload_n C dX1_holds_46 rfl rfl ?_
      refine r_getRn (code := 130) C fl_X1_35 hk rfl dX1_holds_47 fun b4 h5 => ?_
      refine r_aload_n C dX1_holds_50 rfl rfl ?_
      refine r_getRn (code := 132) C fl_X1_51 hk rfl dX1_holds_51 fun b6 h7 => ?_
      refine r_gd fun hK8 => ?_
      refine r_getI (code := 516) C fl_X1_244 hK8 rfl dX1_holds_54 ?_
      refine r_iload_n C dX1_holds_57 rfl rfl ?_
      refine r_iadd C dX1_holds_58 ?_
      refine r_iconst (v := 1) C dX1_holds_59 rfl ?_
      refine r_isub C dX1_holds_60 ?_
      refine r_gd fun hK11 => ?_
      refine r_bd fun r9 h10 => ?_
      refine r_callV (As := [.int (((gI P 516 b6) + x2) - (1 : Int32))]) (st := [.int x1, .ref b2, .ref th]) C (mc_X3_wind hK11 h10) cv_X1_247 hK11 rfl (Nat.le_of_ble_eq_true rfl) (Nat.le_of_ble_eq_true rfl) rfl (Nat.le_of_ble_eq_true rfl) dX1_holds_61 ?_
      refine r_bd fun r12 h13 => ?_
      refine r_callV (As := [.ref b2, .int x1, .int r9]) (st := []) C (mc_X1_blows hk h13) cv_X1_250 hk rfl (Nat.le_of_ble_eq_true rfl) (Nat.le_of_ble_eq_true rfl) rfl (Nat.le_of_ble_eq_true rfl) dX1_holds_64 ?_
      refine r_ifeq (tgt := 72) C dX1_holds_67 (by decide) (fun h14 => ?_) (fun h14 => ?_)
      · refine r_iinc (v := 1) (ls' := [some (.ref th), some (.int x1), some (.int (x2 + (1 : Int32)))]) C dX1_holds_72 rfl rfl (Nat.le_of_ble_eq_true rfl) rfl rfl ?_
        refine r_goto (tgt := 34) C dX1_holds_75 (by decide) ?_
        exact ih x1 (x2 + (1 : Int32)) r12.2
      · refine r_iload_n C dX1_holds_70 rfl rfl ?_
        exact r_iret C dX1_holds_71 rfl
def fX1_holds (K : mm_K) (th : Nat) (x1 : Int32) (P : mm_P) : Option (Int32 × mm_P) :=
  mm_bd (fX1_isCloth K th P x1) fun r1 =>
  if r1 = 0 then
  (some ((-1 : Int32), P))
  else
  (mm_bd (gR P 132 th) fun b4 =>
  mm_gd (K.1 b4 = 4) <|
  mm_bd (fX4_by b4 P x1) fun r6 =>
  if r6 ≠ 0 then
  (mm_bd (gR P 133 th) fun b10 =>
  mm_bd (gR P 132 th) fun b12 =>
  mm_gd (K.1 b10 = 4) <|
  mm_bd (fX4_be K b10 b12 P) fun r14 =>
  fX1_holds_b34 K th mm_NF x1 (1 : Int32) r14)
  else
  (some ((-1 : Int32), P)))
set_option maxHeartbeats 4000000 in
theorem mc_X1_holds {l : Launch} {K : mm_K} {P : mm_P} {th : Nat} {x1 : Int32} {nx sl : Nat} {r : (Int32 × mm_P)} (hk : K.1 th = 1) (h : fX1_holds K th x1 P = some r) : mm_C l yX1_holds (ws_ yX1_holds cX1_holds 3 (some .int)) 604 13898 [.ref th, .int x1] K P nx sl (mm_wwI K nx sl r) :=
  mm_start (ls := [some (.ref th), some (.int x1), none]) h (by decide) (Nat.le_of_ble_eq_true rfl) rfl (Nat.le_refl _) (Nat.le_refl _) rfl fun E hl9 _ _ _ C => by
  have C : mm_Cx E RX1 cX1_holds 3 (some .int) 604 13898 := C
  unfold fX1_holds
  refine r_aload_n C dX1_holds_0 rfl rfl ?_
  refine r_iload_n C dX1_holds_1 rfl rfl ?_
  refine r_bd fun r1 h2 => ?_
  refine r_callV (As := [.int x1]) (st := []) C (mc_X1_isCloth hk h2) cv_X1_254 hk rfl (Nat.le_of_ble_eq_true rfl) (Nat.le_of_ble_eq_true rfl) rfl (Nat.le_of_ble_eq_true rfl) dX1_holds_2 ?_
  refine r_ifeq (tgt := 19) C dX1_holds_5 (by decide) (fun h3 => ?_) (fun h3 => ?_)
  · refine r_iconst (v := -1) C dX1_holds_19 rfl ?_
    exact r_iret C dX1_holds_20 rfl
  · refine r_aload_n C dX1_holds_8 rfl rfl ?_
    refine r_getRn (code := 132) C fl_X1_51 hk rfl dX1_holds_9 fun b4 h5 => ?_
    refine r_iload_n C dX1_holds_12 rfl rfl ?_
    refine r_gd fun hK8 => ?_
    refine r_bd fun r6 h7 => ?_
    refine r_callV (As := [.int x1]) (st := []) C (mc_X4_by hK8 h7) cv_X1_157 hK8 rfl (Nat.le_of_ble_eq_true rfl) (Nat.le_of_ble_eq_true rfl) rfl (Nat.le_of_ble_eq_true rfl) dX1_holds_13 ?_
    refine r_ifne (tgt := 21) C dX1_holds_16 (by decide) (fun h9 => ?_) (fun h9 => ?_)
    · refine r_aload_n C dX1_holds_21 rfl rfl ?_
      refine r_getRn (code := 133) C fl_X1_55 hk rfl dX1_holds_22 fun b10 h11 => ?_
      refine r_aload_n C dX1_holds_25 rfl rfl ?_
      refine r_getRn (code := 132) C fl_X1_51 hk rfl dX1_holds_26 fun b12 h13 => ?_
      refine r_gd fun hK16 => ?_
      refine r_bd fun r14 h15 => ?_
      refine r_callVv (As := [.ref b12]) (st := []) C (mc_X4_be hK16 h15) cv_X1_276 hK16 rfl (Nat.le_of_ble_eq_true rfl) (Nat.le_of_ble_eq_true rfl) rfl (Nat.le_of_ble_eq_true rfl) dX1_holds_29 ?_
      refine r_iconst (v := 1) C dX1_holds_32 rfl ?_
      refine r_istore_n (ls' := [some (.ref th), some (.int x1), some (.int (1 : Int32))]) C dX1_holds_33 rfl (Nat.le_of_ble_eq_true rfl) rfl rfl ?_
      exact wfX1_holds_b34 C hk mm_NF x1 (1 : Int32) r14
    · refine r_iconst (v := -1) C dX1_holds_19 rfl ?_
      exact r_iret C dX1_holds_20 rfl
theorem rg_387 {K : mm_K} {a : Nat} (h : K.1 a = 3) : mm_reg K 387 a 5 0 6 := Or.inl ⟨3, 3, rfl, h, by decide, rfl⟩
theorem fl_X1_313 : mm_FL RX1 313 3 3 (mm_a 5 0 6) (tyX3 3) true := ⟨RX3, TX3, 11, _, tyX3, rfl, in_X3, rfl, rfl, Nat.le_of_ble_eq_true rfl, Or.inr (Or.inl ⟨_, nw_in q259 rfl⟩), tyX3_ok, nmX3, rfl, rfl⟩
/-! X1 clashesIn -/
def fX1_clashesIn_b4 (K : mm_K) (th : Nat) (P : mm_P)  : Nat → Int32 → Int32 → Int32 → Option Int32
  | 0, _, _, _ => none
  | n + 1, x1, x2, x3 =>
  mm_bd (fX1_cloths K th P) fun r1 =>
  if r1 ≤ x3 then
  (some (x2))
  else
  (mm_bd (fX1_isIn x1 x3) fun r4 =>
  if r4 = 0 then
  (fX1_clashesIn_b4 K th P n x1 x2 (x3 + (1 : Int32)))
  else
  (mm_bd (gR P 130 th) fun b7 =>
  mm_gd (K.1 b7 = 3) <|
  mm_gd (mm_in x3 6) <|
  mm_bd (fJ17_bitCount (((gA P 387 b7 x3.toNatClampNeg) &&& x1) &&& ((mm_shl (1 : Int32) x3) - (1 : Int32)))) fun r11 =>
  mm_lt (x2 + r11) fun v13 =>
  fX1_clashesIn_b4 K th P n x1 v13 (x3 + (1 : Int32))))
set_option maxHeartbeats 4000000 in
theorem wfX1_clashesIn_b4 {E : mm_E} (C : mm_Cx E RX1 cX1_clashesIn 4 (some .int) 2 40) {K : mm_K} {th : Nat} (hk : K.1 th = 1) {P : mm_P} {nx sl : Nat} : ∀ (n : Nat), ∀ (x1 : Int32) (x2 : Int32) (x3 : Int32), mm_V E (mm_wrI K P nx sl) 4 [some (.ref th), some (.int x1), some (.int x2), some (.int x3)] [] K P nx sl (fX1_clashesIn_b4 K th P n x1 x2 x3) := by
  intro n
  induction n with
  | zero => intro x1 x2 x3; exact r_none
  | succ n ih =>
    intro x1 x2 x3
    rw [fX1_clashesIn_b4]
    refine r_iload_n C dX1_clashesIn_4 rfl rfl ?_
    refine r_aload_n C dX1_clashesIn_5 rfl rfl ?_
    refine r_bd fun r1 h2 => ?_
    refine r_callV (As := []) (st := [.int x3]) C (mc_X1_cloths hk h2) cv_X1_148 hk rfl (Nat.le_of_ble_eq_true rfl) (Nat.le_of_ble_eq_true rfl) rfl (Nat.le_of_ble_eq_true rfl) dX1_clashesIn_6 ?_
    refine r_icmpge (tgt := 49) C dX1_clashesIn_9 (by decide) (fun h3 => ?_) (fun h3 => ?_)
    · refine r_iload_n C dX1_clashesIn_49 rfl rfl ?_
      exact r_iret C dX1_clashesIn_50 rfl
    · refine r_iload_n C dX1_clashesIn_12 rfl rfl ?_
      refine r_iload_n C dX1_clashesIn_13 rfl rfl ?_
      refine r_bd fun r4 h5 => ?_
      refine r_callS (As := [.int x1, .int x3]) (st := []) C (mc_X1_isIn h5) cv_X1_177  rfl (Nat.le_of_ble_eq_true rfl) (Nat.le_of_ble_eq_true rfl) rfl (Nat.le_of_ble_eq_true rfl) dX1_clashesIn_14 ?_
      refine r_ifeq (tgt := 43) C dX1_clashesIn_17 (by decide) (fun h6 => ?_) (fun h6 => ?_)
      · refine r_iinc (v := 1) (ls' := [some (.ref th), some (.int x1), some (.int x2), some (.int (x3 + (1 : Int32)))]) C dX1_clashesIn_43 rfl rfl (Nat.le_of_ble_eq_true rfl) rfl rfl ?_
        refine r_goto (tgt := 4) C dX1_clashesIn_46 (by decide) ?_
        exact ih x1 x2 (x3 + (1 : Int32))
      · refine r_iload_n C dX1_clashesIn_20 rfl rfl ?_
        refine r_aload_n C dX1_clashesIn_21 rfl rfl ?_
        refine r_getRn (code := 130) C fl_X1_35 hk rfl dX1_clashesIn_22 fun b7 h8 => ?_
        refine r_gd fun hK9 => ?_
        refine r_getA C fl_X1_313 hK9 dX1_clashesIn_25 ?_
        refine r_iload_n C dX1_clashesIn_28 rfl rfl ?_
        refine r_iald C (rg_387 hK9) rfl dX1_clashesIn_29 fun h10 => ?_
        refine r_iload_n C dX1_clashesIn_30 rfl rfl ?_
        refine r_iand C dX1_clashesIn_31 ?_
        refine r_iconst (v := 1) C dX1_clashesIn_32 rfl ?_
        refine r_iload_n C dX1_clashesIn_33 rfl rfl ?_
        refine r_ishl C dX1_clashesIn_34 ?_
        refine r_iconst (v := 1) C dX1_clashesIn_35 rfl ?_
        refine r_isub C dX1_clashesIn_36 ?_
        refine r_iand C dX1_clashesIn_37 ?_
        refine r_bd fun r11 h12 => ?_
        refine r_callS (As := [.int (((gA P 387 b7 x3.toNatClampNeg) &&& x1) &&& ((mm_shl (1 : Int32) x3) - (1 : Int32)))]) (st := [.int x2]) C (mc_J17_bitCount h12) cv_X1_161  rfl (Nat.le_of_ble_eq_true rfl) (Nat.le_of_ble_eq_true rfl) rfl (Nat.le_of_ble_eq_true rfl) dX1_clashesIn_38 ?_
        refine r_iadd C dX1_clashesIn_41 ?_
        refine r_ltI fun v13 => ?_
        refine r_istore_n (ls' := [some (.ref th), some (.int x1), some (.int v13), some (.int x3)]) C dX1_clashesIn_42 rfl (Nat.le_of_ble_eq_true rfl) rfl rfl ?_
        refine r_iinc (v := 1) (ls' := [some (.ref th), some (.int x1), some (.int v13), some (.int (x3 + (1 : Int32)))]) C dX1_clashesIn_43 rfl rfl (Nat.le_of_ble_eq_true rfl) rfl rfl ?_
        refine r_goto (tgt := 4) C dX1_clashesIn_46 (by decide) ?_
        exact ih x1 v13 (x3 + (1 : Int32))
def fX1_clashesIn (K : mm_K) (th : Nat) (P : mm_P) (x1 : Int32) : Option Int32 :=
  fX1_clashesIn_b4 K th P mm_NF x1 (0 : Int32) (0 : Int32)
set_option maxHeartbeats 4000000 in
theorem mc_X1_clashesIn {l : Launch} {K : mm_K} {P : mm_P} {th : Nat} {x1 : Int32} {nx sl : Nat} {r : Int32} (hk : K.1 th = 1) (h : fX1_clashesIn K th P x1 = some r) : mm_C l yX1_clashesIn (ws_ yX1_clashesIn cX1_clashesIn 4 (some .int)) 2 40 [.ref th, .int x1] K P nx sl (mm_wrI K P nx sl r) :=
  mm_start (ls := [some (.ref th), some (.int x1), none, none]) h (by decide) (Nat.le_of_ble_eq_true rfl) rfl (Nat.le_refl _) (Nat.le_refl _) rfl fun E hl9 _ _ _ C => by
  have C : mm_Cx E RX1 cX1_clashesIn 4 (some .int) 2 40 := C
  unfold fX1_clashesIn
  refine r_iconst (v := 0) C dX1_clashesIn_0 rfl ?_
  refine r_istore_n (ls' := [some (.ref th), some (.int x1), some (.int (0 : Int32)), none]) C dX1_clashesIn_1 rfl (Nat.le_of_ble_eq_true rfl) rfl rfl ?_
  refine r_iconst (v := 0) C dX1_clashesIn_2 rfl ?_
  refine r_istore_n (ls' := [some (.ref th), some (.int x1), some (.int (0 : Int32)), some (.int (0 : Int32))]) C dX1_clashesIn_3 rfl (Nat.le_of_ble_eq_true rfl) rfl rfl ?_
  exact wfX1_clashesIn_b4 C hk mm_NF x1 (0 : Int32) (0 : Int32)
theorem cv_X1_316 : mm_CV RX1 316 yX1_laws cX1_laws 1 (some .int) 0 1 := ⟨RX1, TX1, 26, _, lw_V q1432 q1277 q1278 q133 q1279, ⟨rfl, by decide +kernel, by decide +kernel, by decide +kernel⟩, rfl, rfl⟩
theorem cv_X1_319 : mm_CV RX1 319 yX1_clashesIn cX1_clashesIn 4 (some .int) 1 1 := ⟨RX1, TX1, 26, _, lw_V q1433 q1435 qs45 q133 q1436, ⟨rfl, by decide +kernel, by decide +kernel, by decide +kernel⟩, rfl, rfl⟩
/-! X1 clashes -/
def fX1_clashes (K : mm_K) (th : Nat) (P : mm_P)  : Option Int32 :=
  mm_bd (fX1_laws K th P) fun r1 =>
  mm_bd (fX1_clashesIn K th P r1) fun r3 =>
  some (r3)
set_option maxHeartbeats 4000000 in
theorem mc_X1_clashes {l : Launch} {K : mm_K} {P : mm_P} {th : Nat}  {nx sl : Nat} {r : Int32} (hk : K.1 th = 1) (h : fX1_clashes K th P = some r) : mm_C l yX1_clashes (ws_ yX1_clashes cX1_clashes 1 (some .int)) 7 150 [.ref th] K P nx sl (mm_wrI K P nx sl r) :=
  mm_start (ls := [some (.ref th)]) h (by decide) (Nat.le_of_ble_eq_true rfl) rfl (Nat.le_refl _) (Nat.le_refl _) rfl fun E hl9 _ _ _ C => by
  have C : mm_Cx E RX1 cX1_clashes 1 (some .int) 7 150 := C
  unfold fX1_clashes
  refine r_aload_n C dX1_clashes_0 rfl rfl ?_
  refine r_aload_n C dX1_clashes_1 rfl rfl ?_
  refine r_bd fun r1 h2 => ?_
  refine r_callV (As := []) (st := [.ref th]) C (mc_X1_laws hk h2) cv_X1_316 hk rfl (Nat.le_of_ble_eq_true rfl) (Nat.le_of_ble_eq_true rfl) rfl (Nat.le_of_ble_eq_true rfl) dX1_clashes_2 ?_
  refine r_bd fun r3 h4 => ?_
  refine r_callV (As := [.int r1]) (st := []) C (mc_X1_clashesIn hk h4) cv_X1_319 hk rfl (Nat.le_of_ble_eq_true rfl) (Nat.le_of_ble_eq_true rfl) rfl (Nat.le_of_ble_eq_true rfl) dX1_clashes_5 ?_
  exact r_iret C dX1_clashes_8 rfl
theorem cv_X1_310 : mm_CV RX1 310 yX1_worthOf cX1_worthOf 4 (some .int) 1 1 := ⟨RX1, TX1, 26, _, lw_V q1419 q1421 qs44 q133 q1422, ⟨rfl, by decide +kernel, by decide +kernel, by decide +kernel⟩, rfl, rfl⟩
/-! X1 mend -/
def fX1_mend_b21 (K : mm_K) (th : Nat) (P : mm_P)  : Nat → Int32 → Int32 → Int32 → Int32 → Option Int32
  | 0, _, _, _, _ => none
  | n + 1, x1, x2, x3, x4 =>
  if x2 < x4 then
  (if x1 ≠ (1 : Int32) then
  (mm_bd (fX1_worthOf K th P x3) fun r3 =>
  some (r3))
  else
  (some (x3)))
  else
  (if (x4 &&& (x2 ^^^ (-1 : Int32))) ≠ 0 then
  (fX1_mend_b21 K th P n x1 x2 x3 (x4 + (1 : Int32)))
  else
  (mm_bd (fX1_clashesIn K th P (x2 &&& (x4 ^^^ (-1 : Int32)))) fun r6 =>
  if r6 ≤ 0 then
  (if x3 < 0 then
  (fX1_mend_b21 K th P n x1 x2 x4 (x4 + (1 : Int32)))
  else
  (mm_bd (fX1_worthOf K th P x4) fun r10 =>
  mm_bd (fX1_worthOf K th P x3) fun r12 =>
  if r12 ≤ r10 then
  (fX1_mend_b21 K th P n x1 x2 x3 (x4 + (1 : Int32)))
  else
  (fX1_mend_b21 K th P n x1 x2 x4 (x4 + (1 : Int32)))))
  else
  (fX1_mend_b21 K th P n x1 x2 x3 (x4 + (1 : Int32)))))
set_option maxHeartbeats 4000000 in
theorem wfX1_mend_b21 {E : mm_E} (C : mm_Cx E RX1 cX1_mend 5 (some .int) 7 150) {K : mm_K} {th : Nat} (hk : K.1 th = 1) {P : mm_P} {nx sl : Nat} : ∀ (n : Nat), ∀ (x1 : Int32) (x2 : Int32) (x3 : Int32) (x4 : Int32), mm_V E (mm_wrI K P nx sl) 21 [some (.ref th), some (.int x1), some (.int x2), some (.int x3), some (.int x4)] [] K P nx sl (fX1_mend_b21 K th P n x1 x2 x3 x4) := by
  intro n
  induction n with
  | zero => intro x1 x2 x3 x4; exact r_none
  | succ n ih =>
    intro x1 x2 x3 x4
    rw [fX1_mend_b21]
    refine r_iload C dX1_mend_21 rfl ?_
    refine r_iload_n C dX1_mend_23 rfl rfl ?_
    refine r_icmpgt (tgt := 79) C dX1_mend_24 (by decide) (fun h1 => ?_) (fun h1 => ?_)
    · refine r_iload_n C dX1_mend_79 rfl rfl ?_
      refine r_iconst (v := 1) C dX1_mend_80 rfl ?_
      refine r_icmpne (tgt := 88) C dX1_mend_81 (by decide) (fun h2 => ?_) (fun h2 => ?_)
      · refine r_aload_n C dX1_mend_88 rfl rfl ?_
        refine r_iload_n C dX1_mend_89 rfl rfl ?_
        refine r_bd fun r3 h4 => ?_
        refine r_callV (As := [.int x3]) (st := []) C (mc_X1_worthOf hk h4) cv_X1_310 hk rfl (Nat.le_of_ble_eq_true rfl) (Nat.le_of_ble_eq_true rfl) rfl (Nat.le_of_ble_eq_true rfl) dX1_mend_90 ?_
        exact r_iret C dX1_mend_93 rfl
      · refine r_iload_n C dX1_mend_84 rfl rfl ?_
        refine r_goto (tgt := 93) C dX1_mend_85 (by decide) ?_
        exact r_iret C dX1_mend_93 rfl
    · refine r_iload C dX1_mend_27 rfl ?_
      refine r_iload_n C dX1_mend_29 rfl rfl ?_
      refine r_iconst (v := -1) C dX1_mend_30 rfl ?_
      refine r_ixor C dX1_mend_31 ?_
      refine r_iand C dX1_mend_32 ?_
      refine r_ifne (tgt := 73) C dX1_mend_33 (by decide) (fun h5 => ?_) (fun h5 => ?_)
      · refine r_iinc (v := 1) (ls' := [some (.ref th), some (.int x1), some (.int x2), some (.int x3), some (.int (x4 + (1 : Int32)))]) C dX1_mend_73 rfl rfl (Nat.le_of_ble_eq_true rfl) rfl rfl ?_
        refine r_goto (tgt := 21) C dX1_mend_76 (by decide) ?_
        exact ih x1 x2 x3 (x4 + (1 : Int32))
      · refine r_aload_n C dX1_mend_36 rfl rfl ?_
        refine r_iload_n C dX1_mend_37 rfl rfl ?_
        refine r_iload C dX1_mend_38 rfl ?_
        refine r_iconst (v := -1) C dX1_mend_40 rfl ?_
        refine r_ixor C dX1_mend_41 ?_
        refine r_iand C dX1_mend_42 ?_
        refine r_bd fun r6 h7 => ?_
        refine r_callV (As := [.int (x2 &&& (x4 ^^^ (-1 : Int32)))]) (st := []) C (mc_X1_clashesIn hk h7) cv_X1_319 hk rfl (Nat.le_of_ble_eq_true rfl) (Nat.le_of_ble_eq_true rfl) rfl (Nat.le_of_ble_eq_true rfl) dX1_mend_43 ?_
        refine r_ifle (tgt := 52) C dX1_mend_46 (by decide) (fun h8 => ?_) (fun h8 => ?_)
        · refine r_iload_n C dX1_mend_52 rfl rfl ?_
          refine r_iflt (tgt := 70) C dX1_mend_53 (by decide) (fun h9 => ?_) (fun h9 => ?_)
          · refine r_iload C dX1_mend_70 rfl ?_
            refine r_istore_n (ls' := [some (.ref th), some (.int x1), some (.int x2), some (.int x4), some (.int x4)]) C dX1_mend_72 rfl (Nat.le_of_ble_eq_true rfl) rfl rfl ?_
            refine r_iinc (v := 1) (ls' := [some (.ref th), some (.int x1), some (.int x2), some (.int x4), some (.int (x4 + (1 : Int32)))]) C dX1_mend_73 rfl rfl (Nat.le_of_ble_eq_true rfl) rfl rfl ?_
            refine r_goto (tgt := 21) C dX1_mend_76 (by decide) ?_
            exact ih x1 x2 x4 (x4 + (1 : Int32))
          · refine r_aload_n C dX1_mend_56 rfl rfl ?_
            refine r_iload C dX1_mend_57 rfl ?_
            refine r_bd fun r10 h11 => ?_
            refine r_callV (As := [.int x4]) (st := []) C (mc_X1_worthOf hk h11) cv_X1_310 hk rfl (Nat.le_of_ble_eq_true rfl) (Nat.le_of_ble_eq_true rfl) rfl (Nat.le_of_ble_eq_true rfl) dX1_mend_59 ?_
            refine r_aload_n C dX1_mend_62 rfl rfl ?_
            refine r_iload_n C dX1_mend_63 rfl rfl ?_
            refine r_bd fun r12 h13 => ?_
            refine r_callV (As := [.int x3]) (st := [.int r10]) C (mc_X1_worthOf hk h13) cv_X1_310 hk rfl (Nat.le_of_ble_eq_true rfl) (Nat.le_of_ble_eq_true rfl) rfl (Nat.le_of_ble_eq_true rfl) dX1_mend_64 ?_
            refine r_icmpge (tgt := 73) C dX1_mend_67 (by decide) (fun h14 => ?_) (fun h14 => ?_)
            · refine r_iinc (v := 1) (ls' := [some (.ref th), some (.int x1), some (.int x2), some (.int x3), some (.int (x4 + (1 : Int32)))]) C dX1_mend_73 rfl rfl (Nat.le_of_ble_eq_true rfl) rfl rfl ?_
              refine r_goto (tgt := 21) C dX1_mend_76 (by decide) ?_
              exact ih x1 x2 x3 (x4 + (1 : Int32))
            · refine r_iload C dX1_mend_70 rfl ?_
              refine r_istore_n (ls' := [some (.ref th), some (.int x1), some (.int x2), some (.int x4), some (.int x4)]) C dX1_mend_72 rfl (Nat.le_of_ble_eq_true rfl) rfl rfl ?_
              refine r_iinc (v := 1) (ls' := [some (.ref th), some (.int x1), some (.int x2), some (.int x4), some (.int (x4 + (1 : Int32)))]) C dX1_mend_73 rfl rfl (Nat.le_of_ble_eq_true rfl) rfl rfl ?_
              refine r_goto (tgt := 21) C dX1_mend_76 (by decide) ?_
              exact ih x1 x2 x4 (x4 + (1 : Int32))
        · refine r_goto (tgt := 73) C dX1_mend_49 (by decide) ?_
          refine r_iinc (v := 1) (ls' := [some (.ref th), some (.int x1), some (.int x2), some (.int x3), some (.int (x4 + (1 : Int32)))]) C dX1_mend_73 rfl rfl (Nat.le_of_ble_eq_true rfl) rfl rfl ?_
          refine r_goto (tgt := 21) C dX1_mend_76 (by decide) ?_
          exact ih x1 x2 x3 (x4 + (1 : Int32))
def fX1_mend (K : mm_K) (th : Nat) (P : mm_P) (x1 : Int32) : Option Int32 :=
  mm_bd (fX1_in x1 (0 : Int32) (1 : Int32)) fun r1 =>
  if r1 ≠ 0 then
  (mm_bd (fX1_laws K th P) fun r4 =>
  fX1_mend_b21 K th P mm_NF x1 r4 (-1 : Int32) (0 : Int32))
  else
  (some ((-1 : Int32)))
set_option maxHeartbeats 4000000 in
theorem mc_X1_mend {l : Launch} {K : mm_K} {P : mm_P} {th : Nat} {x1 : Int32} {nx sl : Nat} {r : Int32} (hk : K.1 th = 1) (h : fX1_mend K th P x1 = some r) : mm_C l yX1_mend (ws_ yX1_mend cX1_mend 5 (some .int)) 7 150 [.ref th, .int x1] K P nx sl (mm_wrI K P nx sl r) :=
  mm_start (ls := [some (.ref th), some (.int x1), none, none, none]) h (by decide) (Nat.le_of_ble_eq_true rfl) rfl (Nat.le_refl _) (Nat.le_refl _) rfl fun E hl9 _ _ _ C => by
  have C : mm_Cx E RX1 cX1_mend 5 (some .int) 7 150 := C
  unfold fX1_mend
  refine r_iload_n C dX1_mend_0 rfl rfl ?_
  refine r_iconst (v := 0) C dX1_mend_1 rfl ?_
  refine r_iconst (v := 1) C dX1_mend_2 rfl ?_
  refine r_bd fun r1 h2 => ?_
  refine r_callS (As := [.int x1, .int (0 : Int32), .int (1 : Int32)]) (st := []) C (mc_X1_in h2) cv_X1_150  rfl (Nat.le_of_ble_eq_true rfl) (Nat.le_of_ble_eq_true rfl) rfl (Nat.le_of_ble_eq_true rfl) dX1_mend_3 ?_
  refine r_ifne (tgt := 11) C dX1_mend_6 (by decide) (fun h3 => ?_) (fun h3 => ?_)
  · refine r_aload_n C dX1_mend_11 rfl rfl ?_
    refine r_bd fun r4 h5 => ?_
    refine r_callV (As := []) (st := []) C (mc_X1_laws hk h5) cv_X1_316 hk rfl (Nat.le_of_ble_eq_true rfl) (Nat.le_of_ble_eq_true rfl) rfl (Nat.le_of_ble_eq_true rfl) dX1_mend_12 ?_
    refine r_istore_n (ls' := [some (.ref th), some (.int x1), some (.int r4), none, none]) C dX1_mend_15 rfl (Nat.le_of_ble_eq_true rfl) rfl rfl ?_
    refine r_iconst (v := -1) C dX1_mend_16 rfl ?_
    refine r_istore_n (ls' := [some (.ref th), some (.int x1), some (.int r4), some (.int (-1 : Int32)), none]) C dX1_mend_17 rfl (Nat.le_of_ble_eq_true rfl) rfl rfl ?_
    refine r_iconst (v := 0) C dX1_mend_18 rfl ?_
    refine r_istore (ls' := [some (.ref th), some (.int x1), some (.int r4), some (.int (-1 : Int32)), some (.int (0 : Int32))]) C dX1_mend_19 (Nat.le_of_ble_eq_true rfl) rfl rfl ?_
    exact wfX1_mend_b21 C hk mm_NF x1 r4 (-1 : Int32) (0 : Int32)
  · refine r_iconst (v := -1) C dX1_mend_9 rfl ?_
    exact r_iret C dX1_mend_10 rfl
/-! X1 mostPull -/
def fX1_mostPull_b16 (K : mm_K) (th : Nat)  : Nat → Int32 → Int32 → Int32 → Int32 → Int32 → mm_P → Option (Int32 × mm_P)
  | 0, _, _, _, _, _, _ => none
  | n + 1, x1, x2, x3, x4, x5, P =>
  if x2 ≤ x5 then
  (some (x4, P))
  else
  (mm_bd (gR P 130 th) fun b2 =>
  mm_bd (gR P 132 th) fun b4 =>
  mm_gd (K.1 b4 = 4) <|
  mm_gd (K.1 b2 = 3) <|
  mm_bd (fX3_wind b2 P ((gI P 516 b4) + x5)) fun r7 =>
  mm_bd (fX1_pullOf K th x1 x3 r7 P) fun r10 =>
  mm_lt (mm_max x4 r10.1) fun v12 =>
  mm_bd (fX1_driedOf K th x1 x3 r7 r10.2) fun r13 =>
  fX1_mostPull_b16 K th n x1 x2 r13.1 v12 (x5 + (1 : Int32)) r13.2)
set_option maxHeartbeats 4000000 in
theorem wfX1_mostPull_b16 {E : mm_E} (C : mm_Cx E RX1 cX1_mostPull 7 (some .int) 603 13872) {K : mm_K} {th : Nat} (hk : K.1 th = 1) {nx sl : Nat} : ∀ (n : Nat), ∀ (x1 : Int32) (x2 : Int32) (x3 : Int32) (x4 : Int32) (x5 : Int32) (P : mm_P), mm_V E (mm_wwI K nx sl) 16 [some (.ref th), some (.int x1), some (.int x2), some (.int x3), some (.int x4), some (.int x5), none] [] K P nx sl (fX1_mostPull_b16 K th n x1 x2 x3 x4 x5 P) := by
  intro n
  induction n with
  | zero => intro x1 x2 x3 x4 x5 P; exact r_none
  | succ n ih =>
    intro x1 x2 x3 x4 x5 P
    rw [fX1_mostPull_b16]
    refine r_iload C dX1_mostPull_16 rfl ?_
    refine r_iload_n C dX1_mostPull_18 rfl rfl ?_
    refine r_icmpge (tgt := 71) C dX1_mostPull_19 (by decide) (fun h1 => ?_) (fun h1 => ?_)
    · refine r_iload C dX1_mostPull_71 rfl ?_
      exact r_iret C dX1_mostPull_73 rfl
    · refine r_aload_n C dX1_mostPull_22 rfl rfl ?_
      refine r_getRn (code := 130) C fl_X1_35 hk rfl dX1_mostPull_23 fun b2 h3 => ?_
      refine r_aload_n C dX1_mostPull_26 rfl rfl ?_
      refine r_getRn (code := 132) C fl_X1_51 hk rfl dX1_mostPull_27 fun b4 h5 => ?_
      refine r_gd fun hK6 => ?_
      refine r_getI (code := 516) C fl_X1_244 hK6 rfl dX1_mostPull_30 ?_
      refine r_iload C dX1_mostPull_33 rfl ?_
      refine r_iadd C dX1_mostPull_35 ?_
      refine r_gd fun hK9 => ?_
      refine r_bd fun r7 h8 => ?_
      refine r_callV (As := [.int ((gI P 516 b4) + x5)]) (st := []) C (mc_X3_wind hK9 h8) cv_X1_247 hK9 rfl (Nat.le_of_ble_eq_true rfl) (Nat.le_of_ble_eq_true rfl) rfl (Nat.le_of_ble_eq_true rfl) dX1_mostPull_36 ?_
      refine r_istore (ls' := [some (.ref th), some (.int x1), some (.int x2), some (.int x3), some (.int x4), some (.int x5), some (.int r7)]) C dX1_mostPull_39 (Nat.le_of_ble_eq_true rfl) rfl rfl ?_
      refine r_iload C dX1_mostPull_41 rfl ?_
      refine r_aload_n C dX1_mostPull_43 rfl rfl ?_
      refine r_iload_n C dX1_mostPull_44 rfl rfl ?_
      refine r_iload_n C dX1_mostPull_45 rfl rfl ?_
      refine r_iload C dX1_mostPull_46 rfl ?_
      refine r_bd fun r10 h11 => ?_
      refine r_callV (As := [.int x1, .int x3, .int r7]) (st := [.int x4]) C (mc_X1_pullOf hk h11) cv_X1_229 hk rfl (Nat.le_of_ble_eq_true rfl) (Nat.le_of_ble_eq_true rfl) rfl (Nat.le_of_ble_eq_true rfl) dX1_mostPull_48 ?_
      refine r_mmax C q1244 q483 q143 q484 (Nat.le_of_ble_eq_true rfl) (Nat.le_of_ble_eq_true rfl) (Nat.le_of_ble_eq_true rfl) dX1_mostPull_51 ?_
      refine r_ltI fun v12 => ?_
      refine r_istore (ls' := [some (.ref th), some (.int x1), some (.int x2), some (.int x3), some (.int v12), some (.int x5), some (.int r7)]) C dX1_mostPull_54 (Nat.le_of_ble_eq_true rfl) rfl rfl ?_
      refine r_aload_n C dX1_mostPull_56 rfl rfl ?_
      refine r_iload_n C dX1_mostPull_57 rfl rfl ?_
      refine r_iload_n C dX1_mostPull_58 rfl rfl ?_
      refine r_iload C dX1_mostPull_59 rfl ?_
      refine r_bd fun r13 h14 => ?_
      refine r_callV (As := [.int x1, .int x3, .int r7]) (st := []) C (mc_X1_driedOf hk h14) cv_X1_241 hk rfl (Nat.le_of_ble_eq_true rfl) (Nat.le_of_ble_eq_true rfl) rfl (Nat.le_of_ble_eq_true rfl) dX1_mostPull_61 ?_
      refine r_istore_n (ls' := [some (.ref th), some (.int x1), some (.int x2), some (.int r13.1), some (.int v12), some (.int x5), some (.int r7)]) C dX1_mostPull_64 rfl (Nat.le_of_ble_eq_true rfl) rfl rfl ?_
      refine r_iinc (v := 1) (ls' := [some (.ref th), some (.int x1), some (.int x2), some (.int r13.1), some (.int v12), some (.int (x5 + (1 : Int32))), some (.int r7)]) C dX1_mostPull_65 rfl rfl (Nat.le_of_ble_eq_true rfl) rfl rfl ?_
      refine r_goto (tgt := 16) C dX1_mostPull_68 (by decide) ?_
      refine r_mask [true, true, true, true, true, true, false] (ls' := [some (.ref th), some (.int x1), some (.int x2), some (.int r13.1), some (.int v12), some (.int (x5 + (1 : Int32))), none]) rfl ?_
      exact ih x1 x2 r13.1 v12 (x5 + (1 : Int32)) r13.2
def fX1_mostPull (K : mm_K) (th : Nat) (x1 : Int32) (x2 : Int32) (P : mm_P) : Option (Int32 × mm_P) :=
  mm_bd (gR P 132 th) fun b1 =>
  mm_gd (K.1 b1 = 4) <|
  mm_gd (mm_in x1 6) <|
  mm_lt (gA P 514 b1 x1.toNatClampNeg) fun v5 =>
  fX1_mostPull_b16 K th mm_NF x1 x2 v5 (0 : Int32) (0 : Int32) P
set_option maxHeartbeats 4000000 in
theorem mc_X1_mostPull {l : Launch} {K : mm_K} {P : mm_P} {th : Nat} {x1 : Int32} {x2 : Int32} {nx sl : Nat} {r : (Int32 × mm_P)} (hk : K.1 th = 1) (h : fX1_mostPull K th x1 x2 P = some r) : mm_C l yX1_mostPull (ws_ yX1_mostPull cX1_mostPull 7 (some .int)) 603 13872 [.ref th, .int x1, .int x2] K P nx sl (mm_wwI K nx sl r) :=
  mm_start (ls := [some (.ref th), some (.int x1), some (.int x2), none, none, none, none]) h (by decide) (Nat.le_of_ble_eq_true rfl) rfl (Nat.le_refl _) (Nat.le_refl _) rfl fun E hl9 _ _ _ C => by
  have C : mm_Cx E RX1 cX1_mostPull 7 (some .int) 603 13872 := C
  unfold fX1_mostPull
  refine r_aload_n C dX1_mostPull_0 rfl rfl ?_
  refine r_getRn (code := 132) C fl_X1_51 hk rfl dX1_mostPull_1 fun b1 h2 => ?_
  refine r_gd fun hK3 => ?_
  refine r_getA C fl_X1_226 hK3 dX1_mostPull_4 ?_
  refine r_iload_n C dX1_mostPull_7 rfl rfl ?_
  refine r_iald C (rg_514 hK3) rfl dX1_mostPull_8 fun h4 => ?_
  refine r_ltI fun v5 => ?_
  refine r_istore_n (ls' := [some (.ref th), some (.int x1), some (.int x2), some (.int v5), none, none, none]) C dX1_mostPull_9 rfl (Nat.le_of_ble_eq_true rfl) rfl rfl ?_
  refine r_iconst (v := 0) C dX1_mostPull_10 rfl ?_
  refine r_istore (ls' := [some (.ref th), some (.int x1), some (.int x2), some (.int v5), some (.int (0 : Int32)), none, none]) C dX1_mostPull_11 (Nat.le_of_ble_eq_true rfl) rfl rfl ?_
  refine r_iconst (v := 0) C dX1_mostPull_13 rfl ?_
  refine r_istore (ls' := [some (.ref th), some (.int x1), some (.int x2), some (.int v5), some (.int (0 : Int32)), some (.int (0 : Int32)), none]) C dX1_mostPull_14 (Nat.le_of_ble_eq_true rfl) rfl rfl ?_
  exact wfX1_mostPull_b16 C hk mm_NF x1 x2 v5 (0 : Int32) (0 : Int32) P
theorem rg_138 {K : mm_K} {a : Nat} (h : K.1 a = 1) : mm_reg K 138 a 22 0 6 := Or.inl ⟨1, 10, rfl, h, by decide, rfl⟩
theorem rg_139 {K : mm_K} {a : Nat} (h : K.1 a = 1) : mm_reg K 139 a 23 0 6 := Or.inl ⟨1, 11, rfl, h, by decide, rfl⟩
theorem rg_140 {K : mm_K} {a : Nat} (h : K.1 a = 1) : mm_reg K 140 a 24 0 6 := Or.inl ⟨1, 12, rfl, h, by decide, rfl⟩
theorem fl_X1_322 : mm_FL RX1 322 1 13 mm_i .int false := ⟨RX1, TX1, 26, _, tyX1, rfl, in_X1, rfl, rfl, Nat.le_of_ble_eq_true rfl, Or.inl q356, tyX1_ok, nmX1, rfl, rfl⟩
theorem fl_X1_66 : mm_FL RX1 66 1 10 (mm_a 22 0 6) (tyX1 10) true := ⟨RX1, TX1, 26, _, tyX1, rfl, in_X1, rfl, rfl, Nat.le_of_ble_eq_true rfl, Or.inl q353, tyX1_ok, nmX1, rfl, rfl⟩
theorem fl_X1_69 : mm_FL RX1 69 1 11 (mm_a 23 0 6) (tyX1 11) true := ⟨RX1, TX1, 26, _, tyX1, rfl, in_X1, rfl, rfl, Nat.le_of_ble_eq_true rfl, Or.inl q354, tyX1_ok, nmX1, rfl, rfl⟩
theorem fl_X1_72 : mm_FL RX1 72 1 12 (mm_a 24 0 6) (tyX1 12) true := ⟨RX1, TX1, 26, _, tyX1, rfl, in_X1, rfl, rfl, Nat.le_of_ble_eq_true rfl, Or.inl q355, tyX1_ok, nmX1, rfl, rfl⟩
theorem cv_X1_325 : mm_CS RX1 325 yX1_copies cX1_copies 3 none 2 := ⟨lw_S q1453 q1317 q133 q1318, by decide +kernel, by decide +kernel, by decide +kernel⟩
theorem cv_X1_329 : mm_CV RX1 329 yX1_fills cX1_fills 6 none 4 1 := ⟨RX1, TX1, 26, _, lw_V q1449 q1451 qs47 q133 q1452, ⟨rfl, by decide +kernel, by decide +kernel, by decide +kernel⟩, rfl, rfl⟩
/-! X1 fills -/
def fX1_fills_b164 (K : mm_K) (th : Nat) (kS : (Int32 → Int32 → Int32 → Int32 → mm_P → Option mm_P))  (x1 : Int32) (x2 : Int32) (x3 : Int32) (x4 : Int32) (P : mm_P) : Option mm_P :=
  mm_gd (mm_in x1 6) <|
  mm_lt (sA P 139 th x1.toNatClampNeg (0 : Int32)) fun P2 =>
  mm_bd (kS (x1 + (1 : Int32)) x2 x3 x4 P2) fun r3 =>
  some r3
set_option maxHeartbeats 4000000 in
theorem wfX1_fills_b164 {E : mm_E} {FR LC FRS LCS : Nat} (hFR : FRS + 1 ≤ FR) (hFb : 4 ≤ FR) (hLC : LCS + 25 ≤ LC) (hLb : 85 ≤ LC) (C : mm_Cx E RX1 cX1_fills 6 none FR LC) {K : mm_K} {th : Nat} (hk : K.1 th = 1) {nx sl : Nat} {kS : (Int32 → Int32 → Int32 → Int32 → mm_P → Option mm_P)} (hkS : ∀ (z0 : Int32) (z1 : Int32) (z2 : Int32) (z3 : Int32) (P : mm_P) (r : mm_P), kS z0 z1 z2 z3 P = some r → mm_C (eL E) yX1_fills (ws_ yX1_fills cX1_fills 6 none) FRS LCS [.ref th, .int z0, .int z1, .int z2, .int z3] K P nx sl (mm_wwV K nx sl r)) (x1 : Int32) (x2 : Int32) (x3 : Int32) (x4 : Int32) (P : mm_P) : mm_V E (mm_wwV K nx sl) 164 [some (.ref th), some (.int x1), some (.int x2), some (.int x3), some (.int x4), none] [] K P nx sl (fX1_fills_b164 K th kS x1 x2 x3 x4 P) := by
  unfold fX1_fills_b164
  refine r_aload_n C dX1_fills_164 rfl rfl ?_
  refine r_getA C fl_X1_69 hk dX1_fills_165 ?_
  refine r_iload_n C dX1_fills_168 rfl rfl ?_
  refine r_iconst (v := 0) C dX1_fills_169 rfl ?_
  refine r_iast C (rg_139 hk) (mm_ro_of (k := 1) hk rfl) rfl dX1_fills_170 fun h1 => ?_
  refine r_ltP fun P2 => ?_
  refine r_aload_n C dX1_fills_171 rfl rfl ?_
  refine r_iload_n C dX1_fills_172 rfl rfl ?_
  refine r_iconst (v := 1) C dX1_fills_173 rfl ?_
  refine r_iadd C dX1_fills_174 ?_
  refine r_iload_n C dX1_fills_175 rfl rfl ?_
  refine r_iload_n C dX1_fills_176 rfl rfl ?_
  refine r_iload C dX1_fills_177 rfl ?_
  refine r_bd fun r3 h4 => ?_
  refine r_callVv (As := [.int (x1 + (1 : Int32)), .int x2, .int x3, .int x4]) (st := []) C (hkS _ _ _ _ _ _ h4) cv_X1_329 hk rfl (by omega) (by omega) rfl (Nat.le_of_ble_eq_true rfl) dX1_fills_179 ?_
  exact r_vret C dX1_fills_182 rfl
def fX1_fills_b64 (K : mm_K) (th : Nat) (kS : (Int32 → Int32 → Int32 → Int32 → mm_P → Option mm_P))  : Nat → Int32 → Int32 → Int32 → Int32 → Int32 → mm_P → Option mm_P
  | 0, _, _, _, _, _, _ => none
  | n + 1, x1, x2, x3, x4, x5, P =>
  if x2 < x5 then
  (fX1_fills_b164 K th kS x1 x2 x3 x4 P)
  else
  (if (x5 &&& (x2 ^^^ (-1 : Int32))) ≠ 0 then
  (fX1_fills_b64 K th kS n x1 x2 x3 x4 (x5 + (1 : Int32)) P)
  else
  (mm_bd (fJ17_bitCount x5) fun r3 =>
  mm_bd (fX1_cloth_2 K th P x1) fun r5 =>
  mm_bd (fV_needs K r5) fun r7 =>
  if r3 ≠ r7 then
  (fX1_fills_b64 K th kS n x1 x2 x3 x4 (x5 + (1 : Int32)) P)
  else
  (mm_bd (gR P 132 th) fun b10 =>
  mm_gd (K.1 b10 = 4) <|
  mm_bd (fX4_grips b10 P x5) fun r12 =>
  mm_gd (mm_in x1 6) <|
  if (gA P 138 th x1.toNatClampNeg) ≤ r12 then
  (mm_gd (mm_in x1 6) <|
  mm_lt (sA P 139 th x1.toNatClampNeg x5) fun P18 =>
  mm_bd (fX1_cloth_2 K th P18 x1) fun r19 =>
  mm_gd (mm_isC (K.1 r19)) <|
  mm_bd (fX1_cloth_2 K th P18 x1) fun r22 =>
  mm_gd (mm_isC (K.1 r22)) <|
  mm_bd (kS (x1 + (1 : Int32)) (x2 &&& (x5 ^^^ (-1 : Int32))) (x3 - (gI P18 897 r19)) (x4 + (gI P18 899 r22)) P18) fun r25 =>
  fX1_fills_b64 K th kS n x1 x2 x3 x4 (x5 + (1 : Int32)) r25)
  else
  (fX1_fills_b64 K th kS n x1 x2 x3 x4 (x5 + (1 : Int32)) P))))
set_option maxHeartbeats 4000000 in
theorem wfX1_fills_b64 {E : mm_E} {FR LC FRS LCS : Nat} (hFR : FRS + 1 ≤ FR) (hFb : 4 ≤ FR) (hLC : LCS + 25 ≤ LC) (hLb : 85 ≤ LC) (C : mm_Cx E RX1 cX1_fills 6 none FR LC) {K : mm_K} {th : Nat} (hk : K.1 th = 1) {nx sl : Nat} {kS : (Int32 → Int32 → Int32 → Int32 → mm_P → Option mm_P)} (hkS : ∀ (z0 : Int32) (z1 : Int32) (z2 : Int32) (z3 : Int32) (P : mm_P) (r : mm_P), kS z0 z1 z2 z3 P = some r → mm_C (eL E) yX1_fills (ws_ yX1_fills cX1_fills 6 none) FRS LCS [.ref th, .int z0, .int z1, .int z2, .int z3] K P nx sl (mm_wwV K nx sl r)) : ∀ (n : Nat), ∀ (x1 : Int32) (x2 : Int32) (x3 : Int32) (x4 : Int32) (x5 : Int32) (P : mm_P), mm_V E (mm_wwV K nx sl) 64 [some (.ref th), some (.int x1), some (.int x2), some (.int x3), some (.int x4), some (.int x5)] [] K P nx sl (fX1_fills_b64 K th kS n x1 x2 x3 x4 x5 P) := by
  intro n
  induction n with
  | zero => intro x1 x2 x3 x4 x5 P; exact r_none
  | succ n ih =>
    intro x1 x2 x3 x4 x5 P
    rw [fX1_fills_b64]
    refine r_iload C dX1_fills_64 rfl ?_
    refine r_iload_n C dX1_fills_66 rfl rfl ?_
    refine r_icmpgt (tgt := 164) C dX1_fills_67 (by decide) (fun h1 => ?_) (fun h1 => ?_)
    · refine r_mask [true, true, true, true, true, false] (ls' := [some (.ref th), some (.int x1), some (.int x2), some (.int x3), some (.int x4), none]) rfl ?_
      exact wfX1_fills_b164 hFR hFb hLC hLb C hk hkS x1 x2 x3 x4 P
    · refine r_iload C dX1_fills_70 rfl ?_
      refine r_iload_n C dX1_fills_72 rfl rfl ?_
      refine r_iconst (v := -1) C dX1_fills_73 rfl ?_
      refine r_ixor C dX1_fills_74 ?_
      refine r_iand C dX1_fills_75 ?_
      refine r_ifne (tgt := 158) C dX1_fills_76 (by decide) (fun h2 => ?_) (fun h2 => ?_)
      · refine r_iinc (v := 1) (ls' := [some (.ref th), some (.int x1), some (.int x2), some (.int x3), some (.int x4), some (.int (x5 + (1 : Int32)))]) C dX1_fills_158 rfl rfl (Nat.le_of_ble_eq_true rfl) rfl rfl ?_
        refine r_goto (tgt := 64) C dX1_fills_161 (by decide) ?_
        exact ih x1 x2 x3 x4 (x5 + (1 : Int32)) P
      · refine r_iload C dX1_fills_79 rfl ?_
        refine r_bd fun r3 h4 => ?_
        refine r_callS (As := [.int x5]) (st := []) C (mc_J17_bitCount h4) cv_X1_161  rfl (by omega) (by omega) rfl (Nat.le_of_ble_eq_true rfl) dX1_fills_81 ?_
        refine r_aload_n C dX1_fills_84 rfl rfl ?_
        refine r_iload_n C dX1_fills_85 rfl rfl ?_
        refine r_bd fun r5 h6 => ?_
        refine r_callV (As := [.int x1]) (st := [.int r3]) C (mc_X1_cloth_2 hk h6) cv_X1_166 hk rfl (by omega) (by omega) rfl (Nat.le_of_ble_eq_true rfl) dX1_fills_86 ?_
        refine r_bd fun r7 h8 => ?_
        refine vd_X1_170 (st := [.int r3]) C (dv_needs h8) (by omega) (by omega) rfl (Nat.le_of_ble_eq_true rfl) dX1_fills_89 ?_
        refine r_icmpne (tgt := 158) C dX1_fills_92 (by decide) (fun h9 => ?_) (fun h9 => ?_)
        · refine r_iinc (v := 1) (ls' := [some (.ref th), some (.int x1), some (.int x2), some (.int x3), some (.int x4), some (.int (x5 + (1 : Int32)))]) C dX1_fills_158 rfl rfl (Nat.le_of_ble_eq_true rfl) rfl rfl ?_
          refine r_goto (tgt := 64) C dX1_fills_161 (by decide) ?_
          exact ih x1 x2 x3 x4 (x5 + (1 : Int32)) P
        · refine r_aload_n C dX1_fills_95 rfl rfl ?_
          refine r_getRn (code := 132) C fl_X1_51 hk rfl dX1_fills_96 fun b10 h11 => ?_
          refine r_iload C dX1_fills_99 rfl ?_
          refine r_gd fun hK14 => ?_
          refine r_bd fun r12 h13 => ?_
          refine r_callV (As := [.int x5]) (st := []) C (mc_X4_grips hK14 h13) cv_X1_232 hK14 rfl (by omega) (by omega) rfl (Nat.le_of_ble_eq_true rfl) dX1_fills_101 ?_
          refine r_aload_n C dX1_fills_104 rfl rfl ?_
          refine r_getA C fl_X1_66 hk dX1_fills_105 ?_
          refine r_iload_n C dX1_fills_108 rfl rfl ?_
          refine r_iald C (rg_138 hk) rfl dX1_fills_109 fun h15 => ?_
          refine r_icmpge (tgt := 116) C dX1_fills_110 (by decide) (fun h16 => ?_) (fun h16 => ?_)
          · refine r_aload_n C dX1_fills_116 rfl rfl ?_
            refine r_getA C fl_X1_69 hk dX1_fills_117 ?_
            refine r_iload_n C dX1_fills_120 rfl rfl ?_
            refine r_iload C dX1_fills_121 rfl ?_
            refine r_iast C (rg_139 hk) (mm_ro_of (k := 1) hk rfl) rfl dX1_fills_123 fun h17 => ?_
            refine r_ltP fun P18 => ?_
            refine r_aload_n C dX1_fills_124 rfl rfl ?_
            refine r_iload_n C dX1_fills_125 rfl rfl ?_
            refine r_iconst (v := 1) C dX1_fills_126 rfl ?_
            refine r_iadd C dX1_fills_127 ?_
            refine r_iload_n C dX1_fills_128 rfl rfl ?_
            refine r_iload C dX1_fills_129 rfl ?_
            refine r_iconst (v := -1) C dX1_fills_131 rfl ?_
            refine r_ixor C dX1_fills_132 ?_
            refine r_iand C dX1_fills_133 ?_
            refine r_iload_n C dX1_fills_134 rfl rfl ?_
            refine r_aload_n C dX1_fills_135 rfl rfl ?_
            refine r_iload_n C dX1_fills_136 rfl rfl ?_
            refine r_bd fun r19 h20 => ?_
            refine r_callV (As := [.int x1]) (st := [.int x3, .int (x2 &&& (x5 ^^^ (-1 : Int32))), .int (x1 + (1 : Int32)), .ref th]) C (mc_X1_cloth_2 hk h20) cv_X1_166 hk rfl (by omega) (by omega) rfl (Nat.le_of_ble_eq_true rfl) dX1_fills_137 ?_
            refine r_gd fun hK21 => ?_
            refine r_getI (code := 897) C (fl_X1_184 hK21) rfl (mm_bsC hK21 _) dX1_fills_140 ?_
            refine r_isub C dX1_fills_143 ?_
            refine r_iload C dX1_fills_144 rfl ?_
            refine r_aload_n C dX1_fills_146 rfl rfl ?_
            refine r_iload_n C dX1_fills_147 rfl rfl ?_
            refine r_bd fun r22 h23 => ?_
            refine r_callV (As := [.int x1]) (st := [.int x4, .int (x3 - (gI P18 897 r19)), .int (x2 &&& (x5 ^^^ (-1 : Int32))), .int (x1 + (1 : Int32)), .ref th]) C (mc_X1_cloth_2 hk h23) cv_X1_166 hk rfl (by omega) (by omega) rfl (Nat.le_of_ble_eq_true rfl) dX1_fills_148 ?_
            refine r_gd fun hK24 => ?_
            refine r_getI (code := 899) C (fl_X1_181 hK24) rfl (mm_bsC hK24 _) dX1_fills_151 ?_
            refine r_iadd C dX1_fills_154 ?_
            refine r_bd fun r25 h26 => ?_
            refine r_callVv (As := [.int (x1 + (1 : Int32)), .int (x2 &&& (x5 ^^^ (-1 : Int32))), .int (x3 - (gI P18 897 r19)), .int (x4 + (gI P18 899 r22))]) (st := []) C (hkS _ _ _ _ _ _ h26) cv_X1_329 hk rfl (by omega) (by omega) rfl (Nat.le_of_ble_eq_true rfl) dX1_fills_155 ?_
            refine r_iinc (v := 1) (ls' := [some (.ref th), some (.int x1), some (.int x2), some (.int x3), some (.int x4), some (.int (x5 + (1 : Int32)))]) C dX1_fills_158 rfl rfl (Nat.le_of_ble_eq_true rfl) rfl rfl ?_
            refine r_goto (tgt := 64) C dX1_fills_161 (by decide) ?_
            exact ih x1 x2 x3 x4 (x5 + (1 : Int32)) r25
          · refine r_goto (tgt := 158) C dX1_fills_113 (by decide) ?_
            refine r_iinc (v := 1) (ls' := [some (.ref th), some (.int x1), some (.int x2), some (.int x3), some (.int x4), some (.int (x5 + (1 : Int32)))]) C dX1_fills_158 rfl rfl (Nat.le_of_ble_eq_true rfl) rfl rfl ?_
            refine r_goto (tgt := 64) C dX1_fills_161 (by decide) ?_
            exact ih x1 x2 x3 x4 (x5 + (1 : Int32)) P
def fX1_fills_o (K : mm_K) (th : Nat) (kS : (Int32 → Int32 → Int32 → Int32 → mm_P → Option mm_P)) (x1 : Int32) (x2 : Int32) (x3 : Int32) (x4 : Int32) (P : mm_P) : Option mm_P :=
  mm_bd (fX1_cloths K th P) fun r1 =>
  if x1 ≠ r1 then
  (mm_bd (gR P 132 th) fun b4 =>
  mm_gd (K.1 b4 = 4) <|
  mm_gd (mm_in x1 6) <|
  if (3 : Int32) ≤ (gA P 515 b4 x1.toNatClampNeg) then
  (fX1_fills_b164 K th kS x1 x2 x3 x4 P)
  else
  (mm_bd (fX1_cloth_2 K th P x1) fun r9 =>
  mm_gd (mm_isC (K.1 r9)) <|
  if x3 < (gI P 897 r9) then
  (fX1_fills_b164 K th kS x1 x2 x3 x4 P)
  else
  (fX1_fills_b64 K th kS mm_NF x1 x2 x3 x4 (1 : Int32) P)))
  else
  (if (gI P 141 th) < x4 then
  (mm_lt (sI P 141 th x4) fun P14 =>
  mm_bd (fX1_copies 139 th 6 140 th 6 P14) fun r15 =>
  some r15)
  else
  (some P))
def fX1_fills (K : mm_K) (th : Nat) : Nat → Int32 → Int32 → Int32 → Int32 → mm_P → Option mm_P
  | 0, _, _, _, _, _ => none
  | d + 1, x1, x2, x3, x4, P => fX1_fills_o K th (fX1_fills K th d) x1 x2 x3 x4 P
set_option maxHeartbeats 4000000 in
theorem mc_X1_fills {l : Launch} {K : mm_K} {th : Nat} {nx sl : Nat} : ∀ (d : Nat) {x1 : Int32} {x2 : Int32} {x3 : Int32} {x4 : Int32} {P : mm_P} {r : mm_P} (hk : K.1 th = 1) (_ : fX1_fills K th d x1 x2 x3 x4 P = some r), mm_C l yX1_fills (ws_ yX1_fills cX1_fills 6 none) (1 * d + 4) (25 * d + 85) [.ref th, .int x1, .int x2, .int x3, .int x4] K P nx sl (mm_wwV K nx sl r) := by
  intro d
  induction d with
  | zero => intro x1 x2 x3 x4 P r hk h; cases h
  | succ d ih =>
  intro x1 x2 x3 x4 P r hk h
  refine mm_start (ls := [some (.ref th), some (.int x1), some (.int x2), some (.int x3), some (.int x4), none]) (x := fX1_fills_o K th (fX1_fills K th d) x1 x2 x3 x4 P) h (by decide) (Nat.le_of_ble_eq_true rfl) rfl (Nat.le_refl _) (Nat.le_refl _) rfl fun E hl _ _ _ C => ?_
  have C : mm_Cx E RX1 cX1_fills 6 none (1 * (d + 1) + 4) (25 * (d + 1) + 85) := C
  generalize hFe : (1 * (d + 1) + 4) = FR at C
  generalize hLe : (25 * (d + 1) + 85) = LC at C
  generalize hFs : (1 * d + 4) = FRS at ih
  generalize hLs : (25 * d + 85) = LCS at ih
  have hFR : FRS + 1 ≤ FR := by omega
  have hFb : 4 ≤ FR := by omega
  have hLC : LCS + 25 ≤ LC := by omega
  have hLb : 85 ≤ LC := by omega
  subst hl
  have hkS := fun x1 x2 x3 x4 P r (hq : fX1_fills K th d x1 x2 x3 x4 P = some r) => ih hk hq
  clear hFe hLe h hFs hLs ih
  generalize fX1_fills K th d = kS at hkS ⊢
  unfold fX1_fills_o
  refine r_iload_n C dX1_fills_0 rfl rfl ?_
  refine r_aload_n C dX1_fills_1 rfl rfl ?_
  refine r_bd fun r1 h2 => ?_
  refine r_callV (As := []) (st := [.int x1]) C (mc_X1_cloths hk h2) cv_X1_148 hk rfl (by omega) (by omega) rfl (Nat.le_of_ble_eq_true rfl) dX1_fills_2 ?_
  refine r_icmpne (tgt := 36) C dX1_fills_5 (by decide) (fun h3 => ?_) (fun h3 => ?_)
  · refine r_aload_n C dX1_fills_36 rfl rfl ?_
    refine r_getRn (code := 132) C fl_X1_51 hk rfl dX1_fills_37 fun b4 h5 => ?_
    refine r_gd fun hK6 => ?_
    refine r_getA C fl_X1_154 hK6 dX1_fills_40 ?_
    refine r_iload_n C dX1_fills_43 rfl rfl ?_
    refine r_iald C (rg_515 hK6) rfl dX1_fills_44 fun h7 => ?_
    refine r_iconst (v := 3) C dX1_fills_45 rfl ?_
    refine r_icmpge (tgt := 164) C dX1_fills_46 (by decide) (fun h8 => ?_) (fun h8 => ?_)
    · exact wfX1_fills_b164 hFR hFb hLC hLb C hk hkS x1 x2 x3 x4 P
    · refine r_aload_n C dX1_fills_49 rfl rfl ?_
      refine r_iload_n C dX1_fills_50 rfl rfl ?_
      refine r_bd fun r9 h10 => ?_
      refine r_callV (As := [.int x1]) (st := []) C (mc_X1_cloth_2 hk h10) cv_X1_166 hk rfl (by omega) (by omega) rfl (Nat.le_of_ble_eq_true rfl) dX1_fills_51 ?_
      refine r_gd fun hK11 => ?_
      refine r_getI (code := 897) C (fl_X1_184 hK11) rfl (mm_bsC hK11 _) dX1_fills_54 ?_
      refine r_iload_n C dX1_fills_57 rfl rfl ?_
      refine r_icmpgt (tgt := 164) C dX1_fills_58 (by decide) (fun h12 => ?_) (fun h12 => ?_)
      · exact wfX1_fills_b164 hFR hFb hLC hLb C hk hkS x1 x2 x3 x4 P
      · refine r_iconst (v := 1) C dX1_fills_61 rfl ?_
        refine r_istore (ls' := [some (.ref th), some (.int x1), some (.int x2), some (.int x3), some (.int x4), some (.int (1 : Int32))]) C dX1_fills_62 (Nat.le_of_ble_eq_true rfl) rfl rfl ?_
        exact wfX1_fills_b64 hFR hFb hLC hLb C hk hkS mm_NF x1 x2 x3 x4 (1 : Int32) P
  · refine r_iload C dX1_fills_8 rfl ?_
    refine r_aload_n C dX1_fills_10 rfl rfl ?_
    refine r_getI (code := 141) C fl_X1_322 hk rfl dX1_fills_11 ?_
    refine r_icmpgt (tgt := 18) C dX1_fills_14 (by decide) (fun h13 => ?_) (fun h13 => ?_)
    · refine r_aload_n C dX1_fills_18 rfl rfl ?_
      refine r_iload C dX1_fills_19 rfl ?_
      refine r_putI (code := 141) C fl_X1_322 hk rfl rfl dX1_fills_21 ?_
      refine r_ltP fun P14 => ?_
      refine r_aload_n C dX1_fills_24 rfl rfl ?_
      refine r_getA C fl_X1_69 hk dX1_fills_25 ?_
      refine r_aload_n C dX1_fills_28 rfl rfl ?_
      refine r_getA C fl_X1_72 hk dX1_fills_29 ?_
      refine r_bd fun r15 h16 => ?_
      refine r_callSv (As := [.ref (th + 23), .ref (th + 24)]) (st := []) C (mc_X1_copies (rg_139 hk) (mm_ro_of (k := 1) hk rfl) (rg_140 hk) (mm_ro_of (k := 1) hk rfl) h16) cv_X1_325  rfl (by omega) (by omega) rfl (Nat.le_of_ble_eq_true rfl) dX1_fills_32 ?_
      exact r_vret C dX1_fills_35 rfl
    · exact r_vret C dX1_fills_17 rfl
theorem cv_X1_333 : mm_CV RX1 333 yX1_mostPull cX1_mostPull 7 (some .int) 2 1 := ⟨RX1, TX1, 26, _, lw_V q1445 q1447 qs46 q133 q1448, ⟨rfl, by decide +kernel, by decide +kernel, by decide +kernel⟩, rfl, rfl⟩
/-! X1 fill -/
def fX1_fill_b72 (K : mm_K) (th : Nat)  : Nat → Int32 → Int32 → Int32 → Int32 → mm_P → Option (Int32 × mm_P)
  | 0, _, _, _, _, _ => none
  | n + 1, x1, x2, x3, x4, P =>
  mm_bd (fX1_cloths K th P) fun r1 =>
  if r1 ≤ x4 then
  (mm_lt (sI P 141 th (-1 : Int32)) fun P4 =>
  mm_bd (gR P4 130 th) fun b5 =>
  mm_gd (K.1 b5 = 3) <|
  mm_bd (fX3_yards b5 P4) fun r7 =>
  mm_bd (fX1_fills K th 8 (0 : Int32) x3 r7 (0 : Int32) P4) fun r10 =>
  if x2 ≠ (-1 : Int32) then
  (mm_gd (mm_in x2 6) <|
  some (gA r10 140 th x2.toNatClampNeg, r10))
  else
  (some (gI r10 141 th, r10)))
  else
  (mm_bd (fX1_mostPull K th x4 x1 P) fun r14 =>
  mm_gd (mm_in x4 6) <|
  mm_lt (sA r14.2 138 th x4.toNatClampNeg r14.1) fun P17 =>
  fX1_fill_b72 K th n x1 x2 x3 (x4 + (1 : Int32)) P17)
set_option maxHeartbeats 4000000 in
theorem wfX1_fill_b72 {E : mm_E} (C : mm_Cx E RX1 cX1_fill 5 (some .int) 604 13898) {K : mm_K} {th : Nat} (hk : K.1 th = 1) {nx sl : Nat} : ∀ (n : Nat), ∀ (x1 : Int32) (x2 : Int32) (x3 : Int32) (x4 : Int32) (P : mm_P), mm_V E (mm_wwI K nx sl) 72 [some (.ref th), some (.int x1), some (.int x2), some (.int x3), some (.int x4)] [] K P nx sl (fX1_fill_b72 K th n x1 x2 x3 x4 P) := by
  intro n
  induction n with
  | zero => intro x1 x2 x3 x4 P; exact r_none
  | succ n ih =>
    intro x1 x2 x3 x4 P
    rw [fX1_fill_b72]
    refine r_iload C dX1_fill_72 rfl ?_
    refine r_aload_n C dX1_fill_74 rfl rfl ?_
    refine r_bd fun r1 h2 => ?_
    refine r_callV (As := []) (st := [.int x4]) C (mc_X1_cloths hk h2) cv_X1_148 hk rfl (Nat.le_of_ble_eq_true rfl) (Nat.le_of_ble_eq_true rfl) rfl (Nat.le_of_ble_eq_true rfl) dX1_fill_75 ?_
    refine r_icmpge (tgt := 101) C dX1_fill_78 (by decide) (fun h3 => ?_) (fun h3 => ?_)
    · refine r_aload_n C dX1_fill_101 rfl rfl ?_
      refine r_iconst (v := -1) C dX1_fill_102 rfl ?_
      refine r_putI (code := 141) C fl_X1_322 hk rfl rfl dX1_fill_103 ?_
      refine r_ltP fun P4 => ?_
      refine r_aload_n C dX1_fill_106 rfl rfl ?_
      refine r_iconst (v := 0) C dX1_fill_107 rfl ?_
      refine r_iload_n C dX1_fill_108 rfl rfl ?_
      refine r_aload_n C dX1_fill_109 rfl rfl ?_
      refine r_getRn (code := 130) C fl_X1_35 hk rfl dX1_fill_110 fun b5 h6 => ?_
      refine r_gd fun hK9 => ?_
      refine r_bd fun r7 h8 => ?_
      refine r_callV (As := []) (st := [.int x3, .int (0 : Int32), .ref th]) C (mc_X3_yards hK9 h8) cv_X1_187 hK9 rfl (Nat.le_of_ble_eq_true rfl) (Nat.le_of_ble_eq_true rfl) rfl (Nat.le_of_ble_eq_true rfl) dX1_fill_113 ?_
      refine r_iconst (v := 0) C dX1_fill_116 rfl ?_
      refine r_bd fun r10 h11 => ?_
      refine r_callVv (As := [.int (0 : Int32), .int x3, .int r7, .int (0 : Int32)]) (st := []) C (mc_X1_fills 8 hk h11) cv_X1_329 hk rfl (Nat.le_of_ble_eq_true rfl) (Nat.le_of_ble_eq_true rfl) rfl (Nat.le_of_ble_eq_true rfl) dX1_fill_117 ?_
      refine r_iload_n C dX1_fill_120 rfl rfl ?_
      refine r_iconst (v := -1) C dX1_fill_121 rfl ?_
      refine r_icmpne (tgt := 132) C dX1_fill_122 (by decide) (fun h12 => ?_) (fun h12 => ?_)
      · refine r_aload_n C dX1_fill_132 rfl rfl ?_
        refine r_getA C fl_X1_72 hk dX1_fill_133 ?_
        refine r_iload_n C dX1_fill_136 rfl rfl ?_
        refine r_iald C (rg_140 hk) rfl dX1_fill_137 fun h13 => ?_
        exact r_iret C dX1_fill_138 rfl
      · refine r_aload_n C dX1_fill_125 rfl rfl ?_
        refine r_getI (code := 141) C fl_X1_322 hk rfl dX1_fill_126 ?_
        refine r_goto (tgt := 138) C dX1_fill_129 (by decide) ?_
        exact r_iret C dX1_fill_138 rfl
    · refine r_aload_n C dX1_fill_81 rfl rfl ?_
      refine r_getA C fl_X1_66 hk dX1_fill_82 ?_
      refine r_iload C dX1_fill_85 rfl ?_
      refine r_aload_n C dX1_fill_87 rfl rfl ?_
      refine r_iload C dX1_fill_88 rfl ?_
      refine r_iload_n C dX1_fill_90 rfl rfl ?_
      refine r_bd fun r14 h15 => ?_
      refine r_callV (As := [.int x4, .int x1]) (st := [.int x4, .ref (th + 22)]) C (mc_X1_mostPull hk h15) cv_X1_333 hk rfl (Nat.le_of_ble_eq_true rfl) (Nat.le_of_ble_eq_true rfl) rfl (Nat.le_of_ble_eq_true rfl) dX1_fill_91 ?_
      refine r_iast C (rg_138 hk) (mm_ro_of (k := 1) hk rfl) rfl dX1_fill_94 fun h16 => ?_
      refine r_ltP fun P17 => ?_
      refine r_iinc (v := 1) (ls' := [some (.ref th), some (.int x1), some (.int x2), some (.int x3), some (.int (x4 + (1 : Int32)))]) C dX1_fill_95 rfl rfl (Nat.le_of_ble_eq_true rfl) rfl rfl ?_
      refine r_goto (tgt := 72) C dX1_fill_98 (by decide) ?_
      exact ih x1 x2 x3 (x4 + (1 : Int32)) P17
def fX1_fill_b31 (K : mm_K) (th : Nat)  : Nat → Int32 → Int32 → Int32 → Int32 → mm_P → Option (Int32 × mm_P)
  | 0, _, _, _, _, _ => none
  | n + 1, x1, x2, x3, x4, P =>
  mm_bd (gR P 132 th) fun b1 =>
  mm_gd (K.1 b1 = 4) <|
  if (gI P 517 b1) ≤ x4 then
  (fX1_fill_b72 K th mm_NF x1 x2 x3 (0 : Int32) P)
  else
  (mm_bd (gR P 132 th) fun b5 =>
  mm_gd (K.1 b5 = 4) <|
  mm_gd (mm_in x4 8) <|
  if (gA P 512 b5 x4.toNatClampNeg) ≤ 0 then
  (fX1_fill_b31 K th n x1 x2 x3 (x4 + (1 : Int32)) P)
  else
  (mm_lt (x3 ||| (mm_shl (1 : Int32) x4)) fun v10 =>
  fX1_fill_b31 K th n x1 x2 v10 (x4 + (1 : Int32)) P))
set_option maxHeartbeats 4000000 in
theorem wfX1_fill_b31 {E : mm_E} (C : mm_Cx E RX1 cX1_fill 5 (some .int) 604 13898) {K : mm_K} {th : Nat} (hk : K.1 th = 1) {nx sl : Nat} : ∀ (n : Nat), ∀ (x1 : Int32) (x2 : Int32) (x3 : Int32) (x4 : Int32) (P : mm_P), mm_V E (mm_wwI K nx sl) 31 [some (.ref th), some (.int x1), some (.int x2), some (.int x3), some (.int x4)] [] K P nx sl (fX1_fill_b31 K th n x1 x2 x3 x4 P) := by
  intro n
  induction n with
  | zero => intro x1 x2 x3 x4 P; exact r_none
  | succ n ih =>
    intro x1 x2 x3 x4 P
    rw [fX1_fill_b31]
    refine r_iload C dX1_fill_31 rfl ?_
    refine r_aload_n C dX1_fill_33 rfl rfl ?_
    refine r_getRn (code := 132) C fl_X1_51 hk rfl dX1_fill_34 fun b1 h2 => ?_
    refine r_gd fun hK3 => ?_
    refine r_getI (code := 517) C fl_X1_264 hK3 rfl dX1_fill_37 ?_
    refine r_icmpge (tgt := 69) C dX1_fill_40 (by decide) (fun h4 => ?_) (fun h4 => ?_)
    · refine r_iconst (v := 0) C dX1_fill_69 rfl ?_
      refine r_istore (ls' := [some (.ref th), some (.int x1), some (.int x2), some (.int x3), some (.int (0 : Int32))]) C dX1_fill_70 (Nat.le_of_ble_eq_true rfl) rfl rfl ?_
      exact wfX1_fill_b72 C hk mm_NF x1 x2 x3 (0 : Int32) P
    · refine r_aload_n C dX1_fill_43 rfl rfl ?_
      refine r_getRn (code := 132) C fl_X1_51 hk rfl dX1_fill_44 fun b5 h6 => ?_
      refine r_gd fun hK7 => ?_
      refine r_getA C fl_X1_267 hK7 dX1_fill_47 ?_
      refine r_iload C dX1_fill_50 rfl ?_
      refine r_iald C (rg_512 hK7) rfl dX1_fill_52 fun h8 => ?_
      refine r_ifle (tgt := 63) C dX1_fill_53 (by decide) (fun h9 => ?_) (fun h9 => ?_)
      · refine r_iinc (v := 1) (ls' := [some (.ref th), some (.int x1), some (.int x2), some (.int x3), some (.int (x4 + (1 : Int32)))]) C dX1_fill_63 rfl rfl (Nat.le_of_ble_eq_true rfl) rfl rfl ?_
        refine r_goto (tgt := 31) C dX1_fill_66 (by decide) ?_
        exact ih x1 x2 x3 (x4 + (1 : Int32)) P
      · refine r_iload_n C dX1_fill_56 rfl rfl ?_
        refine r_iconst (v := 1) C dX1_fill_57 rfl ?_
        refine r_iload C dX1_fill_58 rfl ?_
        refine r_ishl C dX1_fill_60 ?_
        refine r_ior C dX1_fill_61 ?_
        refine r_ltI fun v10 => ?_
        refine r_istore_n (ls' := [some (.ref th), some (.int x1), some (.int x2), some (.int v10), some (.int x4)]) C dX1_fill_62 rfl (Nat.le_of_ble_eq_true rfl) rfl rfl ?_
        refine r_iinc (v := 1) (ls' := [some (.ref th), some (.int x1), some (.int x2), some (.int v10), some (.int (x4 + (1 : Int32)))]) C dX1_fill_63 rfl rfl (Nat.le_of_ble_eq_true rfl) rfl rfl ?_
        refine r_goto (tgt := 31) C dX1_fill_66 (by decide) ?_
        exact ih x1 x2 v10 (x4 + (1 : Int32)) P
def fX1_fill (K : mm_K) (th : Nat) (x1 : Int32) (x2 : Int32) (P : mm_P) : Option (Int32 × mm_P) :=
  mm_bd (fX1_in x1 (1 : Int32) (6 : Int32)) fun r1 =>
  if r1 = 0 then
  (some ((-2 : Int32), P))
  else
  (if x2 = (-1 : Int32) then
  (fX1_fill_b31 K th mm_NF x1 x2 (0 : Int32) (0 : Int32) P)
  else
  (mm_bd (fX1_isCloth K th P x2) fun r5 =>
  if r5 ≠ 0 then
  (fX1_fill_b31 K th mm_NF x1 x2 (0 : Int32) (0 : Int32) P)
  else
  (some ((-2 : Int32), P))))
set_option maxHeartbeats 4000000 in
theorem mc_X1_fill {l : Launch} {K : mm_K} {P : mm_P} {th : Nat} {x1 : Int32} {x2 : Int32} {nx sl : Nat} {r : (Int32 × mm_P)} (hk : K.1 th = 1) (h : fX1_fill K th x1 x2 P = some r) : mm_C l yX1_fill (ws_ yX1_fill cX1_fill 5 (some .int)) 604 13898 [.ref th, .int x1, .int x2] K P nx sl (mm_wwI K nx sl r) :=
  mm_start (ls := [some (.ref th), some (.int x1), some (.int x2), none, none]) h (by decide) (Nat.le_of_ble_eq_true rfl) rfl (Nat.le_refl _) (Nat.le_refl _) rfl fun E hl9 _ _ _ C => by
  have C : mm_Cx E RX1 cX1_fill 5 (some .int) 604 13898 := C
  unfold fX1_fill
  refine r_iload_n C dX1_fill_0 rfl rfl ?_
  refine r_iconst (v := 1) C dX1_fill_1 rfl ?_
  refine r_bipush (v := 6) C dX1_fill_2 rfl ?_
  refine r_bd fun r1 h2 => ?_
  refine r_callS (As := [.int x1, .int (1 : Int32), .int (6 : Int32)]) (st := []) C (mc_X1_in h2) cv_X1_150  rfl (Nat.le_of_ble_eq_true rfl) (Nat.le_of_ble_eq_true rfl) rfl (Nat.le_of_ble_eq_true rfl) dX1_fill_4 ?_
  refine r_ifeq (tgt := 23) C dX1_fill_7 (by decide) (fun h3 => ?_) (fun h3 => ?_)
  · refine r_bipush (v := -2) C dX1_fill_23 rfl ?_
    exact r_iret C dX1_fill_25 rfl
  · refine r_iload_n C dX1_fill_10 rfl rfl ?_
    refine r_iconst (v := -1) C dX1_fill_11 rfl ?_
    refine r_icmpeq (tgt := 26) C dX1_fill_12 (by decide) (fun h4 => ?_) (fun h4 => ?_)
    · refine r_iconst (v := 0) C dX1_fill_26 rfl ?_
      refine r_istore_n (ls' := [some (.ref th), some (.int x1), some (.int x2), some (.int (0 : Int32)), none]) C dX1_fill_27 rfl (Nat.le_of_ble_eq_true rfl) rfl rfl ?_
      refine r_iconst (v := 0) C dX1_fill_28 rfl ?_
      refine r_istore (ls' := [some (.ref th), some (.int x1), some (.int x2), some (.int (0 : Int32)), some (.int (0 : Int32))]) C dX1_fill_29 (Nat.le_of_ble_eq_true rfl) rfl rfl ?_
      exact wfX1_fill_b31 C hk mm_NF x1 x2 (0 : Int32) (0 : Int32) P
    · refine r_aload_n C dX1_fill_15 rfl rfl ?_
      refine r_iload_n C dX1_fill_16 rfl rfl ?_
      refine r_bd fun r5 h6 => ?_
      refine r_callV (As := [.int x2]) (st := []) C (mc_X1_isCloth hk h6) cv_X1_254 hk rfl (Nat.le_of_ble_eq_true rfl) (Nat.le_of_ble_eq_true rfl) rfl (Nat.le_of_ble_eq_true rfl) dX1_fill_17 ?_
      refine r_ifne (tgt := 26) C dX1_fill_20 (by decide) (fun h7 => ?_) (fun h7 => ?_)
      · refine r_iconst (v := 0) C dX1_fill_26 rfl ?_
        refine r_istore_n (ls' := [some (.ref th), some (.int x1), some (.int x2), some (.int (0 : Int32)), none]) C dX1_fill_27 rfl (Nat.le_of_ble_eq_true rfl) rfl rfl ?_
        refine r_iconst (v := 0) C dX1_fill_28 rfl ?_
        refine r_istore (ls' := [some (.ref th), some (.int x1), some (.int x2), some (.int (0 : Int32)), some (.int (0 : Int32))]) C dX1_fill_29 (Nat.le_of_ble_eq_true rfl) rfl rfl ?_
        exact wfX1_fill_b31 C hk mm_NF x1 x2 (0 : Int32) (0 : Int32) P
      · refine r_bipush (v := -2) C dX1_fill_23 rfl ?_
        exact r_iret C dX1_fill_25 rfl
/-! X1 dryBy -/
def fX1_dryBy_b47 (K : mm_K) (th : Nat)  (x3 : Int32) (x4 : Int32) (P : mm_P) : Option (Int32 × mm_P) :=
  if x3 ≤ 0 then
  (some (x4, P))
  else
  (some ((100 : Int32), P))
set_option maxHeartbeats 4000000 in
theorem wfX1_dryBy_b47 {E : mm_E} (C : mm_Cx E RX1 cX1_dryBy 5 (some .int) 603 13872) {K : mm_K} {th : Nat} (hk : K.1 th = 1) {nx sl : Nat} (x3 : Int32) (x4 : Int32) (P : mm_P) : mm_V E (mm_wwI K nx sl) 47 [none, none, none, some (.int x3), some (.int x4)] [] K P nx sl (fX1_dryBy_b47 K th x3 x4 P) := by
  unfold fX1_dryBy_b47
  refine r_iload_n C dX1_dryBy_47 rfl rfl ?_
  refine r_ifle (tgt := 56) C dX1_dryBy_48 (by decide) (fun h1 => ?_) (fun h1 => ?_)
  · refine r_iload C dX1_dryBy_56 rfl ?_
    exact r_iret C dX1_dryBy_58 rfl
  · refine r_bipush (v := 100) C dX1_dryBy_51 rfl ?_
    refine r_goto (tgt := 58) C dX1_dryBy_53 (by decide) ?_
    exact r_iret C dX1_dryBy_58 rfl
def fX1_dryBy_b6 (K : mm_K) (th : Nat)  : Nat → Int32 → Int32 → Int32 → mm_P → Option (Int32 × mm_P)
  | 0, _, _, _, _ => none
  | n + 1, x1, x3, x4, P =>
  if x3 ≤ 0 then
  (fX1_dryBy_b47 K th x3 x4 P)
  else
  (if (99 : Int32) < x4 then
  (fX1_dryBy_b47 K th x3 x4 P)
  else
  (mm_bd (gR P 130 th) fun b3 =>
  mm_bd (gR P 132 th) fun b5 =>
  mm_gd (K.1 b5 = 4) <|
  mm_gd (K.1 b3 = 3) <|
  mm_bd (fX3_wind b3 P ((gI P 516 b5) + x4)) fun r8 =>
  mm_bd (fX1_driedOf K th x1 x3 r8 P) fun r11 =>
  fX1_dryBy_b6 K th n x1 r11.1 (x4 + (1 : Int32)) r11.2))
set_option maxHeartbeats 4000000 in
theorem wfX1_dryBy_b6 {E : mm_E} (C : mm_Cx E RX1 cX1_dryBy 5 (some .int) 603 13872) {K : mm_K} {th : Nat} (hk : K.1 th = 1) {nx sl : Nat} : ∀ (n : Nat), ∀ (x1 : Int32) (x3 : Int32) (x4 : Int32) (P : mm_P), mm_V E (mm_wwI K nx sl) 6 [some (.ref th), some (.int x1), none, some (.int x3), some (.int x4)] [] K P nx sl (fX1_dryBy_b6 K th n x1 x3 x4 P) := by
  intro n
  induction n with
  | zero => intro x1 x3 x4 P; exact r_none
  | succ n ih =>
    intro x1 x3 x4 P
    rw [fX1_dryBy_b6]
    refine r_iload_n C dX1_dryBy_6 rfl rfl ?_
    refine r_ifle (tgt := 47) C dX1_dryBy_7 (by decide) (fun h1 => ?_) (fun h1 => ?_)
    · refine r_mask [false, false, true, true, true] (ls' := [none, none, none, some (.int x3), some (.int x4)]) rfl ?_
      exact wfX1_dryBy_b47 C hk x3 x4 P
    · refine r_iload C dX1_dryBy_10 rfl ?_
      refine r_bipush (v := 99) C dX1_dryBy_12 rfl ?_
      refine r_icmpgt (tgt := 47) C dX1_dryBy_14 (by decide) (fun h2 => ?_) (fun h2 => ?_)
      · refine r_mask [false, false, true, true, true] (ls' := [none, none, none, some (.int x3), some (.int x4)]) rfl ?_
        exact wfX1_dryBy_b47 C hk x3 x4 P
      · refine r_aload_n C dX1_dryBy_17 rfl rfl ?_
        refine r_iload_n C dX1_dryBy_18 rfl rfl ?_
        refine r_iload_n C dX1_dryBy_19 rfl rfl ?_
        refine r_aload_n C dX1_dryBy_20 rfl rfl ?_
        refine r_getRn (code := 130) C fl_X1_35 hk rfl dX1_dryBy_21 fun b3 h4 => ?_
        refine r_aload_n C dX1_dryBy_24 rfl rfl ?_
        refine r_getRn (code := 132) C fl_X1_51 hk rfl dX1_dryBy_25 fun b5 h6 => ?_
        refine r_gd fun hK7 => ?_
        refine r_getI (code := 516) C fl_X1_244 hK7 rfl dX1_dryBy_28 ?_
        refine r_iload C dX1_dryBy_31 rfl ?_
        refine r_iadd C dX1_dryBy_33 ?_
        refine r_gd fun hK10 => ?_
        refine r_bd fun r8 h9 => ?_
        refine r_callV (As := [.int ((gI P 516 b5) + x4)]) (st := [.int x3, .int x1, .ref th]) C (mc_X3_wind hK10 h9) cv_X1_247 hK10 rfl (Nat.le_of_ble_eq_true rfl) (Nat.le_of_ble_eq_true rfl) rfl (Nat.le_of_ble_eq_true rfl) dX1_dryBy_34 ?_
        refine r_bd fun r11 h12 => ?_
        refine r_callV (As := [.int x1, .int x3, .int r8]) (st := []) C (mc_X1_driedOf hk h12) cv_X1_241 hk rfl (Nat.le_of_ble_eq_true rfl) (Nat.le_of_ble_eq_true rfl) rfl (Nat.le_of_ble_eq_true rfl) dX1_dryBy_37 ?_
        refine r_istore_n (ls' := [some (.ref th), some (.int x1), none, some (.int r11.1), some (.int x4)]) C dX1_dryBy_40 rfl (Nat.le_of_ble_eq_true rfl) rfl rfl ?_
        refine r_iinc (v := 1) (ls' := [some (.ref th), some (.int x1), none, some (.int r11.1), some (.int (x4 + (1 : Int32)))]) C dX1_dryBy_41 rfl rfl (Nat.le_of_ble_eq_true rfl) rfl rfl ?_
        refine r_goto (tgt := 6) C dX1_dryBy_44 (by decide) ?_
        exact ih x1 r11.1 (x4 + (1 : Int32)) r11.2
def fX1_dryBy (K : mm_K) (th : Nat) (x1 : Int32) (x2 : Int32) (P : mm_P) : Option (Int32 × mm_P) :=
  fX1_dryBy_b6 K th mm_NF x1 (9 : Int32) x2 P
set_option maxHeartbeats 4000000 in
theorem mc_X1_dryBy {l : Launch} {K : mm_K} {P : mm_P} {th : Nat} {x1 : Int32} {x2 : Int32} {nx sl : Nat} {r : (Int32 × mm_P)} (hk : K.1 th = 1) (h : fX1_dryBy K th x1 x2 P = some r) : mm_C l yX1_dryBy (ws_ yX1_dryBy cX1_dryBy 5 (some .int)) 603 13872 [.ref th, .int x1, .int x2] K P nx sl (mm_wwI K nx sl r) :=
  mm_start (ls := [some (.ref th), some (.int x1), some (.int x2), none, none]) h (by decide) (Nat.le_of_ble_eq_true rfl) rfl (Nat.le_refl _) (Nat.le_refl _) rfl fun E hl9 _ _ _ C => by
  have C : mm_Cx E RX1 cX1_dryBy 5 (some .int) 603 13872 := C
  unfold fX1_dryBy
  refine r_bipush (v := 9) C dX1_dryBy_0 rfl ?_
  refine r_istore_n (ls' := [some (.ref th), some (.int x1), some (.int x2), some (.int (9 : Int32)), none]) C dX1_dryBy_2 rfl (Nat.le_of_ble_eq_true rfl) rfl rfl ?_
  refine r_iload_n C dX1_dryBy_3 rfl rfl ?_
  refine r_istore (ls' := [some (.ref th), some (.int x1), some (.int x2), some (.int (9 : Int32)), some (.int x2)]) C dX1_dryBy_4 (Nat.le_of_ble_eq_true rfl) rfl rfl ?_
  refine r_mask [true, true, false, true, true] (ls' := [some (.ref th), some (.int x1), none, some (.int (9 : Int32)), some (.int x2)]) rfl ?_
  exact wfX1_dryBy_b6 C hk mm_NF x1 (9 : Int32) x2 P
theorem rg_143 {K : mm_K} {a : Nat} (h : K.1 a = 1) : mm_reg K 143 a 26 0 6 := Or.inl ⟨1, 15, rfl, h, by decide, rfl⟩
theorem rg_144 {K : mm_K} {a : Nat} (h : K.1 a = 1) : mm_reg K 144 a 27 0 6 := Or.inl ⟨1, 16, rfl, h, by decide, rfl⟩
theorem fl_X1_347 : mm_FL RX1 347 1 18 mm_i .int false := ⟨RX1, TX1, 26, _, tyX1, rfl, in_X1, rfl, rfl, Nat.le_of_ble_eq_true rfl, Or.inl q361, tyX1_ok, nmX1, rfl, rfl⟩
theorem fl_X1_78 : mm_FL RX1 78 1 15 (mm_a 26 0 6) (tyX1 15) true := ⟨RX1, TX1, 26, _, tyX1, rfl, in_X1, rfl, rfl, Nat.le_of_ble_eq_true rfl, Or.inl q358, tyX1_ok, nmX1, rfl, rfl⟩
theorem fl_X1_81 : mm_FL RX1 81 1 16 (mm_a 27 0 6) (tyX1 16) true := ⟨RX1, TX1, 26, _, tyX1, rfl, in_X1, rfl, rfl, Nat.le_of_ble_eq_true rfl, Or.inl q359, tyX1_ok, nmX1, rfl, rfl⟩
theorem cv_X1_350 : mm_CV RX1 350 yX1_dryBy cX1_dryBy 5 (some .int) 2 1 := ⟨RX1, TX1, 26, _, lw_V q1477 q1479 qs50 q133 q1480, ⟨rfl, by decide +kernel, by decide +kernel, by decide +kernel⟩, rfl, rfl⟩
theorem cv_X1_353 : mm_CV RX1 353 yX1_orders cX1_orders 6 none 4 1 := ⟨RX1, TX1, 26, _, lw_V q1473 q1475 qs49 q133 q1476, ⟨rfl, by decide +kernel, by decide +kernel, by decide +kernel⟩, rfl, rfl⟩
/-! X1 orders -/
def fX1_orders_b35 (K : mm_K) (th : Nat) (kS : (Int32 → Int32 → Int32 → Int32 → mm_P → Option mm_P))  : Nat → Int32 → Int32 → Int32 → Int32 → Int32 → mm_P → Option mm_P
  | 0, _, _, _, _, _, _ => none
  | n + 1, x1, x2, x3, x4, x5, P =>
  mm_bd (fX1_cloths K th P) fun r1 =>
  if r1 ≤ x5 then
  (some P)
  else
  (mm_bd (fX1_isIn (x4 &&& (x2 ^^^ (-1 : Int32))) x5) fun r4 =>
  if r4 ≠ 0 then
  (mm_gd (mm_in x1 6) <|
  mm_lt (sA P 143 th x1.toNatClampNeg x5) fun P8 =>
  mm_bd (fX1_dryBy K th x5 x1 P8) fun r9 =>
  mm_bd (kS (x1 + (1 : Int32)) (x2 ||| (mm_shl (1 : Int32) x5)) (mm_max x3 r9.1) x4 r9.2) fun r11 =>
  fX1_orders_b35 K th kS n x1 x2 x3 x4 (x5 + (1 : Int32)) r11)
  else
  (fX1_orders_b35 K th kS n x1 x2 x3 x4 (x5 + (1 : Int32)) P))
set_option maxHeartbeats 4000000 in
theorem wfX1_orders_b35 {E : mm_E} {FR LC FRS LCS : Nat} (hFR : FRS + 1 ≤ FR) (hFb : 604 ≤ FR) (hLC : LCS + 25 ≤ LC) (hLb : 13896 ≤ LC) (C : mm_Cx E RX1 cX1_orders 6 none FR LC) {K : mm_K} {th : Nat} (hk : K.1 th = 1) {nx sl : Nat} {kS : (Int32 → Int32 → Int32 → Int32 → mm_P → Option mm_P)} (hkS : ∀ (z0 : Int32) (z1 : Int32) (z2 : Int32) (z3 : Int32) (P : mm_P) (r : mm_P), kS z0 z1 z2 z3 P = some r → mm_C (eL E) yX1_orders (ws_ yX1_orders cX1_orders 6 none) FRS LCS [.ref th, .int z0, .int z1, .int z2, .int z3] K P nx sl (mm_wwV K nx sl r)) : ∀ (n : Nat), ∀ (x1 : Int32) (x2 : Int32) (x3 : Int32) (x4 : Int32) (x5 : Int32) (P : mm_P), mm_V E (mm_wwV K nx sl) 35 [some (.ref th), some (.int x1), some (.int x2), some (.int x3), some (.int x4), some (.int x5)] [] K P nx sl (fX1_orders_b35 K th kS n x1 x2 x3 x4 x5 P) := by
  intro n
  induction n with
  | zero => intro x1 x2 x3 x4 x5 P; exact r_none
  | succ n ih =>
    intro x1 x2 x3 x4 x5 P
    rw [fX1_orders_b35]
    refine r_iload C dX1_orders_35 rfl ?_
    refine r_aload_n C dX1_orders_37 rfl rfl ?_
    refine r_bd fun r1 h2 => ?_
    refine r_callV (As := []) (st := [.int x5]) C (mc_X1_cloths hk h2) cv_X1_148 hk rfl (by omega) (by omega) rfl (Nat.le_of_ble_eq_true rfl) dX1_orders_38 ?_
    refine r_icmpge (tgt := 101) C dX1_orders_41 (by decide) (fun h3 => ?_) (fun h3 => ?_)
    · exact r_vret C dX1_orders_101 rfl
    · refine r_iload C dX1_orders_44 rfl ?_
      refine r_iload_n C dX1_orders_46 rfl rfl ?_
      refine r_iconst (v := -1) C dX1_orders_47 rfl ?_
      refine r_ixor C dX1_orders_48 ?_
      refine r_iand C dX1_orders_49 ?_
      refine r_iload C dX1_orders_50 rfl ?_
      refine r_bd fun r4 h5 => ?_
      refine r_callS (As := [.int (x4 &&& (x2 ^^^ (-1 : Int32))), .int x5]) (st := []) C (mc_X1_isIn h5) cv_X1_177  rfl (by omega) (by omega) rfl (Nat.le_of_ble_eq_true rfl) dX1_orders_52 ?_
      refine r_ifne (tgt := 61) C dX1_orders_55 (by decide) (fun h6 => ?_) (fun h6 => ?_)
      · refine r_aload_n C dX1_orders_61 rfl rfl ?_
        refine r_getA C fl_X1_78 hk dX1_orders_62 ?_
        refine r_iload_n C dX1_orders_65 rfl rfl ?_
        refine r_iload C dX1_orders_66 rfl ?_
        refine r_iast C (rg_143 hk) (mm_ro_of (k := 1) hk rfl) rfl dX1_orders_68 fun h7 => ?_
        refine r_ltP fun P8 => ?_
        refine r_aload_n C dX1_orders_69 rfl rfl ?_
        refine r_iload_n C dX1_orders_70 rfl rfl ?_
        refine r_iconst (v := 1) C dX1_orders_71 rfl ?_
        refine r_iadd C dX1_orders_72 ?_
        refine r_iload_n C dX1_orders_73 rfl rfl ?_
        refine r_iconst (v := 1) C dX1_orders_74 rfl ?_
        refine r_iload C dX1_orders_75 rfl ?_
        refine r_ishl C dX1_orders_77 ?_
        refine r_ior C dX1_orders_78 ?_
        refine r_iload_n C dX1_orders_79 rfl rfl ?_
        refine r_aload_n C dX1_orders_80 rfl rfl ?_
        refine r_iload C dX1_orders_81 rfl ?_
        refine r_iload_n C dX1_orders_83 rfl rfl ?_
        refine r_bd fun r9 h10 => ?_
        refine r_callV (As := [.int x5, .int x1]) (st := [.int x3, .int (x2 ||| (mm_shl (1 : Int32) x5)), .int (x1 + (1 : Int32)), .ref th]) C (mc_X1_dryBy hk h10) cv_X1_350 hk rfl (by omega) (by omega) rfl (Nat.le_of_ble_eq_true rfl) dX1_orders_84 ?_
        refine r_mmax C q1244 q483 q143 q484 (by omega) (by omega) (Nat.le_of_ble_eq_true rfl) dX1_orders_87 ?_
        refine r_iload C dX1_orders_90 rfl ?_
        refine r_bd fun r11 h12 => ?_
        refine r_callVv (As := [.int (x1 + (1 : Int32)), .int (x2 ||| (mm_shl (1 : Int32) x5)), .int (mm_max x3 r9.1), .int x4]) (st := []) C (hkS _ _ _ _ _ _ h12) cv_X1_353 hk rfl (by omega) (by omega) rfl (Nat.le_of_ble_eq_true rfl) dX1_orders_92 ?_
        refine r_iinc (v := 1) (ls' := [some (.ref th), some (.int x1), some (.int x2), some (.int x3), some (.int x4), some (.int (x5 + (1 : Int32)))]) C dX1_orders_95 rfl rfl (Nat.le_of_ble_eq_true rfl) rfl rfl ?_
        refine r_goto (tgt := 35) C dX1_orders_98 (by decide) ?_
        exact ih x1 x2 x3 x4 (x5 + (1 : Int32)) r11
      · refine r_goto (tgt := 95) C dX1_orders_58 (by decide) ?_
        refine r_iinc (v := 1) (ls' := [some (.ref th), some (.int x1), some (.int x2), some (.int x3), some (.int x4), some (.int (x5 + (1 : Int32)))]) C dX1_orders_95 rfl rfl (Nat.le_of_ble_eq_true rfl) rfl rfl ?_
        refine r_goto (tgt := 35) C dX1_orders_98 (by decide) ?_
        exact ih x1 x2 x3 x4 (x5 + (1 : Int32)) P
def fX1_orders_o (K : mm_K) (th : Nat) (kS : (Int32 → Int32 → Int32 → Int32 → mm_P → Option mm_P)) (x1 : Int32) (x2 : Int32) (x3 : Int32) (x4 : Int32) (P : mm_P) : Option mm_P :=
  if x2 ≠ x4 then
  (fX1_orders_b35 K th kS mm_NF x1 x2 x3 x4 (0 : Int32) P)
  else
  (if x3 < (gI P 146 th) then
  (mm_lt (sI P 146 th x3) fun P3 =>
  mm_bd (fX1_copies 143 th 6 144 th 6 P3) fun r4 =>
  some r4)
  else
  (some P))
def fX1_orders (K : mm_K) (th : Nat) : Nat → Int32 → Int32 → Int32 → Int32 → mm_P → Option mm_P
  | 0, _, _, _, _, _ => none
  | d + 1, x1, x2, x3, x4, P => fX1_orders_o K th (fX1_orders K th d) x1 x2 x3 x4 P
set_option maxHeartbeats 4000000 in
theorem mc_X1_orders {l : Launch} {K : mm_K} {th : Nat} {nx sl : Nat} : ∀ (d : Nat) {x1 : Int32} {x2 : Int32} {x3 : Int32} {x4 : Int32} {P : mm_P} {r : mm_P} (hk : K.1 th = 1) (_ : fX1_orders K th d x1 x2 x3 x4 P = some r), mm_C l yX1_orders (ws_ yX1_orders cX1_orders 6 none) (1 * d + 604) (25 * d + 13896) [.ref th, .int x1, .int x2, .int x3, .int x4] K P nx sl (mm_wwV K nx sl r) := by
  intro d
  induction d with
  | zero => intro x1 x2 x3 x4 P r hk h; cases h
  | succ d ih =>
  intro x1 x2 x3 x4 P r hk h
  refine mm_start (ls := [some (.ref th), some (.int x1), some (.int x2), some (.int x3), some (.int x4), none]) (x := fX1_orders_o K th (fX1_orders K th d) x1 x2 x3 x4 P) h (by decide) (Nat.le_of_ble_eq_true rfl) rfl (Nat.le_refl _) (Nat.le_refl _) rfl fun E hl _ _ _ C => ?_
  have C : mm_Cx E RX1 cX1_orders 6 none (1 * (d + 1) + 604) (25 * (d + 1) + 13896) := C
  generalize hFe : (1 * (d + 1) + 604) = FR at C
  generalize hLe : (25 * (d + 1) + 13896) = LC at C
  generalize hFs : (1 * d + 604) = FRS at ih
  generalize hLs : (25 * d + 13896) = LCS at ih
  have hFR : FRS + 1 ≤ FR := by omega
  have hFb : 604 ≤ FR := by omega
  have hLC : LCS + 25 ≤ LC := by omega
  have hLb : 13896 ≤ LC := by omega
  subst hl
  have hkS := fun x1 x2 x3 x4 P r (hq : fX1_orders K th d x1 x2 x3 x4 P = some r) => ih hk hq
  clear hFe hLe h hFs hLs ih
  generalize fX1_orders K th d = kS at hkS ⊢
  unfold fX1_orders_o
  refine r_iload_n C dX1_orders_0 rfl rfl ?_
  refine r_iload C dX1_orders_1 rfl ?_
  refine r_icmpne (tgt := 32) C dX1_orders_3 (by decide) (fun h1 => ?_) (fun h1 => ?_)
  · refine r_iconst (v := 0) C dX1_orders_32 rfl ?_
    refine r_istore (ls' := [some (.ref th), some (.int x1), some (.int x2), some (.int x3), some (.int x4), some (.int (0 : Int32))]) C dX1_orders_33 (Nat.le_of_ble_eq_true rfl) rfl rfl ?_
    exact wfX1_orders_b35 hFR hFb hLC hLb C hk hkS mm_NF x1 x2 x3 x4 (0 : Int32) P
  · refine r_iload_n C dX1_orders_6 rfl rfl ?_
    refine r_aload_n C dX1_orders_7 rfl rfl ?_
    refine r_getI (code := 146) C fl_X1_347 hk rfl dX1_orders_8 ?_
    refine r_icmplt (tgt := 15) C dX1_orders_11 (by decide) (fun h2 => ?_) (fun h2 => ?_)
    · refine r_aload_n C dX1_orders_15 rfl rfl ?_
      refine r_iload_n C dX1_orders_16 rfl rfl ?_
      refine r_putI (code := 146) C fl_X1_347 hk rfl rfl dX1_orders_17 ?_
      refine r_ltP fun P3 => ?_
      refine r_aload_n C dX1_orders_20 rfl rfl ?_
      refine r_getA C fl_X1_78 hk dX1_orders_21 ?_
      refine r_aload_n C dX1_orders_24 rfl rfl ?_
      refine r_getA C fl_X1_81 hk dX1_orders_25 ?_
      refine r_bd fun r4 h5 => ?_
      refine r_callSv (As := [.ref (th + 26), .ref (th + 27)]) (st := []) C (mc_X1_copies (rg_143 hk) (mm_ro_of (k := 1) hk rfl) (rg_144 hk) (mm_ro_of (k := 1) hk rfl) h5) cv_X1_325  rfl (by omega) (by omega) rfl (Nat.le_of_ble_eq_true rfl) dX1_orders_28 ?_
      exact r_vret C dX1_orders_31 rfl
    · exact r_vret C dX1_orders_14 rfl
theorem fl_X1_356 : mm_FL RX1 356 1 17 mm_i .int false := ⟨RX1, TX1, 26, _, tyX1, rfl, in_X1, rfl, rfl, Nat.le_of_ble_eq_true rfl, Or.inl q360, tyX1_ok, nmX1, rfl, rfl⟩
/-! X1 dry -/
def fX1_dry_b4 (K : mm_K) (th : Nat)  : Nat → Int32 → Int32 → Int32 → mm_P → Option (Int32 × mm_P)
  | 0, _, _, _, _ => none
  | n + 1, x1, x2, x3, P =>
  mm_bd (fX1_cloths K th P) fun r1 =>
  if r1 ≤ x3 then
  (mm_bd (fJ17_bitCount x2) fun r4 =>
  mm_lt (sI P 145 th r4) fun P6 =>
  mm_bd (fX1_in x1 (0 : Int32) (gI P6 145 th)) fun r7 =>
  if r7 ≠ 0 then
  (mm_lt (sI P6 146 th (100 : Int32)) fun P10 =>
  mm_bd (fX1_orders K th 8 (0 : Int32) (0 : Int32) (0 : Int32) x2 P10) fun r11 =>
  if (gI r11 146 th) ≤ (99 : Int32) then
  (if x1 ≠ 0 then
  (mm_gd (mm_in (x1 - (1 : Int32)) 6) <|
  some (gA r11 144 th (x1 - (1 : Int32)).toNatClampNeg, r11))
  else
  (some (gI r11 146 th, r11)))
  else
  (some ((-1 : Int32), r11)))
  else
  (some ((-1 : Int32), P6)))
  else
  (mm_bd (gR P 132 th) fun b16 =>
  mm_gd (K.1 b16 = 4) <|
  mm_bd (fX4_by b16 P x3) fun r18 =>
  if r18 ≠ 0 then
  (fX1_dry_b4 K th n x1 x2 (x3 + (1 : Int32)) P)
  else
  (mm_bd (gR P 132 th) fun b22 =>
  mm_gd (K.1 b22 = 4) <|
  mm_gd (mm_in x3 6) <|
  if (gA P 515 b22 x3.toNatClampNeg) ≤ 0 then
  (fX1_dry_b4 K th n x1 x2 (x3 + (1 : Int32)) P)
  else
  (mm_lt (x2 ||| (mm_shl (1 : Int32) x3)) fun v27 =>
  fX1_dry_b4 K th n x1 v27 (x3 + (1 : Int32)) P)))
set_option maxHeartbeats 4000000 in
theorem wfX1_dry_b4 {E : mm_E} (C : mm_Cx E RX1 cX1_dry 4 (some .int) 613 14121) {K : mm_K} {th : Nat} (hk : K.1 th = 1) {nx sl : Nat} : ∀ (n : Nat), ∀ (x1 : Int32) (x2 : Int32) (x3 : Int32) (P : mm_P), mm_V E (mm_wwI K nx sl) 4 [some (.ref th), some (.int x1), some (.int x2), some (.int x3)] [] K P nx sl (fX1_dry_b4 K th n x1 x2 x3 P) := by
  intro n
  induction n with
  | zero => intro x1 x2 x3 P; exact r_none
  | succ n ih =>
    intro x1 x2 x3 P
    rw [fX1_dry_b4]
    refine r_iload_n C dX1_dry_4 rfl rfl ?_
    refine r_aload_n C dX1_dry_5 rfl rfl ?_
    refine r_bd fun r1 h2 => ?_
    refine r_callV (As := []) (st := [.int x3]) C (mc_X1_cloths hk h2) cv_X1_148 hk rfl (Nat.le_of_ble_eq_true rfl) (Nat.le_of_ble_eq_true rfl) rfl (Nat.le_of_ble_eq_true rfl) dX1_dry_6 ?_
    refine r_icmpge (tgt := 47) C dX1_dry_9 (by decide) (fun h3 => ?_) (fun h3 => ?_)
    · refine r_aload_n C dX1_dry_47 rfl rfl ?_
      refine r_iload_n C dX1_dry_48 rfl rfl ?_
      refine r_bd fun r4 h5 => ?_
      refine r_callS (As := [.int x2]) (st := [.ref th]) C (mc_J17_bitCount h5) cv_X1_161  rfl (Nat.le_of_ble_eq_true rfl) (Nat.le_of_ble_eq_true rfl) rfl (Nat.le_of_ble_eq_true rfl) dX1_dry_49 ?_
      refine r_putI (code := 145) C fl_X1_356 hk rfl rfl dX1_dry_52 ?_
      refine r_ltP fun P6 => ?_
      refine r_iload_n C dX1_dry_55 rfl rfl ?_
      refine r_iconst (v := 0) C dX1_dry_56 rfl ?_
      refine r_aload_n C dX1_dry_57 rfl rfl ?_
      refine r_getI (code := 145) C fl_X1_356 hk rfl dX1_dry_58 ?_
      refine r_bd fun r7 h8 => ?_
      refine r_callS (As := [.int x1, .int (0 : Int32), .int (gI P6 145 th)]) (st := []) C (mc_X1_in h8) cv_X1_150  rfl (Nat.le_of_ble_eq_true rfl) (Nat.le_of_ble_eq_true rfl) rfl (Nat.le_of_ble_eq_true rfl) dX1_dry_61 ?_
      refine r_ifne (tgt := 69) C dX1_dry_64 (by decide) (fun h9 => ?_) (fun h9 => ?_)
      · refine r_aload_n C dX1_dry_69 rfl rfl ?_
        refine r_bipush (v := 100) C dX1_dry_70 rfl ?_
        refine r_putI (code := 146) C fl_X1_347 hk rfl rfl dX1_dry_72 ?_
        refine r_ltP fun P10 => ?_
        refine r_aload_n C dX1_dry_75 rfl rfl ?_
        refine r_iconst (v := 0) C dX1_dry_76 rfl ?_
        refine r_iconst (v := 0) C dX1_dry_77 rfl ?_
        refine r_iconst (v := 0) C dX1_dry_78 rfl ?_
        refine r_iload_n C dX1_dry_79 rfl rfl ?_
        refine r_bd fun r11 h12 => ?_
        refine r_callVv (As := [.int (0 : Int32), .int (0 : Int32), .int (0 : Int32), .int x2]) (st := []) C (mc_X1_orders 8 hk h12) cv_X1_353 hk rfl (Nat.le_of_ble_eq_true rfl) (Nat.le_of_ble_eq_true rfl) rfl (Nat.le_of_ble_eq_true rfl) dX1_dry_80 ?_
        refine r_aload_n C dX1_dry_83 rfl rfl ?_
        refine r_getI (code := 146) C fl_X1_347 hk rfl dX1_dry_84 ?_
        refine r_bipush (v := 99) C dX1_dry_87 rfl ?_
        refine r_icmple (tgt := 96) C dX1_dry_89 (by decide) (fun h13 => ?_) (fun h13 => ?_)
        · refine r_iload_n C dX1_dry_96 rfl rfl ?_
          refine r_ifne (tgt := 107) C dX1_dry_97 (by decide) (fun h14 => ?_) (fun h14 => ?_)
          · refine r_aload_n C dX1_dry_107 rfl rfl ?_
            refine r_getA C fl_X1_81 hk dX1_dry_108 ?_
            refine r_iload_n C dX1_dry_111 rfl rfl ?_
            refine r_iconst (v := 1) C dX1_dry_112 rfl ?_
            refine r_isub C dX1_dry_113 ?_
            refine r_iald C (rg_144 hk) rfl dX1_dry_114 fun h15 => ?_
            exact r_iret C dX1_dry_115 rfl
          · refine r_aload_n C dX1_dry_100 rfl rfl ?_
            refine r_getI (code := 146) C fl_X1_347 hk rfl dX1_dry_101 ?_
            refine r_goto (tgt := 115) C dX1_dry_104 (by decide) ?_
            exact r_iret C dX1_dry_115 rfl
        · refine r_iconst (v := -1) C dX1_dry_92 rfl ?_
          refine r_goto (tgt := 115) C dX1_dry_93 (by decide) ?_
          exact r_iret C dX1_dry_115 rfl
      · refine r_iconst (v := -1) C dX1_dry_67 rfl ?_
        exact r_iret C dX1_dry_68 rfl
    · refine r_aload_n C dX1_dry_12 rfl rfl ?_
      refine r_getRn (code := 132) C fl_X1_51 hk rfl dX1_dry_13 fun b16 h17 => ?_
      refine r_iload_n C dX1_dry_16 rfl rfl ?_
      refine r_gd fun hK20 => ?_
      refine r_bd fun r18 h19 => ?_
      refine r_callV (As := [.int x3]) (st := []) C (mc_X4_by hK20 h19) cv_X1_157 hK20 rfl (Nat.le_of_ble_eq_true rfl) (Nat.le_of_ble_eq_true rfl) rfl (Nat.le_of_ble_eq_true rfl) dX1_dry_17 ?_
      refine r_ifne (tgt := 41) C dX1_dry_20 (by decide) (fun h21 => ?_) (fun h21 => ?_)
      · refine r_iinc (v := 1) (ls' := [some (.ref th), some (.int x1), some (.int x2), some (.int (x3 + (1 : Int32)))]) C dX1_dry_41 rfl rfl (Nat.le_of_ble_eq_true rfl) rfl rfl ?_
        refine r_goto (tgt := 4) C dX1_dry_44 (by decide) ?_
        exact ih x1 x2 (x3 + (1 : Int32)) P
      · refine r_aload_n C dX1_dry_23 rfl rfl ?_
        refine r_getRn (code := 132) C fl_X1_51 hk rfl dX1_dry_24 fun b22 h23 => ?_
        refine r_gd fun hK24 => ?_
        refine r_getA C fl_X1_154 hK24 dX1_dry_27 ?_
        refine r_iload_n C dX1_dry_30 rfl rfl ?_
        refine r_iald C (rg_515 hK24) rfl dX1_dry_31 fun h25 => ?_
        refine r_ifle (tgt := 41) C dX1_dry_32 (by decide) (fun h26 => ?_) (fun h26 => ?_)
        · refine r_iinc (v := 1) (ls' := [some (.ref th), some (.int x1), some (.int x2), some (.int (x3 + (1 : Int32)))]) C dX1_dry_41 rfl rfl (Nat.le_of_ble_eq_true rfl) rfl rfl ?_
          refine r_goto (tgt := 4) C dX1_dry_44 (by decide) ?_
          exact ih x1 x2 (x3 + (1 : Int32)) P
        · refine r_iload_n C dX1_dry_35 rfl rfl ?_
          refine r_iconst (v := 1) C dX1_dry_36 rfl ?_
          refine r_iload_n C dX1_dry_37 rfl rfl ?_
          refine r_ishl C dX1_dry_38 ?_
          refine r_ior C dX1_dry_39 ?_
          refine r_ltI fun v27 => ?_
          refine r_istore_n (ls' := [some (.ref th), some (.int x1), some (.int v27), some (.int x3)]) C dX1_dry_40 rfl (Nat.le_of_ble_eq_true rfl) rfl rfl ?_
          refine r_iinc (v := 1) (ls' := [some (.ref th), some (.int x1), some (.int v27), some (.int (x3 + (1 : Int32)))]) C dX1_dry_41 rfl rfl (Nat.le_of_ble_eq_true rfl) rfl rfl ?_
          refine r_goto (tgt := 4) C dX1_dry_44 (by decide) ?_
          exact ih x1 v27 (x3 + (1 : Int32)) P
def fX1_dry (K : mm_K) (th : Nat) (x1 : Int32) (P : mm_P) : Option (Int32 × mm_P) :=
  fX1_dry_b4 K th mm_NF x1 (0 : Int32) (0 : Int32) P
set_option maxHeartbeats 4000000 in
theorem mc_X1_dry {l : Launch} {K : mm_K} {P : mm_P} {th : Nat} {x1 : Int32} {nx sl : Nat} {r : (Int32 × mm_P)} (hk : K.1 th = 1) (h : fX1_dry K th x1 P = some r) : mm_C l yX1_dry (ws_ yX1_dry cX1_dry 4 (some .int)) 613 14121 [.ref th, .int x1] K P nx sl (mm_wwI K nx sl r) :=
  mm_start (ls := [some (.ref th), some (.int x1), none, none]) h (by decide) (Nat.le_of_ble_eq_true rfl) rfl (Nat.le_refl _) (Nat.le_refl _) rfl fun E hl9 _ _ _ C => by
  have C : mm_Cx E RX1 cX1_dry 4 (some .int) 613 14121 := C
  unfold fX1_dry
  refine r_iconst (v := 0) C dX1_dry_0 rfl ?_
  refine r_istore_n (ls' := [some (.ref th), some (.int x1), some (.int (0 : Int32)), none]) C dX1_dry_1 rfl (Nat.le_of_ble_eq_true rfl) rfl rfl ?_
  refine r_iconst (v := 0) C dX1_dry_2 rfl ?_
  refine r_istore_n (ls' := [some (.ref th), some (.int x1), some (.int (0 : Int32)), some (.int (0 : Int32))]) C dX1_dry_3 rfl (Nat.le_of_ble_eq_true rfl) rfl rfl ?_
  exact wfX1_dry_b4 C hk mm_NF x1 (0 : Int32) (0 : Int32) P
theorem rg_147 {K : mm_K} {a : Nat} (h : K.1 a = 1) : mm_reg K 147 a 28 0 8 := Or.inl ⟨1, 19, rfl, h, by decide, rfl⟩
theorem rg_148 {K : mm_K} {a : Nat} (h : K.1 a = 1) : mm_reg K 148 a 29 0 8 := Or.inl ⟨1, 20, rfl, h, by decide, rfl⟩
theorem rg_149 {K : mm_K} {a : Nat} (h : K.1 a = 1) : mm_reg K 149 a 30 0 8 := Or.inl ⟨1, 21, rfl, h, by decide, rfl⟩
theorem fl_X1_125 : mm_FL RX1 125 1 22 mm_i .int false := ⟨RX1, TX1, 26, _, tyX1, rfl, in_X1, rfl, rfl, Nat.le_of_ble_eq_true rfl, Or.inl q365, tyX1_ok, nmX1, rfl, rfl⟩
theorem fl_X1_84 : mm_FL RX1 84 1 19 (mm_a 28 0 8) (tyX1 19) true := ⟨RX1, TX1, 26, _, tyX1, rfl, in_X1, rfl, rfl, Nat.le_of_ble_eq_true rfl, Or.inl q362, tyX1_ok, nmX1, rfl, rfl⟩
theorem fl_X1_87 : mm_FL RX1 87 1 20 (mm_a 29 0 8) (tyX1 20) true := ⟨RX1, TX1, 26, _, tyX1, rfl, in_X1, rfl, rfl, Nat.le_of_ble_eq_true rfl, Or.inl q363, tyX1_ok, nmX1, rfl, rfl⟩
theorem fl_X1_90 : mm_FL RX1 90 1 21 (mm_a 30 0 8) (tyX1 21) true := ⟨RX1, TX1, 26, _, tyX1, rfl, in_X1, rfl, rfl, Nat.le_of_ble_eq_true rfl, Or.inl q364, tyX1_ok, nmX1, rfl, rfl⟩
/-! X1 feel -/
def fX1_feel (K : mm_K) (th : Nat) (x1 : Int32) (x2 : Int32) (x3 : Int32) (P : mm_P) : Option (Int32 × mm_P) :=
  mm_bd (fX1_isCloth K th P x1) fun r1 =>
  if r1 = 0 then
  (some ((0 : Int32), P))
  else
  (mm_bd (fX1_in x2 (0 : Int32) (12 : Int32)) fun r4 =>
  if r4 = 0 then
  (some ((0 : Int32), P))
  else
  (mm_bd (fX1_in x3 (0 : Int32) (9 : Int32)) fun r7 =>
  if r7 = 0 then
  (some ((0 : Int32), P))
  else
  (if (gI P 150 th) ≠ (8 : Int32) then
  (mm_gd (mm_in (gI P 150 th) 8) <|
  mm_lt (sA P 147 th (gI P 150 th).toNatClampNeg x1) fun P12 =>
  mm_gd (mm_in (gI P12 150 th) 8) <|
  mm_lt (sA P12 148 th (gI P12 150 th).toNatClampNeg x2) fun P14 =>
  mm_lt (gI P14 150 th) fun v15 =>
  mm_lt (sI P14 150 th (v15 + (1 : Int32))) fun P16 =>
  mm_gd (mm_in v15 8) <|
  mm_lt (sA P16 149 th v15.toNatClampNeg x3) fun P18 =>
  some ((1 : Int32), P18))
  else
  (some ((0 : Int32), P)))))
set_option maxHeartbeats 4000000 in
theorem mc_X1_feel {l : Launch} {K : mm_K} {P : mm_P} {th : Nat} {x1 : Int32} {x2 : Int32} {x3 : Int32} {nx sl : Nat} {r : (Int32 × mm_P)} (hk : K.1 th = 1) (h : fX1_feel K th x1 x2 x3 P = some r) : mm_C l yX1_feel (ws_ yX1_feel cX1_feel 4 (some .boolean)) 3 61 [.ref th, .int x1, .int x2, .int x3] K P nx sl (mm_wwI K nx sl r) :=
  mm_start (ls := [some (.ref th), some (.int x1), some (.int x2), some (.int x3)]) h (by decide) (Nat.le_of_ble_eq_true rfl) rfl (Nat.le_refl _) (Nat.le_refl _) rfl fun E hl9 _ _ _ C => by
  have C : mm_Cx E RX1 cX1_feel 4 (some .boolean) 3 61 := C
  unfold fX1_feel
  refine r_aload_n C dX1_feel_0 rfl rfl ?_
  refine r_iload_n C dX1_feel_1 rfl rfl ?_
  refine r_bd fun r1 h2 => ?_
  refine r_callV (As := [.int x1]) (st := []) C (mc_X1_isCloth hk h2) cv_X1_254 hk rfl (Nat.le_of_ble_eq_true rfl) (Nat.le_of_ble_eq_true rfl) rfl (Nat.le_of_ble_eq_true rfl) dX1_feel_2 ?_
  refine r_ifeq (tgt := 37) C dX1_feel_5 (by decide) (fun h3 => ?_) (fun h3 => ?_)
  · refine r_iconst (v := 0) C dX1_feel_37 rfl ?_
    exact r_zret C dX1_feel_38 rfl rfl
  · refine r_iload_n C dX1_feel_8 rfl rfl ?_
    refine r_iconst (v := 0) C dX1_feel_9 rfl ?_
    refine r_bipush (v := 12) C dX1_feel_10 rfl ?_
    refine r_bd fun r4 h5 => ?_
    refine r_callS (As := [.int x2, .int (0 : Int32), .int (12 : Int32)]) (st := []) C (mc_X1_in h5) cv_X1_150  rfl (Nat.le_of_ble_eq_true rfl) (Nat.le_of_ble_eq_true rfl) rfl (Nat.le_of_ble_eq_true rfl) dX1_feel_12 ?_
    refine r_ifeq (tgt := 37) C dX1_feel_15 (by decide) (fun h6 => ?_) (fun h6 => ?_)
    · refine r_iconst (v := 0) C dX1_feel_37 rfl ?_
      exact r_zret C dX1_feel_38 rfl rfl
    · refine r_iload_n C dX1_feel_18 rfl rfl ?_
      refine r_iconst (v := 0) C dX1_feel_19 rfl ?_
      refine r_bipush (v := 9) C dX1_feel_20 rfl ?_
      refine r_bd fun r7 h8 => ?_
      refine r_callS (As := [.int x3, .int (0 : Int32), .int (9 : Int32)]) (st := []) C (mc_X1_in h8) cv_X1_150  rfl (Nat.le_of_ble_eq_true rfl) (Nat.le_of_ble_eq_true rfl) rfl (Nat.le_of_ble_eq_true rfl) dX1_feel_22 ?_
      refine r_ifeq (tgt := 37) C dX1_feel_25 (by decide) (fun h9 => ?_) (fun h9 => ?_)
      · refine r_iconst (v := 0) C dX1_feel_37 rfl ?_
        exact r_zret C dX1_feel_38 rfl rfl
      · refine r_aload_n C dX1_feel_28 rfl rfl ?_
        refine r_getI (code := 150) C fl_X1_125 hk rfl dX1_feel_29 ?_
        refine r_bipush (v := 8) C dX1_feel_32 rfl ?_
        refine r_icmpne (tgt := 39) C dX1_feel_34 (by decide) (fun h10 => ?_) (fun h10 => ?_)
        · refine r_aload_n C dX1_feel_39 rfl rfl ?_
          refine r_getA C fl_X1_84 hk dX1_feel_40 ?_
          refine r_aload_n C dX1_feel_43 rfl rfl ?_
          refine r_getI (code := 150) C fl_X1_125 hk rfl dX1_feel_44 ?_
          refine r_iload_n C dX1_feel_47 rfl rfl ?_
          refine r_iast C (rg_147 hk) (mm_ro_of (k := 1) hk rfl) rfl dX1_feel_48 fun h11 => ?_
          refine r_ltP fun P12 => ?_
          refine r_aload_n C dX1_feel_49 rfl rfl ?_
          refine r_getA C fl_X1_87 hk dX1_feel_50 ?_
          refine r_aload_n C dX1_feel_53 rfl rfl ?_
          refine r_getI (code := 150) C fl_X1_125 hk rfl dX1_feel_54 ?_
          refine r_iload_n C dX1_feel_57 rfl rfl ?_
          refine r_iast C (rg_148 hk) (mm_ro_of (k := 1) hk rfl) rfl dX1_feel_58 fun h13 => ?_
          refine r_ltP fun P14 => ?_
          refine r_aload_n C dX1_feel_59 rfl rfl ?_
          refine r_getA C fl_X1_90 hk dX1_feel_60 ?_
          refine r_aload_n C dX1_feel_63 rfl rfl ?_
          refine r_dup C dX1_feel_64 rfl ?_
          refine r_getI (code := 150) C fl_X1_125 hk rfl dX1_feel_65 ?_
          refine r_ltI fun v15 => ?_
          refine r_dup_x1 C dX1_feel_68 rfl rfl ?_
          refine r_iconst (v := 1) C dX1_feel_69 rfl ?_
          refine r_iadd C dX1_feel_70 ?_
          refine r_putI (code := 150) C fl_X1_125 hk rfl rfl dX1_feel_71 ?_
          refine r_ltP fun P16 => ?_
          refine r_iload_n C dX1_feel_74 rfl rfl ?_
          refine r_iast C (rg_149 hk) (mm_ro_of (k := 1) hk rfl) rfl dX1_feel_75 fun h17 => ?_
          refine r_ltP fun P18 => ?_
          refine r_iconst (v := 1) C dX1_feel_76 rfl ?_
          exact r_zret C dX1_feel_77 rfl rfl
        · refine r_iconst (v := 0) C dX1_feel_37 rfl ?_
          exact r_zret C dX1_feel_38 rfl rfl
/-! X1 wetBy -/
def fX1_wetBy_b7 (K : mm_K) (th : Nat)  : Nat → Int32 → Int32 → Int32 → Int32 → Int32 → mm_P → Option (Int32 × mm_P)
  | 0, _, _, _, _, _, _ => none
  | n + 1, x1, x2, x3, x4, x5, P =>
  if x3 ≤ x5 then
  (some (x4, P))
  else
  (mm_bd (gR P 130 th) fun b2 =>
  mm_gd (K.1 b2 = 3) <|
  mm_bd (fX3_wind b2 P (x2 + x5)) fun r4 =>
  mm_bd (fX1_driedOf K th x1 x4 r4 P) fun r7 =>
  fX1_wetBy_b7 K th n x1 x2 x3 r7.1 (x5 + (1 : Int32)) r7.2)
set_option maxHeartbeats 4000000 in
theorem wfX1_wetBy_b7 {E : mm_E} (C : mm_Cx E RX1 cX1_wetBy 6 (some .int) 603 13872) {K : mm_K} {th : Nat} (hk : K.1 th = 1) {nx sl : Nat} : ∀ (n : Nat), ∀ (x1 : Int32) (x2 : Int32) (x3 : Int32) (x4 : Int32) (x5 : Int32) (P : mm_P), mm_V E (mm_wwI K nx sl) 7 [some (.ref th), some (.int x1), some (.int x2), some (.int x3), some (.int x4), some (.int x5)] [] K P nx sl (fX1_wetBy_b7 K th n x1 x2 x3 x4 x5 P) := by
  intro n
  induction n with
  | zero => intro x1 x2 x3 x4 x5 P; exact r_none
  | succ n ih =>
    intro x1 x2 x3 x4 x5 P
    rw [fX1_wetBy_b7]
    refine r_iload C dX1_wetBy_7 rfl ?_
    refine r_iload_n C dX1_wetBy_9 rfl rfl ?_
    refine r_icmpge (tgt := 39) C dX1_wetBy_10 (by decide) (fun h1 => ?_) (fun h1 => ?_)
    · refine r_iload C dX1_wetBy_39 rfl ?_
      exact r_iret C dX1_wetBy_41 rfl
    · refine r_aload_n C dX1_wetBy_13 rfl rfl ?_
      refine r_iload_n C dX1_wetBy_14 rfl rfl ?_
      refine r_iload C dX1_wetBy_15 rfl ?_
      refine r_aload_n C dX1_wetBy_17 rfl rfl ?_
      refine r_getRn (code := 130) C fl_X1_35 hk rfl dX1_wetBy_18 fun b2 h3 => ?_
      refine r_iload_n C dX1_wetBy_21 rfl rfl ?_
      refine r_iload C dX1_wetBy_22 rfl ?_
      refine r_iadd C dX1_wetBy_24 ?_
      refine r_gd fun hK6 => ?_
      refine r_bd fun r4 h5 => ?_
      refine r_callV (As := [.int (x2 + x5)]) (st := [.int x4, .int x1, .ref th]) C (mc_X3_wind hK6 h5) cv_X1_247 hK6 rfl (Nat.le_of_ble_eq_true rfl) (Nat.le_of_ble_eq_true rfl) rfl (Nat.le_of_ble_eq_true rfl) dX1_wetBy_25 ?_
      refine r_bd fun r7 h8 => ?_
      refine r_callV (As := [.int x1, .int x4, .int r4]) (st := []) C (mc_X1_driedOf hk h8) cv_X1_241 hk rfl (Nat.le_of_ble_eq_true rfl) (Nat.le_of_ble_eq_true rfl) rfl (Nat.le_of_ble_eq_true rfl) dX1_wetBy_28 ?_
      refine r_istore (ls' := [some (.ref th), some (.int x1), some (.int x2), some (.int x3), some (.int r7.1), some (.int x5)]) C dX1_wetBy_31 (Nat.le_of_ble_eq_true rfl) rfl rfl ?_
      refine r_iinc (v := 1) (ls' := [some (.ref th), some (.int x1), some (.int x2), some (.int x3), some (.int r7.1), some (.int (x5 + (1 : Int32)))]) C dX1_wetBy_33 rfl rfl (Nat.le_of_ble_eq_true rfl) rfl rfl ?_
      refine r_goto (tgt := 7) C dX1_wetBy_36 (by decide) ?_
      exact ih x1 x2 x3 r7.1 (x5 + (1 : Int32)) r7.2
def fX1_wetBy (K : mm_K) (th : Nat) (x1 : Int32) (x2 : Int32) (x3 : Int32) (P : mm_P) : Option (Int32 × mm_P) :=
  fX1_wetBy_b7 K th mm_NF x1 x2 x3 (9 : Int32) (0 : Int32) P
set_option maxHeartbeats 4000000 in
theorem mc_X1_wetBy {l : Launch} {K : mm_K} {P : mm_P} {th : Nat} {x1 : Int32} {x2 : Int32} {x3 : Int32} {nx sl : Nat} {r : (Int32 × mm_P)} (hk : K.1 th = 1) (h : fX1_wetBy K th x1 x2 x3 P = some r) : mm_C l yX1_wetBy (ws_ yX1_wetBy cX1_wetBy 6 (some .int)) 603 13872 [.ref th, .int x1, .int x2, .int x3] K P nx sl (mm_wwI K nx sl r) :=
  mm_start (ls := [some (.ref th), some (.int x1), some (.int x2), some (.int x3), none, none]) h (by decide) (Nat.le_of_ble_eq_true rfl) rfl (Nat.le_refl _) (Nat.le_refl _) rfl fun E hl9 _ _ _ C => by
  have C : mm_Cx E RX1 cX1_wetBy 6 (some .int) 603 13872 := C
  unfold fX1_wetBy
  refine r_bipush (v := 9) C dX1_wetBy_0 rfl ?_
  refine r_istore (ls' := [some (.ref th), some (.int x1), some (.int x2), some (.int x3), some (.int (9 : Int32)), none]) C dX1_wetBy_2 (Nat.le_of_ble_eq_true rfl) rfl rfl ?_
  refine r_iconst (v := 0) C dX1_wetBy_4 rfl ?_
  refine r_istore (ls' := [some (.ref th), some (.int x1), some (.int x2), some (.int x3), some (.int (9 : Int32)), some (.int (0 : Int32))]) C dX1_wetBy_5 (Nat.le_of_ble_eq_true rfl) rfl rfl ?_
  exact wfX1_wetBy_b7 C hk mm_NF x1 x2 x3 (9 : Int32) (0 : Int32) P
theorem fl_X1_359 : mm_FL RX1 359 3 5 mm_i .int false := ⟨RX3, TX3, 11, _, tyX3, rfl, in_X3, rfl, rfl, Nat.le_of_ble_eq_true rfl, Or.inr (Or.inl ⟨_, nw_in q264 rfl⟩), tyX3_ok, nmX3, rfl, rfl⟩
theorem cv_X1_362 : mm_CV RX1 362 yX1_wetBy cX1_wetBy 6 (some .int) 3 1 := ⟨RX1, TX1, 26, _, lw_V q1489 q1491 qs51 q133 q1492, ⟨rfl, by decide +kernel, by decide +kernel, by decide +kernel⟩, rfl, rfl⟩
/-! X1 starts -/
def fX1_starts_b78 (K : mm_K) (th : Nat) (k4 : Int32 → Int32 → mm_P → Option (Int32 × mm_P)) (x1 : Int32) (x2 : Int32) (x3 : Int32) (P : mm_P) : Option (Int32 × mm_P) :=
  if x3 = 0 then
  (k4 x1 (x2 + (1 : Int32)) P)
  else
  (mm_lt (x1 ||| (mm_shl (1 : Int32) x2)) fun v2 =>
  k4 v2 (x2 + (1 : Int32)) P)
set_option maxHeartbeats 4000000 in
theorem wfX1_starts_b78 {E : mm_E} (C : mm_Cx E RX1 cX1_starts 5 (some .int) 604 13897) {K : mm_K} {th : Nat} (hk : K.1 th = 1) {nx sl : Nat} {k4 : Int32 → Int32 → mm_P → Option (Int32 × mm_P)} (hk4 : ∀ (x1 : Int32) (x2 : Int32) (P : mm_P), mm_V E (mm_wwI K nx sl) 4 [some (.ref th), some (.int x1), some (.int x2), none, none] [] K P nx sl (k4 x1 x2 P)) (x1 : Int32) (x2 : Int32) (x3 : Int32) (P : mm_P) : mm_V E (mm_wwI K nx sl) 78 [some (.ref th), some (.int x1), some (.int x2), some (.int x3), none] [] K P nx sl (fX1_starts_b78 K th k4 x1 x2 x3 P) := by
  unfold fX1_starts_b78
  refine r_iload_n C dX1_starts_78 rfl rfl ?_
  refine r_ifeq (tgt := 88) C dX1_starts_79 (by decide) (fun h1 => ?_) (fun h1 => ?_)
  · refine r_iinc (v := 1) (ls' := [some (.ref th), some (.int x1), some (.int (x2 + (1 : Int32))), some (.int x3), none]) C dX1_starts_88 rfl rfl (Nat.le_of_ble_eq_true rfl) rfl rfl ?_
    refine r_goto (tgt := 4) C dX1_starts_91 (by decide) ?_
    refine r_mask [true, true, true, false, true] (ls' := [some (.ref th), some (.int x1), some (.int (x2 + (1 : Int32))), none, none]) rfl ?_
    exact hk4 x1 (x2 + (1 : Int32)) P
  · refine r_iload_n C dX1_starts_82 rfl rfl ?_
    refine r_iconst (v := 1) C dX1_starts_83 rfl ?_
    refine r_iload_n C dX1_starts_84 rfl rfl ?_
    refine r_ishl C dX1_starts_85 ?_
    refine r_ior C dX1_starts_86 ?_
    refine r_ltI fun v2 => ?_
    refine r_istore_n (ls' := [some (.ref th), some (.int v2), some (.int x2), some (.int x3), none]) C dX1_starts_87 rfl (Nat.le_of_ble_eq_true rfl) rfl rfl ?_
    refine r_iinc (v := 1) (ls' := [some (.ref th), some (.int v2), some (.int (x2 + (1 : Int32))), some (.int x3), none]) C dX1_starts_88 rfl rfl (Nat.le_of_ble_eq_true rfl) rfl rfl ?_
    refine r_goto (tgt := 4) C dX1_starts_91 (by decide) ?_
    refine r_mask [true, true, true, false, true] (ls' := [some (.ref th), some (.int v2), some (.int (x2 + (1 : Int32))), none, none]) rfl ?_
    exact hk4 v2 (x2 + (1 : Int32)) P
def fX1_starts_b24 (K : mm_K) (th : Nat) (k4 : Int32 → Int32 → mm_P → Option (Int32 × mm_P)) : Nat → Int32 → Int32 → Int32 → Int32 → mm_P → Option (Int32 × mm_P)
  | 0, _, _, _, _, _ => none
  | n + 1, x1, x2, x3, x4, P =>
  if (gI P 150 th) ≤ x4 then
  (fX1_starts_b78 K th k4 x1 x2 x3 P)
  else
  (if x3 = 0 then
  (fX1_starts_b78 K th k4 x1 x2 x3 P)
  else
  (mm_gd (mm_in x4 8) <|
  mm_gd (mm_in x4 8) <|
  mm_bd (fX1_wetBy K th (gA P 147 th x4.toNatClampNeg) x2 (gA P 148 th x4.toNatClampNeg) P) fun r5 =>
  mm_gd (mm_in x4 8) <|
  if r5.1 ≠ (gA r5.2 149 th x4.toNatClampNeg) then
  (fX1_starts_b24 K th k4 n x1 x2 (0 : Int32) (x4 + (1 : Int32)) r5.2)
  else
  (fX1_starts_b24 K th k4 n x1 x2 (1 : Int32) (x4 + (1 : Int32)) r5.2)))
set_option maxHeartbeats 4000000 in
theorem wfX1_starts_b24 {E : mm_E} (C : mm_Cx E RX1 cX1_starts 5 (some .int) 604 13897) {K : mm_K} {th : Nat} (hk : K.1 th = 1) {nx sl : Nat} {k4 : Int32 → Int32 → mm_P → Option (Int32 × mm_P)} (hk4 : ∀ (x1 : Int32) (x2 : Int32) (P : mm_P), mm_V E (mm_wwI K nx sl) 4 [some (.ref th), some (.int x1), some (.int x2), none, none] [] K P nx sl (k4 x1 x2 P)) : ∀ (n : Nat), ∀ (x1 : Int32) (x2 : Int32) (x3 : Int32) (x4 : Int32) (P : mm_P), mm_V E (mm_wwI K nx sl) 24 [some (.ref th), some (.int x1), some (.int x2), some (.int x3), some (.int x4)] [] K P nx sl (fX1_starts_b24 K th k4 n x1 x2 x3 x4 P) := by
  intro n
  induction n with
  | zero => intro x1 x2 x3 x4 P; exact r_none
  | succ n ih =>
    intro x1 x2 x3 x4 P
    rw [fX1_starts_b24]
    refine r_iload C dX1_starts_24 rfl ?_
    refine r_aload_n C dX1_starts_26 rfl rfl ?_
    refine r_getI (code := 150) C fl_X1_125 hk rfl dX1_starts_27 ?_
    refine r_icmpge (tgt := 78) C dX1_starts_30 (by decide) (fun h1 => ?_) (fun h1 => ?_)
    · refine r_mask [true, true, true, true, false] (ls' := [some (.ref th), some (.int x1), some (.int x2), some (.int x3), none]) rfl ?_
      exact wfX1_starts_b78 C hk hk4 x1 x2 x3 P
    · refine r_iload_n C dX1_starts_33 rfl rfl ?_
      refine r_ifeq (tgt := 78) C dX1_starts_34 (by decide) (fun h2 => ?_) (fun h2 => ?_)
      · refine r_mask [true, true, true, true, false] (ls' := [some (.ref th), some (.int x1), some (.int x2), some (.int x3), none]) rfl ?_
        exact wfX1_starts_b78 C hk hk4 x1 x2 x3 P
      · refine r_aload_n C dX1_starts_37 rfl rfl ?_
        refine r_aload_n C dX1_starts_38 rfl rfl ?_
        refine r_getA C fl_X1_84 hk dX1_starts_39 ?_
        refine r_iload C dX1_starts_42 rfl ?_
        refine r_iald C (rg_147 hk) rfl dX1_starts_44 fun h3 => ?_
        refine r_iload_n C dX1_starts_45 rfl rfl ?_
        refine r_aload_n C dX1_starts_46 rfl rfl ?_
        refine r_getA C fl_X1_87 hk dX1_starts_47 ?_
        refine r_iload C dX1_starts_50 rfl ?_
        refine r_iald C (rg_148 hk) rfl dX1_starts_52 fun h4 => ?_
        refine r_bd fun r5 h6 => ?_
        refine r_callV (As := [.int (gA P 147 th x4.toNatClampNeg), .int x2, .int (gA P 148 th x4.toNatClampNeg)]) (st := []) C (mc_X1_wetBy hk h6) cv_X1_362 hk rfl (Nat.le_of_ble_eq_true rfl) (Nat.le_of_ble_eq_true rfl) rfl (Nat.le_of_ble_eq_true rfl) dX1_starts_53 ?_
        refine r_aload_n C dX1_starts_56 rfl rfl ?_
        refine r_getA C fl_X1_90 hk dX1_starts_57 ?_
        refine r_iload C dX1_starts_60 rfl ?_
        refine r_iald C (rg_149 hk) rfl dX1_starts_62 fun h7 => ?_
        refine r_icmpne (tgt := 70) C dX1_starts_63 (by decide) (fun h8 => ?_) (fun h8 => ?_)
        · refine r_iconst (v := 0) C dX1_starts_70 rfl ?_
          refine r_istore_n (ls' := [some (.ref th), some (.int x1), some (.int x2), some (.int (0 : Int32)), some (.int x4)]) C dX1_starts_71 rfl (Nat.le_of_ble_eq_true rfl) rfl rfl ?_
          refine r_iinc (v := 1) (ls' := [some (.ref th), some (.int x1), some (.int x2), some (.int (0 : Int32)), some (.int (x4 + (1 : Int32)))]) C dX1_starts_72 rfl rfl (Nat.le_of_ble_eq_true rfl) rfl rfl ?_
          refine r_goto (tgt := 24) C dX1_starts_75 (by decide) ?_
          exact ih x1 x2 (0 : Int32) (x4 + (1 : Int32)) r5.2
        · refine r_iconst (v := 1) C dX1_starts_66 rfl ?_
          refine r_goto (tgt := 71) C dX1_starts_67 (by decide) ?_
          refine r_istore_n (ls' := [some (.ref th), some (.int x1), some (.int x2), some (.int (1 : Int32)), some (.int x4)]) C dX1_starts_71 rfl (Nat.le_of_ble_eq_true rfl) rfl rfl ?_
          refine r_iinc (v := 1) (ls' := [some (.ref th), some (.int x1), some (.int x2), some (.int (1 : Int32)), some (.int (x4 + (1 : Int32)))]) C dX1_starts_72 rfl rfl (Nat.le_of_ble_eq_true rfl) rfl rfl ?_
          refine r_goto (tgt := 24) C dX1_starts_75 (by decide) ?_
          exact ih x1 x2 (1 : Int32) (x4 + (1 : Int32)) r5.2
def fX1_starts_b4 (K : mm_K) (th : Nat)  : Nat → Int32 → Int32 → mm_P → Option (Int32 × mm_P)
  | 0, _, _, _ => none
  | n + 1, x1, x2, P =>
  mm_bd (gR P 130 th) fun b1 =>
  mm_gd (K.1 b1 = 3) <|
  if (mm_max (1 : Int32) (gI P 389 b1)) ≤ x2 then
  (some (x1, P))
  else
  (fX1_starts_b24 K th (fX1_starts_b4 K th n) mm_NF x1 x2 (1 : Int32) (0 : Int32) P)
set_option maxHeartbeats 4000000 in
theorem wfX1_starts_b4 {E : mm_E} (C : mm_Cx E RX1 cX1_starts 5 (some .int) 604 13897) {K : mm_K} {th : Nat} (hk : K.1 th = 1) {nx sl : Nat} : ∀ (n : Nat), ∀ (x1 : Int32) (x2 : Int32) (P : mm_P), mm_V E (mm_wwI K nx sl) 4 [some (.ref th), some (.int x1), some (.int x2), none, none] [] K P nx sl (fX1_starts_b4 K th n x1 x2 P) := by
  intro n
  induction n with
  | zero => intro x1 x2 P; exact r_none
  | succ n ih =>
    intro x1 x2 P
    rw [fX1_starts_b4]
    refine r_iload_n C dX1_starts_4 rfl rfl ?_
    refine r_iconst (v := 1) C dX1_starts_5 rfl ?_
    refine r_aload_n C dX1_starts_6 rfl rfl ?_
    refine r_getRn (code := 130) C fl_X1_35 hk rfl dX1_starts_7 fun b1 h2 => ?_
    refine r_gd fun hK3 => ?_
    refine r_getI (code := 389) C fl_X1_359 hK3 rfl dX1_starts_10 ?_
    refine r_mmax C q1244 q483 q143 q484 (Nat.le_of_ble_eq_true rfl) (Nat.le_of_ble_eq_true rfl) (Nat.le_of_ble_eq_true rfl) dX1_starts_13 ?_
    refine r_icmpge (tgt := 94) C dX1_starts_16 (by decide) (fun h4 => ?_) (fun h4 => ?_)
    · refine r_iload_n C dX1_starts_94 rfl rfl ?_
      exact r_iret C dX1_starts_95 rfl
    · refine r_iconst (v := 1) C dX1_starts_19 rfl ?_
      refine r_istore_n (ls' := [some (.ref th), some (.int x1), some (.int x2), some (.int (1 : Int32)), none]) C dX1_starts_20 rfl (Nat.le_of_ble_eq_true rfl) rfl rfl ?_
      refine r_iconst (v := 0) C dX1_starts_21 rfl ?_
      refine r_istore (ls' := [some (.ref th), some (.int x1), some (.int x2), some (.int (1 : Int32)), some (.int (0 : Int32))]) C dX1_starts_22 (Nat.le_of_ble_eq_true rfl) rfl rfl ?_
      exact wfX1_starts_b24 C hk ih mm_NF x1 x2 (1 : Int32) (0 : Int32) P
def fX1_starts (K : mm_K) (th : Nat)  (P : mm_P) : Option (Int32 × mm_P) :=
  fX1_starts_b4 K th mm_NF (0 : Int32) (0 : Int32) P
set_option maxHeartbeats 4000000 in
theorem mc_X1_starts {l : Launch} {K : mm_K} {P : mm_P} {th : Nat}  {nx sl : Nat} {r : (Int32 × mm_P)} (hk : K.1 th = 1) (h : fX1_starts K th P = some r) : mm_C l yX1_starts (ws_ yX1_starts cX1_starts 5 (some .int)) 604 13897 [.ref th] K P nx sl (mm_wwI K nx sl r) :=
  mm_start (ls := [some (.ref th), none, none, none, none]) h (by decide) (Nat.le_of_ble_eq_true rfl) rfl (Nat.le_refl _) (Nat.le_refl _) rfl fun E hl9 _ _ _ C => by
  have C : mm_Cx E RX1 cX1_starts 5 (some .int) 604 13897 := C
  unfold fX1_starts
  refine r_iconst (v := 0) C dX1_starts_0 rfl ?_
  refine r_istore_n (ls' := [some (.ref th), some (.int (0 : Int32)), none, none, none]) C dX1_starts_1 rfl (Nat.le_of_ble_eq_true rfl) rfl rfl ?_
  refine r_iconst (v := 0) C dX1_starts_2 rfl ?_
  refine r_istore_n (ls' := [some (.ref th), some (.int (0 : Int32)), some (.int (0 : Int32)), none, none]) C dX1_starts_3 rfl (Nat.le_of_ble_eq_true rfl) rfl rfl ?_
  exact wfX1_starts_b4 C hk mm_NF (0 : Int32) (0 : Int32) P
theorem rg_151 {K : mm_K} {a : Nat} (h : K.1 a = 1) : mm_reg K 151 a 31 0 10 := Or.inl ⟨1, 23, rfl, h, by decide, rfl⟩
theorem fl_X1_93 : mm_FL RX1 93 1 23 (mm_a 31 0 10) (tyX1 23) true := ⟨RX1, TX1, 26, _, tyX1, rfl, in_X1, rfl, rfl, Nat.le_of_ble_eq_true rfl, Or.inl q366, tyX1_ok, nmX1, rfl, rfl⟩
/-! X1 mostAlike -/
def fX1_mostAlike_b30 (K : mm_K) (th : Nat)  : Nat → Int32 → Int32 → Int32 → Int32 → Int32 → mm_P → Option (Int32 × mm_P)
  | 0, _, _, _, _, _, _ => none
  | n + 1, x1, x2, x3, x4, x5, P =>
  if (12 : Int32) ≤ x5 then
  (some (x4, P))
  else
  (mm_bd (fX1_isIn x3 x5) fun r2 =>
  if r2 = 0 then
  (fX1_mostAlike_b30 K th n x1 x2 x3 x4 (x5 + (1 : Int32)) P)
  else
  (mm_bd (fX1_wetBy K th x1 x5 x2 P) fun r5 =>
  mm_gd (mm_in r5.1 10) <|
  mm_lt ((gA r5.2 151 th r5.1.toNatClampNeg) + (1 : Int32)) fun v8 =>
  mm_gd (mm_in r5.1 10) <|
  mm_lt (sA r5.2 151 th r5.1.toNatClampNeg v8) fun P10 =>
  mm_lt (mm_max x4 v8) fun v11 =>
  fX1_mostAlike_b30 K th n x1 x2 x3 v11 (x5 + (1 : Int32)) P10))
set_option maxHeartbeats 4000000 in
theorem wfX1_mostAlike_b30 {E : mm_E} (C : mm_Cx E RX1 cX1_mostAlike 6 (some .int) 604 13897) {K : mm_K} {th : Nat} (hk : K.1 th = 1) {nx sl : Nat} : ∀ (n : Nat), ∀ (x1 : Int32) (x2 : Int32) (x3 : Int32) (x4 : Int32) (x5 : Int32) (P : mm_P), mm_V E (mm_wwI K nx sl) 30 [some (.ref th), some (.int x1), some (.int x2), some (.int x3), some (.int x4), some (.int x5)] [] K P nx sl (fX1_mostAlike_b30 K th n x1 x2 x3 x4 x5 P) := by
  intro n
  induction n with
  | zero => intro x1 x2 x3 x4 x5 P; exact r_none
  | succ n ih =>
    intro x1 x2 x3 x4 x5 P
    rw [fX1_mostAlike_b30]
    refine r_iload C dX1_mostAlike_30 rfl ?_
    refine r_bipush (v := 12) C dX1_mostAlike_32 rfl ?_
    refine r_icmpge (tgt := 77) C dX1_mostAlike_34 (by decide) (fun h1 => ?_) (fun h1 => ?_)
    · refine r_iload C dX1_mostAlike_77 rfl ?_
      exact r_iret C dX1_mostAlike_79 rfl
    · refine r_iload_n C dX1_mostAlike_37 rfl rfl ?_
      refine r_iload C dX1_mostAlike_38 rfl ?_
      refine r_bd fun r2 h3 => ?_
      refine r_callS (As := [.int x3, .int x5]) (st := []) C (mc_X1_isIn h3) cv_X1_177  rfl (Nat.le_of_ble_eq_true rfl) (Nat.le_of_ble_eq_true rfl) rfl (Nat.le_of_ble_eq_true rfl) dX1_mostAlike_40 ?_
      refine r_ifeq (tgt := 71) C dX1_mostAlike_43 (by decide) (fun h4 => ?_) (fun h4 => ?_)
      · refine r_iinc (v := 1) (ls' := [some (.ref th), some (.int x1), some (.int x2), some (.int x3), some (.int x4), some (.int (x5 + (1 : Int32)))]) C dX1_mostAlike_71 rfl rfl (Nat.le_of_ble_eq_true rfl) rfl rfl ?_
        refine r_goto (tgt := 30) C dX1_mostAlike_74 (by decide) ?_
        exact ih x1 x2 x3 x4 (x5 + (1 : Int32)) P
      · refine r_iload C dX1_mostAlike_46 rfl ?_
        refine r_aload_n C dX1_mostAlike_48 rfl rfl ?_
        refine r_getA C fl_X1_93 hk dX1_mostAlike_49 ?_
        refine r_aload_n C dX1_mostAlike_52 rfl rfl ?_
        refine r_iload_n C dX1_mostAlike_53 rfl rfl ?_
        refine r_iload C dX1_mostAlike_54 rfl ?_
        refine r_iload_n C dX1_mostAlike_56 rfl rfl ?_
        refine r_bd fun r5 h6 => ?_
        refine r_callV (As := [.int x1, .int x5, .int x2]) (st := [.ref (th + 31), .int x4]) C (mc_X1_wetBy hk h6) cv_X1_362 hk rfl (Nat.le_of_ble_eq_true rfl) (Nat.le_of_ble_eq_true rfl) rfl (Nat.le_of_ble_eq_true rfl) dX1_mostAlike_57 ?_
        refine r_dup2_11 C dX1_mostAlike_60 rfl rfl ?_
        refine r_iald C (rg_151 hk) rfl dX1_mostAlike_61 fun h7 => ?_
        refine r_iconst (v := 1) C dX1_mostAlike_62 rfl ?_
        refine r_iadd C dX1_mostAlike_63 ?_
        refine r_ltI fun v8 => ?_
        refine r_dup_x2 C dX1_mostAlike_64 rfl rfl rfl ?_
        refine r_iast C (rg_151 hk) (mm_ro_of (k := 1) hk rfl) rfl dX1_mostAlike_65 fun h9 => ?_
        refine r_ltP fun P10 => ?_
        refine r_mmax C q1244 q483 q143 q484 (Nat.le_of_ble_eq_true rfl) (Nat.le_of_ble_eq_true rfl) (Nat.le_of_ble_eq_true rfl) dX1_mostAlike_66 ?_
        refine r_ltI fun v11 => ?_
        refine r_istore (ls' := [some (.ref th), some (.int x1), some (.int x2), some (.int x3), some (.int v11), some (.int x5)]) C dX1_mostAlike_69 (Nat.le_of_ble_eq_true rfl) rfl rfl ?_
        refine r_iinc (v := 1) (ls' := [some (.ref th), some (.int x1), some (.int x2), some (.int x3), some (.int v11), some (.int (x5 + (1 : Int32)))]) C dX1_mostAlike_71 rfl rfl (Nat.le_of_ble_eq_true rfl) rfl rfl ?_
        refine r_goto (tgt := 30) C dX1_mostAlike_74 (by decide) ?_
        exact ih x1 x2 x3 v11 (x5 + (1 : Int32)) P10
def fX1_mostAlike_b6 (K : mm_K) (th : Nat)  : Nat → Int32 → Int32 → Int32 → Int32 → Int32 → mm_P → Option (Int32 × mm_P)
  | 0, _, _, _, _, _, _ => none
  | n + 1, x1, x2, x3, x4, x5, P =>
  if (9 : Int32) < x5 then
  (fX1_mostAlike_b30 K th mm_NF x1 x2 x3 x4 (0 : Int32) P)
  else
  (mm_gd (mm_in x5 10) <|
  mm_lt (sA P 151 th x5.toNatClampNeg (0 : Int32)) fun P3 =>
  fX1_mostAlike_b6 K th n x1 x2 x3 x4 (x5 + (1 : Int32)) P3)
set_option maxHeartbeats 4000000 in
theorem wfX1_mostAlike_b6 {E : mm_E} (C : mm_Cx E RX1 cX1_mostAlike 6 (some .int) 604 13897) {K : mm_K} {th : Nat} (hk : K.1 th = 1) {nx sl : Nat} : ∀ (n : Nat), ∀ (x1 : Int32) (x2 : Int32) (x3 : Int32) (x4 : Int32) (x5 : Int32) (P : mm_P), mm_V E (mm_wwI K nx sl) 6 [some (.ref th), some (.int x1), some (.int x2), some (.int x3), some (.int x4), some (.int x5)] [] K P nx sl (fX1_mostAlike_b6 K th n x1 x2 x3 x4 x5 P) := by
  intro n
  induction n with
  | zero => intro x1 x2 x3 x4 x5 P; exact r_none
  | succ n ih =>
    intro x1 x2 x3 x4 x5 P
    rw [fX1_mostAlike_b6]
    refine r_iload C dX1_mostAlike_6 rfl ?_
    refine r_bipush (v := 9) C dX1_mostAlike_8 rfl ?_
    refine r_icmpgt (tgt := 27) C dX1_mostAlike_10 (by decide) (fun h1 => ?_) (fun h1 => ?_)
    · refine r_iconst (v := 0) C dX1_mostAlike_27 rfl ?_
      refine r_istore (ls' := [some (.ref th), some (.int x1), some (.int x2), some (.int x3), some (.int x4), some (.int (0 : Int32))]) C dX1_mostAlike_28 (Nat.le_of_ble_eq_true rfl) rfl rfl ?_
      exact wfX1_mostAlike_b30 C hk mm_NF x1 x2 x3 x4 (0 : Int32) P
    · refine r_aload_n C dX1_mostAlike_13 rfl rfl ?_
      refine r_getA C fl_X1_93 hk dX1_mostAlike_14 ?_
      refine r_iload C dX1_mostAlike_17 rfl ?_
      refine r_iconst (v := 0) C dX1_mostAlike_19 rfl ?_
      refine r_iast C (rg_151 hk) (mm_ro_of (k := 1) hk rfl) rfl dX1_mostAlike_20 fun h2 => ?_
      refine r_ltP fun P3 => ?_
      refine r_iinc (v := 1) (ls' := [some (.ref th), some (.int x1), some (.int x2), some (.int x3), some (.int x4), some (.int (x5 + (1 : Int32)))]) C dX1_mostAlike_21 rfl rfl (Nat.le_of_ble_eq_true rfl) rfl rfl ?_
      refine r_goto (tgt := 6) C dX1_mostAlike_24 (by decide) ?_
      exact ih x1 x2 x3 x4 (x5 + (1 : Int32)) P3
def fX1_mostAlike (K : mm_K) (th : Nat) (x1 : Int32) (x2 : Int32) (x3 : Int32) (P : mm_P) : Option (Int32 × mm_P) :=
  fX1_mostAlike_b6 K th mm_NF x1 x2 x3 (0 : Int32) (0 : Int32) P
set_option maxHeartbeats 4000000 in
theorem mc_X1_mostAlike {l : Launch} {K : mm_K} {P : mm_P} {th : Nat} {x1 : Int32} {x2 : Int32} {x3 : Int32} {nx sl : Nat} {r : (Int32 × mm_P)} (hk : K.1 th = 1) (h : fX1_mostAlike K th x1 x2 x3 P = some r) : mm_C l yX1_mostAlike (ws_ yX1_mostAlike cX1_mostAlike 6 (some .int)) 604 13897 [.ref th, .int x1, .int x2, .int x3] K P nx sl (mm_wwI K nx sl r) :=
  mm_start (ls := [some (.ref th), some (.int x1), some (.int x2), some (.int x3), none, none]) h (by decide) (Nat.le_of_ble_eq_true rfl) rfl (Nat.le_refl _) (Nat.le_refl _) rfl fun E hl9 _ _ _ C => by
  have C : mm_Cx E RX1 cX1_mostAlike 6 (some .int) 604 13897 := C
  unfold fX1_mostAlike
  refine r_iconst (v := 0) C dX1_mostAlike_0 rfl ?_
  refine r_istore (ls' := [some (.ref th), some (.int x1), some (.int x2), some (.int x3), some (.int (0 : Int32)), none]) C dX1_mostAlike_1 (Nat.le_of_ble_eq_true rfl) rfl rfl ?_
  refine r_iconst (v := 0) C dX1_mostAlike_3 rfl ?_
  refine r_istore (ls' := [some (.ref th), some (.int x1), some (.int x2), some (.int x3), some (.int (0 : Int32)), some (.int (0 : Int32))]) C dX1_mostAlike_4 (Nat.le_of_ble_eq_true rfl) rfl rfl ?_
  exact wfX1_mostAlike_b6 C hk mm_NF x1 x2 x3 (0 : Int32) (0 : Int32) P
theorem cv_X1_365 : mm_CV RX1 365 yX1_starts cX1_starts 5 (some .int) 0 1 := ⟨RX1, TX1, 26, _, lw_V q1497 q1486 q1487 q133 q1488, ⟨rfl, by decide +kernel, by decide +kernel, by decide +kernel⟩, rfl, rfl⟩
theorem cv_X1_368 : mm_CV RX1 368 yX1_mostAlike cX1_mostAlike 6 (some .int) 3 1 := ⟨RX1, TX1, 26, _, lw_V q1498 q1500 qs52 q133 q1501, ⟨rfl, by decide +kernel, by decide +kernel, by decide +kernel⟩, rfl, rfl⟩
/-! X1 ask -/
def fX1_ask_b26 (K : mm_K) (th : Nat)  : Nat → Int32 → Int32 → Int32 → Int32 → Int32 → mm_P → Option (Int32 × mm_P)
  | 0, _, _, _, _, _, _ => none
  | n + 1, x1, x2, x3, x4, x5, P =>
  if (12 : Int32) < x5 then
  (some (x4, P))
  else
  (mm_bd (fX1_mostAlike K th x1 x5 x2 P) fun r2 =>
  if r2.1 < x3 then
  (fX1_ask_b26 K th n x1 x2 r2.1 x5 (x5 + (1 : Int32)) r2.2)
  else
  (fX1_ask_b26 K th n x1 x2 x3 x4 (x5 + (1 : Int32)) r2.2))
set_option maxHeartbeats 4000000 in
theorem wfX1_ask_b26 {E : mm_E} (C : mm_Cx E RX1 cX1_ask 7 (some .int) 605 13922) {K : mm_K} {th : Nat} (hk : K.1 th = 1) {nx sl : Nat} : ∀ (n : Nat), ∀ (x1 : Int32) (x2 : Int32) (x3 : Int32) (x4 : Int32) (x5 : Int32) (P : mm_P), mm_V E (mm_wwI K nx sl) 26 [some (.ref th), some (.int x1), some (.int x2), some (.int x3), some (.int x4), some (.int x5), none] [] K P nx sl (fX1_ask_b26 K th n x1 x2 x3 x4 x5 P) := by
  intro n
  induction n with
  | zero => intro x1 x2 x3 x4 x5 P; exact r_none
  | succ n ih =>
    intro x1 x2 x3 x4 x5 P
    rw [fX1_ask_b26]
    refine r_iload C dX1_ask_26 rfl ?_
    refine r_bipush (v := 12) C dX1_ask_28 rfl ?_
    refine r_icmpgt (tgt := 65) C dX1_ask_30 (by decide) (fun h1 => ?_) (fun h1 => ?_)
    · refine r_iload C dX1_ask_65 rfl ?_
      exact r_iret C dX1_ask_67 rfl
    · refine r_aload_n C dX1_ask_33 rfl rfl ?_
      refine r_iload_n C dX1_ask_34 rfl rfl ?_
      refine r_iload C dX1_ask_35 rfl ?_
      refine r_iload_n C dX1_ask_37 rfl rfl ?_
      refine r_bd fun r2 h3 => ?_
      refine r_callV (As := [.int x1, .int x5, .int x2]) (st := []) C (mc_X1_mostAlike hk h3) cv_X1_368 hk rfl (Nat.le_of_ble_eq_true rfl) (Nat.le_of_ble_eq_true rfl) rfl (Nat.le_of_ble_eq_true rfl) dX1_ask_38 ?_
      refine r_istore (ls' := [some (.ref th), some (.int x1), some (.int x2), some (.int x3), some (.int x4), some (.int x5), some (.int r2.1)]) C dX1_ask_41 (Nat.le_of_ble_eq_true rfl) rfl rfl ?_
      refine r_iload C dX1_ask_43 rfl ?_
      refine r_iload_n C dX1_ask_45 rfl rfl ?_
      refine r_icmplt (tgt := 52) C dX1_ask_46 (by decide) (fun h4 => ?_) (fun h4 => ?_)
      · refine r_iload C dX1_ask_52 rfl ?_
        refine r_istore_n (ls' := [some (.ref th), some (.int x1), some (.int x2), some (.int r2.1), some (.int x4), some (.int x5), some (.int r2.1)]) C dX1_ask_54 rfl (Nat.le_of_ble_eq_true rfl) rfl rfl ?_
        refine r_iload C dX1_ask_55 rfl ?_
        refine r_istore (ls' := [some (.ref th), some (.int x1), some (.int x2), some (.int r2.1), some (.int x5), some (.int x5), some (.int r2.1)]) C dX1_ask_57 (Nat.le_of_ble_eq_true rfl) rfl rfl ?_
        refine r_iinc (v := 1) (ls' := [some (.ref th), some (.int x1), some (.int x2), some (.int r2.1), some (.int x5), some (.int (x5 + (1 : Int32))), some (.int r2.1)]) C dX1_ask_59 rfl rfl (Nat.le_of_ble_eq_true rfl) rfl rfl ?_
        refine r_goto (tgt := 26) C dX1_ask_62 (by decide) ?_
        refine r_mask [true, true, true, true, true, true, false] (ls' := [some (.ref th), some (.int x1), some (.int x2), some (.int r2.1), some (.int x5), some (.int (x5 + (1 : Int32))), none]) rfl ?_
        exact ih x1 x2 r2.1 x5 (x5 + (1 : Int32)) r2.2
      · refine r_goto (tgt := 59) C dX1_ask_49 (by decide) ?_
        refine r_iinc (v := 1) (ls' := [some (.ref th), some (.int x1), some (.int x2), some (.int x3), some (.int x4), some (.int (x5 + (1 : Int32))), some (.int r2.1)]) C dX1_ask_59 rfl rfl (Nat.le_of_ble_eq_true rfl) rfl rfl ?_
        refine r_goto (tgt := 26) C dX1_ask_62 (by decide) ?_
        refine r_mask [true, true, true, true, true, true, false] (ls' := [some (.ref th), some (.int x1), some (.int x2), some (.int x3), some (.int x4), some (.int (x5 + (1 : Int32))), none]) rfl ?_
        exact ih x1 x2 x3 x4 (x5 + (1 : Int32)) r2.2
def fX1_ask (K : mm_K) (th : Nat) (x1 : Int32) (P : mm_P) : Option (Int32 × mm_P) :=
  mm_bd (fX1_isCloth K th P x1) fun r1 =>
  if r1 ≠ 0 then
  (mm_bd (fX1_starts K th P) fun r4 =>
  mm_bd (fJ17_bitCount r4.1) fun r6 =>
  fX1_ask_b26 K th mm_NF x1 r4.1 r6 (-1 : Int32) (0 : Int32) r4.2)
  else
  (some ((-1 : Int32), P))
set_option maxHeartbeats 4000000 in
theorem mc_X1_ask {l : Launch} {K : mm_K} {P : mm_P} {th : Nat} {x1 : Int32} {nx sl : Nat} {r : (Int32 × mm_P)} (hk : K.1 th = 1) (h : fX1_ask K th x1 P = some r) : mm_C l yX1_ask (ws_ yX1_ask cX1_ask 7 (some .int)) 605 13922 [.ref th, .int x1] K P nx sl (mm_wwI K nx sl r) :=
  mm_start (ls := [some (.ref th), some (.int x1), none, none, none, none, none]) h (by decide) (Nat.le_of_ble_eq_true rfl) rfl (Nat.le_refl _) (Nat.le_refl _) rfl fun E hl9 _ _ _ C => by
  have C : mm_Cx E RX1 cX1_ask 7 (some .int) 605 13922 := C
  unfold fX1_ask
  refine r_aload_n C dX1_ask_0 rfl rfl ?_
  refine r_iload_n C dX1_ask_1 rfl rfl ?_
  refine r_bd fun r1 h2 => ?_
  refine r_callV (As := [.int x1]) (st := []) C (mc_X1_isCloth hk h2) cv_X1_254 hk rfl (Nat.le_of_ble_eq_true rfl) (Nat.le_of_ble_eq_true rfl) rfl (Nat.le_of_ble_eq_true rfl) dX1_ask_2 ?_
  refine r_ifne (tgt := 10) C dX1_ask_5 (by decide) (fun h3 => ?_) (fun h3 => ?_)
  · refine r_aload_n C dX1_ask_10 rfl rfl ?_
    refine r_bd fun r4 h5 => ?_
    refine r_callV (As := []) (st := []) C (mc_X1_starts hk h5) cv_X1_365 hk rfl (Nat.le_of_ble_eq_true rfl) (Nat.le_of_ble_eq_true rfl) rfl (Nat.le_of_ble_eq_true rfl) dX1_ask_11 ?_
    refine r_istore_n (ls' := [some (.ref th), some (.int x1), some (.int r4.1), none, none, none, none]) C dX1_ask_14 rfl (Nat.le_of_ble_eq_true rfl) rfl rfl ?_
    refine r_iload_n C dX1_ask_15 rfl rfl ?_
    refine r_bd fun r6 h7 => ?_
    refine r_callS (As := [.int r4.1]) (st := []) C (mc_J17_bitCount h7) cv_X1_161  rfl (Nat.le_of_ble_eq_true rfl) (Nat.le_of_ble_eq_true rfl) rfl (Nat.le_of_ble_eq_true rfl) dX1_ask_16 ?_
    refine r_istore_n (ls' := [some (.ref th), some (.int x1), some (.int r4.1), some (.int r6), none, none, none]) C dX1_ask_19 rfl (Nat.le_of_ble_eq_true rfl) rfl rfl ?_
    refine r_iconst (v := -1) C dX1_ask_20 rfl ?_
    refine r_istore (ls' := [some (.ref th), some (.int x1), some (.int r4.1), some (.int r6), some (.int (-1 : Int32)), none, none]) C dX1_ask_21 (Nat.le_of_ble_eq_true rfl) rfl rfl ?_
    refine r_iconst (v := 0) C dX1_ask_23 rfl ?_
    refine r_istore (ls' := [some (.ref th), some (.int x1), some (.int r4.1), some (.int r6), some (.int (-1 : Int32)), some (.int (0 : Int32)), none]) C dX1_ask_24 (Nat.le_of_ble_eq_true rfl) rfl rfl ?_
    exact wfX1_ask_b26 C hk mm_NF x1 r4.1 r6 (-1 : Int32) (0 : Int32) r4.2
  · refine r_iconst (v := -1) C dX1_ask_8 rfl ?_
    exact r_iret C dX1_ask_9 rfl
theorem cv_X1_293 : mm_CV RX1 293 yX1_passes cX1_passes 6 (some .int) 2 1 := ⟨RX1, TX1, 26, _, lw_V q1344 q1346 qs40 q133 q1347, ⟨rfl, by decide +kernel, by decide +kernel, by decide +kernel⟩, rfl, rfl⟩
/-! X1 worthBehind -/
def fX1_worthBehind_b2 (K : mm_K) (th : Nat)  : Nat → Nat → Int32 → Int32 → mm_P → Option (Int32 × mm_P)
  | 0, _, _, _, _ => none
  | n + 1, x1, x2, x3, P =>
  if x2 ≤ x3 then
  (mm_bd (fX1_lawsOf K th P x1) fun r2 =>
  mm_bd (fX1_worthOf K th P r2) fun r4 =>
  some (r4, P))
  else
  (mm_bd (fX1_passes K th x1 (0 : Int32) P) fun r6 =>
  fX1_worthBehind_b2 K th n x1 x2 (x3 + (1 : Int32)) r6.2)
set_option maxHeartbeats 4000000 in
theorem wfX1_worthBehind_b2 {E : mm_E} (C : mm_Cx E RX1 cX1_worthBehind 4 (some .int) 605 13923) {K : mm_K} {th : Nat} (hk : K.1 th = 1) {nx sl : Nat} : ∀ (n : Nat), ∀ (x1 : Nat) (x2 : Int32) (x3 : Int32) (P : mm_P), mm_V E (mm_wwI K nx sl) 2 [some (.ref th), some (.ref x1), some (.int x2), some (.int x3)] [] K P nx sl (fX1_worthBehind_b2 K th n x1 x2 x3 P) := by
  intro n
  induction n with
  | zero => intro x1 x2 x3 P; exact r_none
  | succ n ih =>
    intro x1 x2 x3 P
    rw [fX1_worthBehind_b2]
    refine r_iload_n C dX1_worthBehind_2 rfl rfl ?_
    refine r_iload_n C dX1_worthBehind_3 rfl rfl ?_
    refine r_icmpge (tgt := 20) C dX1_worthBehind_4 (by decide) (fun h1 => ?_) (fun h1 => ?_)
    · refine r_aload_n C dX1_worthBehind_20 rfl rfl ?_
      refine r_aload_n C dX1_worthBehind_21 rfl rfl ?_
      refine r_aload_n C dX1_worthBehind_22 rfl rfl ?_
      refine r_bd fun r2 h3 => ?_
      refine r_callV (As := [.ref x1]) (st := [.ref th]) C (mc_X1_lawsOf hk h3) cv_X1_273 hk rfl (Nat.le_of_ble_eq_true rfl) (Nat.le_of_ble_eq_true rfl) rfl (Nat.le_of_ble_eq_true rfl) dX1_worthBehind_23 ?_
      refine r_bd fun r4 h5 => ?_
      refine r_callV (As := [.int r2]) (st := []) C (mc_X1_worthOf hk h5) cv_X1_310 hk rfl (Nat.le_of_ble_eq_true rfl) (Nat.le_of_ble_eq_true rfl) rfl (Nat.le_of_ble_eq_true rfl) dX1_worthBehind_26 ?_
      exact r_iret C dX1_worthBehind_29 rfl
    · refine r_aload_n C dX1_worthBehind_7 rfl rfl ?_
      refine r_aload_n C dX1_worthBehind_8 rfl rfl ?_
      refine r_iconst (v := 0) C dX1_worthBehind_9 rfl ?_
      refine r_bd fun r6 h7 => ?_
      refine r_callV (As := [.ref x1, .int (0 : Int32)]) (st := []) C (mc_X1_passes hk h7) cv_X1_293 hk rfl (Nat.le_of_ble_eq_true rfl) (Nat.le_of_ble_eq_true rfl) rfl (Nat.le_of_ble_eq_true rfl) dX1_worthBehind_10 ?_
      refine r_pop C dX1_worthBehind_13 rfl ?_
      refine r_iinc (v := 1) (ls' := [some (.ref th), some (.ref x1), some (.int x2), some (.int (x3 + (1 : Int32)))]) C dX1_worthBehind_14 rfl rfl (Nat.le_of_ble_eq_true rfl) rfl rfl ?_
      refine r_goto (tgt := 2) C dX1_worthBehind_17 (by decide) ?_
      exact ih x1 x2 (x3 + (1 : Int32)) r6.2
def fX1_worthBehind (K : mm_K) (th : Nat) (x1 : Nat) (x2 : Int32) (P : mm_P) : Option (Int32 × mm_P) :=
  fX1_worthBehind_b2 K th mm_NF x1 x2 (0 : Int32) P
set_option maxHeartbeats 4000000 in
theorem mc_X1_worthBehind {l : Launch} {K : mm_K} {P : mm_P} {th : Nat} {x1 : Nat} {x2 : Int32} {nx sl : Nat} {r : (Int32 × mm_P)} (hk : K.1 th = 1) (h : fX1_worthBehind K th x1 x2 P = some r) : mm_C l yX1_worthBehind (ws_ yX1_worthBehind cX1_worthBehind 4 (some .int)) 605 13923 [.ref th, .ref x1, .int x2] K P nx sl (mm_wwI K nx sl r) :=
  mm_start (ls := [some (.ref th), some (.ref x1), some (.int x2), none]) h (by decide) (Nat.le_of_ble_eq_true rfl) rfl (Nat.le_refl _) (Nat.le_refl _) rfl fun E hl9 _ _ _ C => by
  have C : mm_Cx E RX1 cX1_worthBehind 4 (some .int) 605 13923 := C
  unfold fX1_worthBehind
  refine r_iconst (v := 0) C dX1_worthBehind_0 rfl ?_
  refine r_istore_n (ls' := [some (.ref th), some (.ref x1), some (.int x2), some (.int (0 : Int32))]) C dX1_worthBehind_1 rfl (Nat.le_of_ble_eq_true rfl) rfl rfl ?_
  exact wfX1_worthBehind_b2 C hk mm_NF x1 x2 (0 : Int32) P
theorem cv_X1_371 : mm_CV RX1 371 yX1_worthBehind cX1_worthBehind 4 (some .int) 2 1 := ⟨RX1, TX1, 26, _, lw_V q1506 q1508 qs53 q133 q1509, ⟨rfl, by decide +kernel, by decide +kernel, by decide +kernel⟩, rfl, rfl⟩
/-! X1 change -/
def fX1_change_b38 (K : mm_K) (th : Nat)  : Nat → Int32 → Int32 → Int32 → Int32 → mm_P → Option (Int32 × mm_P)
  | 0, _, _, _, _, _ => none
  | n + 1, x1, x2, x3, x4, P =>
  mm_bd (gR P 132 th) fun b1 =>
  mm_gd (K.1 b1 = 4) <|
  if (gI P 517 b1) ≤ x4 then
  (some (x2, P))
  else
  (mm_bd (gR P 133 th) fun b5 =>
  mm_bd (gR P 132 th) fun b7 =>
  mm_gd (K.1 b5 = 4) <|
  mm_bd (fX4_be K b5 b7 P) fun r9 =>
  mm_bd (gR r9 133 th) fun b12 =>
  mm_gd (K.1 b12 = 4) <|
  mm_gd (mm_in x4 8) <|
  mm_lt (sA r9 512 b12 x4.toNatClampNeg (9 : Int32)) fun P16 =>
  mm_bd (gR P16 133 th) fun b17 =>
  mm_bd (fX1_worthBehind K th b17 x1 P16) fun r19 =>
  if x3 < r19.1 then
  (fX1_change_b38 K th n x1 x4 r19.1 (x4 + (1 : Int32)) r19.2)
  else
  (fX1_change_b38 K th n x1 x2 x3 (x4 + (1 : Int32)) r19.2))
set_option maxHeartbeats 4000000 in
theorem wfX1_change_b38 {E : mm_E} (C : mm_Cx E RX1 cX1_change 6 (some .int) 606 13946) {K : mm_K} {th : Nat} (hk : K.1 th = 1) {nx sl : Nat} : ∀ (n : Nat), ∀ (x1 : Int32) (x2 : Int32) (x3 : Int32) (x4 : Int32) (P : mm_P), mm_V E (mm_wwI K nx sl) 38 [some (.ref th), some (.int x1), some (.int x2), some (.int x3), some (.int x4), none] [] K P nx sl (fX1_change_b38 K th n x1 x2 x3 x4 P) := by
  intro n
  induction n with
  | zero => intro x1 x2 x3 x4 P; exact r_none
  | succ n ih =>
    intro x1 x2 x3 x4 P
    rw [fX1_change_b38]
    refine r_iload C dX1_change_38 rfl ?_
    refine r_aload_n C dX1_change_40 rfl rfl ?_
    refine r_getRn (code := 132) C fl_X1_51 hk rfl dX1_change_41 fun b1 h2 => ?_
    refine r_gd fun hK3 => ?_
    refine r_getI (code := 517) C fl_X1_264 hK3 rfl dX1_change_44 ?_
    refine r_icmpge (tgt := 105) C dX1_change_47 (by decide) (fun h4 => ?_) (fun h4 => ?_)
    · refine r_iload_n C dX1_change_105 rfl rfl ?_
      exact r_iret C dX1_change_106 rfl
    · refine r_aload_n C dX1_change_50 rfl rfl ?_
      refine r_getRn (code := 133) C fl_X1_55 hk rfl dX1_change_51 fun b5 h6 => ?_
      refine r_aload_n C dX1_change_54 rfl rfl ?_
      refine r_getRn (code := 132) C fl_X1_51 hk rfl dX1_change_55 fun b7 h8 => ?_
      refine r_gd fun hK11 => ?_
      refine r_bd fun r9 h10 => ?_
      refine r_callVv (As := [.ref b7]) (st := []) C (mc_X4_be hK11 h10) cv_X1_276 hK11 rfl (Nat.le_of_ble_eq_true rfl) (Nat.le_of_ble_eq_true rfl) rfl (Nat.le_of_ble_eq_true rfl) dX1_change_58 ?_
      refine r_aload_n C dX1_change_61 rfl rfl ?_
      refine r_getRn (code := 133) C fl_X1_55 hk rfl dX1_change_62 fun b12 h13 => ?_
      refine r_gd fun hK14 => ?_
      refine r_getA C fl_X1_267 hK14 dX1_change_65 ?_
      refine r_iload C dX1_change_68 rfl ?_
      refine r_bipush (v := 9) C dX1_change_70 rfl ?_
      refine r_iast C (rg_512 hK14) (mm_ro_of (k := 4) hK14 rfl) rfl dX1_change_72 fun h15 => ?_
      refine r_ltP fun P16 => ?_
      refine r_aload_n C dX1_change_73 rfl rfl ?_
      refine r_aload_n C dX1_change_74 rfl rfl ?_
      refine r_getRn (code := 133) C fl_X1_55 hk rfl dX1_change_75 fun b17 h18 => ?_
      refine r_iload_n C dX1_change_78 rfl rfl ?_
      refine r_bd fun r19 h20 => ?_
      refine r_callV (As := [.ref b17, .int x1]) (st := []) C (mc_X1_worthBehind hk h20) cv_X1_371 hk rfl (Nat.le_of_ble_eq_true rfl) (Nat.le_of_ble_eq_true rfl) rfl (Nat.le_of_ble_eq_true rfl) dX1_change_79 ?_
      refine r_istore (ls' := [some (.ref th), some (.int x1), some (.int x2), some (.int x3), some (.int x4), some (.int r19.1)]) C dX1_change_82 (Nat.le_of_ble_eq_true rfl) rfl rfl ?_
      refine r_iload C dX1_change_84 rfl ?_
      refine r_iload_n C dX1_change_86 rfl rfl ?_
      refine r_icmpgt (tgt := 93) C dX1_change_87 (by decide) (fun h21 => ?_) (fun h21 => ?_)
      · refine r_iload C dX1_change_93 rfl ?_
        refine r_istore_n (ls' := [some (.ref th), some (.int x1), some (.int x2), some (.int r19.1), some (.int x4), some (.int r19.1)]) C dX1_change_95 rfl (Nat.le_of_ble_eq_true rfl) rfl rfl ?_
        refine r_iload C dX1_change_96 rfl ?_
        refine r_istore_n (ls' := [some (.ref th), some (.int x1), some (.int x4), some (.int r19.1), some (.int x4), some (.int r19.1)]) C dX1_change_98 rfl (Nat.le_of_ble_eq_true rfl) rfl rfl ?_
        refine r_iinc (v := 1) (ls' := [some (.ref th), some (.int x1), some (.int x4), some (.int r19.1), some (.int (x4 + (1 : Int32))), some (.int r19.1)]) C dX1_change_99 rfl rfl (Nat.le_of_ble_eq_true rfl) rfl rfl ?_
        refine r_goto (tgt := 38) C dX1_change_102 (by decide) ?_
        refine r_mask [true, true, true, true, true, false] (ls' := [some (.ref th), some (.int x1), some (.int x4), some (.int r19.1), some (.int (x4 + (1 : Int32))), none]) rfl ?_
        exact ih x1 x4 r19.1 (x4 + (1 : Int32)) r19.2
      · refine r_goto (tgt := 99) C dX1_change_90 (by decide) ?_
        refine r_iinc (v := 1) (ls' := [some (.ref th), some (.int x1), some (.int x2), some (.int x3), some (.int (x4 + (1 : Int32))), some (.int r19.1)]) C dX1_change_99 rfl rfl (Nat.le_of_ble_eq_true rfl) rfl rfl ?_
        refine r_goto (tgt := 38) C dX1_change_102 (by decide) ?_
        refine r_mask [true, true, true, true, true, false] (ls' := [some (.ref th), some (.int x1), some (.int x2), some (.int x3), some (.int (x4 + (1 : Int32))), none]) rfl ?_
        exact ih x1 x2 x3 (x4 + (1 : Int32)) r19.2
def fX1_change (K : mm_K) (th : Nat) (x1 : Int32) (P : mm_P) : Option (Int32 × mm_P) :=
  mm_bd (fX1_in x1 (1 : Int32) (20 : Int32)) fun r1 =>
  if r1 ≠ 0 then
  (mm_bd (gR P 133 th) fun b4 =>
  mm_bd (gR P 132 th) fun b6 =>
  mm_gd (K.1 b4 = 4) <|
  mm_bd (fX4_be K b4 b6 P) fun r8 =>
  mm_bd (gR r8 133 th) fun b11 =>
  mm_bd (fX1_worthBehind K th b11 x1 r8) fun r13 =>
  fX1_change_b38 K th mm_NF x1 (-1 : Int32) r13.1 (0 : Int32) r13.2)
  else
  (some ((-1 : Int32), P))
set_option maxHeartbeats 4000000 in
theorem mc_X1_change {l : Launch} {K : mm_K} {P : mm_P} {th : Nat} {x1 : Int32} {nx sl : Nat} {r : (Int32 × mm_P)} (hk : K.1 th = 1) (h : fX1_change K th x1 P = some r) : mm_C l yX1_change (ws_ yX1_change cX1_change 6 (some .int)) 606 13946 [.ref th, .int x1] K P nx sl (mm_wwI K nx sl r) :=
  mm_start (ls := [some (.ref th), some (.int x1), none, none, none, none]) h (by decide) (Nat.le_of_ble_eq_true rfl) rfl (Nat.le_refl _) (Nat.le_refl _) rfl fun E hl9 _ _ _ C => by
  have C : mm_Cx E RX1 cX1_change 6 (some .int) 606 13946 := C
  unfold fX1_change
  refine r_iload_n C dX1_change_0 rfl rfl ?_
  refine r_iconst (v := 1) C dX1_change_1 rfl ?_
  refine r_bipush (v := 20) C dX1_change_2 rfl ?_
  refine r_bd fun r1 h2 => ?_
  refine r_callS (As := [.int x1, .int (1 : Int32), .int (20 : Int32)]) (st := []) C (mc_X1_in h2) cv_X1_150  rfl (Nat.le_of_ble_eq_true rfl) (Nat.le_of_ble_eq_true rfl) rfl (Nat.le_of_ble_eq_true rfl) dX1_change_4 ?_
  refine r_ifne (tgt := 12) C dX1_change_7 (by decide) (fun h3 => ?_) (fun h3 => ?_)
  · refine r_aload_n C dX1_change_12 rfl rfl ?_
    refine r_getRn (code := 133) C fl_X1_55 hk rfl dX1_change_13 fun b4 h5 => ?_
    refine r_aload_n C dX1_change_16 rfl rfl ?_
    refine r_getRn (code := 132) C fl_X1_51 hk rfl dX1_change_17 fun b6 h7 => ?_
    refine r_gd fun hK10 => ?_
    refine r_bd fun r8 h9 => ?_
    refine r_callVv (As := [.ref b6]) (st := []) C (mc_X4_be hK10 h9) cv_X1_276 hK10 rfl (Nat.le_of_ble_eq_true rfl) (Nat.le_of_ble_eq_true rfl) rfl (Nat.le_of_ble_eq_true rfl) dX1_change_20 ?_
    refine r_iconst (v := -1) C dX1_change_23 rfl ?_
    refine r_istore_n (ls' := [some (.ref th), some (.int x1), some (.int (-1 : Int32)), none, none, none]) C dX1_change_24 rfl (Nat.le_of_ble_eq_true rfl) rfl rfl ?_
    refine r_aload_n C dX1_change_25 rfl rfl ?_
    refine r_aload_n C dX1_change_26 rfl rfl ?_
    refine r_getRn (code := 133) C fl_X1_55 hk rfl dX1_change_27 fun b11 h12 => ?_
    refine r_iload_n C dX1_change_30 rfl rfl ?_
    refine r_bd fun r13 h14 => ?_
    refine r_callV (As := [.ref b11, .int x1]) (st := []) C (mc_X1_worthBehind hk h14) cv_X1_371 hk rfl (Nat.le_of_ble_eq_true rfl) (Nat.le_of_ble_eq_true rfl) rfl (Nat.le_of_ble_eq_true rfl) dX1_change_31 ?_
    refine r_istore_n (ls' := [some (.ref th), some (.int x1), some (.int (-1 : Int32)), some (.int r13.1), none, none]) C dX1_change_34 rfl (Nat.le_of_ble_eq_true rfl) rfl rfl ?_
    refine r_iconst (v := 0) C dX1_change_35 rfl ?_
    refine r_istore (ls' := [some (.ref th), some (.int x1), some (.int (-1 : Int32)), some (.int r13.1), some (.int (0 : Int32)), none]) C dX1_change_36 (Nat.le_of_ble_eq_true rfl) rfl rfl ?_
    exact wfX1_change_b38 C hk mm_NF x1 (-1 : Int32) r13.1 (0 : Int32) r13.2
  · refine r_iconst (v := -1) C dX1_change_10 rfl ?_
    exact r_iret C dX1_change_11 rfl
theorem fl_X1_385 : mm_FL RX1 385 1 24 mm_j .long false := ⟨RX1, TX1, 26, _, tyX1, rfl, in_X1, rfl, rfl, Nat.le_of_ble_eq_true rfl, Or.inl q367, tyX1_ok, nmX1, rfl, rfl⟩
/-! X1 draws -/
def fX1_draws (th : Nat) (x1 : Int32) (P : mm_P) : Option (Int32 × mm_P) :=
  mm_lt (sJ P 152 th (mm_remL (((gJ P 152 th) * (1103515245 : Int64)) + (12345 : Int64)) (2147483648 : Int64))) fun P1 =>
  mm_gd (¬ x1.toInt64 = 0) <|
  some ((mm_remL ((gJ P1 152 th) / (65536 : Int64)) x1.toInt64).toInt32, P1)
set_option maxHeartbeats 4000000 in
theorem mc_X1_draws {l : Launch} {K : mm_K} {P : mm_P} {th : Nat} {x1 : Int32} {nx sl : Nat} {r : (Int32 × mm_P)} (hk : K.1 th = 1) (h : fX1_draws th x1 P = some r) : mm_C l yX1_draws (ws_ yX1_draws cX1_draws 2 (some .int)) 0 0 [.ref th, .int x1] K P nx sl (mm_wwI K nx sl r) :=
  mm_start (ls := [some (.ref th), some (.int x1)]) h (by decide) (Nat.le_of_ble_eq_true rfl) rfl (Nat.le_refl _) (Nat.le_refl _) rfl fun E hl9 _ _ _ C => by
  have C : mm_Cx E RX1 cX1_draws 2 (some .int) 0 0 := C
  unfold fX1_draws
  refine r_aload_n C dX1_draws_0 rfl rfl ?_
  refine r_aload_n C dX1_draws_1 rfl rfl ?_
  refine r_getJ (code := 152) C fl_X1_385 hk rfl dX1_draws_2 ?_
  refine r_ldc2 (v := 1103515245) C dX1_draws_5 q1522 ?_
  refine r_lmul C dX1_draws_8 ?_
  refine r_ldc2 (v := 12345) C dX1_draws_9 q1523 ?_
  refine r_ladd C dX1_draws_12 ?_
  refine r_ldc2 (v := 2147483648) C dX1_draws_13 q1524 ?_
  refine r_lrem C dX1_draws_16 (by decide) ?_
  refine r_putJ (code := 152) C fl_X1_385 hk rfl rfl dX1_draws_17 ?_
  refine r_ltP fun P1 => ?_
  refine r_aload_n C dX1_draws_20 rfl rfl ?_
  refine r_getJ (code := 152) C fl_X1_385 hk rfl dX1_draws_21 ?_
  refine r_ldc2 (v := 65536) C dX1_draws_24 q1525 ?_
  refine r_ldiv C dX1_draws_27 (by decide) ?_
  refine r_iload_n C dX1_draws_28 rfl rfl ?_
  refine r_i2l C dX1_draws_29 ?_
  refine r_gd fun h2 => ?_
  refine r_lrem C dX1_draws_30 h2 ?_
  refine r_l2i C dX1_draws_31 ?_
  exact r_iret C dX1_draws_32 rfl
/-! X1 firstFree -/
def fX1_firstFree_b11 (K : mm_K) (th : Nat) (P : mm_P)  : Nat → Int32 → Int32 → Int32 → Int32 → Option Int32
  | 0, _, _, _, _ => none
  | n + 1, x2, x3, x4, x5 =>
  if (8 : Int32) ≤ x5 then
  (some (x4))
  else
  (mm_bd (fJ17_bitCount x4) fun r2 =>
  mm_bd (fX1_cloth_2 K th P x2) fun r4 =>
  mm_bd (fV_needs K r4) fun r6 =>
  if r6 ≤ r2 then
  (some (x4))
  else
  (mm_bd (fX1_isIn x3 x5) fun r9 =>
  if r9 = 0 then
  (fX1_firstFree_b11 K th P n x2 x3 x4 (x5 + (1 : Int32)))
  else
  (mm_lt (x4 ||| (mm_shl (1 : Int32) x5)) fun v12 =>
  fX1_firstFree_b11 K th P n x2 x3 v12 (x5 + (1 : Int32)))))
set_option maxHeartbeats 4000000 in
theorem wfX1_firstFree_b11 {E : mm_E} (C : mm_Cx E RX1 cX1_firstFree 6 (some .int) 4 85) {K : mm_K} {th : Nat} (hk : K.1 th = 1) {P : mm_P} {nx sl : Nat} : ∀ (n : Nat), ∀ (x2 : Int32) (x3 : Int32) (x4 : Int32) (x5 : Int32), mm_V E (mm_wrI K P nx sl) 11 [some (.ref th), none, some (.int x2), some (.int x3), some (.int x4), some (.int x5)] [] K P nx sl (fX1_firstFree_b11 K th P n x2 x3 x4 x5) := by
  intro n
  induction n with
  | zero => intro x2 x3 x4 x5; exact r_none
  | succ n ih =>
    intro x2 x3 x4 x5
    rw [fX1_firstFree_b11]
    refine r_iload C dX1_firstFree_11 rfl ?_
    refine r_bipush (v := 8) C dX1_firstFree_13 rfl ?_
    refine r_icmpge (tgt := 58) C dX1_firstFree_15 (by decide) (fun h1 => ?_) (fun h1 => ?_)
    · refine r_iload C dX1_firstFree_58 rfl ?_
      exact r_iret C dX1_firstFree_60 rfl
    · refine r_iload C dX1_firstFree_18 rfl ?_
      refine r_bd fun r2 h3 => ?_
      refine r_callS (As := [.int x4]) (st := []) C (mc_J17_bitCount h3) cv_X1_161  rfl (Nat.le_of_ble_eq_true rfl) (Nat.le_of_ble_eq_true rfl) rfl (Nat.le_of_ble_eq_true rfl) dX1_firstFree_20 ?_
      refine r_aload_n C dX1_firstFree_23 rfl rfl ?_
      refine r_iload_n C dX1_firstFree_24 rfl rfl ?_
      refine r_bd fun r4 h5 => ?_
      refine r_callV (As := [.int x2]) (st := [.int r2]) C (mc_X1_cloth_2 hk h5) cv_X1_166 hk rfl (Nat.le_of_ble_eq_true rfl) (Nat.le_of_ble_eq_true rfl) rfl (Nat.le_of_ble_eq_true rfl) dX1_firstFree_25 ?_
      refine r_bd fun r6 h7 => ?_
      refine vd_X1_170 (st := [.int r2]) C (dv_needs h7) (Nat.le_of_ble_eq_true rfl) (Nat.le_of_ble_eq_true rfl) rfl (Nat.le_of_ble_eq_true rfl) dX1_firstFree_28 ?_
      refine r_icmpge (tgt := 58) C dX1_firstFree_31 (by decide) (fun h8 => ?_) (fun h8 => ?_)
      · refine r_iload C dX1_firstFree_58 rfl ?_
        exact r_iret C dX1_firstFree_60 rfl
      · refine r_iload_n C dX1_firstFree_34 rfl rfl ?_
        refine r_iload C dX1_firstFree_35 rfl ?_
        refine r_bd fun r9 h10 => ?_
        refine r_callS (As := [.int x3, .int x5]) (st := []) C (mc_X1_isIn h10) cv_X1_177  rfl (Nat.le_of_ble_eq_true rfl) (Nat.le_of_ble_eq_true rfl) rfl (Nat.le_of_ble_eq_true rfl) dX1_firstFree_37 ?_
        refine r_ifeq (tgt := 52) C dX1_firstFree_40 (by decide) (fun h11 => ?_) (fun h11 => ?_)
        · refine r_iinc (v := 1) (ls' := [some (.ref th), none, some (.int x2), some (.int x3), some (.int x4), some (.int (x5 + (1 : Int32)))]) C dX1_firstFree_52 rfl rfl (Nat.le_of_ble_eq_true rfl) rfl rfl ?_
          refine r_goto (tgt := 11) C dX1_firstFree_55 (by decide) ?_
          exact ih x2 x3 x4 (x5 + (1 : Int32))
        · refine r_iload C dX1_firstFree_43 rfl ?_
          refine r_iconst (v := 1) C dX1_firstFree_45 rfl ?_
          refine r_iload C dX1_firstFree_46 rfl ?_
          refine r_ishl C dX1_firstFree_48 ?_
          refine r_ior C dX1_firstFree_49 ?_
          refine r_ltI fun v12 => ?_
          refine r_istore (ls' := [some (.ref th), none, some (.int x2), some (.int x3), some (.int v12), some (.int x5)]) C dX1_firstFree_50 (Nat.le_of_ble_eq_true rfl) rfl rfl ?_
          refine r_iinc (v := 1) (ls' := [some (.ref th), none, some (.int x2), some (.int x3), some (.int v12), some (.int (x5 + (1 : Int32)))]) C dX1_firstFree_52 rfl rfl (Nat.le_of_ble_eq_true rfl) rfl rfl ?_
          refine r_goto (tgt := 11) C dX1_firstFree_55 (by decide) ?_
          exact ih x2 x3 v12 (x5 + (1 : Int32))
def fX1_firstFree (K : mm_K) (th : Nat) (P : mm_P) (x1 : Nat) (x2 : Int32) : Option Int32 :=
  mm_gd (K.1 x1 = 4) <|
  mm_bd (fX4_free x1 P) fun r1 =>
  fX1_firstFree_b11 K th P mm_NF x2 r1 (0 : Int32) (0 : Int32)
set_option maxHeartbeats 4000000 in
theorem mc_X1_firstFree {l : Launch} {K : mm_K} {P : mm_P} {th : Nat} {x1 : Nat} {x2 : Int32} {nx sl : Nat} {r : Int32} (hk : K.1 th = 1) (h : fX1_firstFree K th P x1 x2 = some r) : mm_C l yX1_firstFree (ws_ yX1_firstFree cX1_firstFree 6 (some .int)) 4 85 [.ref th, .ref x1, .int x2] K P nx sl (mm_wrI K P nx sl r) :=
  mm_start (ls := [some (.ref th), some (.ref x1), some (.int x2), none, none, none]) h (by decide) (Nat.le_of_ble_eq_true rfl) rfl (Nat.le_refl _) (Nat.le_refl _) rfl fun E hl9 _ _ _ C => by
  have C : mm_Cx E RX1 cX1_firstFree 6 (some .int) 4 85 := C
  unfold fX1_firstFree
  refine r_aload_n C dX1_firstFree_0 rfl rfl ?_
  refine r_gd fun hK3 => ?_
  refine r_bd fun r1 h2 => ?_
  refine r_callV (As := []) (st := []) C (mc_X4_free hK3 h2) cv_X1_193 hK3 rfl (Nat.le_of_ble_eq_true rfl) (Nat.le_of_ble_eq_true rfl) rfl (Nat.le_of_ble_eq_true rfl) dX1_firstFree_1 ?_
  refine r_istore_n (ls' := [some (.ref th), some (.ref x1), some (.int x2), some (.int r1), none, none]) C dX1_firstFree_4 rfl (Nat.le_of_ble_eq_true rfl) rfl rfl ?_
  refine r_iconst (v := 0) C dX1_firstFree_5 rfl ?_
  refine r_istore (ls' := [some (.ref th), some (.ref x1), some (.int x2), some (.int r1), some (.int (0 : Int32)), none]) C dX1_firstFree_6 (Nat.le_of_ble_eq_true rfl) rfl rfl ?_
  refine r_iconst (v := 0) C dX1_firstFree_8 rfl ?_
  refine r_istore (ls' := [some (.ref th), some (.ref x1), some (.int x2), some (.int r1), some (.int (0 : Int32)), some (.int (0 : Int32))]) C dX1_firstFree_9 (Nat.le_of_ble_eq_true rfl) rfl rfl ?_
  refine r_mask [true, false, true, true, true, true] (ls' := [some (.ref th), none, some (.int x2), some (.int r1), some (.int (0 : Int32)), some (.int (0 : Int32))]) rfl ?_
  exact wfX1_firstFree_b11 C hk mm_NF x2 r1 (0 : Int32) (0 : Int32)
theorem cv_X1_280 : mm_CV RX1 280 yX1_canHang cX1_canHang 5 (some .boolean) 3 1 := ⟨RX1, TX1, 26, _, lw_V q1296 q1298 qs37 q133 q1299, ⟨rfl, by decide +kernel, by decide +kernel, by decide +kernel⟩, rfl, rfl⟩
theorem cv_X1_286 : mm_CV RX1 286 yX4_hangs cX4_hangs 4 none 2 4 := ⟨RX4, TX4, 6, _, lw_V q1319 q1320 q1321 q139 q1322, ⟨rfl, by decide +kernel, by decide +kernel, by decide +kernel⟩, rfl, rfl⟩
theorem cv_X1_290 : mm_CV RX1 290 yX4_comesIn cX4_comesIn 3 none 1 4 := ⟨RX4, TX4, 6, _, lw_V q1328 q1329 q1330 q139 q1331, ⟨rfl, by decide +kernel, by decide +kernel, by decide +kernel⟩, rfl, rfl⟩
theorem cv_X1_336 : mm_CV RX1 336 yX3_gusts cX3_gusts 1 (some .int) 0 3 := ⟨RX3, TX3, 11, _, lw_V q1463 q1464 q1465 q135 q1466, ⟨rfl, by decide +kernel, by decide +kernel, by decide +kernel⟩, rfl, rfl⟩
theorem cv_X1_397 : mm_CV RX1 397 yX1_draws cX1_draws 2 (some .int) 1 1 := ⟨RX1, TX1, 26, _, lw_V q1518 q1520 qs55 q133 q1521, ⟨rfl, by decide +kernel, by decide +kernel, by decide +kernel⟩, rfl, rfl⟩
theorem cv_X1_400 : mm_CV RX1 400 yX1_firstFree cX1_firstFree 6 (some .int) 2 1 := ⟨RX1, TX1, 26, _, lw_V q1526 q1528 qs56 q133 q1529, ⟨rfl, by decide +kernel, by decide +kernel, by decide +kernel⟩, rfl, rfl⟩
/-! X1 livesHour -/
def fX1_livesHour_b101 (K : mm_K) (th : Nat)  (s1 : Nat) (s2 : Int32) (P : mm_P) : Option (Int32 × mm_P) :=
  mm_bd (fX1_passes K th s1 s2 P) fun r1 =>
  some (r1.1, r1.2)
set_option maxHeartbeats 4000000 in
theorem wfX1_livesHour_b101 {E : mm_E} (C : mm_Cx E RX1 cX1_livesHour 4 (some .int) 605 13923) {K : mm_K} {th : Nat} (hk : K.1 th = 1) {nx sl : Nat} (s1 : Nat) (s2 : Int32) (P : mm_P) : mm_V E (mm_wwI K nx sl) 101 [none, none, none, none] [.int s2, .ref s1, .ref th] K P nx sl (fX1_livesHour_b101 K th s1 s2 P) := by
  unfold fX1_livesHour_b101
  refine r_bd fun r1 h2 => ?_
  refine r_callV (As := [.ref s1, .int s2]) (st := []) C (mc_X1_passes hk h2) cv_X1_293 hk rfl (Nat.le_of_ble_eq_true rfl) (Nat.le_of_ble_eq_true rfl) rfl (Nat.le_of_ble_eq_true rfl) dX1_livesHour_101 ?_
  exact r_iret C dX1_livesHour_104 rfl
def fX1_livesHour_b78 (K : mm_K) (th : Nat)  (x1 : Nat) (P : mm_P) : Option (Int32 × mm_P) :=
  mm_bd (fX1_draws th (10 : Int32) P) fun r1 =>
  mm_bd (gR r1.2 130 th) fun b3 =>
  mm_gd (K.1 b3 = 3) <|
  mm_bd (fX3_gusts b3 r1.2) fun r5 =>
  if r5 ≤ r1.1 then
  (fX1_livesHour_b101 K th x1 (0 : Int32) r1.2)
  else
  (fX1_livesHour_b101 K th x1 (3 : Int32) r1.2)
set_option maxHeartbeats 4000000 in
theorem wfX1_livesHour_b78 {E : mm_E} (C : mm_Cx E RX1 cX1_livesHour 4 (some .int) 605 13923) {K : mm_K} {th : Nat} (hk : K.1 th = 1) {nx sl : Nat} (x1 : Nat) (P : mm_P) : mm_V E (mm_wwI K nx sl) 78 [some (.ref th), some (.ref x1), none, none] [] K P nx sl (fX1_livesHour_b78 K th x1 P) := by
  unfold fX1_livesHour_b78
  refine r_aload_n C dX1_livesHour_78 rfl rfl ?_
  refine r_aload_n C dX1_livesHour_79 rfl rfl ?_
  refine r_aload_n C dX1_livesHour_80 rfl rfl ?_
  refine r_bipush (v := 10) C dX1_livesHour_81 rfl ?_
  refine r_bd fun r1 h2 => ?_
  refine r_callV (As := [.int (10 : Int32)]) (st := [.ref x1, .ref th]) C (mc_X1_draws hk h2) cv_X1_397 hk rfl (Nat.le_of_ble_eq_true rfl) (Nat.le_of_ble_eq_true rfl) rfl (Nat.le_of_ble_eq_true rfl) dX1_livesHour_83 ?_
  refine r_aload_n C dX1_livesHour_86 rfl rfl ?_
  refine r_getRn (code := 130) C fl_X1_35 hk rfl dX1_livesHour_87 fun b3 h4 => ?_
  refine r_gd fun hK7 => ?_
  refine r_bd fun r5 h6 => ?_
  refine r_callV (As := []) (st := [.int r1.1, .ref x1, .ref th]) C (mc_X3_gusts hK7 h6) cv_X1_336 hK7 rfl (Nat.le_of_ble_eq_true rfl) (Nat.le_of_ble_eq_true rfl) rfl (Nat.le_of_ble_eq_true rfl) dX1_livesHour_90 ?_
  refine r_icmpge (tgt := 100) C dX1_livesHour_93 (by decide) (fun h8 => ?_) (fun h8 => ?_)
  · refine r_iconst (v := 0) C dX1_livesHour_100 rfl ?_
    refine r_mask [false, false, true, true] (ls' := [none, none, none, none]) rfl ?_
    exact wfX1_livesHour_b101 C hk x1 (0 : Int32) r1.2
  · refine r_iconst (v := 3) C dX1_livesHour_96 rfl ?_
    refine r_goto (tgt := 101) C dX1_livesHour_97 (by decide) ?_
    refine r_mask [false, false, true, true] (ls' := [none, none, none, none]) rfl ?_
    exact wfX1_livesHour_b101 C hk x1 (3 : Int32) r1.2
def fX1_livesHour (K : mm_K) (th : Nat) (x1 : Nat) (P : mm_P) : Option (Int32 × mm_P) :=
  mm_bd (fX1_cloths K th P) fun r1 =>
  if r1 ≤ 0 then
  (fX1_livesHour_b78 K th x1 P)
  else
  (mm_bd (fX1_cloths K th P) fun r4 =>
  mm_bd (fX1_draws th r4 P) fun r6 =>
  mm_gd (K.1 x1 = 4) <|
  mm_bd (fX4_by x1 r6.2 r6.1) fun r8 =>
  if r8 = 0 then
  (mm_bd (fX1_firstFree K th r6.2 x1 r6.1) fun r12 =>
  mm_bd (fJ17_bitCount r12) fun r14 =>
  mm_bd (fX1_cloth_2 K th r6.2 r6.1) fun r16 =>
  mm_bd (fV_needs K r16) fun r18 =>
  if r14 ≠ r18 then
  (fX1_livesHour_b78 K th x1 r6.2)
  else
  (mm_bd (fX1_canHang K th r6.2 x1 r6.1 r12) fun r21 =>
  if r21 = 0 then
  (fX1_livesHour_b78 K th x1 r6.2)
  else
  (mm_bd (fX4_hangs x1 r6.1 r12 r6.2) fun r24 =>
  fX1_livesHour_b78 K th x1 r24)))
  else
  (mm_bd (fX1_draws th (4 : Int32) r6.2) fun r26 =>
  if r26.1 ≠ 0 then
  (fX1_livesHour_b78 K th x1 r26.2)
  else
  (mm_bd (fX4_comesIn x1 r6.1 r26.2) fun r29 =>
  fX1_livesHour_b78 K th x1 r29)))
set_option maxHeartbeats 4000000 in
theorem mc_X1_livesHour {l : Launch} {K : mm_K} {P : mm_P} {th : Nat} {x1 : Nat} {nx sl : Nat} {r : (Int32 × mm_P)} (hk : K.1 th = 1) (h : fX1_livesHour K th x1 P = some r) : mm_C l yX1_livesHour (ws_ yX1_livesHour cX1_livesHour 4 (some .int)) 605 13923 [.ref th, .ref x1] K P nx sl (mm_wwI K nx sl r) :=
  mm_start (ls := [some (.ref th), some (.ref x1), none, none]) h (by decide) (Nat.le_of_ble_eq_true rfl) rfl (Nat.le_refl _) (Nat.le_refl _) rfl fun E hl9 _ _ _ C => by
  have C : mm_Cx E RX1 cX1_livesHour 4 (some .int) 605 13923 := C
  unfold fX1_livesHour
  refine r_aload_n C dX1_livesHour_0 rfl rfl ?_
  refine r_bd fun r1 h2 => ?_
  refine r_callV (As := []) (st := []) C (mc_X1_cloths hk h2) cv_X1_148 hk rfl (Nat.le_of_ble_eq_true rfl) (Nat.le_of_ble_eq_true rfl) rfl (Nat.le_of_ble_eq_true rfl) dX1_livesHour_1 ?_
  refine r_ifle (tgt := 78) C dX1_livesHour_4 (by decide) (fun h3 => ?_) (fun h3 => ?_)
  · exact wfX1_livesHour_b78 C hk x1 P
  · refine r_aload_n C dX1_livesHour_7 rfl rfl ?_
    refine r_aload_n C dX1_livesHour_8 rfl rfl ?_
    refine r_bd fun r4 h5 => ?_
    refine r_callV (As := []) (st := [.ref th]) C (mc_X1_cloths hk h5) cv_X1_148 hk rfl (Nat.le_of_ble_eq_true rfl) (Nat.le_of_ble_eq_true rfl) rfl (Nat.le_of_ble_eq_true rfl) dX1_livesHour_9 ?_
    refine r_bd fun r6 h7 => ?_
    refine r_callV (As := [.int r4]) (st := []) C (mc_X1_draws hk h7) cv_X1_397 hk rfl (Nat.le_of_ble_eq_true rfl) (Nat.le_of_ble_eq_true rfl) rfl (Nat.le_of_ble_eq_true rfl) dX1_livesHour_12 ?_
    refine r_istore_n (ls' := [some (.ref th), some (.ref x1), some (.int r6.1), none]) C dX1_livesHour_15 rfl (Nat.le_of_ble_eq_true rfl) rfl rfl ?_
    refine r_aload_n C dX1_livesHour_16 rfl rfl ?_
    refine r_iload_n C dX1_livesHour_17 rfl rfl ?_
    refine r_gd fun hK10 => ?_
    refine r_bd fun r8 h9 => ?_
    refine r_callV (As := [.int r6.1]) (st := []) C (mc_X4_by hK10 h9) cv_X1_157 hK10 rfl (Nat.le_of_ble_eq_true rfl) (Nat.le_of_ble_eq_true rfl) rfl (Nat.le_of_ble_eq_true rfl) dX1_livesHour_18 ?_
    refine r_ifeq (tgt := 40) C dX1_livesHour_21 (by decide) (fun h11 => ?_) (fun h11 => ?_)
    · refine r_aload_n C dX1_livesHour_40 rfl rfl ?_
      refine r_aload_n C dX1_livesHour_41 rfl rfl ?_
      refine r_iload_n C dX1_livesHour_42 rfl rfl ?_
      refine r_bd fun r12 h13 => ?_
      refine r_callV (As := [.ref x1, .int r6.1]) (st := []) C (mc_X1_firstFree hk h13) cv_X1_400 hk rfl (Nat.le_of_ble_eq_true rfl) (Nat.le_of_ble_eq_true rfl) rfl (Nat.le_of_ble_eq_true rfl) dX1_livesHour_43 ?_
      refine r_istore_n (ls' := [some (.ref th), some (.ref x1), some (.int r6.1), some (.int r12)]) C dX1_livesHour_46 rfl (Nat.le_of_ble_eq_true rfl) rfl rfl ?_
      refine r_iload_n C dX1_livesHour_47 rfl rfl ?_
      refine r_bd fun r14 h15 => ?_
      refine r_callS (As := [.int r12]) (st := []) C (mc_J17_bitCount h15) cv_X1_161  rfl (Nat.le_of_ble_eq_true rfl) (Nat.le_of_ble_eq_true rfl) rfl (Nat.le_of_ble_eq_true rfl) dX1_livesHour_48 ?_
      refine r_aload_n C dX1_livesHour_51 rfl rfl ?_
      refine r_iload_n C dX1_livesHour_52 rfl rfl ?_
      refine r_bd fun r16 h17 => ?_
      refine r_callV (As := [.int r6.1]) (st := [.int r14]) C (mc_X1_cloth_2 hk h17) cv_X1_166 hk rfl (Nat.le_of_ble_eq_true rfl) (Nat.le_of_ble_eq_true rfl) rfl (Nat.le_of_ble_eq_true rfl) dX1_livesHour_53 ?_
      refine r_bd fun r18 h19 => ?_
      refine vd_X1_170 (st := [.int r14]) C (dv_needs h19) (Nat.le_of_ble_eq_true rfl) (Nat.le_of_ble_eq_true rfl) rfl (Nat.le_of_ble_eq_true rfl) dX1_livesHour_56 ?_
      refine r_icmpne (tgt := 78) C dX1_livesHour_59 (by decide) (fun h20 => ?_) (fun h20 => ?_)
      · refine r_mask [true, true, false, false] (ls' := [some (.ref th), some (.ref x1), none, none]) rfl ?_
        exact wfX1_livesHour_b78 C hk x1 r6.2
      · refine r_aload_n C dX1_livesHour_62 rfl rfl ?_
        refine r_aload_n C dX1_livesHour_63 rfl rfl ?_
        refine r_iload_n C dX1_livesHour_64 rfl rfl ?_
        refine r_iload_n C dX1_livesHour_65 rfl rfl ?_
        refine r_bd fun r21 h22 => ?_
        refine r_callV (As := [.ref x1, .int r6.1, .int r12]) (st := []) C (mc_X1_canHang hk h22) cv_X1_280 hk rfl (Nat.le_of_ble_eq_true rfl) (Nat.le_of_ble_eq_true rfl) rfl (Nat.le_of_ble_eq_true rfl) dX1_livesHour_66 ?_
        refine r_ifeq (tgt := 78) C dX1_livesHour_69 (by decide) (fun h23 => ?_) (fun h23 => ?_)
        · refine r_mask [true, true, false, false] (ls' := [some (.ref th), some (.ref x1), none, none]) rfl ?_
          exact wfX1_livesHour_b78 C hk x1 r6.2
        · refine r_aload_n C dX1_livesHour_72 rfl rfl ?_
          refine r_iload_n C dX1_livesHour_73 rfl rfl ?_
          refine r_iload_n C dX1_livesHour_74 rfl rfl ?_
          refine r_bd fun r24 h25 => ?_
          refine r_callVv (As := [.int r6.1, .int r12]) (st := []) C (mc_X4_hangs hK10 h25) cv_X1_286 hK10 rfl (Nat.le_of_ble_eq_true rfl) (Nat.le_of_ble_eq_true rfl) rfl (Nat.le_of_ble_eq_true rfl) dX1_livesHour_75 ?_
          refine r_mask [true, true, false, false] (ls' := [some (.ref th), some (.ref x1), none, none]) rfl ?_
          exact wfX1_livesHour_b78 C hk x1 r24
    · refine r_aload_n C dX1_livesHour_24 rfl rfl ?_
      refine r_iconst (v := 4) C dX1_livesHour_25 rfl ?_
      refine r_bd fun r26 h27 => ?_
      refine r_callV (As := [.int (4 : Int32)]) (st := []) C (mc_X1_draws hk h27) cv_X1_397 hk rfl (Nat.le_of_ble_eq_true rfl) (Nat.le_of_ble_eq_true rfl) rfl (Nat.le_of_ble_eq_true rfl) dX1_livesHour_26 ?_
      refine r_ifne (tgt := 78) C dX1_livesHour_29 (by decide) (fun h28 => ?_) (fun h28 => ?_)
      · refine r_mask [true, true, false, true] (ls' := [some (.ref th), some (.ref x1), none, none]) rfl ?_
        exact wfX1_livesHour_b78 C hk x1 r26.2
      · refine r_aload_n C dX1_livesHour_32 rfl rfl ?_
        refine r_iload_n C dX1_livesHour_33 rfl rfl ?_
        refine r_bd fun r29 h30 => ?_
        refine r_callVv (As := [.int r6.1]) (st := []) C (mc_X4_comesIn hK10 h30) cv_X1_290 hK10 rfl (Nat.le_of_ble_eq_true rfl) (Nat.le_of_ble_eq_true rfl) rfl (Nat.le_of_ble_eq_true rfl) dX1_livesHour_34 ?_
        refine r_goto (tgt := 78) C dX1_livesHour_37 (by decide) ?_
        refine r_mask [true, true, false, true] (ls' := [some (.ref th), some (.ref x1), none, none]) rfl ?_
        exact wfX1_livesHour_b78 C hk x1 r29
theorem cv_X1_403 : mm_CV RX1 403 yX1_livesHour cX1_livesHour 4 (some .int) 1 1 := ⟨RX1, TX1, 26, _, lw_V q1514 q1516 qs54 q133 q1517, ⟨rfl, by decide +kernel, by decide +kernel, by decide +kernel⟩, rfl, rfl⟩
/-! X1 decades -/
def fX1_decades_b58 (K : mm_K) (th : Nat)  : Nat → Int32 → Int32 → Int32 → Int32 → Int32 → mm_P → Option (Int32 × mm_P)
  | 0, _, _, _, _, _, _ => none
  | n + 1, x2, x3, x4, x5, x6, P =>
  if x2 ≤ x6 then
  (if x3 ≠ 0 then
  (if x3 ≠ (1 : Int32) then
  (mm_bd (gR P 133 th) fun b4 =>
  mm_gd (K.1 b4 = 4) <|
  mm_bd (fX4_grips b4 P (255 : Int32)) fun r6 =>
  some (r6, P))
  else
  (some (x5, P)))
  else
  (some (x4, P)))
  else
  (mm_bd (gR P 133 th) fun b9 =>
  mm_bd (fX1_livesHour K th b9 P) fun r11 =>
  mm_lt (x5 + r11.1) fun v13 =>
  mm_bd (gR r11.2 133 th) fun b14 =>
  mm_bd (fX1_lawsOf K th r11.2 b14) fun r16 =>
  mm_bd (fJ17_bitCount r16) fun r18 =>
  mm_lt (x4 + r18) fun v20 =>
  fX1_decades_b58 K th n x2 x3 v20 v13 (x6 + (1 : Int32)) r11.2)
set_option maxHeartbeats 4000000 in
theorem wfX1_decades_b58 {E : mm_E} (C : mm_Cx E RX1 cX1_decades 7 (some .int) 606 13946) {K : mm_K} {th : Nat} (hk : K.1 th = 1) {nx sl : Nat} : ∀ (n : Nat), ∀ (x2 : Int32) (x3 : Int32) (x4 : Int32) (x5 : Int32) (x6 : Int32) (P : mm_P), mm_V E (mm_wwI K nx sl) 58 [some (.ref th), none, some (.int x2), some (.int x3), some (.int x4), some (.int x5), some (.int x6)] [] K P nx sl (fX1_decades_b58 K th n x2 x3 x4 x5 x6 P) := by
  intro n
  induction n with
  | zero => intro x2 x3 x4 x5 x6 P; exact r_none
  | succ n ih =>
    intro x2 x3 x4 x5 x6 P
    rw [fX1_decades_b58]
    refine r_iload C dX1_decades_58 rfl ?_
    refine r_iload_n C dX1_decades_60 rfl rfl ?_
    refine r_icmpge (tgt := 99) C dX1_decades_61 (by decide) (fun h1 => ?_) (fun h1 => ?_)
    · refine r_iload_n C dX1_decades_99 rfl rfl ?_
      refine r_ifne (tgt := 108) C dX1_decades_100 (by decide) (fun h2 => ?_) (fun h2 => ?_)
      · refine r_iload_n C dX1_decades_108 rfl rfl ?_
        refine r_iconst (v := 1) C dX1_decades_109 rfl ?_
        refine r_icmpne (tgt := 118) C dX1_decades_110 (by decide) (fun h3 => ?_) (fun h3 => ?_)
        · refine r_aload_n C dX1_decades_118 rfl rfl ?_
          refine r_getRn (code := 133) C fl_X1_55 hk rfl dX1_decades_119 fun b4 h5 => ?_
          refine r_sipush (v := 255) C dX1_decades_122 rfl ?_
          refine r_gd fun hK8 => ?_
          refine r_bd fun r6 h7 => ?_
          refine r_callV (As := [.int (255 : Int32)]) (st := []) C (mc_X4_grips hK8 h7) cv_X1_232 hK8 rfl (Nat.le_of_ble_eq_true rfl) (Nat.le_of_ble_eq_true rfl) rfl (Nat.le_of_ble_eq_true rfl) dX1_decades_125 ?_
          exact r_iret C dX1_decades_128 rfl
        · refine r_iload C dX1_decades_113 rfl ?_
          refine r_goto (tgt := 128) C dX1_decades_115 (by decide) ?_
          exact r_iret C dX1_decades_128 rfl
      · refine r_iload C dX1_decades_103 rfl ?_
        refine r_goto (tgt := 128) C dX1_decades_105 (by decide) ?_
        exact r_iret C dX1_decades_128 rfl
    · refine r_iload C dX1_decades_64 rfl ?_
      refine r_aload_n C dX1_decades_66 rfl rfl ?_
      refine r_aload_n C dX1_decades_67 rfl rfl ?_
      refine r_getRn (code := 133) C fl_X1_55 hk rfl dX1_decades_68 fun b9 h10 => ?_
      refine r_bd fun r11 h12 => ?_
      refine r_callV (As := [.ref b9]) (st := [.int x5]) C (mc_X1_livesHour hk h12) cv_X1_403 hk rfl (Nat.le_of_ble_eq_true rfl) (Nat.le_of_ble_eq_true rfl) rfl (Nat.le_of_ble_eq_true rfl) dX1_decades_71 ?_
      refine r_iadd C dX1_decades_74 ?_
      refine r_ltI fun v13 => ?_
      refine r_istore (ls' := [some (.ref th), none, some (.int x2), some (.int x3), some (.int x4), some (.int v13), some (.int x6)]) C dX1_decades_75 (Nat.le_of_ble_eq_true rfl) rfl rfl ?_
      refine r_iload C dX1_decades_77 rfl ?_
      refine r_aload_n C dX1_decades_79 rfl rfl ?_
      refine r_aload_n C dX1_decades_80 rfl rfl ?_
      refine r_getRn (code := 133) C fl_X1_55 hk rfl dX1_decades_81 fun b14 h15 => ?_
      refine r_bd fun r16 h17 => ?_
      refine r_callV (As := [.ref b14]) (st := [.int x4]) C (mc_X1_lawsOf hk h17) cv_X1_273 hk rfl (Nat.le_of_ble_eq_true rfl) (Nat.le_of_ble_eq_true rfl) rfl (Nat.le_of_ble_eq_true rfl) dX1_decades_84 ?_
      refine r_bd fun r18 h19 => ?_
      refine r_callS (As := [.int r16]) (st := [.int x4]) C (mc_J17_bitCount h19) cv_X1_161  rfl (Nat.le_of_ble_eq_true rfl) (Nat.le_of_ble_eq_true rfl) rfl (Nat.le_of_ble_eq_true rfl) dX1_decades_87 ?_
      refine r_iadd C dX1_decades_90 ?_
      refine r_ltI fun v20 => ?_
      refine r_istore (ls' := [some (.ref th), none, some (.int x2), some (.int x3), some (.int v20), some (.int v13), some (.int x6)]) C dX1_decades_91 (Nat.le_of_ble_eq_true rfl) rfl rfl ?_
      refine r_iinc (v := 1) (ls' := [some (.ref th), none, some (.int x2), some (.int x3), some (.int v20), some (.int v13), some (.int (x6 + (1 : Int32)))]) C dX1_decades_93 rfl rfl (Nat.le_of_ble_eq_true rfl) rfl rfl ?_
      refine r_goto (tgt := 58) C dX1_decades_96 (by decide) ?_
      exact ih x2 x3 v20 v13 (x6 + (1 : Int32)) r11.2
def fX1_decades (K : mm_K) (th : Nat) (x1 : Int32) (x2 : Int32) (x3 : Int32) (P : mm_P) : Option (Int32 × mm_P) :=
  mm_bd (fX1_in x1 (0 : Int32) (9999 : Int32)) fun r1 =>
  if r1 = 0 then
  (some ((-1 : Int32), P))
  else
  (mm_bd (fX1_in x2 (1 : Int32) (60 : Int32)) fun r4 =>
  if r4 = 0 then
  (some ((-1 : Int32), P))
  else
  (mm_bd (fX1_in x3 (0 : Int32) (2 : Int32)) fun r7 =>
  if r7 ≠ 0 then
  (mm_lt (sJ P 152 th x1.toInt64) fun P10 =>
  mm_bd (gR P10 133 th) fun b11 =>
  mm_bd (gR P10 132 th) fun b13 =>
  mm_gd (K.1 b11 = 4) <|
  mm_bd (fX4_be K b11 b13 P10) fun r15 =>
  fX1_decades_b58 K th mm_NF x2 x3 (0 : Int32) (0 : Int32) (0 : Int32) r15)
  else
  (some ((-1 : Int32), P))))
set_option maxHeartbeats 4000000 in
theorem mc_X1_decades {l : Launch} {K : mm_K} {P : mm_P} {th : Nat} {x1 : Int32} {x2 : Int32} {x3 : Int32} {nx sl : Nat} {r : (Int32 × mm_P)} (hk : K.1 th = 1) (h : fX1_decades K th x1 x2 x3 P = some r) : mm_C l yX1_decades (ws_ yX1_decades cX1_decades 7 (some .int)) 606 13946 [.ref th, .int x1, .int x2, .int x3] K P nx sl (mm_wwI K nx sl r) :=
  mm_start (ls := [some (.ref th), some (.int x1), some (.int x2), some (.int x3), none, none, none]) h (by decide) (Nat.le_of_ble_eq_true rfl) rfl (Nat.le_refl _) (Nat.le_refl _) rfl fun E hl9 _ _ _ C => by
  have C : mm_Cx E RX1 cX1_decades 7 (some .int) 606 13946 := C
  unfold fX1_decades
  refine r_iload_n C dX1_decades_0 rfl rfl ?_
  refine r_iconst (v := 0) C dX1_decades_1 rfl ?_
  refine r_sipush (v := 9999) C dX1_decades_2 rfl ?_
  refine r_bd fun r1 h2 => ?_
  refine r_callS (As := [.int x1, .int (0 : Int32), .int (9999 : Int32)]) (st := []) C (mc_X1_in h2) cv_X1_150  rfl (Nat.le_of_ble_eq_true rfl) (Nat.le_of_ble_eq_true rfl) rfl (Nat.le_of_ble_eq_true rfl) dX1_decades_5 ?_
  refine r_ifeq (tgt := 30) C dX1_decades_8 (by decide) (fun h3 => ?_) (fun h3 => ?_)
  · refine r_iconst (v := -1) C dX1_decades_30 rfl ?_
    exact r_iret C dX1_decades_31 rfl
  · refine r_iload_n C dX1_decades_11 rfl rfl ?_
    refine r_iconst (v := 1) C dX1_decades_12 rfl ?_
    refine r_bipush (v := 60) C dX1_decades_13 rfl ?_
    refine r_bd fun r4 h5 => ?_
    refine r_callS (As := [.int x2, .int (1 : Int32), .int (60 : Int32)]) (st := []) C (mc_X1_in h5) cv_X1_150  rfl (Nat.le_of_ble_eq_true rfl) (Nat.le_of_ble_eq_true rfl) rfl (Nat.le_of_ble_eq_true rfl) dX1_decades_15 ?_
    refine r_ifeq (tgt := 30) C dX1_decades_18 (by decide) (fun h6 => ?_) (fun h6 => ?_)
    · refine r_iconst (v := -1) C dX1_decades_30 rfl ?_
      exact r_iret C dX1_decades_31 rfl
    · refine r_iload_n C dX1_decades_21 rfl rfl ?_
      refine r_iconst (v := 0) C dX1_decades_22 rfl ?_
      refine r_iconst (v := 2) C dX1_decades_23 rfl ?_
      refine r_bd fun r7 h8 => ?_
      refine r_callS (As := [.int x3, .int (0 : Int32), .int (2 : Int32)]) (st := []) C (mc_X1_in h8) cv_X1_150  rfl (Nat.le_of_ble_eq_true rfl) (Nat.le_of_ble_eq_true rfl) rfl (Nat.le_of_ble_eq_true rfl) dX1_decades_24 ?_
      refine r_ifne (tgt := 32) C dX1_decades_27 (by decide) (fun h9 => ?_) (fun h9 => ?_)
      · refine r_aload_n C dX1_decades_32 rfl rfl ?_
        refine r_iload_n C dX1_decades_33 rfl rfl ?_
        refine r_i2l C dX1_decades_34 ?_
        refine r_putJ (code := 152) C fl_X1_385 hk rfl rfl dX1_decades_35 ?_
        refine r_ltP fun P10 => ?_
        refine r_aload_n C dX1_decades_38 rfl rfl ?_
        refine r_getRn (code := 133) C fl_X1_55 hk rfl dX1_decades_39 fun b11 h12 => ?_
        refine r_aload_n C dX1_decades_42 rfl rfl ?_
        refine r_getRn (code := 132) C fl_X1_51 hk rfl dX1_decades_43 fun b13 h14 => ?_
        refine r_gd fun hK17 => ?_
        refine r_bd fun r15 h16 => ?_
        refine r_callVv (As := [.ref b13]) (st := []) C (mc_X4_be hK17 h16) cv_X1_276 hK17 rfl (Nat.le_of_ble_eq_true rfl) (Nat.le_of_ble_eq_true rfl) rfl (Nat.le_of_ble_eq_true rfl) dX1_decades_46 ?_
        refine r_iconst (v := 0) C dX1_decades_49 rfl ?_
        refine r_istore (ls' := [some (.ref th), some (.int x1), some (.int x2), some (.int x3), some (.int (0 : Int32)), none, none]) C dX1_decades_50 (Nat.le_of_ble_eq_true rfl) rfl rfl ?_
        refine r_iconst (v := 0) C dX1_decades_52 rfl ?_
        refine r_istore (ls' := [some (.ref th), some (.int x1), some (.int x2), some (.int x3), some (.int (0 : Int32)), some (.int (0 : Int32)), none]) C dX1_decades_53 (Nat.le_of_ble_eq_true rfl) rfl rfl ?_
        refine r_iconst (v := 0) C dX1_decades_55 rfl ?_
        refine r_istore (ls' := [some (.ref th), some (.int x1), some (.int x2), some (.int x3), some (.int (0 : Int32)), some (.int (0 : Int32)), some (.int (0 : Int32))]) C dX1_decades_56 (Nat.le_of_ble_eq_true rfl) rfl rfl ?_
        refine r_mask [true, false, true, true, true, true, true] (ls' := [some (.ref th), none, some (.int x2), some (.int x3), some (.int (0 : Int32)), some (.int (0 : Int32)), some (.int (0 : Int32))]) rfl ?_
        exact wfX1_decades_b58 C hk mm_NF x2 x3 (0 : Int32) (0 : Int32) (0 : Int32) r15
      · refine r_iconst (v := -1) C dX1_decades_30 rfl ?_
        exact r_iret C dX1_decades_31 rfl
/-! X1 turned -/
def fX1_turned_b4 (K : mm_K) (th : Nat) (P : mm_P)  : Nat → Int32 → Int32 → Option Int32
  | 0, _, _ => none
  | n + 1, x1, x2 =>
  mm_bd (fX1_cloths K th P) fun r1 =>
  if r1 ≤ x2 then
  (some (x1))
  else
  (mm_bd (gR P 132 th) fun b4 =>
  mm_bd (fX1_isTurned K th P b4 x2) fun r6 =>
  if r6 = 0 then
  (fX1_turned_b4 K th P n x1 (x2 + (1 : Int32)))
  else
  (mm_lt (x1 ||| (mm_shl (1 : Int32) x2)) fun v9 =>
  fX1_turned_b4 K th P n v9 (x2 + (1 : Int32))))
set_option maxHeartbeats 4000000 in
theorem wfX1_turned_b4 {E : mm_E} (C : mm_Cx E RX1 cX1_turned 3 (some .int) 2 45) {K : mm_K} {th : Nat} (hk : K.1 th = 1) {P : mm_P} {nx sl : Nat} : ∀ (n : Nat), ∀ (x1 : Int32) (x2 : Int32), mm_V E (mm_wrI K P nx sl) 4 [some (.ref th), some (.int x1), some (.int x2)] [] K P nx sl (fX1_turned_b4 K th P n x1 x2) := by
  intro n
  induction n with
  | zero => intro x1 x2; exact r_none
  | succ n ih =>
    intro x1 x2
    rw [fX1_turned_b4]
    refine r_iload_n C dX1_turned_4 rfl rfl ?_
    refine r_aload_n C dX1_turned_5 rfl rfl ?_
    refine r_bd fun r1 h2 => ?_
    refine r_callV (As := []) (st := [.int x2]) C (mc_X1_cloths hk h2) cv_X1_148 hk rfl (Nat.le_of_ble_eq_true rfl) (Nat.le_of_ble_eq_true rfl) rfl (Nat.le_of_ble_eq_true rfl) dX1_turned_6 ?_
    refine r_icmpge (tgt := 36) C dX1_turned_9 (by decide) (fun h3 => ?_) (fun h3 => ?_)
    · refine r_iload_n C dX1_turned_36 rfl rfl ?_
      exact r_iret C dX1_turned_37 rfl
    · refine r_aload_n C dX1_turned_12 rfl rfl ?_
      refine r_aload_n C dX1_turned_13 rfl rfl ?_
      refine r_getRn (code := 132) C fl_X1_51 hk rfl dX1_turned_14 fun b4 h5 => ?_
      refine r_iload_n C dX1_turned_17 rfl rfl ?_
      refine r_bd fun r6 h7 => ?_
      refine r_callV (As := [.ref b4, .int x2]) (st := []) C (mc_X1_isTurned hk h7) cv_X1_261 hk rfl (Nat.le_of_ble_eq_true rfl) (Nat.le_of_ble_eq_true rfl) rfl (Nat.le_of_ble_eq_true rfl) dX1_turned_18 ?_
      refine r_ifeq (tgt := 30) C dX1_turned_21 (by decide) (fun h8 => ?_) (fun h8 => ?_)
      · refine r_iinc (v := 1) (ls' := [some (.ref th), some (.int x1), some (.int (x2 + (1 : Int32)))]) C dX1_turned_30 rfl rfl (Nat.le_of_ble_eq_true rfl) rfl rfl ?_
        refine r_goto (tgt := 4) C dX1_turned_33 (by decide) ?_
        exact ih x1 (x2 + (1 : Int32))
      · refine r_iload_n C dX1_turned_24 rfl rfl ?_
        refine r_iconst (v := 1) C dX1_turned_25 rfl ?_
        refine r_iload_n C dX1_turned_26 rfl rfl ?_
        refine r_ishl C dX1_turned_27 ?_
        refine r_ior C dX1_turned_28 ?_
        refine r_ltI fun v9 => ?_
        refine r_istore_n (ls' := [some (.ref th), some (.int v9), some (.int x2)]) C dX1_turned_29 rfl (Nat.le_of_ble_eq_true rfl) rfl rfl ?_
        refine r_iinc (v := 1) (ls' := [some (.ref th), some (.int v9), some (.int (x2 + (1 : Int32)))]) C dX1_turned_30 rfl rfl (Nat.le_of_ble_eq_true rfl) rfl rfl ?_
        refine r_goto (tgt := 4) C dX1_turned_33 (by decide) ?_
        exact ih v9 (x2 + (1 : Int32))
def fX1_turned (K : mm_K) (th : Nat) (P : mm_P)  : Option Int32 :=
  fX1_turned_b4 K th P mm_NF (0 : Int32) (0 : Int32)
set_option maxHeartbeats 4000000 in
theorem mc_X1_turned {l : Launch} {K : mm_K} {P : mm_P} {th : Nat}  {nx sl : Nat} {r : Int32} (hk : K.1 th = 1) (h : fX1_turned K th P = some r) : mm_C l yX1_turned (ws_ yX1_turned cX1_turned 3 (some .int)) 2 45 [.ref th] K P nx sl (mm_wrI K P nx sl r) :=
  mm_start (ls := [some (.ref th), none, none]) h (by decide) (Nat.le_of_ble_eq_true rfl) rfl (Nat.le_refl _) (Nat.le_refl _) rfl fun E hl9 _ _ _ C => by
  have C : mm_Cx E RX1 cX1_turned 3 (some .int) 2 45 := C
  unfold fX1_turned
  refine r_iconst (v := 0) C dX1_turned_0 rfl ?_
  refine r_istore_n (ls' := [some (.ref th), some (.int (0 : Int32)), none]) C dX1_turned_1 rfl (Nat.le_of_ble_eq_true rfl) rfl rfl ?_
  refine r_iconst (v := 0) C dX1_turned_2 rfl ?_
  refine r_istore_n (ls' := [some (.ref th), some (.int (0 : Int32)), some (.int (0 : Int32))]) C dX1_turned_3 rfl (Nat.le_of_ble_eq_true rfl) rfl rfl ?_
  exact wfX1_turned_b4 C hk mm_NF (0 : Int32) (0 : Int32)
theorem fl_X1_418 : mm_FL RX1 418 3 6 mm_i .int false := ⟨RX3, TX3, 11, _, tyX3, rfl, in_X3, rfl, rfl, Nat.le_of_ble_eq_true rfl, Or.inr (Or.inl ⟨_, nw_in q266 rfl⟩), tyX3_ok, nmX3, rfl, rfl⟩
theorem fl_X1_44 : mm_FL RX1 44 1 3 mm_r (tyX1 3) false := ⟨RX1, TX1, 26, _, tyX1, rfl, in_X1, rfl, rfl, Nat.le_of_ble_eq_true rfl, Or.inl q346, tyX1_ok, nmX1, rfl, rfl⟩
theorem cv_X1_415 : mm_CV RX1 415 yX1_turned cX1_turned 3 (some .int) 0 1 := ⟨RX1, TX1, 26, _, lw_V q1565 q1567 qs57 q133 q1568, ⟨rfl, by decide +kernel, by decide +kernel, by decide +kernel⟩, rfl, rfl⟩
/-! X1 count -/
def fX1_count (K : mm_K) (th : Nat) (P : mm_P) (x1 : Int32) : Option Int32 :=
  if x1 = (0 : Int32) then
  (mm_bd (fX1_cloths K th P) fun r2 =>
  some (r2))
  else
  (if x1 = (1 : Int32) then
  (mm_bd (gR P 132 th) fun b5 =>
  mm_gd (K.1 b5 = 4) <|
  some (gI P 517 b5))
  else
  (if x1 = (2 : Int32) then
  (mm_bd (gR P 130 th) fun b9 =>
  mm_gd (K.1 b9 = 3) <|
  mm_bd (fX3_yards b9 P) fun r11 =>
  some (r11))
  else
  (if x1 = (3 : Int32) then
  (mm_bd (gR P 132 th) fun b15 =>
  mm_bd (fX1_left K th P b15) fun r17 =>
  some (r17))
  else
  (if x1 = (4 : Int32) then
  (mm_bd (gR P 132 th) fun b20 =>
  mm_gd (K.1 b20 = 4) <|
  some (gI P 516 b20))
  else
  (if x1 = (5 : Int32) then
  (mm_bd (gR P 130 th) fun b24 =>
  mm_bd (gR P 132 th) fun b26 =>
  mm_gd (K.1 b26 = 4) <|
  mm_gd (K.1 b24 = 3) <|
  mm_bd (fX3_wind b24 P (gI P 516 b26)) fun r29 =>
  some (r29))
  else
  (if x1 = (6 : Int32) then
  (mm_bd (fX1_laws K th P) fun r33 =>
  mm_bd (fX1_worthOf K th P r33) fun r35 =>
  some (r35))
  else
  (if x1 = (7 : Int32) then
  (mm_bd (fX1_turned K th P) fun r38 =>
  some (r38))
  else
  (if x1 = (8 : Int32) then
  (mm_bd (gR P 130 th) fun b41 =>
  mm_gd (K.1 b41 = 3) <|
  some (gI P 390 b41))
  else
  (if x1 = (9 : Int32) then
  (mm_bd (gR P 131 th) fun b45 =>
  mm_gd (K.1 b45 = 21) <|
  mm_bd (fJ2_size b45 P) fun r47 =>
  some (r47))
  else
  (if x1 = (10 : Int32) then
  (some (gI P 150 th))
  else
  (if x1 = (11 : Int32) then
  (some (gI P 137 th))
  else
  (if x1 = (12 : Int32) then
  (some (gI P 135 th))
  else
  (some ((-1 : Int32)))))))))))))))
set_option maxHeartbeats 4000000 in
theorem mc_X1_count {l : Launch} {K : mm_K} {P : mm_P} {th : Nat} {x1 : Int32} {nx sl : Nat} {r : Int32} (hk : K.1 th = 1) (h : fX1_count K th P x1 = some r) : mm_C l yX1_count (ws_ yX1_count cX1_count 2 (some .int)) 7 150 [.ref th, .int x1] K P nx sl (mm_wrI K P nx sl r) :=
  mm_start (ls := [some (.ref th), some (.int x1)]) h (by decide) (Nat.le_of_ble_eq_true rfl) rfl (Nat.le_refl _) (Nat.le_refl _) rfl fun E hl9 _ _ _ C => by
  have C : mm_Cx E RX1 cX1_count 2 (some .int) 7 150 := C
  unfold fX1_count
  refine r_iload_n C dX1_count_0 rfl rfl ?_
  refine r_if (fun h1 => ?_) (fun h1 => ?_)
  · refine r_tableC (tgt := 68) (off := 67) C dX1_count_1 h1 (by decide) (by decide) (by decide) (by decide) ?_
    refine r_aload_n C dX1_count_68 rfl rfl ?_
    refine r_bd fun r2 h3 => ?_
    refine r_callV (As := []) (st := []) C (mc_X1_cloths hk h3) cv_X1_148 hk rfl (Nat.le_of_ble_eq_true rfl) (Nat.le_of_ble_eq_true rfl) rfl (Nat.le_of_ble_eq_true rfl) dX1_count_69 ?_
    exact r_iret C dX1_count_72 rfl
  refine r_if (fun h4 => ?_) (fun h4 => ?_)
  · refine r_tableC (tgt := 73) (off := 72) C dX1_count_1 h4 (by decide) (by decide) (by decide) (by decide) ?_
    refine r_aload_n C dX1_count_73 rfl rfl ?_
    refine r_getRn (code := 132) C fl_X1_51 hk rfl dX1_count_74 fun b5 h6 => ?_
    refine r_gd fun hK7 => ?_
    refine r_getI (code := 517) C fl_X1_264 hK7 rfl dX1_count_77 ?_
    exact r_iret C dX1_count_80 rfl
  refine r_if (fun h8 => ?_) (fun h8 => ?_)
  · refine r_tableC (tgt := 81) (off := 80) C dX1_count_1 h8 (by decide) (by decide) (by decide) (by decide) ?_
    refine r_aload_n C dX1_count_81 rfl rfl ?_
    refine r_getRn (code := 130) C fl_X1_35 hk rfl dX1_count_82 fun b9 h10 => ?_
    refine r_gd fun hK13 => ?_
    refine r_bd fun r11 h12 => ?_
    refine r_callV (As := []) (st := []) C (mc_X3_yards hK13 h12) cv_X1_187 hK13 rfl (Nat.le_of_ble_eq_true rfl) (Nat.le_of_ble_eq_true rfl) rfl (Nat.le_of_ble_eq_true rfl) dX1_count_85 ?_
    exact r_iret C dX1_count_88 rfl
  refine r_if (fun h14 => ?_) (fun h14 => ?_)
  · refine r_tableC (tgt := 89) (off := 88) C dX1_count_1 h14 (by decide) (by decide) (by decide) (by decide) ?_
    refine r_aload_n C dX1_count_89 rfl rfl ?_
    refine r_aload_n C dX1_count_90 rfl rfl ?_
    refine r_getRn (code := 132) C fl_X1_51 hk rfl dX1_count_91 fun b15 h16 => ?_
    refine r_bd fun r17 h18 => ?_
    refine r_callV (As := [.ref b15]) (st := []) C (mc_X1_left hk h18) cv_X1_196 hk rfl (Nat.le_of_ble_eq_true rfl) (Nat.le_of_ble_eq_true rfl) rfl (Nat.le_of_ble_eq_true rfl) dX1_count_94 ?_
    exact r_iret C dX1_count_97 rfl
  refine r_if (fun h19 => ?_) (fun h19 => ?_)
  · refine r_tableC (tgt := 98) (off := 97) C dX1_count_1 h19 (by decide) (by decide) (by decide) (by decide) ?_
    refine r_aload_n C dX1_count_98 rfl rfl ?_
    refine r_getRn (code := 132) C fl_X1_51 hk rfl dX1_count_99 fun b20 h21 => ?_
    refine r_gd fun hK22 => ?_
    refine r_getI (code := 516) C fl_X1_244 hK22 rfl dX1_count_102 ?_
    exact r_iret C dX1_count_105 rfl
  refine r_if (fun h23 => ?_) (fun h23 => ?_)
  · refine r_tableC (tgt := 106) (off := 105) C dX1_count_1 h23 (by decide) (by decide) (by decide) (by decide) ?_
    refine r_aload_n C dX1_count_106 rfl rfl ?_
    refine r_getRn (code := 130) C fl_X1_35 hk rfl dX1_count_107 fun b24 h25 => ?_
    refine r_aload_n C dX1_count_110 rfl rfl ?_
    refine r_getRn (code := 132) C fl_X1_51 hk rfl dX1_count_111 fun b26 h27 => ?_
    refine r_gd fun hK28 => ?_
    refine r_getI (code := 516) C fl_X1_244 hK28 rfl dX1_count_114 ?_
    refine r_gd fun hK31 => ?_
    refine r_bd fun r29 h30 => ?_
    refine r_callV (As := [.int (gI P 516 b26)]) (st := []) C (mc_X3_wind hK31 h30) cv_X1_247 hK31 rfl (Nat.le_of_ble_eq_true rfl) (Nat.le_of_ble_eq_true rfl) rfl (Nat.le_of_ble_eq_true rfl) dX1_count_117 ?_
    exact r_iret C dX1_count_120 rfl
  refine r_if (fun h32 => ?_) (fun h32 => ?_)
  · refine r_tableC (tgt := 121) (off := 120) C dX1_count_1 h32 (by decide) (by decide) (by decide) (by decide) ?_
    refine r_aload_n C dX1_count_121 rfl rfl ?_
    refine r_aload_n C dX1_count_122 rfl rfl ?_
    refine r_bd fun r33 h34 => ?_
    refine r_callV (As := []) (st := [.ref th]) C (mc_X1_laws hk h34) cv_X1_316 hk rfl (Nat.le_of_ble_eq_true rfl) (Nat.le_of_ble_eq_true rfl) rfl (Nat.le_of_ble_eq_true rfl) dX1_count_123 ?_
    refine r_bd fun r35 h36 => ?_
    refine r_callV (As := [.int r33]) (st := []) C (mc_X1_worthOf hk h36) cv_X1_310 hk rfl (Nat.le_of_ble_eq_true rfl) (Nat.le_of_ble_eq_true rfl) rfl (Nat.le_of_ble_eq_true rfl) dX1_count_126 ?_
    exact r_iret C dX1_count_129 rfl
  refine r_if (fun h37 => ?_) (fun h37 => ?_)
  · refine r_tableC (tgt := 130) (off := 129) C dX1_count_1 h37 (by decide) (by decide) (by decide) (by decide) ?_
    refine r_aload_n C dX1_count_130 rfl rfl ?_
    refine r_bd fun r38 h39 => ?_
    refine r_callV (As := []) (st := []) C (mc_X1_turned hk h39) cv_X1_415 hk rfl (Nat.le_of_ble_eq_true rfl) (Nat.le_of_ble_eq_true rfl) rfl (Nat.le_of_ble_eq_true rfl) dX1_count_131 ?_
    exact r_iret C dX1_count_134 rfl
  refine r_if (fun h40 => ?_) (fun h40 => ?_)
  · refine r_tableC (tgt := 135) (off := 134) C dX1_count_1 h40 (by decide) (by decide) (by decide) (by decide) ?_
    refine r_aload_n C dX1_count_135 rfl rfl ?_
    refine r_getRn (code := 130) C fl_X1_35 hk rfl dX1_count_136 fun b41 h42 => ?_
    refine r_gd fun hK43 => ?_
    refine r_getI (code := 390) C fl_X1_418 hK43 rfl dX1_count_139 ?_
    exact r_iret C dX1_count_142 rfl
  refine r_if (fun h44 => ?_) (fun h44 => ?_)
  · refine r_tableC (tgt := 143) (off := 142) C dX1_count_1 h44 (by decide) (by decide) (by decide) (by decide) ?_
    refine r_aload_n C dX1_count_143 rfl rfl ?_
    refine r_getRn (code := 131) C fl_X1_44 hk rfl dX1_count_144 fun b45 h46 => ?_
    refine r_gd fun hK49 => ?_
    refine r_bd fun r47 h48 => ?_
    refine r_callV (As := []) (st := []) C (mc_J2_size hK49 h48) cv_X1_138 hK49 rfl (Nat.le_of_ble_eq_true rfl) (Nat.le_of_ble_eq_true rfl) rfl (Nat.le_of_ble_eq_true rfl) dX1_count_147 ?_
    exact r_iret C dX1_count_150 rfl
  refine r_if (fun h50 => ?_) (fun h50 => ?_)
  · refine r_tableC (tgt := 151) (off := 150) C dX1_count_1 h50 (by decide) (by decide) (by decide) (by decide) ?_
    refine r_aload_n C dX1_count_151 rfl rfl ?_
    refine r_getI (code := 150) C fl_X1_125 hk rfl dX1_count_152 ?_
    exact r_iret C dX1_count_155 rfl
  refine r_if (fun h51 => ?_) (fun h51 => ?_)
  · refine r_tableC (tgt := 156) (off := 155) C dX1_count_1 h51 (by decide) (by decide) (by decide) (by decide) ?_
    refine r_aload_n C dX1_count_156 rfl rfl ?_
    refine r_getI (code := 137) C fl_X1_128 hk rfl dX1_count_157 ?_
    exact r_iret C dX1_count_160 rfl
  refine r_if (fun h52 => ?_) (fun h52 => ?_)
  · refine r_tableC (tgt := 161) (off := 160) C dX1_count_1 h52 (by decide) (by decide) (by decide) (by decide) ?_
    refine r_aload_n C dX1_count_161 rfl rfl ?_
    refine r_getI (code := 135) C fl_X1_106 hk rfl dX1_count_162 ?_
    exact r_iret C dX1_count_165 rfl
  refine r_tableD (tgt := 166) (n := 13) C dX1_count_1 (mm_fa h1 (mm_fa h4 (mm_fa h8 (mm_fa h14 (mm_fa h19 (mm_fa h23 (mm_fa h32 (mm_fa h37 (mm_fa h40 (mm_fa h44 (mm_fa h50 (mm_fa h51 (mm_fa h52 (mm_fn)))))))))))))) (by decide +kernel) (by decide) (by decide) ?_
  refine r_iconst (v := -1) C dX1_count_166 rfl ?_
  exact r_iret C dX1_count_167 rfl
/-! X1 worthOf_2 -/
def fX1_worthOf_2  (x0 : Int32) (x1 : Int32) (x2 : Int32) (x3 : Int32) : Option Int32 :=
  if x3 ≠ 0 then
  (if x3 ≠ (1 : Int32) then
  (some (x2))
  else
  (some (x1)))
  else
  (some (x0))
set_option maxHeartbeats 4000000 in
theorem mc_X1_worthOf_2 {l : Launch} {K : mm_K} {P : mm_P} {x0 : Int32} {x1 : Int32} {x2 : Int32} {x3 : Int32} {nx sl : Nat} {r : Int32} (h : fX1_worthOf_2 x0 x1 x2 x3 = some r) : mm_C l yX1_worthOf_2 (ws_ yX1_worthOf_2 cX1_worthOf_2 4 (some .int)) 0 0 [.int x0, .int x1, .int x2, .int x3] K P nx sl (mm_wrI K P nx sl r) :=
  mm_start (ls := [some (.int x0), some (.int x1), some (.int x2), some (.int x3)]) h (by decide) (Nat.le_of_ble_eq_true rfl) rfl (Nat.le_refl _) (Nat.le_refl _) rfl fun E hl9 _ _ _ C => by
  have C : mm_Cx E RX1 cX1_worthOf_2 4 (some .int) 0 0 := C
  unfold fX1_worthOf_2
  refine r_iload_n C dX1_worthOf_2_0 rfl rfl ?_
  refine r_ifne (tgt := 8) C dX1_worthOf_2_1 (by decide) (fun h1 => ?_) (fun h1 => ?_)
  · refine r_iload_n C dX1_worthOf_2_8 rfl rfl ?_
    refine r_iconst (v := 1) C dX1_worthOf_2_9 rfl ?_
    refine r_icmpne (tgt := 17) C dX1_worthOf_2_10 (by decide) (fun h2 => ?_) (fun h2 => ?_)
    · refine r_iload_n C dX1_worthOf_2_17 rfl rfl ?_
      exact r_iret C dX1_worthOf_2_18 rfl
    · refine r_iload_n C dX1_worthOf_2_13 rfl rfl ?_
      refine r_goto (tgt := 18) C dX1_worthOf_2_14 (by decide) ?_
      exact r_iret C dX1_worthOf_2_18 rfl
  · refine r_iload_n C dX1_worthOf_2_4 rfl rfl ?_
    refine r_goto (tgt := 18) C dX1_worthOf_2_5 (by decide) ?_
    exact r_iret C dX1_worthOf_2_18 rfl
theorem cv_X1_374 : mm_CS RX1 374 yX1_worthOf_2 cX1_worthOf_2 4 (some .int) 4 := ⟨lw_S q1604 q1605 q133 q1606, by decide +kernel, by decide +kernel, by decide +kernel⟩
/-! X1 stolen -/
def fX1_stolen  (x0 : Int32) (x1 : Int32) (x2 : Int32) (x3 : Int32) (x4 : Int32) : Option Int32 :=
  if x3 ≠ x4 then
  (mm_bd (fX1_worthOf_2 x0 x1 x2 x4) fun r2 =>
  some (r2))
  else
  (some ((0 : Int32)))
set_option maxHeartbeats 4000000 in
theorem mc_X1_stolen {l : Launch} {K : mm_K} {P : mm_P} {x0 : Int32} {x1 : Int32} {x2 : Int32} {x3 : Int32} {x4 : Int32} {nx sl : Nat} {r : Int32} (h : fX1_stolen x0 x1 x2 x3 x4 = some r) : mm_C l yX1_stolen (ws_ yX1_stolen cX1_stolen 5 (some .int)) 1 23 [.int x0, .int x1, .int x2, .int x3, .int x4] K P nx sl (mm_wrI K P nx sl r) :=
  mm_start (ls := [some (.int x0), some (.int x1), some (.int x2), some (.int x3), some (.int x4)]) h (by decide) (Nat.le_of_ble_eq_true rfl) rfl (Nat.le_refl _) (Nat.le_refl _) rfl fun E hl9 _ _ _ C => by
  have C : mm_Cx E RX1 cX1_stolen 5 (some .int) 1 23 := C
  unfold fX1_stolen
  refine r_iload_n C dX1_stolen_0 rfl rfl ?_
  refine r_iload C dX1_stolen_1 rfl ?_
  refine r_icmpne (tgt := 10) C dX1_stolen_3 (by decide) (fun h1 => ?_) (fun h1 => ?_)
  · refine r_iload_n C dX1_stolen_10 rfl rfl ?_
    refine r_iload_n C dX1_stolen_11 rfl rfl ?_
    refine r_iload_n C dX1_stolen_12 rfl rfl ?_
    refine r_iload C dX1_stolen_13 rfl ?_
    refine r_bd fun r2 h3 => ?_
    refine r_callS (As := [.int x0, .int x1, .int x2, .int x4]) (st := []) C (mc_X1_worthOf_2 h3) cv_X1_374  rfl (Nat.le_of_ble_eq_true rfl) (Nat.le_of_ble_eq_true rfl) rfl (Nat.le_of_ble_eq_true rfl) dX1_stolen_15 ?_
    exact r_iret C dX1_stolen_18 rfl
  · refine r_iconst (v := 0) C dX1_stolen_6 rfl ?_
    refine r_goto (tgt := 18) C dX1_stolen_7 (by decide) ?_
    exact r_iret C dX1_stolen_18 rfl
