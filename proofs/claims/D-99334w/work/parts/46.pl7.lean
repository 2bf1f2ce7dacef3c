/-! printed by gen_pl.py: rests -/
set_option maxRecDepth 100000
/-! X1 need -/
def fX1_need  (x0 : Int32) (K : mm_K) (P : mm_P) (nx : Nat) (sl : Nat) : Option (mm_X mm_S) :=
  mm_mo (mm_wX mm_waV) nx sl <|
  if x0 ≠ 0 then
  (some (.inl (K, P, nx, sl)))
  else
  (mm_mo (mm_wX mm_waV) (nx + 1) (sl + 6) <|
  mm_lt (mm_kn K nx 55 0) fun K2 =>
  some (.inr (nx, K2, P, nx + 1, sl + 6)))
set_option maxHeartbeats 4000000 in
theorem mc_X1_need {l : Launch} {K : mm_K} {P : mm_P} {x0 : Int32} {nx sl : Nat} {r : (mm_X mm_S)} (hfl : l.stackTraces = false) (h : fX1_need x0 K P nx sl = some r) : mm_CX l yX1_need (ws_ yX1_need cX1_need 1 none) 6 100 [.int x0] K P nx sl ((mm_wX mm_waV) r) :=
  mm_startX (ls := [some (.int x0)]) h (by decide) (Nat.le_of_ble_eq_true rfl) rfl (mm_mo_some h).2.1 (mm_mo_some h).2.2 fun E hl9 _ _ hT C => by
  have hfl : (eL E).stackTraces = false := by rw [hl9]; exact hfl
  have C : mm_Cx E RX1 cX1_need 1 none 6 100 := C
  unfold fX1_need
  refine r_mo ?_
  refine r_iload_n C dX1_need_0 rfl rfl ?_
  refine r_ifne (tgt := 12) C dX1_need_1 (by decide) (fun h1 => ?_) (fun h1 => ?_)
  · exact r_vret C dX1_need_12 rfl
  · refine r_nsee C hfl dX1_need_4 dX1_need_7 dX1_need_8 (Nat.le_of_ble_eq_true rfl) (Nat.le_of_ble_eq_true rfl) (Nat.le_of_ble_eq_true rfl) ?_
    refine r_ltK fun K2 e3 => ?_
    exact r_athrow C (fun z hz => (hT z hz).elim) dX1_need_11 rfl
theorem cv_X1_377 : mm_CS RX1 377 yX1_need cX1_need 1 none 1 := ⟨lw_S q1577 q1578 q133 q1579, by decide +kernel, by decide +kernel, by decide +kernel⟩
theorem cv_X1_381 : mm_CS RX1 381 yX1_stolen cX1_stolen 5 (some .int) 5 := ⟨lw_S q1601 q1602 q133 q1603, by decide +kernel, by decide +kernel, by decide +kernel⟩
/-! X1 rests -/
def fX1_rests_b175 (th : Nat)  (x5 : Int32) (s0 : Int32) (K : mm_K) (P : mm_P) (nx : Nat) (sl : Nat) : Option (mm_X (Int32 × mm_S)) :=
  mm_bx (fX1_need s0 K P nx sl) fun r1 =>
  mm_mo (mm_wX mm_waI) r1.2.2.1 r1.2.2.2 <|
  some (.inl (x5, r1.1, r1.2.1, r1.2.2.1, r1.2.2.2))
set_option maxHeartbeats 4000000 in
theorem wfX1_rests_b175 {E : mm_E} (C : mm_Cx E RX1 cX1_rests 10 (some .int) 7 120) {th : Nat} (hfl : (eL E).stackTraces = false) (hT : ∀ z ∈ (eC E).exceptionTable.toList, False) (x5 : Int32) (s0 : Int32) (K : mm_K) (P : mm_P) (nx : Nat) (sl : Nat) : mm_V E ((mm_wX mm_waI)) 175 [none, none, none, none, none, some (.int x5), none, none, none, none] [.int s0] K P nx sl (fX1_rests_b175 th x5 s0 K P nx sl) := by
  unfold fX1_rests_b175
  refine r_bx (fun r1 h2 => ?_) (fun t3 h4 => ?_)
  · refine r_acallSv (As := [.int s0]) (st := []) C (mm_CX_n (mc_X1_need hfl h2) rfl) cv_X1_377  rfl (Nat.le_of_ble_eq_true rfl) (Nat.le_of_ble_eq_true rfl) rfl (Nat.le_of_ble_eq_true rfl) dX1_rests_175 ?_
    refine r_iload C dX1_rests_178 rfl ?_
    exact r_iret C dX1_rests_180 rfl
  · exact r_thrS (As := [.int s0]) (st := []) C (fun z hz => (hT z hz).elim) (mm_CX_t (mc_X1_need hfl h4) rfl) cv_X1_377  rfl (Nat.le_of_ble_eq_true rfl) (Nat.le_of_ble_eq_true rfl) rfl (Nat.le_of_ble_eq_true rfl) dX1_rests_175 rfl rfl
def fX1_rests_b79 (th : Nat) (k50 : Int32 → Int32 → Int32 → Int32 → Int32 → Int32 → mm_K → mm_P → Nat → Nat → Option (mm_X (Int32 × mm_S))) : Nat → Int32 → Int32 → Int32 → Int32 → Int32 → Int32 → Int32 → Int32 → Int32 → mm_K → mm_P → Nat → Nat → Option (mm_X (Int32 × mm_S))
  | 0, _, _, _, _, _, _, _, _, _, _, _, _, _ => none
  | n + 1, x1, x2, x3, x4, x5, x6, x7, x8, x9, K, P, nx, sl =>
  if (3 : Int32) ≤ x9 then
  (if x8 ≠ 0 then
  (if x5 ≠ x4 then
  (k50 x1 x2 x3 x4 (x5 + (1 : Int32)) (x6 + (1 : Int32)) K P nx sl)
  else
  (some (.inl (x6, K, P, nx, sl))))
  else
  (k50 x1 x2 x3 x4 x5 (x6 + (1 : Int32)) K P nx sl))
  else
  (if x8 = 0 then
  (fX1_rests_b79 th k50 n x1 x2 x3 x4 x5 x6 x7 (0 : Int32) (x9 + (1 : Int32)) K P nx sl)
  else
  (mm_bd (fX1_stolen x1 x2 x3 x9 (mm_rem x6 (3 : Int32))) fun r5 =>
  if r5 < x7 then
  (fX1_rests_b79 th k50 n x1 x2 x3 x4 x5 x6 x7 (0 : Int32) (x9 + (1 : Int32)) K P nx sl)
  else
  (mm_bd (fX1_stolen x1 x2 x3 (x6 / (3 : Int32)) x9) fun r8 =>
  if x7 < r8 then
  (fX1_rests_b79 th k50 n x1 x2 x3 x4 x5 x6 x7 (0 : Int32) (x9 + (1 : Int32)) K P nx sl)
  else
  (fX1_rests_b79 th k50 n x1 x2 x3 x4 x5 x6 x7 (1 : Int32) (x9 + (1 : Int32)) K P nx sl))))
set_option maxHeartbeats 4000000 in
theorem wfX1_rests_b79 {E : mm_E} (C : mm_Cx E RX1 cX1_rests 10 (some .int) 7 120) {th : Nat} (hfl : (eL E).stackTraces = false) (hT : ∀ z ∈ (eC E).exceptionTable.toList, False) {k50 : Int32 → Int32 → Int32 → Int32 → Int32 → Int32 → mm_K → mm_P → Nat → Nat → Option (mm_X (Int32 × mm_S))} (hk50 : ∀ (x1 : Int32) (x2 : Int32) (x3 : Int32) (x4 : Int32) (x5 : Int32) (x6 : Int32) (K : mm_K) (P : mm_P) (nx : Nat) (sl : Nat), mm_V E ((mm_wX mm_waI)) 50 [none, some (.int x1), some (.int x2), some (.int x3), some (.int x4), some (.int x5), some (.int x6), none, none, none] [] K P nx sl (k50 x1 x2 x3 x4 x5 x6 K P nx sl)) : ∀ (n : Nat), ∀ (x1 : Int32) (x2 : Int32) (x3 : Int32) (x4 : Int32) (x5 : Int32) (x6 : Int32) (x7 : Int32) (x8 : Int32) (x9 : Int32) (K : mm_K) (P : mm_P) (nx : Nat) (sl : Nat), mm_V E ((mm_wX mm_waI)) 79 [none, some (.int x1), some (.int x2), some (.int x3), some (.int x4), some (.int x5), some (.int x6), some (.int x7), some (.int x8), some (.int x9)] [] K P nx sl (fX1_rests_b79 th k50 n x1 x2 x3 x4 x5 x6 x7 x8 x9 K P nx sl) := by
  intro n
  induction n with
  | zero => intro x1 x2 x3 x4 x5 x6 x7 x8 x9 K P nx sl; exact r_none
  | succ n ih =>
    intro x1 x2 x3 x4 x5 x6 x7 x8 x9 K P nx sl
    rw [fX1_rests_b79]
    refine r_iload C dX1_rests_79 rfl ?_
    refine r_iconst (v := 3) C dX1_rests_81 rfl ?_
    refine r_icmpge (tgt := 137) C dX1_rests_82 (by decide) (fun h1 => ?_) (fun h1 => ?_)
    · refine r_iload C dX1_rests_137 rfl ?_
      refine r_ifne (tgt := 145) C dX1_rests_139 (by decide) (fun h2 => ?_) (fun h2 => ?_)
      · refine r_iload C dX1_rests_145 rfl ?_
        refine r_iload C dX1_rests_147 rfl ?_
        refine r_icmpne (tgt := 155) C dX1_rests_149 (by decide) (fun h3 => ?_) (fun h3 => ?_)
        · refine r_iinc (v := 1) (ls' := [none, some (.int x1), some (.int x2), some (.int x3), some (.int x4), some (.int (x5 + (1 : Int32))), some (.int x6), some (.int x7), some (.int x8), some (.int x9)]) C dX1_rests_155 rfl rfl (Nat.le_of_ble_eq_true rfl) rfl rfl ?_
          refine r_iinc (v := 1) (ls' := [none, some (.int x1), some (.int x2), some (.int x3), some (.int x4), some (.int (x5 + (1 : Int32))), some (.int (x6 + (1 : Int32))), some (.int x7), some (.int x8), some (.int x9)]) C dX1_rests_158 rfl rfl (Nat.le_of_ble_eq_true rfl) rfl rfl ?_
          refine r_goto (tgt := 50) C dX1_rests_161 (by decide) ?_
          refine r_mask [true, true, true, true, true, true, true, false, false, false] (ls' := [none, some (.int x1), some (.int x2), some (.int x3), some (.int x4), some (.int (x5 + (1 : Int32))), some (.int (x6 + (1 : Int32))), none, none, none]) rfl ?_
          exact hk50 x1 x2 x3 x4 (x5 + (1 : Int32)) (x6 + (1 : Int32)) K P nx sl
        · refine r_iload C dX1_rests_152 rfl ?_
          exact r_iret C dX1_rests_154 rfl
      · refine r_goto (tgt := 158) C dX1_rests_142 (by decide) ?_
        refine r_iinc (v := 1) (ls' := [none, some (.int x1), some (.int x2), some (.int x3), some (.int x4), some (.int x5), some (.int (x6 + (1 : Int32))), some (.int x7), some (.int x8), some (.int x9)]) C dX1_rests_158 rfl rfl (Nat.le_of_ble_eq_true rfl) rfl rfl ?_
        refine r_goto (tgt := 50) C dX1_rests_161 (by decide) ?_
        refine r_mask [true, true, true, true, true, true, true, false, false, false] (ls' := [none, some (.int x1), some (.int x2), some (.int x3), some (.int x4), some (.int x5), some (.int (x6 + (1 : Int32))), none, none, none]) rfl ?_
        exact hk50 x1 x2 x3 x4 x5 (x6 + (1 : Int32)) K P nx sl
    · refine r_iload C dX1_rests_85 rfl ?_
      refine r_ifeq (tgt := 128) C dX1_rests_87 (by decide) (fun h4 => ?_) (fun h4 => ?_)
      · refine r_iconst (v := 0) C dX1_rests_128 rfl ?_
        refine r_istore (ls' := [none, some (.int x1), some (.int x2), some (.int x3), some (.int x4), some (.int x5), some (.int x6), some (.int x7), some (.int (0 : Int32)), some (.int x9)]) C dX1_rests_129 (Nat.le_of_ble_eq_true rfl) rfl rfl ?_
        refine r_iinc (v := 1) (ls' := [none, some (.int x1), some (.int x2), some (.int x3), some (.int x4), some (.int x5), some (.int x6), some (.int x7), some (.int (0 : Int32)), some (.int (x9 + (1 : Int32)))]) C dX1_rests_131 rfl rfl (Nat.le_of_ble_eq_true rfl) rfl rfl ?_
        refine r_goto (tgt := 79) C dX1_rests_134 (by decide) ?_
        exact ih x1 x2 x3 x4 x5 x6 x7 (0 : Int32) (x9 + (1 : Int32)) K P nx sl
      · refine r_iload_n C dX1_rests_90 rfl rfl ?_
        refine r_iload_n C dX1_rests_91 rfl rfl ?_
        refine r_iload_n C dX1_rests_92 rfl rfl ?_
        refine r_iload C dX1_rests_93 rfl ?_
        refine r_iload C dX1_rests_95 rfl ?_
        refine r_iconst (v := 3) C dX1_rests_97 rfl ?_
        refine r_irem C dX1_rests_98 (by decide) ?_
        refine r_bd fun r5 h6 => ?_
        refine r_callS (As := [.int x1, .int x2, .int x3, .int x9, .int (mm_rem x6 (3 : Int32))]) (st := []) C (mc_X1_stolen h6) cv_X1_381  rfl (Nat.le_of_ble_eq_true rfl) (Nat.le_of_ble_eq_true rfl) rfl (Nat.le_of_ble_eq_true rfl) dX1_rests_99 ?_
        refine r_iload C dX1_rests_102 rfl ?_
        refine r_icmplt (tgt := 128) C dX1_rests_104 (by decide) (fun h7 => ?_) (fun h7 => ?_)
        · refine r_iconst (v := 0) C dX1_rests_128 rfl ?_
          refine r_istore (ls' := [none, some (.int x1), some (.int x2), some (.int x3), some (.int x4), some (.int x5), some (.int x6), some (.int x7), some (.int (0 : Int32)), some (.int x9)]) C dX1_rests_129 (Nat.le_of_ble_eq_true rfl) rfl rfl ?_
          refine r_iinc (v := 1) (ls' := [none, some (.int x1), some (.int x2), some (.int x3), some (.int x4), some (.int x5), some (.int x6), some (.int x7), some (.int (0 : Int32)), some (.int (x9 + (1 : Int32)))]) C dX1_rests_131 rfl rfl (Nat.le_of_ble_eq_true rfl) rfl rfl ?_
          refine r_goto (tgt := 79) C dX1_rests_134 (by decide) ?_
          exact ih x1 x2 x3 x4 x5 x6 x7 (0 : Int32) (x9 + (1 : Int32)) K P nx sl
        · refine r_iload_n C dX1_rests_107 rfl rfl ?_
          refine r_iload_n C dX1_rests_108 rfl rfl ?_
          refine r_iload_n C dX1_rests_109 rfl rfl ?_
          refine r_iload C dX1_rests_110 rfl ?_
          refine r_iconst (v := 3) C dX1_rests_112 rfl ?_
          refine r_idiv C dX1_rests_113 (by decide) ?_
          refine r_iload C dX1_rests_114 rfl ?_
          refine r_bd fun r8 h9 => ?_
          refine r_callS (As := [.int x1, .int x2, .int x3, .int (x6 / (3 : Int32)), .int x9]) (st := []) C (mc_X1_stolen h9) cv_X1_381  rfl (Nat.le_of_ble_eq_true rfl) (Nat.le_of_ble_eq_true rfl) rfl (Nat.le_of_ble_eq_true rfl) dX1_rests_116 ?_
          refine r_iload C dX1_rests_119 rfl ?_
          refine r_icmpgt (tgt := 128) C dX1_rests_121 (by decide) (fun h10 => ?_) (fun h10 => ?_)
          · refine r_iconst (v := 0) C dX1_rests_128 rfl ?_
            refine r_istore (ls' := [none, some (.int x1), some (.int x2), some (.int x3), some (.int x4), some (.int x5), some (.int x6), some (.int x7), some (.int (0 : Int32)), some (.int x9)]) C dX1_rests_129 (Nat.le_of_ble_eq_true rfl) rfl rfl ?_
            refine r_iinc (v := 1) (ls' := [none, some (.int x1), some (.int x2), some (.int x3), some (.int x4), some (.int x5), some (.int x6), some (.int x7), some (.int (0 : Int32)), some (.int (x9 + (1 : Int32)))]) C dX1_rests_131 rfl rfl (Nat.le_of_ble_eq_true rfl) rfl rfl ?_
            refine r_goto (tgt := 79) C dX1_rests_134 (by decide) ?_
            exact ih x1 x2 x3 x4 x5 x6 x7 (0 : Int32) (x9 + (1 : Int32)) K P nx sl
          · refine r_iconst (v := 1) C dX1_rests_124 rfl ?_
            refine r_goto (tgt := 129) C dX1_rests_125 (by decide) ?_
            refine r_istore (ls' := [none, some (.int x1), some (.int x2), some (.int x3), some (.int x4), some (.int x5), some (.int x6), some (.int x7), some (.int (1 : Int32)), some (.int x9)]) C dX1_rests_129 (Nat.le_of_ble_eq_true rfl) rfl rfl ?_
            refine r_iinc (v := 1) (ls' := [none, some (.int x1), some (.int x2), some (.int x3), some (.int x4), some (.int x5), some (.int x6), some (.int x7), some (.int (1 : Int32)), some (.int (x9 + (1 : Int32)))]) C dX1_rests_131 rfl rfl (Nat.le_of_ble_eq_true rfl) rfl rfl ?_
            refine r_goto (tgt := 79) C dX1_rests_134 (by decide) ?_
            exact ih x1 x2 x3 x4 x5 x6 x7 (1 : Int32) (x9 + (1 : Int32)) K P nx sl
def fX1_rests_b50 (th : Nat)  : Nat → Int32 → Int32 → Int32 → Int32 → Int32 → Int32 → mm_K → mm_P → Nat → Nat → Option (mm_X (Int32 × mm_S))
  | 0, _, _, _, _, _, _, _, _, _, _ => none
  | n + 1, x1, x2, x3, x4, x5, x6, K, P, nx, sl =>
  if (9 : Int32) ≤ x6 then
  (if x4 ≠ (-1 : Int32) then
  (fX1_rests_b175 th x5 (0 : Int32) K P nx sl)
  else
  (fX1_rests_b175 th x5 (1 : Int32) K P nx sl))
  else
  (mm_bd (fX1_stolen x1 x2 x3 (x6 / (3 : Int32)) (mm_rem x6 (3 : Int32))) fun r3 =>
  fX1_rests_b79 th (fX1_rests_b50 th n) mm_NF x1 x2 x3 x4 x5 x6 r3 (1 : Int32) (0 : Int32) K P nx sl)
set_option maxHeartbeats 4000000 in
theorem wfX1_rests_b50 {E : mm_E} (C : mm_Cx E RX1 cX1_rests 10 (some .int) 7 120) {th : Nat} (hfl : (eL E).stackTraces = false) (hT : ∀ z ∈ (eC E).exceptionTable.toList, False) : ∀ (n : Nat), ∀ (x1 : Int32) (x2 : Int32) (x3 : Int32) (x4 : Int32) (x5 : Int32) (x6 : Int32) (K : mm_K) (P : mm_P) (nx : Nat) (sl : Nat), mm_V E ((mm_wX mm_waI)) 50 [none, some (.int x1), some (.int x2), some (.int x3), some (.int x4), some (.int x5), some (.int x6), none, none, none] [] K P nx sl (fX1_rests_b50 th n x1 x2 x3 x4 x5 x6 K P nx sl) := by
  intro n
  induction n with
  | zero => intro x1 x2 x3 x4 x5 x6 K P nx sl; exact r_none
  | succ n ih =>
    intro x1 x2 x3 x4 x5 x6 K P nx sl
    rw [fX1_rests_b50]
    refine r_iload C dX1_rests_50 rfl ?_
    refine r_bipush (v := 9) C dX1_rests_52 rfl ?_
    refine r_icmpge (tgt := 164) C dX1_rests_54 (by decide) (fun h1 => ?_) (fun h1 => ?_)
    · refine r_iload C dX1_rests_164 rfl ?_
      refine r_iconst (v := -1) C dX1_rests_166 rfl ?_
      refine r_icmpne (tgt := 174) C dX1_rests_167 (by decide) (fun h2 => ?_) (fun h2 => ?_)
      · refine r_iconst (v := 0) C dX1_rests_174 rfl ?_
        refine r_mask [true, false, false, false, false, true, false, true, true, true] (ls' := [none, none, none, none, none, some (.int x5), none, none, none, none]) rfl ?_
        exact wfX1_rests_b175 C hfl hT x5 (0 : Int32) K P nx sl
      · refine r_iconst (v := 1) C dX1_rests_170 rfl ?_
        refine r_goto (tgt := 175) C dX1_rests_171 (by decide) ?_
        refine r_mask [true, false, false, false, false, true, false, true, true, true] (ls' := [none, none, none, none, none, some (.int x5), none, none, none, none]) rfl ?_
        exact wfX1_rests_b175 C hfl hT x5 (1 : Int32) K P nx sl
    · refine r_iload_n C dX1_rests_57 rfl rfl ?_
      refine r_iload_n C dX1_rests_58 rfl rfl ?_
      refine r_iload_n C dX1_rests_59 rfl rfl ?_
      refine r_iload C dX1_rests_60 rfl ?_
      refine r_iconst (v := 3) C dX1_rests_62 rfl ?_
      refine r_idiv C dX1_rests_63 (by decide) ?_
      refine r_iload C dX1_rests_64 rfl ?_
      refine r_iconst (v := 3) C dX1_rests_66 rfl ?_
      refine r_irem C dX1_rests_67 (by decide) ?_
      refine r_bd fun r3 h4 => ?_
      refine r_callS (As := [.int x1, .int x2, .int x3, .int (x6 / (3 : Int32)), .int (mm_rem x6 (3 : Int32))]) (st := []) C (mc_X1_stolen h4) cv_X1_381  rfl (Nat.le_of_ble_eq_true rfl) (Nat.le_of_ble_eq_true rfl) rfl (Nat.le_of_ble_eq_true rfl) dX1_rests_68 ?_
      refine r_istore (ls' := [none, some (.int x1), some (.int x2), some (.int x3), some (.int x4), some (.int x5), some (.int x6), some (.int r3), none, none]) C dX1_rests_71 (Nat.le_of_ble_eq_true rfl) rfl rfl ?_
      refine r_iconst (v := 1) C dX1_rests_73 rfl ?_
      refine r_istore (ls' := [none, some (.int x1), some (.int x2), some (.int x3), some (.int x4), some (.int x5), some (.int x6), some (.int r3), some (.int (1 : Int32)), none]) C dX1_rests_74 (Nat.le_of_ble_eq_true rfl) rfl rfl ?_
      refine r_iconst (v := 0) C dX1_rests_76 rfl ?_
      refine r_istore (ls' := [none, some (.int x1), some (.int x2), some (.int x3), some (.int x4), some (.int x5), some (.int x6), some (.int r3), some (.int (1 : Int32)), some (.int (0 : Int32))]) C dX1_rests_77 (Nat.le_of_ble_eq_true rfl) rfl rfl ?_
      exact wfX1_rests_b79 C hfl hT ih mm_NF x1 x2 x3 x4 x5 x6 r3 (1 : Int32) (0 : Int32) K P nx sl
def fX1_rests_b41 (th : Nat)  (x1 : Int32) (x2 : Int32) (x3 : Int32) (x4 : Int32) (s0 : Int32) (K : mm_K) (P : mm_P) (nx : Nat) (sl : Nat) : Option (mm_X (Int32 × mm_S)) :=
  mm_bx (fX1_need s0 K P nx sl) fun r1 =>
  mm_mo (mm_wX mm_waI) r1.2.2.1 r1.2.2.2 <|
  fX1_rests_b50 th mm_NF x1 x2 x3 x4 (0 : Int32) (0 : Int32) r1.1 r1.2.1 r1.2.2.1 r1.2.2.2
set_option maxHeartbeats 4000000 in
theorem wfX1_rests_b41 {E : mm_E} (C : mm_Cx E RX1 cX1_rests 10 (some .int) 7 120) {th : Nat} (hfl : (eL E).stackTraces = false) (hT : ∀ z ∈ (eC E).exceptionTable.toList, False) (x1 : Int32) (x2 : Int32) (x3 : Int32) (x4 : Int32) (s0 : Int32) (K : mm_K) (P : mm_P) (nx : Nat) (sl : Nat) : mm_V E ((mm_wX mm_waI)) 41 [none, some (.int x1), some (.int x2), some (.int x3), some (.int x4), none, none, none, none, none] [.int s0] K P nx sl (fX1_rests_b41 th x1 x2 x3 x4 s0 K P nx sl) := by
  unfold fX1_rests_b41
  refine r_bx (fun r1 h2 => ?_) (fun t3 h4 => ?_)
  · refine r_acallSv (As := [.int s0]) (st := []) C (mm_CX_n (mc_X1_need hfl h2) rfl) cv_X1_377  rfl (Nat.le_of_ble_eq_true rfl) (Nat.le_of_ble_eq_true rfl) rfl (Nat.le_of_ble_eq_true rfl) dX1_rests_41 ?_
    refine r_iconst (v := 0) C dX1_rests_44 rfl ?_
    refine r_istore (ls' := [none, some (.int x1), some (.int x2), some (.int x3), some (.int x4), some (.int (0 : Int32)), none, none, none, none]) C dX1_rests_45 (Nat.le_of_ble_eq_true rfl) rfl rfl ?_
    refine r_iconst (v := 0) C dX1_rests_47 rfl ?_
    refine r_istore (ls' := [none, some (.int x1), some (.int x2), some (.int x3), some (.int x4), some (.int (0 : Int32)), some (.int (0 : Int32)), none, none, none]) C dX1_rests_48 (Nat.le_of_ble_eq_true rfl) rfl rfl ?_
    exact wfX1_rests_b50 C hfl hT mm_NF x1 x2 x3 x4 (0 : Int32) (0 : Int32) r1.1 r1.2.1 r1.2.2.1 r1.2.2.2
  · exact r_thrS (As := [.int s0]) (st := []) C (fun z hz => (hT z hz).elim) (mm_CX_t (mc_X1_need hfl h4) rfl) cv_X1_377  rfl (Nat.le_of_ble_eq_true rfl) (Nat.le_of_ble_eq_true rfl) rfl (Nat.le_of_ble_eq_true rfl) dX1_rests_41 rfl rfl
def fX1_rests_b40 (th : Nat)  (x1 : Int32) (x2 : Int32) (x3 : Int32) (x4 : Int32) (K : mm_K) (P : mm_P) (nx : Nat) (sl : Nat) : Option (mm_X (Int32 × mm_S)) :=
  fX1_rests_b41 th x1 x2 x3 x4 (0 : Int32) K P nx sl
set_option maxHeartbeats 4000000 in
theorem wfX1_rests_b40 {E : mm_E} (C : mm_Cx E RX1 cX1_rests 10 (some .int) 7 120) {th : Nat} (hfl : (eL E).stackTraces = false) (hT : ∀ z ∈ (eC E).exceptionTable.toList, False) (x1 : Int32) (x2 : Int32) (x3 : Int32) (x4 : Int32) (K : mm_K) (P : mm_P) (nx : Nat) (sl : Nat) : mm_V E ((mm_wX mm_waI)) 40 [none, some (.int x1), some (.int x2), some (.int x3), some (.int x4), none, none, none, none, none] [] K P nx sl (fX1_rests_b40 th x1 x2 x3 x4 K P nx sl) := by
  unfold fX1_rests_b40
  refine r_iconst (v := 0) C dX1_rests_40 rfl ?_
  exact wfX1_rests_b41 C hfl hT x1 x2 x3 x4 (0 : Int32) K P nx sl
def fX1_rests (th : Nat) (x1 : Int32) (x2 : Int32) (x3 : Int32) (x4 : Int32) (K : mm_K) (P : mm_P) (nx : Nat) (sl : Nat) : Option (mm_X (Int32 × mm_S)) :=
  mm_mo (mm_wX mm_waI) nx sl <|
  mm_bd (fX1_in x1 (0 : Int32) (9 : Int32)) fun r1 =>
  if r1 = 0 then
  (fX1_rests_b40 th x1 x2 x3 x4 K P nx sl)
  else
  (mm_bd (fX1_in x2 (0 : Int32) (9 : Int32)) fun r4 =>
  if r4 = 0 then
  (fX1_rests_b40 th x1 x2 x3 x4 K P nx sl)
  else
  (mm_bd (fX1_in x3 (0 : Int32) (9 : Int32)) fun r7 =>
  if r7 = 0 then
  (fX1_rests_b40 th x1 x2 x3 x4 K P nx sl)
  else
  (if x4 < (-1 : Int32) then
  (fX1_rests_b40 th x1 x2 x3 x4 K P nx sl)
  else
  (fX1_rests_b41 th x1 x2 x3 x4 (1 : Int32) K P nx sl))))
set_option maxHeartbeats 4000000 in
theorem mc_X1_rests {l : Launch} {K : mm_K} {P : mm_P} {th : Nat} {x1 : Int32} {x2 : Int32} {x3 : Int32} {x4 : Int32} {nx sl : Nat} {r : (mm_X (Int32 × mm_S))} (hk : K.1 th = 1) (hfl : l.stackTraces = false) (h : fX1_rests th x1 x2 x3 x4 K P nx sl = some r) : mm_CX l yX1_rests (ws_ yX1_rests cX1_rests 10 (some .int)) 7 120 [.ref th, .int x1, .int x2, .int x3, .int x4] K P nx sl ((mm_wX mm_waI) r) :=
  mm_startX (ls := [some (.ref th), some (.int x1), some (.int x2), some (.int x3), some (.int x4), none, none, none, none, none]) h (by decide) (Nat.le_of_ble_eq_true rfl) rfl (mm_mo_some h).2.1 (mm_mo_some h).2.2 fun E hl9 _ _ hT C => by
  have hfl : (eL E).stackTraces = false := by rw [hl9]; exact hfl
  have C : mm_Cx E RX1 cX1_rests 10 (some .int) 7 120 := C
  unfold fX1_rests
  refine r_mo ?_
  refine r_iload_n C dX1_rests_0 rfl rfl ?_
  refine r_iconst (v := 0) C dX1_rests_1 rfl ?_
  refine r_bipush (v := 9) C dX1_rests_2 rfl ?_
  refine r_bd fun r1 h2 => ?_
  refine r_callS (As := [.int x1, .int (0 : Int32), .int (9 : Int32)]) (st := []) C (mc_X1_in h2) cv_X1_150  rfl (Nat.le_of_ble_eq_true rfl) (Nat.le_of_ble_eq_true rfl) rfl (Nat.le_of_ble_eq_true rfl) dX1_rests_4 ?_
  refine r_ifeq (tgt := 40) C dX1_rests_7 (by decide) (fun h3 => ?_) (fun h3 => ?_)
  · refine r_mask [false, true, true, true, true, true, true, true, true, true] (ls' := [none, some (.int x1), some (.int x2), some (.int x3), some (.int x4), none, none, none, none, none]) rfl ?_
    exact wfX1_rests_b40 C hfl hT x1 x2 x3 x4 K P nx sl
  · refine r_iload_n C dX1_rests_10 rfl rfl ?_
    refine r_iconst (v := 0) C dX1_rests_11 rfl ?_
    refine r_bipush (v := 9) C dX1_rests_12 rfl ?_
    refine r_bd fun r4 h5 => ?_
    refine r_callS (As := [.int x2, .int (0 : Int32), .int (9 : Int32)]) (st := []) C (mc_X1_in h5) cv_X1_150  rfl (Nat.le_of_ble_eq_true rfl) (Nat.le_of_ble_eq_true rfl) rfl (Nat.le_of_ble_eq_true rfl) dX1_rests_14 ?_
    refine r_ifeq (tgt := 40) C dX1_rests_17 (by decide) (fun h6 => ?_) (fun h6 => ?_)
    · refine r_mask [false, true, true, true, true, true, true, true, true, true] (ls' := [none, some (.int x1), some (.int x2), some (.int x3), some (.int x4), none, none, none, none, none]) rfl ?_
      exact wfX1_rests_b40 C hfl hT x1 x2 x3 x4 K P nx sl
    · refine r_iload_n C dX1_rests_20 rfl rfl ?_
      refine r_iconst (v := 0) C dX1_rests_21 rfl ?_
      refine r_bipush (v := 9) C dX1_rests_22 rfl ?_
      refine r_bd fun r7 h8 => ?_
      refine r_callS (As := [.int x3, .int (0 : Int32), .int (9 : Int32)]) (st := []) C (mc_X1_in h8) cv_X1_150  rfl (Nat.le_of_ble_eq_true rfl) (Nat.le_of_ble_eq_true rfl) rfl (Nat.le_of_ble_eq_true rfl) dX1_rests_24 ?_
      refine r_ifeq (tgt := 40) C dX1_rests_27 (by decide) (fun h9 => ?_) (fun h9 => ?_)
      · refine r_mask [false, true, true, true, true, true, true, true, true, true] (ls' := [none, some (.int x1), some (.int x2), some (.int x3), some (.int x4), none, none, none, none, none]) rfl ?_
        exact wfX1_rests_b40 C hfl hT x1 x2 x3 x4 K P nx sl
      · refine r_iload C dX1_rests_30 rfl ?_
        refine r_iconst (v := -1) C dX1_rests_32 rfl ?_
        refine r_icmplt (tgt := 40) C dX1_rests_33 (by decide) (fun h10 => ?_) (fun h10 => ?_)
        · refine r_mask [false, true, true, true, true, true, true, true, true, true] (ls' := [none, some (.int x1), some (.int x2), some (.int x3), some (.int x4), none, none, none, none, none]) rfl ?_
          exact wfX1_rests_b40 C hfl hT x1 x2 x3 x4 K P nx sl
        · refine r_iconst (v := 1) C dX1_rests_36 rfl ?_
          refine r_goto (tgt := 41) C dX1_rests_37 (by decide) ?_
          refine r_mask [false, true, true, true, true, true, true, true, true, true] (ls' := [none, some (.int x1), some (.int x2), some (.int x3), some (.int x4), none, none, none, none, none]) rfl ?_
          exact wfX1_rests_b41 C hfl hT x1 x2 x3 x4 (1 : Int32) K P nx sl
theorem cv_X0_7 : mm_CV RX0 7 yX1_rests cX1_rests 10 (some .int) 4 1 := ⟨RX1, TX1, 26, _, lw_V q1573 q1574 q1575 q133 q1576, ⟨rfl, by decide +kernel, by decide +kernel, by decide +kernel⟩, rfl, rfl⟩
/-! X0 rests -/
def fX0_rests  (x0 : Nat) (x1 : Int32) (x2 : Int32) (x3 : Int32) (x4 : Int32) (x5 : Nat) (K : mm_K) (P : mm_P) (nx : Nat) (sl : Nat) : Option (Int32 × mm_S) :=
  mm_mo mm_waI nx sl <|
  mm_gd (K.1 x0 = 1) <|
  mm_bc (fX1_rests x0 x1 x2 x3 x4 K P nx sl) (fun t4 =>
  mm_gd (t4.2.1.1 t4.1 = 55) <|
  mm_mo mm_waI t4.2.2.2.1 t4.2.2.2.2 <|
  some ((1 : Int32), t4.2.1, t4.2.2.1, t4.2.2.2.1, t4.2.2.2.2)) fun r1 =>
  mm_mo mm_waI r1.2.2.2.1 r1.2.2.2.2 <|
  mm_gd (r1.2.1.1 x5 = 66) <|
  mm_gd (mm_in (0 : Int32) (r1.2.1.2 x5)) <|
  mm_lt (sL r1.2.2.1 8194 x5 (0 : Int32).toNatClampNeg r1.1.toInt64) fun P9 =>
  some ((0 : Int32), r1.2.1, P9, r1.2.2.2.1, r1.2.2.2.2)
set_option maxHeartbeats 4000000 in
theorem mc_X0_rests {l : Launch} {K : mm_K} {P : mm_P} {x0 : Nat} {x1 : Int32} {x2 : Int32} {x3 : Int32} {x4 : Int32} {x5 : Nat} {nx sl : Nat} {r : (Int32 × mm_S)} (hfl : l.stackTraces = false) (h : fX0_rests x0 x1 x2 x3 x4 x5 K P nx sl = some r) : mm_C l yX0_rests (wsW_ yX0_rests cX0_rests 7 (some .int) [(0, 14, 17, 13)]) 8 149 [.ref x0, .int x1, .int x2, .int x3, .int x4, .ref x5] K P nx sl (mm_waI r) :=
  mm_startW (ls := [some (.ref x0), some (.int x1), some (.int x2), some (.int x3), some (.int x4), some (.ref x5), none]) h (by decide) (Nat.le_of_ble_eq_true rfl) rfl (mm_mo_some h).2.1 (mm_mo_some h).2.2 rfl fun E hl9 _ _ hT C => by
  have hfl : (eL E).stackTraces = false := by rw [hl9]; exact hfl
  have C : mm_Cx E RX0 cX0_rests 7 (some .int) 8 149 := C
  unfold fX0_rests
  refine r_mo ?_
  refine r_aload C dX0_rests_0 rfl ?_
  refine r_iconst (v := 0) C dX0_rests_2 rfl ?_
  refine r_aload_n C dX0_rests_3 rfl rfl ?_
  refine r_iload_n C dX0_rests_4 rfl rfl ?_
  refine r_iload_n C dX0_rests_5 rfl rfl ?_
  refine r_iload_n C dX0_rests_6 rfl rfl ?_
  refine r_iload C dX0_rests_7 rfl ?_
  refine r_gd fun hK3 => ?_
  refine r_bc (fun r1 h2 => ?_) (fun t4 h5 => ?_)
  · refine r_acallV (As := [.int x1, .int x2, .int x3, .int x4]) (st := [.int (0 : Int32), .ref x5]) C (mm_CX_n (mc_X1_rests hK3 hfl h2) rfl) cv_X0_7 hK3 rfl (Nat.le_of_ble_eq_true rfl) (Nat.le_of_ble_eq_true rfl) rfl (Nat.le_of_ble_eq_true rfl) dX0_rests_9 ?_
    refine r_i2l C dX0_rests_12 ?_
    refine r_gd fun hK7 => ?_
    refine r_last C (rg_sa (ek := 2) hK7) (mm_ro_of (k := 66) hK7 rfl) rfl dX0_rests_13 fun h8 => ?_
    refine r_ltP fun P9 => ?_
    refine r_goto (tgt := 21) C dX0_rests_14 (by decide) ?_
    refine r_iconst (v := 0) C dX0_rests_21 rfl ?_
    exact r_iret C dX0_rests_22 rfl
  · refine r_gd fun hK6 => ?_
    refine r_catW (As := [.int x1, .int x2, .int x3, .int x4]) (st := [.int (0 : Int32), .ref x5]) C hT ⟨by decide, by decide⟩ (by decide) (hp := 17) rfl q1572 (Or.inl rfl) (kq := 55) rfl rfl (mm_CX_t (mc_X1_rests hK3 hfl h5) rfl) hK6 cv_X0_7 hK3 rfl (Nat.le_of_ble_eq_true rfl) (Nat.le_of_ble_eq_true rfl) rfl (Nat.le_of_ble_eq_true rfl) dX0_rests_9 ?_
    refine r_astore (ls' := [some (.ref x0), some (.int x1), some (.int x2), some (.int x3), some (.int x4), some (.ref x5), some (.ref t4.1)]) C dX0_rests_17 (Nat.le_of_ble_eq_true rfl) rfl rfl ?_
    refine r_iconst (v := 1) C dX0_rests_19 rfl ?_
    exact r_iret C dX0_rests_20 rfl
