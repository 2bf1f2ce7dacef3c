/-! PegLawsLaw -/
set_option maxRecDepth 100000
def RX0 : String := "PegLawsLaw"
abbrev cX0_rests : ByteArray := method_3_code
def yX0_rests : MethodName := ⟨RX0, "rests", "(LPegLaws;IIII[J)I"⟩
def dkwX0_rests_0 : List UInt8 := [25, 5, 3, 42, 27, 28, 29, 21, 4, 182, 0, 7, 133, 80, 167, 0, 7, 58, 6, 4, 172, 3, 172]
abbrev dktX0_rests_0 : List UInt8 := dkwX0_rests_0 ++ []
theorem dksX0_rests_0 : cX0_rests.data.toList.drop 0 = dktX0_rests_0 := by decide +kernel
theorem dX0_rests_0 : decode cX0_rests 0 = .ok (.aload 5, 2) := dk_25 5 (dk_at dksX0_rests_0 0 rfl rfl)
theorem dX0_rests_2 : decode cX0_rests 2 = .ok (.iconst 0, 1) := dk_3 (dk_at dksX0_rests_0 2 rfl rfl)
theorem dX0_rests_3 : decode cX0_rests 3 = .ok (.aload_n 0, 1) := dk_42 (dk_at dksX0_rests_0 3 rfl rfl)
theorem dX0_rests_4 : decode cX0_rests 4 = .ok (.iload_n 1, 1) := dk_27 (dk_at dksX0_rests_0 4 rfl rfl)
theorem dX0_rests_5 : decode cX0_rests 5 = .ok (.iload_n 2, 1) := dk_28 (dk_at dksX0_rests_0 5 rfl rfl)
theorem dX0_rests_6 : decode cX0_rests 6 = .ok (.iload_n 3, 1) := dk_29 (dk_at dksX0_rests_0 6 rfl rfl)
theorem dX0_rests_7 : decode cX0_rests 7 = .ok (.iload 4, 2) := dk_21 4 (dk_at dksX0_rests_0 7 rfl rfl)
theorem dX0_rests_9 : decode cX0_rests 9 = .ok (.invokevirtual 7, 3) := dk_182 0 7 (dk_at dksX0_rests_0 9 rfl rfl)
theorem dX0_rests_12 : decode cX0_rests 12 = .ok (.i2l, 1) := dk_133 (dk_at dksX0_rests_0 12 rfl rfl)
theorem dX0_rests_13 : decode cX0_rests 13 = .ok (.lastore, 1) := dk_80 (dk_at dksX0_rests_0 13 rfl rfl)
theorem dX0_rests_14 : decode cX0_rests 14 = .ok (.goto 7, 3) := dk_167 0 7 (dk_at dksX0_rests_0 14 rfl rfl)
theorem dX0_rests_17 : decode cX0_rests 17 = .ok (.astore 6, 2) := dk_58 6 (dk_at dksX0_rests_0 17 rfl rfl)
theorem dX0_rests_19 : decode cX0_rests 19 = .ok (.iconst 1, 1) := dk_4 (dk_at dksX0_rests_0 19 rfl rfl)
theorem dX0_rests_20 : decode cX0_rests 20 = .ok (.ireturn, 1) := dk_172 (dk_at dksX0_rests_0 20 rfl rfl)
theorem dX0_rests_21 : decode cX0_rests 21 = .ok (.iconst 0, 1) := dk_3 (dk_at dksX0_rests_0 21 rfl rfl)
theorem dX0_rests_22 : decode cX0_rests 22 = .ok (.ireturn, 1) := dk_172 (dk_at dksX0_rests_0 22 rfl rfl)
theorem q132 : (Jvm.Cond.initialized "PegLawsLaw") ∈ lw_all := lw_g (lw_at lw_m1 0 rfl) rfl
theorem q175 : (Jvm.Cond.classLink "PegLawsLaw" (8 : Nat) "PegLaws") ∈ lw_all := lw_g (lw_at lw_m1 43 rfl) rfl
theorem q177 : (Jvm.Cond.methodLink "PegLawsLaw" (15 : Nat) ({ cls := "PegLaws", name := "<init>", desc := "()V" } : Jvm.MethodName)) ∈ lw_all := lw_g (lw_at lw_m1 45 rfl) rfl
theorem q422 : (Jvm.Cond.methodLink "PegLawsLaw" (21 : Nat) ({ cls := "PegLaws", name := "feed", desc := "(JJJ)I" } : Jvm.MethodName)) ∈ lw_all := lw_g (lw_at lw_m2 50 rfl) rfl
theorem q426 : (Jvm.Cond.methodLink "PegLawsLaw" (26 : Nat) ({ cls := "PegLaws", name := "line", desc := "()I" } : Jvm.MethodName)) ∈ lw_all := lw_g (lw_at lw_m2 54 rfl) rfl
theorem q1083 : (Jvm.Cond.methodLink "PegLawsLaw" (31 : Nat) ({ cls := "PegLaws", name := "day", desc := "()I" } : Jvm.MethodName)) ∈ lw_all := lw_g (lw_at lw_m4 231 rfl) rfl
theorem q1157 : (Jvm.Cond.methodLink "PegLawsLaw" (35 : Nat) ({ cls := "PegLaws", name := "cloth", desc := "(II)I" } : Jvm.MethodName)) ∈ lw_all := lw_g (lw_at lw_m5 65 rfl) rfl
theorem q1272 : (Jvm.Cond.methodLink "PegLawsLaw" (40 : Nat) ({ cls := "PegLaws", name := "peg", desc := "(II)I" } : Jvm.MethodName)) ∈ lw_all := lw_g (lw_at lw_m5 180 rfl) rfl
theorem q1276 : (Jvm.Cond.methodLink "PegLawsLaw" (48 : Nat) ({ cls := "PegLaws", name := "laws", desc := "()I" } : Jvm.MethodName)) ∈ lw_all := lw_g (lw_at lw_m5 184 rfl) rfl
theorem q1284 : (Jvm.Cond.methodLink "PegLawsLaw" (44 : Nat) ({ cls := "PegLaws", name := "free", desc := "()I" } : Jvm.MethodName)) ∈ lw_all := lw_g (lw_at lw_m5 192 rfl) rfl
theorem q1292 : (Jvm.Cond.methodLink "PegLawsLaw" (52 : Nat) ({ cls := "PegLaws", name := "hang", desc := "(II)I" } : Jvm.MethodName)) ∈ lw_all := lw_g (lw_at lw_m5 200 rfl) rfl
theorem q1324 : (Jvm.Cond.methodLink "PegLawsLaw" (56 : Nat) ({ cls := "PegLaws", name := "take", desc := "(I)Z" } : Jvm.MethodName)) ∈ lw_all := lw_g (lw_at lw_m5 232 rfl) rfl
theorem q1332 : (Jvm.Cond.methodLink "PegLawsLaw" (61 : Nat) ({ cls := "PegLaws", name := "wash", desc := "(I)I" } : Jvm.MethodName)) ∈ lw_all := lw_g (lw_at lw_m6 0 rfl) rfl
theorem q1336 : (Jvm.Cond.methodLink "PegLawsLaw" (66 : Nat) ({ cls := "PegLaws", name := "buy", desc := "(I)I" } : Jvm.MethodName)) ∈ lw_all := lw_g (lw_at lw_m6 4 rfl) rfl
theorem q1340 : (Jvm.Cond.methodLink "PegLawsLaw" (70 : Nat) ({ cls := "PegLaws", name := "hour", desc := "()I" } : Jvm.MethodName)) ∈ lw_all := lw_g (lw_at lw_m6 8 rfl) rfl
theorem q1371 : (Jvm.Cond.methodLink "PegLawsLaw" (74 : Nat) ({ cls := "PegLaws", name := "undo", desc := "()Z" } : Jvm.MethodName)) ∈ lw_all := lw_g (lw_at lw_m6 39 rfl) rfl
theorem q1375 : (Jvm.Cond.methodLink "PegLawsLaw" (79 : Nat) ({ cls := "PegLaws", name := "judged", desc := "(I)I" } : Jvm.MethodName)) ∈ lw_all := lw_g (lw_at lw_m6 43 rfl) rfl
theorem q1424 : (Jvm.Cond.methodLink "PegLawsLaw" (83 : Nat) ({ cls := "PegLaws", name := "holds", desc := "(I)I" } : Jvm.MethodName)) ∈ lw_all := lw_g (lw_at lw_m6 92 rfl) rfl
theorem q1428 : (Jvm.Cond.methodLink "PegLawsLaw" (87 : Nat) ({ cls := "PegLaws", name := "clashes", desc := "()I" } : Jvm.MethodName)) ∈ lw_all := lw_g (lw_at lw_m6 96 rfl) rfl
theorem q1437 : (Jvm.Cond.methodLink "PegLawsLaw" (91 : Nat) ({ cls := "PegLaws", name := "mend", desc := "(I)I" } : Jvm.MethodName)) ∈ lw_all := lw_g (lw_at lw_m6 105 rfl) rfl
theorem q1441 : (Jvm.Cond.methodLink "PegLawsLaw" (95 : Nat) ({ cls := "PegLaws", name := "fill", desc := "(II)I" } : Jvm.MethodName)) ∈ lw_all := lw_g (lw_at lw_m6 109 rfl) rfl
theorem q1454 : (Jvm.Cond.methodLink "PegLawsLaw" (99 : Nat) ({ cls := "PegLaws", name := "odds", desc := "(II)I" } : Jvm.MethodName)) ∈ lw_all := lw_g (lw_at lw_m6 122 rfl) rfl
theorem q1469 : (Jvm.Cond.methodLink "PegLawsLaw" (103 : Nat) ({ cls := "PegLaws", name := "dry", desc := "(I)I" } : Jvm.MethodName)) ∈ lw_all := lw_g (lw_at lw_m6 137 rfl) rfl
theorem q1481 : (Jvm.Cond.methodLink "PegLawsLaw" (107 : Nat) ({ cls := "PegLaws", name := "feel", desc := "(III)Z" } : Jvm.MethodName)) ∈ lw_all := lw_g (lw_at lw_m6 149 rfl) rfl
theorem q1485 : (Jvm.Cond.methodLink "PegLawsLaw" (112 : Nat) ({ cls := "PegLaws", name := "starts", desc := "()I" } : Jvm.MethodName)) ∈ lw_all := lw_g (lw_at lw_m6 153 rfl) rfl
theorem q1493 : (Jvm.Cond.methodLink "PegLawsLaw" (116 : Nat) ({ cls := "PegLaws", name := "ask", desc := "(I)I" } : Jvm.MethodName)) ∈ lw_all := lw_g (lw_at lw_m6 161 rfl) rfl
theorem q1502 : (Jvm.Cond.methodLink "PegLawsLaw" (120 : Nat) ({ cls := "PegLaws", name := "change", desc := "(I)I" } : Jvm.MethodName)) ∈ lw_all := lw_g (lw_at lw_m6 170 rfl) rfl
theorem q1510 : (Jvm.Cond.methodLink "PegLawsLaw" (133 : Nat) ({ cls := "PegLaws", name := "decades", desc := "(III)I" } : Jvm.MethodName)) ∈ lw_all := lw_g (lw_at lw_m6 178 rfl) rfl
theorem q1530 : (Jvm.Cond.methodLink "PegLawsLaw" (138 : Nat) ({ cls := "PegLaws", name := "mark", desc := "(IZ)Z" } : Jvm.MethodName)) ∈ lw_all := lw_g (lw_at lw_m6 198 rfl) rfl
theorem q1561 : (Jvm.Cond.methodLink "PegLawsLaw" (143 : Nat) ({ cls := "PegLaws", name := "count", desc := "(I)I" } : Jvm.MethodName)) ∈ lw_all := lw_g (lw_at lw_m6 229 rfl) rfl
theorem q1569 : (Jvm.Cond.methodLink "PegLawsLaw" (124 : Nat) ({ cls := "PegLawsLaw", name := "rests", desc := "(LPegLaws;IIII[J)I" } : Jvm.MethodName)) ∈ lw_all := lw_g (lw_at lw_m6 237 rfl) rfl
theorem q1570 : (Jvm.Cond.static ({ cls := "PegLawsLaw", name := "rests", desc := "(LPegLaws;IIII[J)I" } : Jvm.MethodName)) ∈ lw_all := lw_g (lw_at lw_m6 238 rfl) rfl
theorem q1571 : (Jvm.Cond.codeWith ({ cls := "PegLawsLaw", name := "rests", desc := "(LPegLaws;IIII[J)I" } : Jvm.MethodName) method_3_code (7 : Nat) (Option.some Jvm.ClassFile.FieldType.int) [((0 : Nat), (14 : Nat), (17 : Nat), (13 : Nat))]) ∈ lw_all := lw_g (lw_at lw_m6 239 rfl) rfl
theorem q1572 : (Jvm.Cond.classLink "PegLawsLaw" (13 : Nat) "java/util/NoSuchElementException") ∈ lw_all := lw_g (lw_at lw_m7 0 rfl) rfl
theorem q1573 : (Jvm.Cond.methodLink "PegLawsLaw" (7 : Nat) ({ cls := "PegLaws", name := "rests", desc := "(IIII)I" } : Jvm.MethodName)) ∈ lw_all := lw_g (lw_at lw_m7 1 rfl) rfl
theorem q1607 : (Jvm.Cond.methodLink "PegLawsLaw" (130 : Nat) ({ cls := "PegLawsModel", name := "thrown", desc := "()I" } : Jvm.MethodName)) ∈ lw_all := lw_g (lw_at lw_m7 35 rfl) rfl
theorem q1611 : (Jvm.Cond.methodLink "PegLawsLaw" (25 : Nat) ({ cls := "PegLawsModel", name := "feed", desc := "(JJJ)I" } : Jvm.MethodName)) ∈ lw_all := lw_g (lw_at lw_m7 39 rfl) rfl
theorem q1620 : (Jvm.Cond.classLink "PegLawsLaw" (16 : Nat) "PegLawsModel") ∈ lw_all := lw_g (lw_at lw_m7 48 rfl) rfl
theorem q1621 : (Jvm.Cond.methodLink "PegLawsLaw" (18 : Nat) ({ cls := "PegLawsModel", name := "<init>", desc := "()V" } : Jvm.MethodName)) ∈ lw_all := lw_g (lw_at lw_m7 49 rfl) rfl
theorem q1780 : (Jvm.Cond.methodLink "PegLawsLaw" (30 : Nat) ({ cls := "PegLawsModel", name := "line", desc := "()I" } : Jvm.MethodName)) ∈ lw_all := lw_g (lw_at lw_m7 208 rfl) rfl
theorem q1903 : (Jvm.Cond.methodLink "PegLawsLaw" (34 : Nat) ({ cls := "PegLawsModel", name := "day", desc := "()I" } : Jvm.MethodName)) ∈ lw_all := lw_g (lw_at lw_m8 91 rfl) rfl
theorem q1911 : (Jvm.Cond.methodLink "PegLawsLaw" (39 : Nat) ({ cls := "PegLawsModel", name := "cloth", desc := "(II)I" } : Jvm.MethodName)) ∈ lw_all := lw_g (lw_at lw_m8 99 rfl) rfl
theorem q1972 : (Jvm.Cond.methodLink "PegLawsLaw" (43 : Nat) ({ cls := "PegLawsModel", name := "peg", desc := "(II)I" } : Jvm.MethodName)) ∈ lw_all := lw_g (lw_at lw_m8 160 rfl) rfl
theorem q1980 : (Jvm.Cond.methodLink "PegLawsLaw" (51 : Nat) ({ cls := "PegLawsModel", name := "laws", desc := "()I" } : Jvm.MethodName)) ∈ lw_all := lw_g (lw_at lw_m8 168 rfl) rfl
theorem q1988 : (Jvm.Cond.methodLink "PegLawsLaw" (47 : Nat) ({ cls := "PegLawsModel", name := "free", desc := "()I" } : Jvm.MethodName)) ∈ lw_all := lw_g (lw_at lw_m8 176 rfl) rfl
theorem q1996 : (Jvm.Cond.methodLink "PegLawsLaw" (55 : Nat) ({ cls := "PegLawsModel", name := "hang", desc := "(II)I" } : Jvm.MethodName)) ∈ lw_all := lw_g (lw_at lw_m8 184 rfl) rfl
theorem q2016 : (Jvm.Cond.methodLink "PegLawsLaw" (60 : Nat) ({ cls := "PegLawsModel", name := "take", desc := "(I)Z" } : Jvm.MethodName)) ∈ lw_all := lw_g (lw_at lw_m8 204 rfl) rfl
theorem q2020 : (Jvm.Cond.methodLink "PegLawsLaw" (65 : Nat) ({ cls := "PegLawsModel", name := "wash", desc := "(I)I" } : Jvm.MethodName)) ∈ lw_all := lw_g (lw_at lw_m8 208 rfl) rfl
theorem q2028 : (Jvm.Cond.methodLink "PegLawsLaw" (69 : Nat) ({ cls := "PegLawsModel", name := "buy", desc := "(I)I" } : Jvm.MethodName)) ∈ lw_all := lw_g (lw_at lw_m8 216 rfl) rfl
theorem q2036 : (Jvm.Cond.methodLink "PegLawsLaw" (73 : Nat) ({ cls := "PegLawsModel", name := "hour", desc := "()I" } : Jvm.MethodName)) ∈ lw_all := lw_g (lw_at lw_m8 224 rfl) rfl
theorem q2068 : (Jvm.Cond.methodLink "PegLawsLaw" (78 : Nat) ({ cls := "PegLawsModel", name := "undo", desc := "()Z" } : Jvm.MethodName)) ∈ lw_all := lw_g (lw_at lw_m9 16 rfl) rfl
theorem q2072 : (Jvm.Cond.methodLink "PegLawsLaw" (82 : Nat) ({ cls := "PegLawsModel", name := "judged", desc := "(I)I" } : Jvm.MethodName)) ∈ lw_all := lw_g (lw_at lw_m9 20 rfl) rfl
theorem q2084 : (Jvm.Cond.methodLink "PegLawsLaw" (86 : Nat) ({ cls := "PegLawsModel", name := "holds", desc := "(I)I" } : Jvm.MethodName)) ∈ lw_all := lw_g (lw_at lw_m9 32 rfl) rfl
theorem q2088 : (Jvm.Cond.methodLink "PegLawsLaw" (90 : Nat) ({ cls := "PegLawsModel", name := "clashes", desc := "()I" } : Jvm.MethodName)) ∈ lw_all := lw_g (lw_at lw_m9 36 rfl) rfl
theorem q2096 : (Jvm.Cond.methodLink "PegLawsLaw" (94 : Nat) ({ cls := "PegLawsModel", name := "mend", desc := "(I)I" } : Jvm.MethodName)) ∈ lw_all := lw_g (lw_at lw_m9 44 rfl) rfl
theorem q2100 : (Jvm.Cond.methodLink "PegLawsLaw" (98 : Nat) ({ cls := "PegLawsModel", name := "fill", desc := "(II)I" } : Jvm.MethodName)) ∈ lw_all := lw_g (lw_at lw_m9 48 rfl) rfl
theorem q2112 : (Jvm.Cond.methodLink "PegLawsLaw" (102 : Nat) ({ cls := "PegLawsModel", name := "odds", desc := "(II)I" } : Jvm.MethodName)) ∈ lw_all := lw_g (lw_at lw_m9 60 rfl) rfl
theorem q2121 : (Jvm.Cond.methodLink "PegLawsLaw" (106 : Nat) ({ cls := "PegLawsModel", name := "dry", desc := "(I)I" } : Jvm.MethodName)) ∈ lw_all := lw_g (lw_at lw_m9 69 rfl) rfl
theorem q2133 : (Jvm.Cond.methodLink "PegLawsLaw" (111 : Nat) ({ cls := "PegLawsModel", name := "feel", desc := "(III)Z" } : Jvm.MethodName)) ∈ lw_all := lw_g (lw_at lw_m9 81 rfl) rfl
theorem q2137 : (Jvm.Cond.methodLink "PegLawsLaw" (115 : Nat) ({ cls := "PegLawsModel", name := "starts", desc := "()I" } : Jvm.MethodName)) ∈ lw_all := lw_g (lw_at lw_m9 85 rfl) rfl
theorem q2149 : (Jvm.Cond.methodLink "PegLawsLaw" (119 : Nat) ({ cls := "PegLawsModel", name := "ask", desc := "(I)I" } : Jvm.MethodName)) ∈ lw_all := lw_g (lw_at lw_m9 97 rfl) rfl
theorem q2153 : (Jvm.Cond.methodLink "PegLawsLaw" (123 : Nat) ({ cls := "PegLawsModel", name := "change", desc := "(I)I" } : Jvm.MethodName)) ∈ lw_all := lw_g (lw_at lw_m9 101 rfl) rfl
theorem q2161 : (Jvm.Cond.methodLink "PegLawsLaw" (129 : Nat) ({ cls := "PegLawsModel", name := "rests", desc := "(IIII)I" } : Jvm.MethodName)) ∈ lw_all := lw_g (lw_at lw_m9 109 rfl) rfl
theorem q2165 : (Jvm.Cond.methodLink "PegLawsLaw" (137 : Nat) ({ cls := "PegLawsModel", name := "decades", desc := "(III)I" } : Jvm.MethodName)) ∈ lw_all := lw_g (lw_at lw_m9 113 rfl) rfl
theorem q2185 : (Jvm.Cond.methodLink "PegLawsLaw" (142 : Nat) ({ cls := "PegLawsModel", name := "mark", desc := "(IZ)Z" } : Jvm.MethodName)) ∈ lw_all := lw_g (lw_at lw_m9 133 rfl) rfl
theorem q2189 : (Jvm.Cond.methodLink "PegLawsLaw" (146 : Nat) ({ cls := "PegLawsModel", name := "count", desc := "(I)I" } : Jvm.MethodName)) ∈ lw_all := lw_g (lw_at lw_m9 137 rfl) rfl
theorem q2197 : (Jvm.Cond.constantLong "PegLawsLaw" (19 : Nat) (4294967295 : Int64)) ∈ lw_all := lw_g (lw_at lw_m9 145 rfl) rfl

/-! PegLaws -/
set_option maxRecDepth 100000
def RX1 : String := "PegLaws"
def TX1 : u_T := fun k => match k with
  | 0 => ("PegLaws", "tape", "[B", true)
  | 1 => ("PegLaws", "reader", "LPegLaws$Reader;", true)
  | 2 => ("PegLaws", "rope", "LPegLaws$Rope;", false)
  | 3 => ("PegLaws", "lines", "Ljava/util/ArrayList;", false)
  | 4 => ("PegLaws", "state", "LPegLaws$State;", true)
  | 5 => ("PegLaws", "trial", "LPegLaws$State;", true)
  | 6 => ("PegLaws", "facts", "[I", true)
  | 7 => ("PegLaws", "taped", "I", false)
  | 8 => ("PegLaws", "undone", "[LPegLaws$State;", true)
  | 9 => ("PegLaws", "done", "I", false)
  | 10 => ("PegLaws", "most", "[I", true)
  | 11 => ("PegLaws", "pegsOf", "[I", true)
  | 12 => ("PegLaws", "bestPegs", "[I", true)
  | 13 => ("PegLaws", "bestWorth", "I", false)
  | 14 => ("PegLaws", "winds", "[LPegLaws$State;", true)
  | 15 => ("PegLaws", "order", "[I", true)
  | 16 => ("PegLaws", "bestOrder", "[I", true)
  | 17 => ("PegLaws", "washing", "I", false)
  | 18 => ("PegLaws", "soonest", "I", false)
  | 19 => ("PegLaws", "feltCloth", "[I", true)
  | 20 => ("PegLaws", "feltHours", "[I", true)
  | 21 => ("PegLaws", "feltWet", "[I", true)
  | 22 => ("PegLaws", "felt", "I", false)
  | 23 => ("PegLaws", "alike", "[I", true)
  | 24 => ("PegLaws", "g", "J", false)
  | _ => ("PegLaws", "marks", "[LPegLaws$Mark;", true)
def tyX1 : Nat → FieldType := fun k => match k with
  | 0 => .array .byte
  | 1 => .object "PegLaws$Reader"
  | 2 => .object "PegLaws$Rope"
  | 3 => .object "java/util/ArrayList"
  | 4 => .object "PegLaws$State"
  | 5 => .object "PegLaws$State"
  | 6 => .array .int
  | 7 => .int
  | 8 => .array (.object "PegLaws$State")
  | 9 => .int
  | 10 => .array .int
  | 11 => .array .int
  | 12 => .array .int
  | 13 => .int
  | 14 => .array (.object "PegLaws$State")
  | 15 => .array .int
  | 16 => .array .int
  | 17 => .int
  | 18 => .int
  | 19 => .array .int
  | 20 => .array .int
  | 21 => .array .int
  | 22 => .int
  | 23 => .array .int
  | 24 => .long
  | _ => .array (.object "PegLaws$Mark")
abbrev wsX10 : List Cond := u_ws RX1 TX1 26
set_option maxRecDepth 100000 in
theorem nmX1 : ∀ a, a < 26 → ∀ b, b < 26 → a ≠ b → (TX1 a).2.1 ≠ (TX1 b).2.1 := by decide +kernel
set_option maxRecDepth 100000 in
theorem tyX1_ok : ∀ k, k < 26 → parseFieldDescriptor (TX1 k).2.2.1 = some (tyX1 k) := by decide +kernel
abbrev cX1_init : ByteArray := prog_1_method_6_code
def yX1_init : MethodName := ⟨RX1, "<init>", "()V"⟩
def dkwX1_init_7 : List UInt8 := [42, 7, 189, 0, 96, 181, 0, 98, 42, 180, 0, 51, 42, 180, 0, 35, 182, 0, 102, 177]
abbrev dktX1_init_7 : List UInt8 := dkwX1_init_7 ++ []
def dkwX1_init_6 : List UInt8 := [42, 16, 8, 188, 10, 181, 0, 87, 42, 16, 8, 188, 10, 181, 0, 90, 42, 16, 10, 188, 10, 181, 0, 93]
abbrev dktX1_init_6 : List UInt8 := dkwX1_init_6 ++ dktX1_init_7
def dkwX1_init_5 : List UInt8 := [42, 16, 6, 188, 10, 181, 0, 78, 42, 16, 6, 188, 10, 181, 0, 81, 42, 16, 8, 188, 10, 181, 0, 84]
abbrev dktX1_init_5 : List UInt8 := dkwX1_init_5 ++ dktX1_init_6
def dkwX1_init_4 : List UInt8 := [16, 6, 188, 10, 181, 0, 69, 42, 16, 6, 188, 10, 181, 0, 72, 42, 16, 8, 189, 0, 48, 181, 0, 75]
abbrev dktX1_init_4 : List UInt8 := dkwX1_init_4 ++ dktX1_init_5
def dkwX1_init_3 : List UInt8 := [188, 10, 181, 0, 58, 42, 16, 16, 189, 0, 48, 181, 0, 62, 42, 16, 6, 188, 10, 181, 0, 66, 42]
abbrev dktX1_init_3 : List UInt8 := dkwX1_init_3 ++ dktX1_init_4
def dkwX1_init_2 : List UInt8 := [187, 0, 48, 89, 183, 0, 50, 181, 0, 51, 42, 187, 0, 48, 89, 183, 0, 50, 181, 0, 55, 42, 6]
abbrev dktX1_init_2 : List UInt8 := dkwX1_init_2 ++ dktX1_init_3
def dkwX1_init_1 : List UInt8 := [42, 187, 0, 32, 89, 183, 0, 34, 181, 0, 35, 42, 187, 0, 39, 89, 3, 183, 0, 41, 181, 0, 44, 42]
abbrev dktX1_init_1 : List UInt8 := dkwX1_init_1 ++ dktX1_init_2
def dkwX1_init_0 : List UInt8 := [42, 183, 0, 16, 42, 17, 3, 232, 188, 8, 181, 0, 21, 42, 187, 0, 25, 89, 183, 0, 27, 181, 0, 28]
abbrev dktX1_init_0 : List UInt8 := dkwX1_init_0 ++ dktX1_init_1
theorem dksX1_init_0 : cX1_init.data.toList.drop 0 = dktX1_init_0 := by decide +kernel
theorem dksX1_init_1 : cX1_init.data.toList.drop 24 = dktX1_init_1 := dk_seg dksX1_init_0 24 rfl rfl
theorem dksX1_init_2 : cX1_init.data.toList.drop 48 = dktX1_init_2 := dk_seg dksX1_init_1 24 rfl rfl
theorem dksX1_init_3 : cX1_init.data.toList.drop 71 = dktX1_init_3 := dk_seg dksX1_init_2 23 rfl rfl
theorem dksX1_init_4 : cX1_init.data.toList.drop 94 = dktX1_init_4 := dk_seg dksX1_init_3 23 rfl rfl
theorem dksX1_init_5 : cX1_init.data.toList.drop 118 = dktX1_init_5 := dk_seg dksX1_init_4 24 rfl rfl
theorem dksX1_init_6 : cX1_init.data.toList.drop 142 = dktX1_init_6 := dk_seg dksX1_init_5 24 rfl rfl
theorem dksX1_init_7 : cX1_init.data.toList.drop 166 = dktX1_init_7 := dk_seg dksX1_init_6 24 rfl rfl
theorem dX1_init_0 : decode cX1_init 0 = .ok (.aload_n 0, 1) := dk_42 (dk_at dksX1_init_0 0 rfl rfl)
theorem dX1_init_1 : decode cX1_init 1 = .ok (.invokespecial 16, 3) := dk_183 0 16 (dk_at dksX1_init_0 1 rfl rfl)
theorem dX1_init_4 : decode cX1_init 4 = .ok (.aload_n 0, 1) := dk_42 (dk_at dksX1_init_0 4 rfl rfl)
theorem dX1_init_5 : decode cX1_init 5 = .ok (.sipush 1000, 3) := dk_17 3 232 (dk_at dksX1_init_0 5 rfl rfl)
theorem dX1_init_8 : decode cX1_init 8 = .ok (.newarray .byte, 2) := dk_188_8 (dk_at dksX1_init_0 8 rfl rfl)
theorem dX1_init_10 : decode cX1_init 10 = .ok (.putfield 21, 3) := dk_181 0 21 (dk_at dksX1_init_0 10 rfl rfl)
theorem dX1_init_13 : decode cX1_init 13 = .ok (.aload_n 0, 1) := dk_42 (dk_at dksX1_init_0 13 rfl rfl)
theorem dX1_init_14 : decode cX1_init 14 = .ok (.new 25, 3) := dk_187 0 25 (dk_at dksX1_init_0 14 rfl rfl)
theorem dX1_init_17 : decode cX1_init 17 = .ok (.dup, 1) := dk_89 (dk_at dksX1_init_0 17 rfl rfl)
theorem dX1_init_18 : decode cX1_init 18 = .ok (.invokespecial 27, 3) := dk_183 0 27 (dk_at dksX1_init_0 18 rfl rfl)
theorem dX1_init_21 : decode cX1_init 21 = .ok (.putfield 28, 3) := dk_181 0 28 (dk_at dksX1_init_0 21 rfl rfl)
theorem dX1_init_24 : decode cX1_init 24 = .ok (.aload_n 0, 1) := dk_42 (dk_at dksX1_init_1 0 rfl rfl)
theorem dX1_init_25 : decode cX1_init 25 = .ok (.new 32, 3) := dk_187 0 32 (dk_at dksX1_init_1 1 rfl rfl)
theorem dX1_init_28 : decode cX1_init 28 = .ok (.dup, 1) := dk_89 (dk_at dksX1_init_1 4 rfl rfl)
theorem dX1_init_29 : decode cX1_init 29 = .ok (.invokespecial 34, 3) := dk_183 0 34 (dk_at dksX1_init_1 5 rfl rfl)
theorem dX1_init_32 : decode cX1_init 32 = .ok (.putfield 35, 3) := dk_181 0 35 (dk_at dksX1_init_1 8 rfl rfl)
theorem dX1_init_35 : decode cX1_init 35 = .ok (.aload_n 0, 1) := dk_42 (dk_at dksX1_init_1 11 rfl rfl)
theorem dX1_init_36 : decode cX1_init 36 = .ok (.new 39, 3) := dk_187 0 39 (dk_at dksX1_init_1 12 rfl rfl)
theorem dX1_init_39 : decode cX1_init 39 = .ok (.dup, 1) := dk_89 (dk_at dksX1_init_1 15 rfl rfl)
theorem dX1_init_40 : decode cX1_init 40 = .ok (.iconst 0, 1) := dk_3 (dk_at dksX1_init_1 16 rfl rfl)
theorem dX1_init_41 : decode cX1_init 41 = .ok (.invokespecial 41, 3) := dk_183 0 41 (dk_at dksX1_init_1 17 rfl rfl)
theorem dX1_init_44 : decode cX1_init 44 = .ok (.putfield 44, 3) := dk_181 0 44 (dk_at dksX1_init_1 20 rfl rfl)
theorem dX1_init_47 : decode cX1_init 47 = .ok (.aload_n 0, 1) := dk_42 (dk_at dksX1_init_1 23 rfl rfl)
theorem dX1_init_48 : decode cX1_init 48 = .ok (.new 48, 3) := dk_187 0 48 (dk_at dksX1_init_2 0 rfl rfl)
theorem dX1_init_51 : decode cX1_init 51 = .ok (.dup, 1) := dk_89 (dk_at dksX1_init_2 3 rfl rfl)
theorem dX1_init_52 : decode cX1_init 52 = .ok (.invokespecial 50, 3) := dk_183 0 50 (dk_at dksX1_init_2 4 rfl rfl)
theorem dX1_init_55 : decode cX1_init 55 = .ok (.putfield 51, 3) := dk_181 0 51 (dk_at dksX1_init_2 7 rfl rfl)
theorem dX1_init_58 : decode cX1_init 58 = .ok (.aload_n 0, 1) := dk_42 (dk_at dksX1_init_2 10 rfl rfl)
theorem dX1_init_59 : decode cX1_init 59 = .ok (.new 48, 3) := dk_187 0 48 (dk_at dksX1_init_2 11 rfl rfl)
theorem dX1_init_62 : decode cX1_init 62 = .ok (.dup, 1) := dk_89 (dk_at dksX1_init_2 14 rfl rfl)
theorem dX1_init_63 : decode cX1_init 63 = .ok (.invokespecial 50, 3) := dk_183 0 50 (dk_at dksX1_init_2 15 rfl rfl)
theorem dX1_init_66 : decode cX1_init 66 = .ok (.putfield 55, 3) := dk_181 0 55 (dk_at dksX1_init_2 18 rfl rfl)
theorem dX1_init_69 : decode cX1_init 69 = .ok (.aload_n 0, 1) := dk_42 (dk_at dksX1_init_2 21 rfl rfl)
theorem dX1_init_70 : decode cX1_init 70 = .ok (.iconst 3, 1) := dk_6 (dk_at dksX1_init_2 22 rfl rfl)
theorem dX1_init_71 : decode cX1_init 71 = .ok (.newarray .int, 2) := dk_188_10 (dk_at dksX1_init_3 0 rfl rfl)
theorem dX1_init_73 : decode cX1_init 73 = .ok (.putfield 58, 3) := dk_181 0 58 (dk_at dksX1_init_3 2 rfl rfl)
theorem dX1_init_76 : decode cX1_init 76 = .ok (.aload_n 0, 1) := dk_42 (dk_at dksX1_init_3 5 rfl rfl)
theorem dX1_init_77 : decode cX1_init 77 = .ok (.bipush 16, 2) := dk_16 16 (dk_at dksX1_init_3 6 rfl rfl)
theorem dX1_init_79 : decode cX1_init 79 = .ok (.anewarray 48, 3) := dk_189 0 48 (dk_at dksX1_init_3 8 rfl rfl)
theorem dX1_init_82 : decode cX1_init 82 = .ok (.putfield 62, 3) := dk_181 0 62 (dk_at dksX1_init_3 11 rfl rfl)
theorem dX1_init_85 : decode cX1_init 85 = .ok (.aload_n 0, 1) := dk_42 (dk_at dksX1_init_3 14 rfl rfl)
theorem dX1_init_86 : decode cX1_init 86 = .ok (.bipush 6, 2) := dk_16 6 (dk_at dksX1_init_3 15 rfl rfl)
theorem dX1_init_88 : decode cX1_init 88 = .ok (.newarray .int, 2) := dk_188_10 (dk_at dksX1_init_3 17 rfl rfl)
theorem dX1_init_90 : decode cX1_init 90 = .ok (.putfield 66, 3) := dk_181 0 66 (dk_at dksX1_init_3 19 rfl rfl)
theorem dX1_init_93 : decode cX1_init 93 = .ok (.aload_n 0, 1) := dk_42 (dk_at dksX1_init_3 22 rfl rfl)
theorem dX1_init_94 : decode cX1_init 94 = .ok (.bipush 6, 2) := dk_16 6 (dk_at dksX1_init_4 0 rfl rfl)
theorem dX1_init_96 : decode cX1_init 96 = .ok (.newarray .int, 2) := dk_188_10 (dk_at dksX1_init_4 2 rfl rfl)
theorem dX1_init_98 : decode cX1_init 98 = .ok (.putfield 69, 3) := dk_181 0 69 (dk_at dksX1_init_4 4 rfl rfl)
theorem dX1_init_101 : decode cX1_init 101 = .ok (.aload_n 0, 1) := dk_42 (dk_at dksX1_init_4 7 rfl rfl)
theorem dX1_init_102 : decode cX1_init 102 = .ok (.bipush 6, 2) := dk_16 6 (dk_at dksX1_init_4 8 rfl rfl)
theorem dX1_init_104 : decode cX1_init 104 = .ok (.newarray .int, 2) := dk_188_10 (dk_at dksX1_init_4 10 rfl rfl)
theorem dX1_init_106 : decode cX1_init 106 = .ok (.putfield 72, 3) := dk_181 0 72 (dk_at dksX1_init_4 12 rfl rfl)
theorem dX1_init_109 : decode cX1_init 109 = .ok (.aload_n 0, 1) := dk_42 (dk_at dksX1_init_4 15 rfl rfl)
theorem dX1_init_110 : decode cX1_init 110 = .ok (.bipush 8, 2) := dk_16 8 (dk_at dksX1_init_4 16 rfl rfl)
theorem dX1_init_112 : decode cX1_init 112 = .ok (.anewarray 48, 3) := dk_189 0 48 (dk_at dksX1_init_4 18 rfl rfl)
theorem dX1_init_115 : decode cX1_init 115 = .ok (.putfield 75, 3) := dk_181 0 75 (dk_at dksX1_init_4 21 rfl rfl)
theorem dX1_init_118 : decode cX1_init 118 = .ok (.aload_n 0, 1) := dk_42 (dk_at dksX1_init_5 0 rfl rfl)
theorem dX1_init_119 : decode cX1_init 119 = .ok (.bipush 6, 2) := dk_16 6 (dk_at dksX1_init_5 1 rfl rfl)
theorem dX1_init_121 : decode cX1_init 121 = .ok (.newarray .int, 2) := dk_188_10 (dk_at dksX1_init_5 3 rfl rfl)
theorem dX1_init_123 : decode cX1_init 123 = .ok (.putfield 78, 3) := dk_181 0 78 (dk_at dksX1_init_5 5 rfl rfl)
theorem dX1_init_126 : decode cX1_init 126 = .ok (.aload_n 0, 1) := dk_42 (dk_at dksX1_init_5 8 rfl rfl)
theorem dX1_init_127 : decode cX1_init 127 = .ok (.bipush 6, 2) := dk_16 6 (dk_at dksX1_init_5 9 rfl rfl)
theorem dX1_init_129 : decode cX1_init 129 = .ok (.newarray .int, 2) := dk_188_10 (dk_at dksX1_init_5 11 rfl rfl)
theorem dX1_init_131 : decode cX1_init 131 = .ok (.putfield 81, 3) := dk_181 0 81 (dk_at dksX1_init_5 13 rfl rfl)
theorem dX1_init_134 : decode cX1_init 134 = .ok (.aload_n 0, 1) := dk_42 (dk_at dksX1_init_5 16 rfl rfl)
theorem dX1_init_135 : decode cX1_init 135 = .ok (.bipush 8, 2) := dk_16 8 (dk_at dksX1_init_5 17 rfl rfl)
theorem dX1_init_137 : decode cX1_init 137 = .ok (.newarray .int, 2) := dk_188_10 (dk_at dksX1_init_5 19 rfl rfl)
theorem dX1_init_139 : decode cX1_init 139 = .ok (.putfield 84, 3) := dk_181 0 84 (dk_at dksX1_init_5 21 rfl rfl)
theorem dX1_init_142 : decode cX1_init 142 = .ok (.aload_n 0, 1) := dk_42 (dk_at dksX1_init_6 0 rfl rfl)
theorem dX1_init_143 : decode cX1_init 143 = .ok (.bipush 8, 2) := dk_16 8 (dk_at dksX1_init_6 1 rfl rfl)
theorem dX1_init_145 : decode cX1_init 145 = .ok (.newarray .int, 2) := dk_188_10 (dk_at dksX1_init_6 3 rfl rfl)
theorem dX1_init_147 : decode cX1_init 147 = .ok (.putfield 87, 3) := dk_181 0 87 (dk_at dksX1_init_6 5 rfl rfl)
theorem dX1_init_150 : decode cX1_init 150 = .ok (.aload_n 0, 1) := dk_42 (dk_at dksX1_init_6 8 rfl rfl)
theorem dX1_init_151 : decode cX1_init 151 = .ok (.bipush 8, 2) := dk_16 8 (dk_at dksX1_init_6 9 rfl rfl)
theorem dX1_init_153 : decode cX1_init 153 = .ok (.newarray .int, 2) := dk_188_10 (dk_at dksX1_init_6 11 rfl rfl)
theorem dX1_init_155 : decode cX1_init 155 = .ok (.putfield 90, 3) := dk_181 0 90 (dk_at dksX1_init_6 13 rfl rfl)
theorem dX1_init_158 : decode cX1_init 158 = .ok (.aload_n 0, 1) := dk_42 (dk_at dksX1_init_6 16 rfl rfl)
theorem dX1_init_159 : decode cX1_init 159 = .ok (.bipush 10, 2) := dk_16 10 (dk_at dksX1_init_6 17 rfl rfl)
theorem dX1_init_161 : decode cX1_init 161 = .ok (.newarray .int, 2) := dk_188_10 (dk_at dksX1_init_6 19 rfl rfl)
theorem dX1_init_163 : decode cX1_init 163 = .ok (.putfield 93, 3) := dk_181 0 93 (dk_at dksX1_init_6 21 rfl rfl)
theorem dX1_init_166 : decode cX1_init 166 = .ok (.aload_n 0, 1) := dk_42 (dk_at dksX1_init_7 0 rfl rfl)
theorem dX1_init_167 : decode cX1_init 167 = .ok (.iconst 4, 1) := dk_7 (dk_at dksX1_init_7 1 rfl rfl)
theorem dX1_init_168 : decode cX1_init 168 = .ok (.anewarray 96, 3) := dk_189 0 96 (dk_at dksX1_init_7 2 rfl rfl)
theorem dX1_init_171 : decode cX1_init 171 = .ok (.putfield 98, 3) := dk_181 0 98 (dk_at dksX1_init_7 5 rfl rfl)
theorem dX1_init_174 : decode cX1_init 174 = .ok (.aload_n 0, 1) := dk_42 (dk_at dksX1_init_7 8 rfl rfl)
theorem dX1_init_175 : decode cX1_init 175 = .ok (.getfield 51, 3) := dk_180 0 51 (dk_at dksX1_init_7 9 rfl rfl)
theorem dX1_init_178 : decode cX1_init 178 = .ok (.aload_n 0, 1) := dk_42 (dk_at dksX1_init_7 12 rfl rfl)
theorem dX1_init_179 : decode cX1_init 179 = .ok (.getfield 35, 3) := dk_180 0 35 (dk_at dksX1_init_7 13 rfl rfl)
theorem dX1_init_182 : decode cX1_init 182 = .ok (.invokevirtual 102, 3) := dk_182 0 102 (dk_at dksX1_init_7 16 rfl rfl)
theorem dX1_init_185 : decode cX1_init 185 = .ok (.return_, 1) := dk_177 (dk_at dksX1_init_7 19 rfl rfl)
abbrev cX1_feed : ByteArray := prog_1_method_7_code
def yX1_feed : MethodName := ⟨RX1, "feed", "(JJJ)I"⟩
def dkwX1_feed_4 : List UInt8 := [96, 181, 0, 106, 21, 8, 145, 84, 132, 7, 1, 167, 255, 153, 42, 180, 0, 106, 172]
abbrev dktX1_feed_4 : List UInt8 := dkwX1_feed_4 ++ []
def dkwX1_feed_3 : List UInt8 := [163, 0, 32, 42, 180, 0, 106, 17, 3, 232, 162, 0, 22, 42, 180, 0, 21, 42, 89, 180, 0, 106, 90, 4]
abbrev dktX1_feed_3 : List UInt8 := dkwX1_feed_3 ++ dktX1_feed_4
def dkwX1_feed_2 : List UInt8 := [17, 0, 255, 126, 54, 8, 21, 8, 16, 10, 159, 0, 17, 21, 8, 16, 32, 161, 0, 39, 21, 8, 16, 126]
abbrev dktX1_feed_2 : List UInt8 := dkwX1_feed_2 ++ dktX1_feed_3
def dkwX1_feed_1 : List UInt8 := [16, 16, 162, 0, 7, 33, 167, 0, 5, 22, 5, 16, 56, 16, 8, 21, 7, 16, 8, 112, 104, 100, 123, 136]
abbrev dktX1_feed_1 : List UInt8 := dkwX1_feed_1 ++ dktX1_feed_2
def dkwX1_feed_0 : List UInt8 := [3, 54, 7, 21, 7, 16, 24, 162, 0, 102, 21, 7, 16, 8, 162, 0, 7, 31, 167, 0, 16, 21, 7]
abbrev dktX1_feed_0 : List UInt8 := dkwX1_feed_0 ++ dktX1_feed_1
theorem dksX1_feed_0 : cX1_feed.data.toList.drop 0 = dktX1_feed_0 := by decide +kernel
theorem dksX1_feed_1 : cX1_feed.data.toList.drop 23 = dktX1_feed_1 := dk_seg dksX1_feed_0 23 rfl rfl
theorem dksX1_feed_2 : cX1_feed.data.toList.drop 47 = dktX1_feed_2 := dk_seg dksX1_feed_1 24 rfl rfl
theorem dksX1_feed_3 : cX1_feed.data.toList.drop 71 = dktX1_feed_3 := dk_seg dksX1_feed_2 24 rfl rfl
theorem dksX1_feed_4 : cX1_feed.data.toList.drop 95 = dktX1_feed_4 := dk_seg dksX1_feed_3 24 rfl rfl
theorem dX1_feed_0 : decode cX1_feed 0 = .ok (.iconst 0, 1) := dk_3 (dk_at dksX1_feed_0 0 rfl rfl)
theorem dX1_feed_1 : decode cX1_feed 1 = .ok (.istore 7, 2) := dk_54 7 (dk_at dksX1_feed_0 1 rfl rfl)
theorem dX1_feed_3 : decode cX1_feed 3 = .ok (.iload 7, 2) := dk_21 7 (dk_at dksX1_feed_0 3 rfl rfl)
theorem dX1_feed_5 : decode cX1_feed 5 = .ok (.bipush 24, 2) := dk_16 24 (dk_at dksX1_feed_0 5 rfl rfl)
theorem dX1_feed_7 : decode cX1_feed 7 = .ok (.if_icmp .ge 102, 3) := dk_162 0 102 (dk_at dksX1_feed_0 7 rfl rfl)
theorem dX1_feed_10 : decode cX1_feed 10 = .ok (.iload 7, 2) := dk_21 7 (dk_at dksX1_feed_0 10 rfl rfl)
theorem dX1_feed_12 : decode cX1_feed 12 = .ok (.bipush 8, 2) := dk_16 8 (dk_at dksX1_feed_0 12 rfl rfl)
theorem dX1_feed_14 : decode cX1_feed 14 = .ok (.if_icmp .ge 7, 3) := dk_162 0 7 (dk_at dksX1_feed_0 14 rfl rfl)
theorem dX1_feed_17 : decode cX1_feed 17 = .ok (.lload_n 1, 1) := dk_31 (dk_at dksX1_feed_0 17 rfl rfl)
theorem dX1_feed_18 : decode cX1_feed 18 = .ok (.goto 16, 3) := dk_167 0 16 (dk_at dksX1_feed_0 18 rfl rfl)
theorem dX1_feed_21 : decode cX1_feed 21 = .ok (.iload 7, 2) := dk_21 7 (dk_at dksX1_feed_0 21 rfl rfl)
theorem dX1_feed_23 : decode cX1_feed 23 = .ok (.bipush 16, 2) := dk_16 16 (dk_at dksX1_feed_1 0 rfl rfl)
theorem dX1_feed_25 : decode cX1_feed 25 = .ok (.if_icmp .ge 7, 3) := dk_162 0 7 (dk_at dksX1_feed_1 2 rfl rfl)
theorem dX1_feed_28 : decode cX1_feed 28 = .ok (.lload_n 3, 1) := dk_33 (dk_at dksX1_feed_1 5 rfl rfl)
theorem dX1_feed_29 : decode cX1_feed 29 = .ok (.goto 5, 3) := dk_167 0 5 (dk_at dksX1_feed_1 6 rfl rfl)
theorem dX1_feed_32 : decode cX1_feed 32 = .ok (.lload 5, 2) := dk_22 5 (dk_at dksX1_feed_1 9 rfl rfl)
theorem dX1_feed_34 : decode cX1_feed 34 = .ok (.bipush 56, 2) := dk_16 56 (dk_at dksX1_feed_1 11 rfl rfl)
theorem dX1_feed_36 : decode cX1_feed 36 = .ok (.bipush 8, 2) := dk_16 8 (dk_at dksX1_feed_1 13 rfl rfl)
theorem dX1_feed_38 : decode cX1_feed 38 = .ok (.iload 7, 2) := dk_21 7 (dk_at dksX1_feed_1 15 rfl rfl)
theorem dX1_feed_40 : decode cX1_feed 40 = .ok (.bipush 8, 2) := dk_16 8 (dk_at dksX1_feed_1 17 rfl rfl)
theorem dX1_feed_42 : decode cX1_feed 42 = .ok (.irem, 1) := dk_112 (dk_at dksX1_feed_1 19 rfl rfl)
theorem dX1_feed_43 : decode cX1_feed 43 = .ok (.imul, 1) := dk_104 (dk_at dksX1_feed_1 20 rfl rfl)
theorem dX1_feed_44 : decode cX1_feed 44 = .ok (.isub, 1) := dk_100 (dk_at dksX1_feed_1 21 rfl rfl)
theorem dX1_feed_45 : decode cX1_feed 45 = .ok (.lshr, 1) := dk_123 (dk_at dksX1_feed_1 22 rfl rfl)
theorem dX1_feed_46 : decode cX1_feed 46 = .ok (.l2i, 1) := dk_136 (dk_at dksX1_feed_1 23 rfl rfl)
theorem dX1_feed_47 : decode cX1_feed 47 = .ok (.sipush 255, 3) := dk_17 0 255 (dk_at dksX1_feed_2 0 rfl rfl)
theorem dX1_feed_50 : decode cX1_feed 50 = .ok (.iand, 1) := dk_126 (dk_at dksX1_feed_2 3 rfl rfl)
theorem dX1_feed_51 : decode cX1_feed 51 = .ok (.istore 8, 2) := dk_54 8 (dk_at dksX1_feed_2 4 rfl rfl)
theorem dX1_feed_53 : decode cX1_feed 53 = .ok (.iload 8, 2) := dk_21 8 (dk_at dksX1_feed_2 6 rfl rfl)
theorem dX1_feed_55 : decode cX1_feed 55 = .ok (.bipush 10, 2) := dk_16 10 (dk_at dksX1_feed_2 8 rfl rfl)
theorem dX1_feed_57 : decode cX1_feed 57 = .ok (.if_icmp .eq 17, 3) := dk_159 0 17 (dk_at dksX1_feed_2 10 rfl rfl)
theorem dX1_feed_60 : decode cX1_feed 60 = .ok (.iload 8, 2) := dk_21 8 (dk_at dksX1_feed_2 13 rfl rfl)
theorem dX1_feed_62 : decode cX1_feed 62 = .ok (.bipush 32, 2) := dk_16 32 (dk_at dksX1_feed_2 15 rfl rfl)
theorem dX1_feed_64 : decode cX1_feed 64 = .ok (.if_icmp .lt 39, 3) := dk_161 0 39 (dk_at dksX1_feed_2 17 rfl rfl)
theorem dX1_feed_67 : decode cX1_feed 67 = .ok (.iload 8, 2) := dk_21 8 (dk_at dksX1_feed_2 20 rfl rfl)
theorem dX1_feed_69 : decode cX1_feed 69 = .ok (.bipush 126, 2) := dk_16 126 (dk_at dksX1_feed_2 22 rfl rfl)
theorem dX1_feed_71 : decode cX1_feed 71 = .ok (.if_icmp .gt 32, 3) := dk_163 0 32 (dk_at dksX1_feed_3 0 rfl rfl)
theorem dX1_feed_74 : decode cX1_feed 74 = .ok (.aload_n 0, 1) := dk_42 (dk_at dksX1_feed_3 3 rfl rfl)
theorem dX1_feed_75 : decode cX1_feed 75 = .ok (.getfield 106, 3) := dk_180 0 106 (dk_at dksX1_feed_3 4 rfl rfl)
theorem dX1_feed_78 : decode cX1_feed 78 = .ok (.sipush 1000, 3) := dk_17 3 232 (dk_at dksX1_feed_3 7 rfl rfl)
theorem dX1_feed_81 : decode cX1_feed 81 = .ok (.if_icmp .ge 22, 3) := dk_162 0 22 (dk_at dksX1_feed_3 10 rfl rfl)
theorem dX1_feed_84 : decode cX1_feed 84 = .ok (.aload_n 0, 1) := dk_42 (dk_at dksX1_feed_3 13 rfl rfl)
theorem dX1_feed_85 : decode cX1_feed 85 = .ok (.getfield 21, 3) := dk_180 0 21 (dk_at dksX1_feed_3 14 rfl rfl)
theorem dX1_feed_88 : decode cX1_feed 88 = .ok (.aload_n 0, 1) := dk_42 (dk_at dksX1_feed_3 17 rfl rfl)
theorem dX1_feed_89 : decode cX1_feed 89 = .ok (.dup, 1) := dk_89 (dk_at dksX1_feed_3 18 rfl rfl)
theorem dX1_feed_90 : decode cX1_feed 90 = .ok (.getfield 106, 3) := dk_180 0 106 (dk_at dksX1_feed_3 19 rfl rfl)
theorem dX1_feed_93 : decode cX1_feed 93 = .ok (.dup_x1, 1) := dk_90 (dk_at dksX1_feed_3 22 rfl rfl)
theorem dX1_feed_94 : decode cX1_feed 94 = .ok (.iconst 1, 1) := dk_4 (dk_at dksX1_feed_3 23 rfl rfl)
theorem dX1_feed_95 : decode cX1_feed 95 = .ok (.iadd, 1) := dk_96 (dk_at dksX1_feed_4 0 rfl rfl)
theorem dX1_feed_96 : decode cX1_feed 96 = .ok (.putfield 106, 3) := dk_181 0 106 (dk_at dksX1_feed_4 1 rfl rfl)
theorem dX1_feed_99 : decode cX1_feed 99 = .ok (.iload 8, 2) := dk_21 8 (dk_at dksX1_feed_4 4 rfl rfl)
theorem dX1_feed_101 : decode cX1_feed 101 = .ok (.i2b, 1) := dk_145 (dk_at dksX1_feed_4 6 rfl rfl)
theorem dX1_feed_102 : decode cX1_feed 102 = .ok (.bastore, 1) := dk_84 (dk_at dksX1_feed_4 7 rfl rfl)
theorem dX1_feed_103 : decode cX1_feed 103 = .ok (.iinc 7 1, 3) := dk_132 7 1 (dk_at dksX1_feed_4 8 rfl rfl)
theorem dX1_feed_106 : decode cX1_feed 106 = .ok (.goto (-103), 3) := dk_167 255 153 (dk_at dksX1_feed_4 11 rfl rfl)
theorem dX1_feed_109 : decode cX1_feed 109 = .ok (.aload_n 0, 1) := dk_42 (dk_at dksX1_feed_4 14 rfl rfl)
theorem dX1_feed_110 : decode cX1_feed 110 = .ok (.getfield 106, 3) := dk_180 0 106 (dk_at dksX1_feed_4 15 rfl rfl)
theorem dX1_feed_113 : decode cX1_feed 113 = .ok (.ireturn, 1) := dk_172 (dk_at dksX1_feed_4 18 rfl rfl)
abbrev cX1_line : ByteArray := prog_1_method_9_code
def yX1_line : MethodName := ⟨RX1, "line", "()I"⟩
def dkwX1_line_3 : List UInt8 := [132, 1, 1, 167, 255, 241, 3, 172]
abbrev dktX1_line_3 : List UInt8 := dkwX1_line_3 ++ []
def dkwX1_line_2 : List UInt8 := [3, 181, 0, 125, 42, 3, 181, 0, 128, 3, 60, 27, 7, 162, 0, 16, 42, 180, 0, 98, 27, 1, 83]
abbrev dktX1_line_2 : List UInt8 := dkwX1_line_2 ++ dktX1_line_3
def dkwX1_line_1 : List UInt8 := [42, 180, 0, 51, 42, 180, 0, 35, 182, 0, 102, 42, 187, 0, 39, 89, 3, 183, 0, 41, 181, 0, 44, 42]
abbrev dktX1_line_1 : List UInt8 := dkwX1_line_1 ++ dktX1_line_2
def dkwX1_line_0 : List UInt8 := [42, 182, 0, 113, 42, 42, 180, 0, 28, 182, 0, 116, 181, 0, 35, 167, 0, 9, 76, 43, 180, 0, 122, 172]
abbrev dktX1_line_0 : List UInt8 := dkwX1_line_0 ++ dktX1_line_1
theorem dksX1_line_0 : cX1_line.data.toList.drop 0 = dktX1_line_0 := by decide +kernel
theorem dksX1_line_1 : cX1_line.data.toList.drop 24 = dktX1_line_1 := dk_seg dksX1_line_0 24 rfl rfl
theorem dksX1_line_2 : cX1_line.data.toList.drop 48 = dktX1_line_2 := dk_seg dksX1_line_1 24 rfl rfl
theorem dksX1_line_3 : cX1_line.data.toList.drop 71 = dktX1_line_3 := dk_seg dksX1_line_2 23 rfl rfl
theorem dX1_line_0 : decode cX1_line 0 = .ok (.aload_n 0, 1) := dk_42 (dk_at dksX1_line_0 0 rfl rfl)
theorem dX1_line_1 : decode cX1_line 1 = .ok (.invokevirtual 113, 3) := dk_182 0 113 (dk_at dksX1_line_0 1 rfl rfl)
theorem dX1_line_4 : decode cX1_line 4 = .ok (.aload_n 0, 1) := dk_42 (dk_at dksX1_line_0 4 rfl rfl)
theorem dX1_line_5 : decode cX1_line 5 = .ok (.aload_n 0, 1) := dk_42 (dk_at dksX1_line_0 5 rfl rfl)
theorem dX1_line_6 : decode cX1_line 6 = .ok (.getfield 28, 3) := dk_180 0 28 (dk_at dksX1_line_0 6 rfl rfl)
theorem dX1_line_9 : decode cX1_line 9 = .ok (.invokevirtual 116, 3) := dk_182 0 116 (dk_at dksX1_line_0 9 rfl rfl)
theorem dX1_line_12 : decode cX1_line 12 = .ok (.putfield 35, 3) := dk_181 0 35 (dk_at dksX1_line_0 12 rfl rfl)
theorem dX1_line_15 : decode cX1_line 15 = .ok (.goto 9, 3) := dk_167 0 9 (dk_at dksX1_line_0 15 rfl rfl)
theorem dX1_line_18 : decode cX1_line 18 = .ok (.astore_n 1, 1) := dk_76 (dk_at dksX1_line_0 18 rfl rfl)
theorem dX1_line_19 : decode cX1_line 19 = .ok (.aload_n 1, 1) := dk_43 (dk_at dksX1_line_0 19 rfl rfl)
theorem dX1_line_20 : decode cX1_line 20 = .ok (.getfield 122, 3) := dk_180 0 122 (dk_at dksX1_line_0 20 rfl rfl)
theorem dX1_line_23 : decode cX1_line 23 = .ok (.ireturn, 1) := dk_172 (dk_at dksX1_line_0 23 rfl rfl)
theorem dX1_line_24 : decode cX1_line 24 = .ok (.aload_n 0, 1) := dk_42 (dk_at dksX1_line_1 0 rfl rfl)
theorem dX1_line_25 : decode cX1_line 25 = .ok (.getfield 51, 3) := dk_180 0 51 (dk_at dksX1_line_1 1 rfl rfl)
theorem dX1_line_28 : decode cX1_line 28 = .ok (.aload_n 0, 1) := dk_42 (dk_at dksX1_line_1 4 rfl rfl)
theorem dX1_line_29 : decode cX1_line 29 = .ok (.getfield 35, 3) := dk_180 0 35 (dk_at dksX1_line_1 5 rfl rfl)
theorem dX1_line_32 : decode cX1_line 32 = .ok (.invokevirtual 102, 3) := dk_182 0 102 (dk_at dksX1_line_1 8 rfl rfl)
theorem dX1_line_35 : decode cX1_line 35 = .ok (.aload_n 0, 1) := dk_42 (dk_at dksX1_line_1 11 rfl rfl)
theorem dX1_line_36 : decode cX1_line 36 = .ok (.new 39, 3) := dk_187 0 39 (dk_at dksX1_line_1 12 rfl rfl)
theorem dX1_line_39 : decode cX1_line 39 = .ok (.dup, 1) := dk_89 (dk_at dksX1_line_1 15 rfl rfl)
theorem dX1_line_40 : decode cX1_line 40 = .ok (.iconst 0, 1) := dk_3 (dk_at dksX1_line_1 16 rfl rfl)
theorem dX1_line_41 : decode cX1_line 41 = .ok (.invokespecial 41, 3) := dk_183 0 41 (dk_at dksX1_line_1 17 rfl rfl)
theorem dX1_line_44 : decode cX1_line 44 = .ok (.putfield 44, 3) := dk_181 0 44 (dk_at dksX1_line_1 20 rfl rfl)
theorem dX1_line_47 : decode cX1_line 47 = .ok (.aload_n 0, 1) := dk_42 (dk_at dksX1_line_1 23 rfl rfl)
theorem dX1_line_48 : decode cX1_line 48 = .ok (.iconst 0, 1) := dk_3 (dk_at dksX1_line_2 0 rfl rfl)
theorem dX1_line_49 : decode cX1_line 49 = .ok (.putfield 125, 3) := dk_181 0 125 (dk_at dksX1_line_2 1 rfl rfl)
theorem dX1_line_52 : decode cX1_line 52 = .ok (.aload_n 0, 1) := dk_42 (dk_at dksX1_line_2 4 rfl rfl)
theorem dX1_line_53 : decode cX1_line 53 = .ok (.iconst 0, 1) := dk_3 (dk_at dksX1_line_2 5 rfl rfl)
theorem dX1_line_54 : decode cX1_line 54 = .ok (.putfield 128, 3) := dk_181 0 128 (dk_at dksX1_line_2 6 rfl rfl)
theorem dX1_line_57 : decode cX1_line 57 = .ok (.iconst 0, 1) := dk_3 (dk_at dksX1_line_2 9 rfl rfl)
theorem dX1_line_58 : decode cX1_line 58 = .ok (.istore_n 1, 1) := dk_60 (dk_at dksX1_line_2 10 rfl rfl)
theorem dX1_line_59 : decode cX1_line 59 = .ok (.iload_n 1, 1) := dk_27 (dk_at dksX1_line_2 11 rfl rfl)
theorem dX1_line_60 : decode cX1_line 60 = .ok (.iconst 4, 1) := dk_7 (dk_at dksX1_line_2 12 rfl rfl)
theorem dX1_line_61 : decode cX1_line 61 = .ok (.if_icmp .ge 16, 3) := dk_162 0 16 (dk_at dksX1_line_2 13 rfl rfl)
theorem dX1_line_64 : decode cX1_line 64 = .ok (.aload_n 0, 1) := dk_42 (dk_at dksX1_line_2 16 rfl rfl)
theorem dX1_line_65 : decode cX1_line 65 = .ok (.getfield 98, 3) := dk_180 0 98 (dk_at dksX1_line_2 17 rfl rfl)
theorem dX1_line_68 : decode cX1_line 68 = .ok (.iload_n 1, 1) := dk_27 (dk_at dksX1_line_2 20 rfl rfl)
theorem dX1_line_69 : decode cX1_line 69 = .ok (.aconst_null, 1) := dk_1 (dk_at dksX1_line_2 21 rfl rfl)
theorem dX1_line_70 : decode cX1_line 70 = .ok (.aastore, 1) := dk_83 (dk_at dksX1_line_2 22 rfl rfl)
theorem dX1_line_71 : decode cX1_line 71 = .ok (.iinc 1 1, 3) := dk_132 1 1 (dk_at dksX1_line_3 0 rfl rfl)
theorem dX1_line_74 : decode cX1_line 74 = .ok (.goto (-15), 3) := dk_167 255 241 (dk_at dksX1_line_3 3 rfl rfl)
theorem dX1_line_77 : decode cX1_line 77 = .ok (.iconst 0, 1) := dk_3 (dk_at dksX1_line_3 6 rfl rfl)
theorem dX1_line_78 : decode cX1_line 78 = .ok (.ireturn, 1) := dk_172 (dk_at dksX1_line_3 7 rfl rfl)
abbrev cX1_reads : ByteArray := prog_1_method_8_code
def yX1_reads : MethodName := ⟨RX1, "reads", "()V"⟩
def dkwX1_reads_0 : List UInt8 := [42, 180, 0, 28, 42, 180, 0, 21, 42, 180, 0, 106, 182, 0, 110, 42, 3, 181, 0, 106, 177]
abbrev dktX1_reads_0 : List UInt8 := dkwX1_reads_0 ++ []
theorem dksX1_reads_0 : cX1_reads.data.toList.drop 0 = dktX1_reads_0 := by decide +kernel
theorem dX1_reads_0 : decode cX1_reads 0 = .ok (.aload_n 0, 1) := dk_42 (dk_at dksX1_reads_0 0 rfl rfl)
theorem dX1_reads_1 : decode cX1_reads 1 = .ok (.getfield 28, 3) := dk_180 0 28 (dk_at dksX1_reads_0 1 rfl rfl)
theorem dX1_reads_4 : decode cX1_reads 4 = .ok (.aload_n 0, 1) := dk_42 (dk_at dksX1_reads_0 4 rfl rfl)
theorem dX1_reads_5 : decode cX1_reads 5 = .ok (.getfield 21, 3) := dk_180 0 21 (dk_at dksX1_reads_0 5 rfl rfl)
theorem dX1_reads_8 : decode cX1_reads 8 = .ok (.aload_n 0, 1) := dk_42 (dk_at dksX1_reads_0 8 rfl rfl)
theorem dX1_reads_9 : decode cX1_reads 9 = .ok (.getfield 106, 3) := dk_180 0 106 (dk_at dksX1_reads_0 9 rfl rfl)
theorem dX1_reads_12 : decode cX1_reads 12 = .ok (.invokevirtual 110, 3) := dk_182 0 110 (dk_at dksX1_reads_0 12 rfl rfl)
theorem dX1_reads_15 : decode cX1_reads 15 = .ok (.aload_n 0, 1) := dk_42 (dk_at dksX1_reads_0 15 rfl rfl)
theorem dX1_reads_16 : decode cX1_reads 16 = .ok (.iconst 0, 1) := dk_3 (dk_at dksX1_reads_0 16 rfl rfl)
theorem dX1_reads_17 : decode cX1_reads 17 = .ok (.putfield 106, 3) := dk_181 0 106 (dk_at dksX1_reads_0 17 rfl rfl)
theorem dX1_reads_20 : decode cX1_reads 20 = .ok (.return_, 1) := dk_177 (dk_at dksX1_reads_0 20 rfl rfl)
abbrev cX1_in : ByteArray := prog_1_method_1_code
def yX1_in : MethodName := ⟨RX1, "in", "(III)Z"⟩
def dkwX1_in_0 : List UInt8 := [26, 27, 161, 0, 12, 26, 28, 163, 0, 7, 4, 167, 0, 4, 3, 172]
abbrev dktX1_in_0 : List UInt8 := dkwX1_in_0 ++ []
theorem dksX1_in_0 : cX1_in.data.toList.drop 0 = dktX1_in_0 := by decide +kernel
theorem dX1_in_0 : decode cX1_in 0 = .ok (.iload_n 0, 1) := dk_26 (dk_at dksX1_in_0 0 rfl rfl)
theorem dX1_in_1 : decode cX1_in 1 = .ok (.iload_n 1, 1) := dk_27 (dk_at dksX1_in_0 1 rfl rfl)
theorem dX1_in_2 : decode cX1_in 2 = .ok (.if_icmp .lt 12, 3) := dk_161 0 12 (dk_at dksX1_in_0 2 rfl rfl)
theorem dX1_in_5 : decode cX1_in 5 = .ok (.iload_n 0, 1) := dk_26 (dk_at dksX1_in_0 5 rfl rfl)
theorem dX1_in_6 : decode cX1_in 6 = .ok (.iload_n 2, 1) := dk_28 (dk_at dksX1_in_0 6 rfl rfl)
theorem dX1_in_7 : decode cX1_in 7 = .ok (.if_icmp .gt 7, 3) := dk_163 0 7 (dk_at dksX1_in_0 7 rfl rfl)
theorem dX1_in_10 : decode cX1_in 10 = .ok (.iconst 1, 1) := dk_4 (dk_at dksX1_in_0 10 rfl rfl)
theorem dX1_in_11 : decode cX1_in 11 = .ok (.goto 4, 3) := dk_167 0 4 (dk_at dksX1_in_0 11 rfl rfl)
theorem dX1_in_14 : decode cX1_in 14 = .ok (.iconst 0, 1) := dk_3 (dk_at dksX1_in_0 14 rfl rfl)
theorem dX1_in_15 : decode cX1_in 15 = .ok (.ireturn, 1) := dk_172 (dk_at dksX1_in_0 15 rfl rfl)
abbrev cX1_isIn : ByteArray := prog_1_method_3_code
def yX1_isIn : MethodName := ⟨RX1, "isIn", "(II)Z"⟩
def dkwX1_isIn_0 : List UInt8 := [26, 27, 122, 4, 126, 4, 160, 0, 7, 4, 167, 0, 4, 3, 172]
abbrev dktX1_isIn_0 : List UInt8 := dkwX1_isIn_0 ++ []
theorem dksX1_isIn_0 : cX1_isIn.data.toList.drop 0 = dktX1_isIn_0 := by decide +kernel
theorem dX1_isIn_0 : decode cX1_isIn 0 = .ok (.iload_n 0, 1) := dk_26 (dk_at dksX1_isIn_0 0 rfl rfl)
theorem dX1_isIn_1 : decode cX1_isIn 1 = .ok (.iload_n 1, 1) := dk_27 (dk_at dksX1_isIn_0 1 rfl rfl)
theorem dX1_isIn_2 : decode cX1_isIn 2 = .ok (.ishr, 1) := dk_122 (dk_at dksX1_isIn_0 2 rfl rfl)
theorem dX1_isIn_3 : decode cX1_isIn 3 = .ok (.iconst 1, 1) := dk_4 (dk_at dksX1_isIn_0 3 rfl rfl)
theorem dX1_isIn_4 : decode cX1_isIn 4 = .ok (.iand, 1) := dk_126 (dk_at dksX1_isIn_0 4 rfl rfl)
theorem dX1_isIn_5 : decode cX1_isIn 5 = .ok (.iconst 1, 1) := dk_4 (dk_at dksX1_isIn_0 5 rfl rfl)
theorem dX1_isIn_6 : decode cX1_isIn 6 = .ok (.if_icmp .ne 7, 3) := dk_160 0 7 (dk_at dksX1_isIn_0 6 rfl rfl)
theorem dX1_isIn_9 : decode cX1_isIn 9 = .ok (.iconst 1, 1) := dk_4 (dk_at dksX1_isIn_0 9 rfl rfl)
theorem dX1_isIn_10 : decode cX1_isIn 10 = .ok (.goto 4, 3) := dk_167 0 4 (dk_at dksX1_isIn_0 10 rfl rfl)
theorem dX1_isIn_13 : decode cX1_isIn 13 = .ok (.iconst 0, 1) := dk_3 (dk_at dksX1_isIn_0 13 rfl rfl)
theorem dX1_isIn_14 : decode cX1_isIn 14 = .ok (.ireturn, 1) := dk_172 (dk_at dksX1_isIn_0 14 rfl rfl)
abbrev cX1_day : ByteArray := prog_1_method_10_code
def yX1_day : MethodName := ⟨RX1, "day", "()I"⟩
def dkwX1_day_1 : List UInt8 := [180, 0, 122, 172, 3, 172]
abbrev dktX1_day_1 : List UInt8 := dkwX1_day_1 ++ []
def dkwX1_day_0 : List UInt8 := [42, 182, 0, 113, 42, 42, 180, 0, 28, 42, 180, 0, 35, 182, 0, 131, 181, 0, 44, 167, 0, 9, 76, 43]
abbrev dktX1_day_0 : List UInt8 := dkwX1_day_0 ++ dktX1_day_1
theorem dksX1_day_0 : cX1_day.data.toList.drop 0 = dktX1_day_0 := by decide +kernel
theorem dksX1_day_1 : cX1_day.data.toList.drop 24 = dktX1_day_1 := dk_seg dksX1_day_0 24 rfl rfl
theorem dX1_day_0 : decode cX1_day 0 = .ok (.aload_n 0, 1) := dk_42 (dk_at dksX1_day_0 0 rfl rfl)
theorem dX1_day_1 : decode cX1_day 1 = .ok (.invokevirtual 113, 3) := dk_182 0 113 (dk_at dksX1_day_0 1 rfl rfl)
theorem dX1_day_4 : decode cX1_day 4 = .ok (.aload_n 0, 1) := dk_42 (dk_at dksX1_day_0 4 rfl rfl)
theorem dX1_day_5 : decode cX1_day 5 = .ok (.aload_n 0, 1) := dk_42 (dk_at dksX1_day_0 5 rfl rfl)
theorem dX1_day_6 : decode cX1_day 6 = .ok (.getfield 28, 3) := dk_180 0 28 (dk_at dksX1_day_0 6 rfl rfl)
theorem dX1_day_9 : decode cX1_day 9 = .ok (.aload_n 0, 1) := dk_42 (dk_at dksX1_day_0 9 rfl rfl)
theorem dX1_day_10 : decode cX1_day 10 = .ok (.getfield 35, 3) := dk_180 0 35 (dk_at dksX1_day_0 10 rfl rfl)
theorem dX1_day_13 : decode cX1_day 13 = .ok (.invokevirtual 131, 3) := dk_182 0 131 (dk_at dksX1_day_0 13 rfl rfl)
theorem dX1_day_16 : decode cX1_day 16 = .ok (.putfield 44, 3) := dk_181 0 44 (dk_at dksX1_day_0 16 rfl rfl)
theorem dX1_day_19 : decode cX1_day 19 = .ok (.goto 9, 3) := dk_167 0 9 (dk_at dksX1_day_0 19 rfl rfl)
theorem dX1_day_22 : decode cX1_day 22 = .ok (.astore_n 1, 1) := dk_76 (dk_at dksX1_day_0 22 rfl rfl)
theorem dX1_day_23 : decode cX1_day 23 = .ok (.aload_n 1, 1) := dk_43 (dk_at dksX1_day_0 23 rfl rfl)
theorem dX1_day_24 : decode cX1_day 24 = .ok (.getfield 122, 3) := dk_180 0 122 (dk_at dksX1_day_1 0 rfl rfl)
theorem dX1_day_27 : decode cX1_day 27 = .ok (.ireturn, 1) := dk_172 (dk_at dksX1_day_1 3 rfl rfl)
theorem dX1_day_28 : decode cX1_day 28 = .ok (.iconst 0, 1) := dk_3 (dk_at dksX1_day_1 4 rfl rfl)
theorem dX1_day_29 : decode cX1_day 29 = .ok (.ireturn, 1) := dk_172 (dk_at dksX1_day_1 5 rfl rfl)
abbrev cX1_cloth : ByteArray := prog_1_method_26_code
def yX1_cloth : MethodName := ⟨RX1, "cloth", "(II)I"⟩
def dkwX1_cloth_6 : List UInt8 := [180, 0, 51, 180, 0, 244, 182, 0, 247, 182, 0, 229, 172, 2, 172]
abbrev dktX1_cloth_6 : List UInt8 := dkwX1_cloth_6 ++ []
def dkwX1_cloth_5 : List UInt8 := [184, 0, 161, 182, 0, 190, 172, 42, 27, 42, 180, 0, 51, 180, 0, 226, 27, 46, 42, 180, 0, 35, 42]
abbrev dktX1_cloth_5 : List UInt8 := dkwX1_cloth_5 ++ dktX1_cloth_6
def dkwX1_cloth_4 : List UInt8 := [3, 172, 42, 42, 180, 0, 51, 27, 182, 1, 5, 153, 0, 7, 4, 167, 0, 4, 3, 172, 42, 27, 29]
abbrev dktX1_cloth_4 : List UInt8 := dkwX1_cloth_4 ++ dktX1_cloth_5
def dkwX1_cloth_3 : List UInt8 := [180, 0, 154, 27, 46, 172, 29, 172, 42, 42, 180, 0, 51, 27, 182, 0, 173, 153, 0, 7, 4, 167, 0, 4]
abbrev dktX1_cloth_3 : List UInt8 := dkwX1_cloth_3 ++ dktX1_cloth_4
def dkwX1_cloth_2 : List UInt8 := [42, 27, 182, 0, 166, 182, 1, 2, 172, 42, 180, 0, 51, 180, 0, 226, 27, 46, 172, 42, 180, 0, 51]
abbrev dktX1_cloth_2 : List UInt8 := dkwX1_cloth_2 ++ dktX1_cloth_3
def dkwX1_cloth_1 : List UInt8 := [170, 0, 0, 0, 0, 0, 0, 154, 0, 0, 0, 0, 0, 0, 0, 7, 0, 0, 0, 48, 0, 0, 0, 57, 0, 0, 0, 67, 0, 0, 0, 77, 0, 0, 0, 79, 0, 0, 0, 97, 0, 0, 0, 115, 0, 0, 0, 125]
abbrev dktX1_cloth_1 : List UInt8 := dkwX1_cloth_1 ++ dktX1_cloth_2
def dkwX1_cloth_0 : List UInt8 := [42, 27, 182, 0, 254, 154, 0, 5, 2, 172, 42, 180, 0, 51, 27, 182, 0, 157, 62, 28]
abbrev dktX1_cloth_0 : List UInt8 := dkwX1_cloth_0 ++ dktX1_cloth_1
theorem dksX1_cloth_0 : cX1_cloth.data.toList.drop 0 = dktX1_cloth_0 := by decide +kernel
theorem dksX1_cloth_1 : cX1_cloth.data.toList.drop 20 = dktX1_cloth_1 := dk_seg dksX1_cloth_0 20 rfl rfl
theorem dksX1_cloth_2 : cX1_cloth.data.toList.drop 68 = dktX1_cloth_2 := dk_seg dksX1_cloth_1 48 rfl rfl
theorem dksX1_cloth_3 : cX1_cloth.data.toList.drop 91 = dktX1_cloth_3 := dk_seg dksX1_cloth_2 23 rfl rfl
theorem dksX1_cloth_4 : cX1_cloth.data.toList.drop 115 = dktX1_cloth_4 := dk_seg dksX1_cloth_3 24 rfl rfl
theorem dksX1_cloth_5 : cX1_cloth.data.toList.drop 138 = dktX1_cloth_5 := dk_seg dksX1_cloth_4 23 rfl rfl
theorem dksX1_cloth_6 : cX1_cloth.data.toList.drop 161 = dktX1_cloth_6 := dk_seg dksX1_cloth_5 23 rfl rfl
theorem dX1_cloth_0 : decode cX1_cloth 0 = .ok (.aload_n 0, 1) := dk_42 (dk_at dksX1_cloth_0 0 rfl rfl)
theorem dX1_cloth_1 : decode cX1_cloth 1 = .ok (.iload_n 1, 1) := dk_27 (dk_at dksX1_cloth_0 1 rfl rfl)
theorem dX1_cloth_2 : decode cX1_cloth 2 = .ok (.invokevirtual 254, 3) := dk_182 0 254 (dk_at dksX1_cloth_0 2 rfl rfl)
theorem dX1_cloth_5 : decode cX1_cloth 5 = .ok (.ifCond .ne 5, 3) := dk_154 0 5 (dk_at dksX1_cloth_0 5 rfl rfl)
theorem dX1_cloth_8 : decode cX1_cloth 8 = .ok (.iconst (-1), 1) := dk_2 (dk_at dksX1_cloth_0 8 rfl rfl)
theorem dX1_cloth_9 : decode cX1_cloth 9 = .ok (.ireturn, 1) := dk_172 (dk_at dksX1_cloth_0 9 rfl rfl)
theorem dX1_cloth_10 : decode cX1_cloth 10 = .ok (.aload_n 0, 1) := dk_42 (dk_at dksX1_cloth_0 10 rfl rfl)
theorem dX1_cloth_11 : decode cX1_cloth 11 = .ok (.getfield 51, 3) := dk_180 0 51 (dk_at dksX1_cloth_0 11 rfl rfl)
theorem dX1_cloth_14 : decode cX1_cloth 14 = .ok (.iload_n 1, 1) := dk_27 (dk_at dksX1_cloth_0 14 rfl rfl)
theorem dX1_cloth_15 : decode cX1_cloth 15 = .ok (.invokevirtual 157, 3) := dk_182 0 157 (dk_at dksX1_cloth_0 15 rfl rfl)
theorem dX1_cloth_18 : decode cX1_cloth 18 = .ok (.istore_n 3, 1) := dk_62 (dk_at dksX1_cloth_0 18 rfl rfl)
theorem dX1_cloth_19 : decode cX1_cloth 19 = .ok (.iload_n 2, 1) := dk_28 (dk_at dksX1_cloth_0 19 rfl rfl)
theorem dX1_cloth_20 : decode cX1_cloth 20 = .ok (.tableswitch 154 0 7 #[48, 57, 67, 77, 79, 97, 115, 125], 48) := by decide +kernel
theorem dX1_cloth_68 : decode cX1_cloth 68 = .ok (.aload_n 0, 1) := dk_42 (dk_at dksX1_cloth_2 0 rfl rfl)
theorem dX1_cloth_69 : decode cX1_cloth 69 = .ok (.iload_n 1, 1) := dk_27 (dk_at dksX1_cloth_2 1 rfl rfl)
theorem dX1_cloth_70 : decode cX1_cloth 70 = .ok (.invokevirtual 166, 3) := dk_182 0 166 (dk_at dksX1_cloth_2 2 rfl rfl)
theorem dX1_cloth_73 : decode cX1_cloth 73 = .ok (.invokevirtual 258, 3) := dk_182 1 2 (dk_at dksX1_cloth_2 5 rfl rfl)
theorem dX1_cloth_76 : decode cX1_cloth 76 = .ok (.ireturn, 1) := dk_172 (dk_at dksX1_cloth_2 8 rfl rfl)
theorem dX1_cloth_77 : decode cX1_cloth 77 = .ok (.aload_n 0, 1) := dk_42 (dk_at dksX1_cloth_2 9 rfl rfl)
theorem dX1_cloth_78 : decode cX1_cloth 78 = .ok (.getfield 51, 3) := dk_180 0 51 (dk_at dksX1_cloth_2 10 rfl rfl)
theorem dX1_cloth_81 : decode cX1_cloth 81 = .ok (.getfield 226, 3) := dk_180 0 226 (dk_at dksX1_cloth_2 13 rfl rfl)
theorem dX1_cloth_84 : decode cX1_cloth 84 = .ok (.iload_n 1, 1) := dk_27 (dk_at dksX1_cloth_2 16 rfl rfl)
theorem dX1_cloth_85 : decode cX1_cloth 85 = .ok (.iaload, 1) := dk_46 (dk_at dksX1_cloth_2 17 rfl rfl)
theorem dX1_cloth_86 : decode cX1_cloth 86 = .ok (.ireturn, 1) := dk_172 (dk_at dksX1_cloth_2 18 rfl rfl)
theorem dX1_cloth_87 : decode cX1_cloth 87 = .ok (.aload_n 0, 1) := dk_42 (dk_at dksX1_cloth_2 19 rfl rfl)
theorem dX1_cloth_88 : decode cX1_cloth 88 = .ok (.getfield 51, 3) := dk_180 0 51 (dk_at dksX1_cloth_2 20 rfl rfl)
theorem dX1_cloth_91 : decode cX1_cloth 91 = .ok (.getfield 154, 3) := dk_180 0 154 (dk_at dksX1_cloth_3 0 rfl rfl)
theorem dX1_cloth_94 : decode cX1_cloth 94 = .ok (.iload_n 1, 1) := dk_27 (dk_at dksX1_cloth_3 3 rfl rfl)
theorem dX1_cloth_95 : decode cX1_cloth 95 = .ok (.iaload, 1) := dk_46 (dk_at dksX1_cloth_3 4 rfl rfl)
theorem dX1_cloth_96 : decode cX1_cloth 96 = .ok (.ireturn, 1) := dk_172 (dk_at dksX1_cloth_3 5 rfl rfl)
theorem dX1_cloth_97 : decode cX1_cloth 97 = .ok (.iload_n 3, 1) := dk_29 (dk_at dksX1_cloth_3 6 rfl rfl)
theorem dX1_cloth_98 : decode cX1_cloth 98 = .ok (.ireturn, 1) := dk_172 (dk_at dksX1_cloth_3 7 rfl rfl)
theorem dX1_cloth_99 : decode cX1_cloth 99 = .ok (.aload_n 0, 1) := dk_42 (dk_at dksX1_cloth_3 8 rfl rfl)
theorem dX1_cloth_100 : decode cX1_cloth 100 = .ok (.aload_n 0, 1) := dk_42 (dk_at dksX1_cloth_3 9 rfl rfl)
theorem dX1_cloth_101 : decode cX1_cloth 101 = .ok (.getfield 51, 3) := dk_180 0 51 (dk_at dksX1_cloth_3 10 rfl rfl)
theorem dX1_cloth_104 : decode cX1_cloth 104 = .ok (.iload_n 1, 1) := dk_27 (dk_at dksX1_cloth_3 13 rfl rfl)
theorem dX1_cloth_105 : decode cX1_cloth 105 = .ok (.invokevirtual 173, 3) := dk_182 0 173 (dk_at dksX1_cloth_3 14 rfl rfl)
theorem dX1_cloth_108 : decode cX1_cloth 108 = .ok (.ifCond .eq 7, 3) := dk_153 0 7 (dk_at dksX1_cloth_3 17 rfl rfl)
theorem dX1_cloth_111 : decode cX1_cloth 111 = .ok (.iconst 1, 1) := dk_4 (dk_at dksX1_cloth_3 20 rfl rfl)
theorem dX1_cloth_112 : decode cX1_cloth 112 = .ok (.goto 4, 3) := dk_167 0 4 (dk_at dksX1_cloth_3 21 rfl rfl)
theorem dX1_cloth_115 : decode cX1_cloth 115 = .ok (.iconst 0, 1) := dk_3 (dk_at dksX1_cloth_4 0 rfl rfl)
theorem dX1_cloth_116 : decode cX1_cloth 116 = .ok (.ireturn, 1) := dk_172 (dk_at dksX1_cloth_4 1 rfl rfl)
theorem dX1_cloth_117 : decode cX1_cloth 117 = .ok (.aload_n 0, 1) := dk_42 (dk_at dksX1_cloth_4 2 rfl rfl)
theorem dX1_cloth_118 : decode cX1_cloth 118 = .ok (.aload_n 0, 1) := dk_42 (dk_at dksX1_cloth_4 3 rfl rfl)
theorem dX1_cloth_119 : decode cX1_cloth 119 = .ok (.getfield 51, 3) := dk_180 0 51 (dk_at dksX1_cloth_4 4 rfl rfl)
theorem dX1_cloth_122 : decode cX1_cloth 122 = .ok (.iload_n 1, 1) := dk_27 (dk_at dksX1_cloth_4 7 rfl rfl)
theorem dX1_cloth_123 : decode cX1_cloth 123 = .ok (.invokevirtual 261, 3) := dk_182 1 5 (dk_at dksX1_cloth_4 8 rfl rfl)
theorem dX1_cloth_126 : decode cX1_cloth 126 = .ok (.ifCond .eq 7, 3) := dk_153 0 7 (dk_at dksX1_cloth_4 11 rfl rfl)
theorem dX1_cloth_129 : decode cX1_cloth 129 = .ok (.iconst 1, 1) := dk_4 (dk_at dksX1_cloth_4 14 rfl rfl)
theorem dX1_cloth_130 : decode cX1_cloth 130 = .ok (.goto 4, 3) := dk_167 0 4 (dk_at dksX1_cloth_4 15 rfl rfl)
theorem dX1_cloth_133 : decode cX1_cloth 133 = .ok (.iconst 0, 1) := dk_3 (dk_at dksX1_cloth_4 18 rfl rfl)
theorem dX1_cloth_134 : decode cX1_cloth 134 = .ok (.ireturn, 1) := dk_172 (dk_at dksX1_cloth_4 19 rfl rfl)
theorem dX1_cloth_135 : decode cX1_cloth 135 = .ok (.aload_n 0, 1) := dk_42 (dk_at dksX1_cloth_4 20 rfl rfl)
theorem dX1_cloth_136 : decode cX1_cloth 136 = .ok (.iload_n 1, 1) := dk_27 (dk_at dksX1_cloth_4 21 rfl rfl)
theorem dX1_cloth_137 : decode cX1_cloth 137 = .ok (.iload_n 3, 1) := dk_29 (dk_at dksX1_cloth_4 22 rfl rfl)
theorem dX1_cloth_138 : decode cX1_cloth 138 = .ok (.invokestatic 161, 3) := dk_184 0 161 (dk_at dksX1_cloth_5 0 rfl rfl)
theorem dX1_cloth_141 : decode cX1_cloth 141 = .ok (.invokevirtual 190, 3) := dk_182 0 190 (dk_at dksX1_cloth_5 3 rfl rfl)
theorem dX1_cloth_144 : decode cX1_cloth 144 = .ok (.ireturn, 1) := dk_172 (dk_at dksX1_cloth_5 6 rfl rfl)
theorem dX1_cloth_145 : decode cX1_cloth 145 = .ok (.aload_n 0, 1) := dk_42 (dk_at dksX1_cloth_5 7 rfl rfl)
theorem dX1_cloth_146 : decode cX1_cloth 146 = .ok (.iload_n 1, 1) := dk_27 (dk_at dksX1_cloth_5 8 rfl rfl)
theorem dX1_cloth_147 : decode cX1_cloth 147 = .ok (.aload_n 0, 1) := dk_42 (dk_at dksX1_cloth_5 9 rfl rfl)
theorem dX1_cloth_148 : decode cX1_cloth 148 = .ok (.getfield 51, 3) := dk_180 0 51 (dk_at dksX1_cloth_5 10 rfl rfl)
theorem dX1_cloth_151 : decode cX1_cloth 151 = .ok (.getfield 226, 3) := dk_180 0 226 (dk_at dksX1_cloth_5 13 rfl rfl)
theorem dX1_cloth_154 : decode cX1_cloth 154 = .ok (.iload_n 1, 1) := dk_27 (dk_at dksX1_cloth_5 16 rfl rfl)
theorem dX1_cloth_155 : decode cX1_cloth 155 = .ok (.iaload, 1) := dk_46 (dk_at dksX1_cloth_5 17 rfl rfl)
theorem dX1_cloth_156 : decode cX1_cloth 156 = .ok (.aload_n 0, 1) := dk_42 (dk_at dksX1_cloth_5 18 rfl rfl)
theorem dX1_cloth_157 : decode cX1_cloth 157 = .ok (.getfield 35, 3) := dk_180 0 35 (dk_at dksX1_cloth_5 19 rfl rfl)
theorem dX1_cloth_160 : decode cX1_cloth 160 = .ok (.aload_n 0, 1) := dk_42 (dk_at dksX1_cloth_5 22 rfl rfl)
theorem dX1_cloth_161 : decode cX1_cloth 161 = .ok (.getfield 51, 3) := dk_180 0 51 (dk_at dksX1_cloth_6 0 rfl rfl)
theorem dX1_cloth_164 : decode cX1_cloth 164 = .ok (.getfield 244, 3) := dk_180 0 244 (dk_at dksX1_cloth_6 3 rfl rfl)
theorem dX1_cloth_167 : decode cX1_cloth 167 = .ok (.invokevirtual 247, 3) := dk_182 0 247 (dk_at dksX1_cloth_6 6 rfl rfl)
theorem dX1_cloth_170 : decode cX1_cloth 170 = .ok (.invokevirtual 229, 3) := dk_182 0 229 (dk_at dksX1_cloth_6 9 rfl rfl)
theorem dX1_cloth_173 : decode cX1_cloth 173 = .ok (.ireturn, 1) := dk_172 (dk_at dksX1_cloth_6 12 rfl rfl)
theorem dX1_cloth_174 : decode cX1_cloth 174 = .ok (.iconst (-1), 1) := dk_2 (dk_at dksX1_cloth_6 13 rfl rfl)
theorem dX1_cloth_175 : decode cX1_cloth 175 = .ok (.ireturn, 1) := dk_172 (dk_at dksX1_cloth_6 14 rfl rfl)
abbrev cX1_isCloth : ByteArray := prog_1_method_13_code
def yX1_isCloth : MethodName := ⟨RX1, "isCloth", "(I)Z"⟩
def dkwX1_isCloth_0 : List UInt8 := [27, 3, 42, 182, 0, 148, 4, 100, 184, 0, 150, 172]
abbrev dktX1_isCloth_0 : List UInt8 := dkwX1_isCloth_0 ++ []
theorem dksX1_isCloth_0 : cX1_isCloth.data.toList.drop 0 = dktX1_isCloth_0 := by decide +kernel
theorem dX1_isCloth_0 : decode cX1_isCloth 0 = .ok (.iload_n 1, 1) := dk_27 (dk_at dksX1_isCloth_0 0 rfl rfl)
theorem dX1_isCloth_1 : decode cX1_isCloth 1 = .ok (.iconst 0, 1) := dk_3 (dk_at dksX1_isCloth_0 1 rfl rfl)
theorem dX1_isCloth_2 : decode cX1_isCloth 2 = .ok (.aload_n 0, 1) := dk_42 (dk_at dksX1_isCloth_0 2 rfl rfl)
theorem dX1_isCloth_3 : decode cX1_isCloth 3 = .ok (.invokevirtual 148, 3) := dk_182 0 148 (dk_at dksX1_isCloth_0 3 rfl rfl)
theorem dX1_isCloth_6 : decode cX1_isCloth 6 = .ok (.iconst 1, 1) := dk_4 (dk_at dksX1_isCloth_0 6 rfl rfl)
theorem dX1_isCloth_7 : decode cX1_isCloth 7 = .ok (.isub, 1) := dk_100 (dk_at dksX1_isCloth_0 7 rfl rfl)
theorem dX1_isCloth_8 : decode cX1_isCloth 8 = .ok (.invokestatic 150, 3) := dk_184 0 150 (dk_at dksX1_isCloth_0 8 rfl rfl)
theorem dX1_isCloth_11 : decode cX1_isCloth 11 = .ok (.ireturn, 1) := dk_172 (dk_at dksX1_isCloth_0 11 rfl rfl)
abbrev cX1_cloths : ByteArray := prog_1_method_11_code
def yX1_cloths : MethodName := ⟨RX1, "cloths", "()I"⟩
def dkwX1_cloths_0 : List UInt8 := [42, 180, 0, 35, 180, 0, 135, 182, 0, 138, 172]
abbrev dktX1_cloths_0 : List UInt8 := dkwX1_cloths_0 ++ []
theorem dksX1_cloths_0 : cX1_cloths.data.toList.drop 0 = dktX1_cloths_0 := by decide +kernel
theorem dX1_cloths_0 : decode cX1_cloths 0 = .ok (.aload_n 0, 1) := dk_42 (dk_at dksX1_cloths_0 0 rfl rfl)
theorem dX1_cloths_1 : decode cX1_cloths 1 = .ok (.getfield 35, 3) := dk_180 0 35 (dk_at dksX1_cloths_0 1 rfl rfl)
theorem dX1_cloths_4 : decode cX1_cloths 4 = .ok (.getfield 135, 3) := dk_180 0 135 (dk_at dksX1_cloths_0 4 rfl rfl)
theorem dX1_cloths_7 : decode cX1_cloths 7 = .ok (.invokevirtual 138, 3) := dk_182 0 138 (dk_at dksX1_cloths_0 7 rfl rfl)
theorem dX1_cloths_10 : decode cX1_cloths 10 = .ok (.ireturn, 1) := dk_172 (dk_at dksX1_cloths_0 10 rfl rfl)
abbrev cX1_cloth_2 : ByteArray := prog_1_method_12_code
def yX1_cloth_2 : MethodName := ⟨RX1, "cloth", "(I)LPegLaws$Cloth;"⟩
def dkwX1_cloth_2_0 : List UInt8 := [42, 180, 0, 35, 180, 0, 135, 27, 182, 0, 142, 192, 0, 146, 176]
abbrev dktX1_cloth_2_0 : List UInt8 := dkwX1_cloth_2_0 ++ []
theorem dksX1_cloth_2_0 : cX1_cloth_2.data.toList.drop 0 = dktX1_cloth_2_0 := by decide +kernel
theorem dX1_cloth_2_0 : decode cX1_cloth_2 0 = .ok (.aload_n 0, 1) := dk_42 (dk_at dksX1_cloth_2_0 0 rfl rfl)
theorem dX1_cloth_2_1 : decode cX1_cloth_2 1 = .ok (.getfield 35, 3) := dk_180 0 35 (dk_at dksX1_cloth_2_0 1 rfl rfl)
theorem dX1_cloth_2_4 : decode cX1_cloth_2 4 = .ok (.getfield 135, 3) := dk_180 0 135 (dk_at dksX1_cloth_2_0 4 rfl rfl)
theorem dX1_cloth_2_7 : decode cX1_cloth_2 7 = .ok (.iload_n 1, 1) := dk_27 (dk_at dksX1_cloth_2_0 7 rfl rfl)
theorem dX1_cloth_2_8 : decode cX1_cloth_2 8 = .ok (.invokevirtual 142, 3) := dk_182 0 142 (dk_at dksX1_cloth_2_0 8 rfl rfl)
theorem dX1_cloth_2_11 : decode cX1_cloth_2 11 = .ok (.checkcast 146, 3) := dk_192 0 146 (dk_at dksX1_cloth_2_0 11 rfl rfl)
theorem dX1_cloth_2_14 : decode cX1_cloth_2 14 = .ok (.areturn, 1) := dk_176 (dk_at dksX1_cloth_2_0 14 rfl rfl)
abbrev cX1_isLaw : ByteArray := prog_1_method_14_code
def yX1_isLaw : MethodName := ⟨RX1, "isLaw", "(LPegLaws$State;I)Z"⟩
def dkwX1_isLaw_1 : List UInt8 := [182, 0, 170, 160, 0, 7, 4, 167, 0, 4, 3, 172]
abbrev dktX1_isLaw_1 : List UInt8 := dkwX1_isLaw_1 ++ []
def dkwX1_isLaw_0 : List UInt8 := [43, 180, 0, 154, 28, 46, 6, 162, 0, 26, 43, 28, 182, 0, 157, 184, 0, 161, 42, 28, 182, 0, 166]
abbrev dktX1_isLaw_0 : List UInt8 := dkwX1_isLaw_0 ++ dktX1_isLaw_1
theorem dksX1_isLaw_0 : cX1_isLaw.data.toList.drop 0 = dktX1_isLaw_0 := by decide +kernel
theorem dksX1_isLaw_1 : cX1_isLaw.data.toList.drop 23 = dktX1_isLaw_1 := dk_seg dksX1_isLaw_0 23 rfl rfl
theorem dX1_isLaw_0 : decode cX1_isLaw 0 = .ok (.aload_n 1, 1) := dk_43 (dk_at dksX1_isLaw_0 0 rfl rfl)
theorem dX1_isLaw_1 : decode cX1_isLaw 1 = .ok (.getfield 154, 3) := dk_180 0 154 (dk_at dksX1_isLaw_0 1 rfl rfl)
theorem dX1_isLaw_4 : decode cX1_isLaw 4 = .ok (.iload_n 2, 1) := dk_28 (dk_at dksX1_isLaw_0 4 rfl rfl)
theorem dX1_isLaw_5 : decode cX1_isLaw 5 = .ok (.iaload, 1) := dk_46 (dk_at dksX1_isLaw_0 5 rfl rfl)
theorem dX1_isLaw_6 : decode cX1_isLaw 6 = .ok (.iconst 3, 1) := dk_6 (dk_at dksX1_isLaw_0 6 rfl rfl)
theorem dX1_isLaw_7 : decode cX1_isLaw 7 = .ok (.if_icmp .ge 26, 3) := dk_162 0 26 (dk_at dksX1_isLaw_0 7 rfl rfl)
theorem dX1_isLaw_10 : decode cX1_isLaw 10 = .ok (.aload_n 1, 1) := dk_43 (dk_at dksX1_isLaw_0 10 rfl rfl)
theorem dX1_isLaw_11 : decode cX1_isLaw 11 = .ok (.iload_n 2, 1) := dk_28 (dk_at dksX1_isLaw_0 11 rfl rfl)
theorem dX1_isLaw_12 : decode cX1_isLaw 12 = .ok (.invokevirtual 157, 3) := dk_182 0 157 (dk_at dksX1_isLaw_0 12 rfl rfl)
theorem dX1_isLaw_15 : decode cX1_isLaw 15 = .ok (.invokestatic 161, 3) := dk_184 0 161 (dk_at dksX1_isLaw_0 15 rfl rfl)
theorem dX1_isLaw_18 : decode cX1_isLaw 18 = .ok (.aload_n 0, 1) := dk_42 (dk_at dksX1_isLaw_0 18 rfl rfl)
theorem dX1_isLaw_19 : decode cX1_isLaw 19 = .ok (.iload_n 2, 1) := dk_28 (dk_at dksX1_isLaw_0 19 rfl rfl)
theorem dX1_isLaw_20 : decode cX1_isLaw 20 = .ok (.invokevirtual 166, 3) := dk_182 0 166 (dk_at dksX1_isLaw_0 20 rfl rfl)
theorem dX1_isLaw_23 : decode cX1_isLaw 23 = .ok (.invokevirtual 170, 3) := dk_182 0 170 (dk_at dksX1_isLaw_1 0 rfl rfl)
theorem dX1_isLaw_26 : decode cX1_isLaw 26 = .ok (.if_icmp .ne 7, 3) := dk_160 0 7 (dk_at dksX1_isLaw_1 3 rfl rfl)
theorem dX1_isLaw_29 : decode cX1_isLaw 29 = .ok (.iconst 1, 1) := dk_4 (dk_at dksX1_isLaw_1 6 rfl rfl)
theorem dX1_isLaw_30 : decode cX1_isLaw 30 = .ok (.goto 4, 3) := dk_167 0 4 (dk_at dksX1_isLaw_1 7 rfl rfl)
theorem dX1_isLaw_33 : decode cX1_isLaw 33 = .ok (.iconst 0, 1) := dk_3 (dk_at dksX1_isLaw_1 10 rfl rfl)
theorem dX1_isLaw_34 : decode cX1_isLaw 34 = .ok (.ireturn, 1) := dk_172 (dk_at dksX1_isLaw_1 11 rfl rfl)
abbrev cX1_isTurned : ByteArray := prog_1_method_15_code
def yX1_isTurned : MethodName := ⟨RX1, "isTurned", "(LPegLaws$State;I)Z"⟩
def dkwX1_isTurned_0 : List UInt8 := [43, 28, 182, 0, 157, 184, 0, 161, 4, 160, 0, 7, 4, 167, 0, 4, 3, 172]
abbrev dktX1_isTurned_0 : List UInt8 := dkwX1_isTurned_0 ++ []
theorem dksX1_isTurned_0 : cX1_isTurned.data.toList.drop 0 = dktX1_isTurned_0 := by decide +kernel
theorem dX1_isTurned_0 : decode cX1_isTurned 0 = .ok (.aload_n 1, 1) := dk_43 (dk_at dksX1_isTurned_0 0 rfl rfl)
theorem dX1_isTurned_1 : decode cX1_isTurned 1 = .ok (.iload_n 2, 1) := dk_28 (dk_at dksX1_isTurned_0 1 rfl rfl)
theorem dX1_isTurned_2 : decode cX1_isTurned 2 = .ok (.invokevirtual 157, 3) := dk_182 0 157 (dk_at dksX1_isTurned_0 2 rfl rfl)
theorem dX1_isTurned_5 : decode cX1_isTurned 5 = .ok (.invokestatic 161, 3) := dk_184 0 161 (dk_at dksX1_isTurned_0 5 rfl rfl)
theorem dX1_isTurned_8 : decode cX1_isTurned 8 = .ok (.iconst 1, 1) := dk_4 (dk_at dksX1_isTurned_0 8 rfl rfl)
theorem dX1_isTurned_9 : decode cX1_isTurned 9 = .ok (.if_icmp .ne 7, 3) := dk_160 0 7 (dk_at dksX1_isTurned_0 9 rfl rfl)
theorem dX1_isTurned_12 : decode cX1_isTurned 12 = .ok (.iconst 1, 1) := dk_4 (dk_at dksX1_isTurned_0 12 rfl rfl)
theorem dX1_isTurned_13 : decode cX1_isTurned 13 = .ok (.goto 4, 3) := dk_167 0 4 (dk_at dksX1_isTurned_0 13 rfl rfl)
theorem dX1_isTurned_16 : decode cX1_isTurned 16 = .ok (.iconst 0, 1) := dk_3 (dk_at dksX1_isTurned_0 16 rfl rfl)
theorem dX1_isTurned_17 : decode cX1_isTurned 17 = .ok (.ireturn, 1) := dk_172 (dk_at dksX1_isTurned_0 17 rfl rfl)
abbrev cX1_roomBy : ByteArray := prog_1_method_18_code
def yX1_roomBy : MethodName := ⟨RX1, "roomBy", "(II)I"⟩
def dkwX1_roomBy_1 : List UInt8 := [3, 167, 0, 11, 42, 27, 182, 0, 166, 180, 0, 184, 172]
abbrev dktX1_roomBy_1 : List UInt8 := dkwX1_roomBy_1 ++ []
def dkwX1_roomBy_0 : List UInt8 := [28, 4, 160, 0, 18, 42, 27, 182, 0, 166, 180, 0, 184, 5, 108, 4, 96, 167, 0, 19, 28, 154, 0, 7]
abbrev dktX1_roomBy_0 : List UInt8 := dkwX1_roomBy_0 ++ dktX1_roomBy_1
theorem dksX1_roomBy_0 : cX1_roomBy.data.toList.drop 0 = dktX1_roomBy_0 := by decide +kernel
theorem dksX1_roomBy_1 : cX1_roomBy.data.toList.drop 24 = dktX1_roomBy_1 := dk_seg dksX1_roomBy_0 24 rfl rfl
theorem dX1_roomBy_0 : decode cX1_roomBy 0 = .ok (.iload_n 2, 1) := dk_28 (dk_at dksX1_roomBy_0 0 rfl rfl)
theorem dX1_roomBy_1 : decode cX1_roomBy 1 = .ok (.iconst 1, 1) := dk_4 (dk_at dksX1_roomBy_0 1 rfl rfl)
theorem dX1_roomBy_2 : decode cX1_roomBy 2 = .ok (.if_icmp .ne 18, 3) := dk_160 0 18 (dk_at dksX1_roomBy_0 2 rfl rfl)
theorem dX1_roomBy_5 : decode cX1_roomBy 5 = .ok (.aload_n 0, 1) := dk_42 (dk_at dksX1_roomBy_0 5 rfl rfl)
theorem dX1_roomBy_6 : decode cX1_roomBy 6 = .ok (.iload_n 1, 1) := dk_27 (dk_at dksX1_roomBy_0 6 rfl rfl)
theorem dX1_roomBy_7 : decode cX1_roomBy 7 = .ok (.invokevirtual 166, 3) := dk_182 0 166 (dk_at dksX1_roomBy_0 7 rfl rfl)
theorem dX1_roomBy_10 : decode cX1_roomBy 10 = .ok (.getfield 184, 3) := dk_180 0 184 (dk_at dksX1_roomBy_0 10 rfl rfl)
theorem dX1_roomBy_13 : decode cX1_roomBy 13 = .ok (.iconst 2, 1) := dk_5 (dk_at dksX1_roomBy_0 13 rfl rfl)
theorem dX1_roomBy_14 : decode cX1_roomBy 14 = .ok (.idiv, 1) := dk_108 (dk_at dksX1_roomBy_0 14 rfl rfl)
theorem dX1_roomBy_15 : decode cX1_roomBy 15 = .ok (.iconst 1, 1) := dk_4 (dk_at dksX1_roomBy_0 15 rfl rfl)
theorem dX1_roomBy_16 : decode cX1_roomBy 16 = .ok (.iadd, 1) := dk_96 (dk_at dksX1_roomBy_0 16 rfl rfl)
theorem dX1_roomBy_17 : decode cX1_roomBy 17 = .ok (.goto 19, 3) := dk_167 0 19 (dk_at dksX1_roomBy_0 17 rfl rfl)
theorem dX1_roomBy_20 : decode cX1_roomBy 20 = .ok (.iload_n 2, 1) := dk_28 (dk_at dksX1_roomBy_0 20 rfl rfl)
theorem dX1_roomBy_21 : decode cX1_roomBy 21 = .ok (.ifCond .ne 7, 3) := dk_154 0 7 (dk_at dksX1_roomBy_0 21 rfl rfl)
theorem dX1_roomBy_24 : decode cX1_roomBy 24 = .ok (.iconst 0, 1) := dk_3 (dk_at dksX1_roomBy_1 0 rfl rfl)
theorem dX1_roomBy_25 : decode cX1_roomBy 25 = .ok (.goto 11, 3) := dk_167 0 11 (dk_at dksX1_roomBy_1 1 rfl rfl)
theorem dX1_roomBy_28 : decode cX1_roomBy 28 = .ok (.aload_n 0, 1) := dk_42 (dk_at dksX1_roomBy_1 4 rfl rfl)
theorem dX1_roomBy_29 : decode cX1_roomBy 29 = .ok (.iload_n 1, 1) := dk_27 (dk_at dksX1_roomBy_1 5 rfl rfl)
theorem dX1_roomBy_30 : decode cX1_roomBy 30 = .ok (.invokevirtual 166, 3) := dk_182 0 166 (dk_at dksX1_roomBy_1 6 rfl rfl)
theorem dX1_roomBy_33 : decode cX1_roomBy 33 = .ok (.getfield 184, 3) := dk_180 0 184 (dk_at dksX1_roomBy_1 9 rfl rfl)
theorem dX1_roomBy_36 : decode cX1_roomBy 36 = .ok (.ireturn, 1) := dk_172 (dk_at dksX1_roomBy_1 12 rfl rfl)
abbrev cX1_pullOf : ByteArray := prog_1_method_22_code
def yX1_pullOf : MethodName := ⟨RX1, "pullOf", "(III)I"⟩
def dkwX1_pullOf_1 : List UInt8 := [180, 0, 184, 96, 42, 27, 182, 0, 166, 28, 182, 0, 204, 100, 16, 99, 182, 0, 217, 182, 0, 220, 172]
abbrev dktX1_pullOf_1 : List UInt8 := dkwX1_pullOf_1 ++ []
def dkwX1_pullOf_0 : List UInt8 := [42, 27, 182, 0, 166, 42, 42, 180, 0, 35, 180, 0, 213, 27, 28, 29, 29, 42, 27, 182, 0, 166]
abbrev dktX1_pullOf_0 : List UInt8 := dkwX1_pullOf_0 ++ dktX1_pullOf_1
theorem dksX1_pullOf_0 : cX1_pullOf.data.toList.drop 0 = dktX1_pullOf_0 := by decide +kernel
theorem dksX1_pullOf_1 : cX1_pullOf.data.toList.drop 22 = dktX1_pullOf_1 := dk_seg dksX1_pullOf_0 22 rfl rfl
theorem dX1_pullOf_0 : decode cX1_pullOf 0 = .ok (.aload_n 0, 1) := dk_42 (dk_at dksX1_pullOf_0 0 rfl rfl)
theorem dX1_pullOf_1 : decode cX1_pullOf 1 = .ok (.iload_n 1, 1) := dk_27 (dk_at dksX1_pullOf_0 1 rfl rfl)
theorem dX1_pullOf_2 : decode cX1_pullOf 2 = .ok (.invokevirtual 166, 3) := dk_182 0 166 (dk_at dksX1_pullOf_0 2 rfl rfl)
theorem dX1_pullOf_5 : decode cX1_pullOf 5 = .ok (.aload_n 0, 1) := dk_42 (dk_at dksX1_pullOf_0 5 rfl rfl)
theorem dX1_pullOf_6 : decode cX1_pullOf 6 = .ok (.aload_n 0, 1) := dk_42 (dk_at dksX1_pullOf_0 6 rfl rfl)
theorem dX1_pullOf_7 : decode cX1_pullOf 7 = .ok (.getfield 35, 3) := dk_180 0 35 (dk_at dksX1_pullOf_0 7 rfl rfl)
theorem dX1_pullOf_10 : decode cX1_pullOf 10 = .ok (.getfield 213, 3) := dk_180 0 213 (dk_at dksX1_pullOf_0 10 rfl rfl)
theorem dX1_pullOf_13 : decode cX1_pullOf 13 = .ok (.iload_n 1, 1) := dk_27 (dk_at dksX1_pullOf_0 13 rfl rfl)
theorem dX1_pullOf_14 : decode cX1_pullOf 14 = .ok (.iload_n 2, 1) := dk_28 (dk_at dksX1_pullOf_0 14 rfl rfl)
theorem dX1_pullOf_15 : decode cX1_pullOf 15 = .ok (.iload_n 3, 1) := dk_29 (dk_at dksX1_pullOf_0 15 rfl rfl)
theorem dX1_pullOf_16 : decode cX1_pullOf 16 = .ok (.iload_n 3, 1) := dk_29 (dk_at dksX1_pullOf_0 16 rfl rfl)
theorem dX1_pullOf_17 : decode cX1_pullOf 17 = .ok (.aload_n 0, 1) := dk_42 (dk_at dksX1_pullOf_0 17 rfl rfl)
theorem dX1_pullOf_18 : decode cX1_pullOf 18 = .ok (.iload_n 1, 1) := dk_27 (dk_at dksX1_pullOf_0 18 rfl rfl)
theorem dX1_pullOf_19 : decode cX1_pullOf 19 = .ok (.invokevirtual 166, 3) := dk_182 0 166 (dk_at dksX1_pullOf_0 19 rfl rfl)
theorem dX1_pullOf_22 : decode cX1_pullOf 22 = .ok (.getfield 184, 3) := dk_180 0 184 (dk_at dksX1_pullOf_1 0 rfl rfl)
theorem dX1_pullOf_25 : decode cX1_pullOf 25 = .ok (.iadd, 1) := dk_96 (dk_at dksX1_pullOf_1 3 rfl rfl)
theorem dX1_pullOf_26 : decode cX1_pullOf 26 = .ok (.aload_n 0, 1) := dk_42 (dk_at dksX1_pullOf_1 4 rfl rfl)
theorem dX1_pullOf_27 : decode cX1_pullOf 27 = .ok (.iload_n 1, 1) := dk_27 (dk_at dksX1_pullOf_1 5 rfl rfl)
theorem dX1_pullOf_28 : decode cX1_pullOf 28 = .ok (.invokevirtual 166, 3) := dk_182 0 166 (dk_at dksX1_pullOf_1 6 rfl rfl)
theorem dX1_pullOf_31 : decode cX1_pullOf 31 = .ok (.iload_n 2, 1) := dk_28 (dk_at dksX1_pullOf_1 9 rfl rfl)
theorem dX1_pullOf_32 : decode cX1_pullOf 32 = .ok (.invokevirtual 204, 3) := dk_182 0 204 (dk_at dksX1_pullOf_1 10 rfl rfl)
theorem dX1_pullOf_35 : decode cX1_pullOf 35 = .ok (.isub, 1) := dk_100 (dk_at dksX1_pullOf_1 13 rfl rfl)
theorem dX1_pullOf_36 : decode cX1_pullOf 36 = .ok (.bipush 99, 2) := dk_16 99 (dk_at dksX1_pullOf_1 14 rfl rfl)
theorem dX1_pullOf_38 : decode cX1_pullOf 38 = .ok (.invokevirtual 217, 3) := dk_182 0 217 (dk_at dksX1_pullOf_1 16 rfl rfl)
theorem dX1_pullOf_41 : decode cX1_pullOf 41 = .ok (.invokevirtual 220, 3) := dk_182 0 220 (dk_at dksX1_pullOf_1 19 rfl rfl)
theorem dX1_pullOf_44 : decode cX1_pullOf 44 = .ok (.ireturn, 1) := dk_172 (dk_at dksX1_pullOf_1 22 rfl rfl)
abbrev cX1_worked : ByteArray := prog_1_method_21_code
def yX1_worked : MethodName := ⟨RX1, "worked", "(LPegLaws$Expression;IIIII)I"⟩
def dkwX1_worked_2 : List UInt8 := [180, 0, 184, 79, 43, 42, 180, 0, 58, 182, 0, 207, 3, 21, 6, 184, 0, 200, 172]
abbrev dktX1_worked_2 : List UInt8 := dkwX1_worked_2 ++ []
def dkwX1_worked_1 : List UInt8 := [180, 0, 58, 4, 42, 28, 182, 0, 166, 29, 182, 0, 204, 79, 42, 180, 0, 58, 5, 42, 28, 182, 0, 166]
abbrev dktX1_worked_1 : List UInt8 := dkwX1_worked_1 ++ dktX1_worked_2
def dkwX1_worked_0 : List UInt8 := [43, 199, 0, 12, 21, 5, 3, 21, 6, 184, 0, 200, 172, 42, 180, 0, 58, 3, 21, 4, 79, 42]
abbrev dktX1_worked_0 : List UInt8 := dkwX1_worked_0 ++ dktX1_worked_1
theorem dksX1_worked_0 : cX1_worked.data.toList.drop 0 = dktX1_worked_0 := by decide +kernel
theorem dksX1_worked_1 : cX1_worked.data.toList.drop 22 = dktX1_worked_1 := dk_seg dksX1_worked_0 22 rfl rfl
theorem dksX1_worked_2 : cX1_worked.data.toList.drop 46 = dktX1_worked_2 := dk_seg dksX1_worked_1 24 rfl rfl
theorem dX1_worked_0 : decode cX1_worked 0 = .ok (.aload_n 1, 1) := dk_43 (dk_at dksX1_worked_0 0 rfl rfl)
theorem dX1_worked_1 : decode cX1_worked 1 = .ok (.ifnonnull 12, 3) := dk_199 0 12 (dk_at dksX1_worked_0 1 rfl rfl)
theorem dX1_worked_4 : decode cX1_worked 4 = .ok (.iload 5, 2) := dk_21 5 (dk_at dksX1_worked_0 4 rfl rfl)
theorem dX1_worked_6 : decode cX1_worked 6 = .ok (.iconst 0, 1) := dk_3 (dk_at dksX1_worked_0 6 rfl rfl)
theorem dX1_worked_7 : decode cX1_worked 7 = .ok (.iload 6, 2) := dk_21 6 (dk_at dksX1_worked_0 7 rfl rfl)
theorem dX1_worked_9 : decode cX1_worked 9 = .ok (.invokestatic 200, 3) := dk_184 0 200 (dk_at dksX1_worked_0 9 rfl rfl)
theorem dX1_worked_12 : decode cX1_worked 12 = .ok (.ireturn, 1) := dk_172 (dk_at dksX1_worked_0 12 rfl rfl)
theorem dX1_worked_13 : decode cX1_worked 13 = .ok (.aload_n 0, 1) := dk_42 (dk_at dksX1_worked_0 13 rfl rfl)
theorem dX1_worked_14 : decode cX1_worked 14 = .ok (.getfield 58, 3) := dk_180 0 58 (dk_at dksX1_worked_0 14 rfl rfl)
theorem dX1_worked_17 : decode cX1_worked 17 = .ok (.iconst 0, 1) := dk_3 (dk_at dksX1_worked_0 17 rfl rfl)
theorem dX1_worked_18 : decode cX1_worked 18 = .ok (.iload 4, 2) := dk_21 4 (dk_at dksX1_worked_0 18 rfl rfl)
theorem dX1_worked_20 : decode cX1_worked 20 = .ok (.iastore, 1) := dk_79 (dk_at dksX1_worked_0 20 rfl rfl)
theorem dX1_worked_21 : decode cX1_worked 21 = .ok (.aload_n 0, 1) := dk_42 (dk_at dksX1_worked_0 21 rfl rfl)
theorem dX1_worked_22 : decode cX1_worked 22 = .ok (.getfield 58, 3) := dk_180 0 58 (dk_at dksX1_worked_1 0 rfl rfl)
theorem dX1_worked_25 : decode cX1_worked 25 = .ok (.iconst 1, 1) := dk_4 (dk_at dksX1_worked_1 3 rfl rfl)
theorem dX1_worked_26 : decode cX1_worked 26 = .ok (.aload_n 0, 1) := dk_42 (dk_at dksX1_worked_1 4 rfl rfl)
theorem dX1_worked_27 : decode cX1_worked 27 = .ok (.iload_n 2, 1) := dk_28 (dk_at dksX1_worked_1 5 rfl rfl)
theorem dX1_worked_28 : decode cX1_worked 28 = .ok (.invokevirtual 166, 3) := dk_182 0 166 (dk_at dksX1_worked_1 6 rfl rfl)
theorem dX1_worked_31 : decode cX1_worked 31 = .ok (.iload_n 3, 1) := dk_29 (dk_at dksX1_worked_1 9 rfl rfl)
theorem dX1_worked_32 : decode cX1_worked 32 = .ok (.invokevirtual 204, 3) := dk_182 0 204 (dk_at dksX1_worked_1 10 rfl rfl)
theorem dX1_worked_35 : decode cX1_worked 35 = .ok (.iastore, 1) := dk_79 (dk_at dksX1_worked_1 13 rfl rfl)
theorem dX1_worked_36 : decode cX1_worked 36 = .ok (.aload_n 0, 1) := dk_42 (dk_at dksX1_worked_1 14 rfl rfl)
theorem dX1_worked_37 : decode cX1_worked 37 = .ok (.getfield 58, 3) := dk_180 0 58 (dk_at dksX1_worked_1 15 rfl rfl)
theorem dX1_worked_40 : decode cX1_worked 40 = .ok (.iconst 2, 1) := dk_5 (dk_at dksX1_worked_1 18 rfl rfl)
theorem dX1_worked_41 : decode cX1_worked 41 = .ok (.aload_n 0, 1) := dk_42 (dk_at dksX1_worked_1 19 rfl rfl)
theorem dX1_worked_42 : decode cX1_worked 42 = .ok (.iload_n 2, 1) := dk_28 (dk_at dksX1_worked_1 20 rfl rfl)
theorem dX1_worked_43 : decode cX1_worked 43 = .ok (.invokevirtual 166, 3) := dk_182 0 166 (dk_at dksX1_worked_1 21 rfl rfl)
theorem dX1_worked_46 : decode cX1_worked 46 = .ok (.getfield 184, 3) := dk_180 0 184 (dk_at dksX1_worked_2 0 rfl rfl)
theorem dX1_worked_49 : decode cX1_worked 49 = .ok (.iastore, 1) := dk_79 (dk_at dksX1_worked_2 3 rfl rfl)
theorem dX1_worked_50 : decode cX1_worked 50 = .ok (.aload_n 1, 1) := dk_43 (dk_at dksX1_worked_2 4 rfl rfl)
theorem dX1_worked_51 : decode cX1_worked 51 = .ok (.aload_n 0, 1) := dk_42 (dk_at dksX1_worked_2 5 rfl rfl)
theorem dX1_worked_52 : decode cX1_worked 52 = .ok (.getfield 58, 3) := dk_180 0 58 (dk_at dksX1_worked_2 6 rfl rfl)
theorem dX1_worked_55 : decode cX1_worked 55 = .ok (.invokevirtual 207, 3) := dk_182 0 207 (dk_at dksX1_worked_2 9 rfl rfl)
theorem dX1_worked_58 : decode cX1_worked 58 = .ok (.iconst 0, 1) := dk_3 (dk_at dksX1_worked_2 12 rfl rfl)
theorem dX1_worked_59 : decode cX1_worked 59 = .ok (.iload 6, 2) := dk_21 6 (dk_at dksX1_worked_2 13 rfl rfl)
theorem dX1_worked_61 : decode cX1_worked 61 = .ok (.invokestatic 200, 3) := dk_184 0 200 (dk_at dksX1_worked_2 15 rfl rfl)
theorem dX1_worked_64 : decode cX1_worked 64 = .ok (.ireturn, 1) := dk_172 (dk_at dksX1_worked_2 18 rfl rfl)
abbrev cX1_between : ByteArray := prog_1_method_2_code
def yX1_between : MethodName := ⟨RX1, "between", "(III)I"⟩
def dkwX1_between_0 : List UInt8 := [27, 28, 26, 184, 0, 1, 184, 0, 7, 172]
abbrev dktX1_between_0 : List UInt8 := dkwX1_between_0 ++ []
theorem dksX1_between_0 : cX1_between.data.toList.drop 0 = dktX1_between_0 := by decide +kernel
theorem dX1_between_0 : decode cX1_between 0 = .ok (.iload_n 1, 1) := dk_27 (dk_at dksX1_between_0 0 rfl rfl)
theorem dX1_between_1 : decode cX1_between 1 = .ok (.iload_n 2, 1) := dk_28 (dk_at dksX1_between_0 1 rfl rfl)
theorem dX1_between_2 : decode cX1_between 2 = .ok (.iload_n 0, 1) := dk_26 (dk_at dksX1_between_0 2 rfl rfl)
theorem dX1_between_3 : decode cX1_between 3 = .ok (.invokestatic 1, 3) := dk_184 0 1 (dk_at dksX1_between_0 3 rfl rfl)
theorem dX1_between_6 : decode cX1_between 6 = .ok (.invokestatic 7, 3) := dk_184 0 7 (dk_at dksX1_between_0 6 rfl rfl)
theorem dX1_between_9 : decode cX1_between 9 = .ok (.ireturn, 1) := dk_172 (dk_at dksX1_between_0 9 rfl rfl)
abbrev cX1_peg : ByteArray := prog_1_method_27_code
def yX1_peg : MethodName := ⟨RX1, "peg", "(II)I"⟩
def dkwX1_peg_2 : List UInt8 := [180, 0, 51, 180, 1, 14, 27, 46, 172]
abbrev dktX1_peg_2 : List UInt8 := dkwX1_peg_2 ++ []
def dkwX1_peg_1 : List UInt8 := [154, 0, 6, 16, 254, 172, 28, 154, 0, 15, 42, 180, 0, 51, 180, 1, 11, 27, 46, 167, 0, 12, 42]
abbrev dktX1_peg_1 : List UInt8 := dkwX1_peg_1 ++ dktX1_peg_2
def dkwX1_peg_0 : List UInt8 := [27, 3, 42, 180, 0, 51, 180, 1, 8, 4, 100, 184, 0, 150, 153, 0, 12, 28, 3, 4, 184, 0, 150]
abbrev dktX1_peg_0 : List UInt8 := dkwX1_peg_0 ++ dktX1_peg_1
theorem dksX1_peg_0 : cX1_peg.data.toList.drop 0 = dktX1_peg_0 := by decide +kernel
theorem dksX1_peg_1 : cX1_peg.data.toList.drop 23 = dktX1_peg_1 := dk_seg dksX1_peg_0 23 rfl rfl
theorem dksX1_peg_2 : cX1_peg.data.toList.drop 46 = dktX1_peg_2 := dk_seg dksX1_peg_1 23 rfl rfl
theorem dX1_peg_0 : decode cX1_peg 0 = .ok (.iload_n 1, 1) := dk_27 (dk_at dksX1_peg_0 0 rfl rfl)
theorem dX1_peg_1 : decode cX1_peg 1 = .ok (.iconst 0, 1) := dk_3 (dk_at dksX1_peg_0 1 rfl rfl)
theorem dX1_peg_2 : decode cX1_peg 2 = .ok (.aload_n 0, 1) := dk_42 (dk_at dksX1_peg_0 2 rfl rfl)
theorem dX1_peg_3 : decode cX1_peg 3 = .ok (.getfield 51, 3) := dk_180 0 51 (dk_at dksX1_peg_0 3 rfl rfl)
theorem dX1_peg_6 : decode cX1_peg 6 = .ok (.getfield 264, 3) := dk_180 1 8 (dk_at dksX1_peg_0 6 rfl rfl)
theorem dX1_peg_9 : decode cX1_peg 9 = .ok (.iconst 1, 1) := dk_4 (dk_at dksX1_peg_0 9 rfl rfl)
theorem dX1_peg_10 : decode cX1_peg 10 = .ok (.isub, 1) := dk_100 (dk_at dksX1_peg_0 10 rfl rfl)
theorem dX1_peg_11 : decode cX1_peg 11 = .ok (.invokestatic 150, 3) := dk_184 0 150 (dk_at dksX1_peg_0 11 rfl rfl)
theorem dX1_peg_14 : decode cX1_peg 14 = .ok (.ifCond .eq 12, 3) := dk_153 0 12 (dk_at dksX1_peg_0 14 rfl rfl)
theorem dX1_peg_17 : decode cX1_peg 17 = .ok (.iload_n 2, 1) := dk_28 (dk_at dksX1_peg_0 17 rfl rfl)
theorem dX1_peg_18 : decode cX1_peg 18 = .ok (.iconst 0, 1) := dk_3 (dk_at dksX1_peg_0 18 rfl rfl)
theorem dX1_peg_19 : decode cX1_peg 19 = .ok (.iconst 1, 1) := dk_4 (dk_at dksX1_peg_0 19 rfl rfl)
theorem dX1_peg_20 : decode cX1_peg 20 = .ok (.invokestatic 150, 3) := dk_184 0 150 (dk_at dksX1_peg_0 20 rfl rfl)
theorem dX1_peg_23 : decode cX1_peg 23 = .ok (.ifCond .ne 6, 3) := dk_154 0 6 (dk_at dksX1_peg_1 0 rfl rfl)
theorem dX1_peg_26 : decode cX1_peg 26 = .ok (.bipush (-2), 2) := dk_16 254 (dk_at dksX1_peg_1 3 rfl rfl)
theorem dX1_peg_28 : decode cX1_peg 28 = .ok (.ireturn, 1) := dk_172 (dk_at dksX1_peg_1 5 rfl rfl)
theorem dX1_peg_29 : decode cX1_peg 29 = .ok (.iload_n 2, 1) := dk_28 (dk_at dksX1_peg_1 6 rfl rfl)
theorem dX1_peg_30 : decode cX1_peg 30 = .ok (.ifCond .ne 15, 3) := dk_154 0 15 (dk_at dksX1_peg_1 7 rfl rfl)
theorem dX1_peg_33 : decode cX1_peg 33 = .ok (.aload_n 0, 1) := dk_42 (dk_at dksX1_peg_1 10 rfl rfl)
theorem dX1_peg_34 : decode cX1_peg 34 = .ok (.getfield 51, 3) := dk_180 0 51 (dk_at dksX1_peg_1 11 rfl rfl)
theorem dX1_peg_37 : decode cX1_peg 37 = .ok (.getfield 267, 3) := dk_180 1 11 (dk_at dksX1_peg_1 14 rfl rfl)
theorem dX1_peg_40 : decode cX1_peg 40 = .ok (.iload_n 1, 1) := dk_27 (dk_at dksX1_peg_1 17 rfl rfl)
theorem dX1_peg_41 : decode cX1_peg 41 = .ok (.iaload, 1) := dk_46 (dk_at dksX1_peg_1 18 rfl rfl)
theorem dX1_peg_42 : decode cX1_peg 42 = .ok (.goto 12, 3) := dk_167 0 12 (dk_at dksX1_peg_1 19 rfl rfl)
theorem dX1_peg_45 : decode cX1_peg 45 = .ok (.aload_n 0, 1) := dk_42 (dk_at dksX1_peg_1 22 rfl rfl)
theorem dX1_peg_46 : decode cX1_peg 46 = .ok (.getfield 51, 3) := dk_180 0 51 (dk_at dksX1_peg_2 0 rfl rfl)
theorem dX1_peg_49 : decode cX1_peg 49 = .ok (.getfield 270, 3) := dk_180 1 14 (dk_at dksX1_peg_2 3 rfl rfl)
theorem dX1_peg_52 : decode cX1_peg 52 = .ok (.iload_n 1, 1) := dk_27 (dk_at dksX1_peg_2 6 rfl rfl)
theorem dX1_peg_53 : decode cX1_peg 53 = .ok (.iaload, 1) := dk_46 (dk_at dksX1_peg_2 7 rfl rfl)
theorem dX1_peg_54 : decode cX1_peg 54 = .ok (.ireturn, 1) := dk_172 (dk_at dksX1_peg_2 8 rfl rfl)
abbrev cX1_laws : ByteArray := prog_1_method_28_code
def yX1_laws : MethodName := ⟨RX1, "laws", "()I"⟩
def dkwX1_laws_0 : List UInt8 := [42, 42, 180, 0, 51, 182, 1, 17, 172]
abbrev dktX1_laws_0 : List UInt8 := dkwX1_laws_0 ++ []
theorem dksX1_laws_0 : cX1_laws.data.toList.drop 0 = dktX1_laws_0 := by decide +kernel
theorem dX1_laws_0 : decode cX1_laws 0 = .ok (.aload_n 0, 1) := dk_42 (dk_at dksX1_laws_0 0 rfl rfl)
theorem dX1_laws_1 : decode cX1_laws 1 = .ok (.aload_n 0, 1) := dk_42 (dk_at dksX1_laws_0 1 rfl rfl)
theorem dX1_laws_2 : decode cX1_laws 2 = .ok (.getfield 51, 3) := dk_180 0 51 (dk_at dksX1_laws_0 2 rfl rfl)
theorem dX1_laws_5 : decode cX1_laws 5 = .ok (.invokevirtual 273, 3) := dk_182 1 17 (dk_at dksX1_laws_0 5 rfl rfl)
theorem dX1_laws_8 : decode cX1_laws 8 = .ok (.ireturn, 1) := dk_172 (dk_at dksX1_laws_0 8 rfl rfl)
abbrev cX1_lawsOf : ByteArray := prog_1_method_16_code
def yX1_lawsOf : MethodName := ⟨RX1, "lawsOf", "(LPegLaws$State;)I"⟩
def dkwX1_lawsOf_1 : List UInt8 := [120, 128, 61, 132, 3, 1, 167, 255, 230, 28, 172]
abbrev dktX1_lawsOf_1 : List UInt8 := dkwX1_lawsOf_1 ++ []
def dkwX1_lawsOf_0 : List UInt8 := [3, 61, 3, 62, 29, 42, 182, 0, 148, 162, 0, 24, 42, 43, 29, 182, 0, 173, 153, 0, 9, 28, 4, 29]
abbrev dktX1_lawsOf_0 : List UInt8 := dkwX1_lawsOf_0 ++ dktX1_lawsOf_1
theorem dksX1_lawsOf_0 : cX1_lawsOf.data.toList.drop 0 = dktX1_lawsOf_0 := by decide +kernel
theorem dksX1_lawsOf_1 : cX1_lawsOf.data.toList.drop 24 = dktX1_lawsOf_1 := dk_seg dksX1_lawsOf_0 24 rfl rfl
theorem dX1_lawsOf_0 : decode cX1_lawsOf 0 = .ok (.iconst 0, 1) := dk_3 (dk_at dksX1_lawsOf_0 0 rfl rfl)
theorem dX1_lawsOf_1 : decode cX1_lawsOf 1 = .ok (.istore_n 2, 1) := dk_61 (dk_at dksX1_lawsOf_0 1 rfl rfl)
theorem dX1_lawsOf_2 : decode cX1_lawsOf 2 = .ok (.iconst 0, 1) := dk_3 (dk_at dksX1_lawsOf_0 2 rfl rfl)
theorem dX1_lawsOf_3 : decode cX1_lawsOf 3 = .ok (.istore_n 3, 1) := dk_62 (dk_at dksX1_lawsOf_0 3 rfl rfl)
theorem dX1_lawsOf_4 : decode cX1_lawsOf 4 = .ok (.iload_n 3, 1) := dk_29 (dk_at dksX1_lawsOf_0 4 rfl rfl)
theorem dX1_lawsOf_5 : decode cX1_lawsOf 5 = .ok (.aload_n 0, 1) := dk_42 (dk_at dksX1_lawsOf_0 5 rfl rfl)
theorem dX1_lawsOf_6 : decode cX1_lawsOf 6 = .ok (.invokevirtual 148, 3) := dk_182 0 148 (dk_at dksX1_lawsOf_0 6 rfl rfl)
theorem dX1_lawsOf_9 : decode cX1_lawsOf 9 = .ok (.if_icmp .ge 24, 3) := dk_162 0 24 (dk_at dksX1_lawsOf_0 9 rfl rfl)
theorem dX1_lawsOf_12 : decode cX1_lawsOf 12 = .ok (.aload_n 0, 1) := dk_42 (dk_at dksX1_lawsOf_0 12 rfl rfl)
theorem dX1_lawsOf_13 : decode cX1_lawsOf 13 = .ok (.aload_n 1, 1) := dk_43 (dk_at dksX1_lawsOf_0 13 rfl rfl)
theorem dX1_lawsOf_14 : decode cX1_lawsOf 14 = .ok (.iload_n 3, 1) := dk_29 (dk_at dksX1_lawsOf_0 14 rfl rfl)
theorem dX1_lawsOf_15 : decode cX1_lawsOf 15 = .ok (.invokevirtual 173, 3) := dk_182 0 173 (dk_at dksX1_lawsOf_0 15 rfl rfl)
theorem dX1_lawsOf_18 : decode cX1_lawsOf 18 = .ok (.ifCond .eq 9, 3) := dk_153 0 9 (dk_at dksX1_lawsOf_0 18 rfl rfl)
theorem dX1_lawsOf_21 : decode cX1_lawsOf 21 = .ok (.iload_n 2, 1) := dk_28 (dk_at dksX1_lawsOf_0 21 rfl rfl)
theorem dX1_lawsOf_22 : decode cX1_lawsOf 22 = .ok (.iconst 1, 1) := dk_4 (dk_at dksX1_lawsOf_0 22 rfl rfl)
theorem dX1_lawsOf_23 : decode cX1_lawsOf 23 = .ok (.iload_n 3, 1) := dk_29 (dk_at dksX1_lawsOf_0 23 rfl rfl)
theorem dX1_lawsOf_24 : decode cX1_lawsOf 24 = .ok (.ishl, 1) := dk_120 (dk_at dksX1_lawsOf_1 0 rfl rfl)
theorem dX1_lawsOf_25 : decode cX1_lawsOf 25 = .ok (.ior, 1) := dk_128 (dk_at dksX1_lawsOf_1 1 rfl rfl)
theorem dX1_lawsOf_26 : decode cX1_lawsOf 26 = .ok (.istore_n 2, 1) := dk_61 (dk_at dksX1_lawsOf_1 2 rfl rfl)
theorem dX1_lawsOf_27 : decode cX1_lawsOf 27 = .ok (.iinc 3 1, 3) := dk_132 3 1 (dk_at dksX1_lawsOf_1 3 rfl rfl)
theorem dX1_lawsOf_30 : decode cX1_lawsOf 30 = .ok (.goto (-26), 3) := dk_167 255 230 (dk_at dksX1_lawsOf_1 6 rfl rfl)
theorem dX1_lawsOf_33 : decode cX1_lawsOf 33 = .ok (.iload_n 2, 1) := dk_28 (dk_at dksX1_lawsOf_1 9 rfl rfl)
theorem dX1_lawsOf_34 : decode cX1_lawsOf 34 = .ok (.ireturn, 1) := dk_172 (dk_at dksX1_lawsOf_1 10 rfl rfl)
abbrev cX1_free : ByteArray := prog_1_method_29_code
def yX1_free : MethodName := ⟨RX1, "free", "()I"⟩
def dkwX1_free_0 : List UInt8 := [42, 180, 0, 51, 182, 0, 193, 172]
abbrev dktX1_free_0 : List UInt8 := dkwX1_free_0 ++ []
theorem dksX1_free_0 : cX1_free.data.toList.drop 0 = dktX1_free_0 := by decide +kernel
theorem dX1_free_0 : decode cX1_free 0 = .ok (.aload_n 0, 1) := dk_42 (dk_at dksX1_free_0 0 rfl rfl)
theorem dX1_free_1 : decode cX1_free 1 = .ok (.getfield 51, 3) := dk_180 0 51 (dk_at dksX1_free_0 1 rfl rfl)
theorem dX1_free_4 : decode cX1_free 4 = .ok (.invokevirtual 193, 3) := dk_182 0 193 (dk_at dksX1_free_0 4 rfl rfl)
theorem dX1_free_7 : decode cX1_free 7 = .ok (.ireturn, 1) := dk_172 (dk_at dksX1_free_0 7 rfl rfl)
abbrev cX1_hang : ByteArray := prog_1_method_31_code
def yX1_hang : MethodName := ⟨RX1, "hang", "(II)I"⟩
def dkwX1_hang_2 : List UInt8 := [42, 180, 0, 51, 182, 0, 196, 172]
abbrev dktX1_hang_2 : List UInt8 := dkwX1_hang_2 ++ []
def dkwX1_hang_1 : List UInt8 := [27, 28, 182, 1, 24, 154, 0, 5, 2, 172, 42, 182, 1, 27, 42, 180, 0, 51, 27, 28, 182, 1, 30, 42]
abbrev dktX1_hang_1 : List UInt8 := dkwX1_hang_1 ++ dktX1_hang_2
def dkwX1_hang_0 : List UInt8 := [42, 27, 182, 0, 254, 153, 0, 27, 28, 4, 17, 0, 255, 184, 0, 150, 153, 0, 16, 42, 42, 180, 0, 51]
abbrev dktX1_hang_0 : List UInt8 := dkwX1_hang_0 ++ dktX1_hang_1
theorem dksX1_hang_0 : cX1_hang.data.toList.drop 0 = dktX1_hang_0 := by decide +kernel
theorem dksX1_hang_1 : cX1_hang.data.toList.drop 24 = dktX1_hang_1 := dk_seg dksX1_hang_0 24 rfl rfl
theorem dksX1_hang_2 : cX1_hang.data.toList.drop 48 = dktX1_hang_2 := dk_seg dksX1_hang_1 24 rfl rfl
theorem dX1_hang_0 : decode cX1_hang 0 = .ok (.aload_n 0, 1) := dk_42 (dk_at dksX1_hang_0 0 rfl rfl)
theorem dX1_hang_1 : decode cX1_hang 1 = .ok (.iload_n 1, 1) := dk_27 (dk_at dksX1_hang_0 1 rfl rfl)
theorem dX1_hang_2 : decode cX1_hang 2 = .ok (.invokevirtual 254, 3) := dk_182 0 254 (dk_at dksX1_hang_0 2 rfl rfl)
theorem dX1_hang_5 : decode cX1_hang 5 = .ok (.ifCond .eq 27, 3) := dk_153 0 27 (dk_at dksX1_hang_0 5 rfl rfl)
theorem dX1_hang_8 : decode cX1_hang 8 = .ok (.iload_n 2, 1) := dk_28 (dk_at dksX1_hang_0 8 rfl rfl)
theorem dX1_hang_9 : decode cX1_hang 9 = .ok (.iconst 1, 1) := dk_4 (dk_at dksX1_hang_0 9 rfl rfl)
theorem dX1_hang_10 : decode cX1_hang 10 = .ok (.sipush 255, 3) := dk_17 0 255 (dk_at dksX1_hang_0 10 rfl rfl)
theorem dX1_hang_13 : decode cX1_hang 13 = .ok (.invokestatic 150, 3) := dk_184 0 150 (dk_at dksX1_hang_0 13 rfl rfl)
theorem dX1_hang_16 : decode cX1_hang 16 = .ok (.ifCond .eq 16, 3) := dk_153 0 16 (dk_at dksX1_hang_0 16 rfl rfl)
theorem dX1_hang_19 : decode cX1_hang 19 = .ok (.aload_n 0, 1) := dk_42 (dk_at dksX1_hang_0 19 rfl rfl)
theorem dX1_hang_20 : decode cX1_hang 20 = .ok (.aload_n 0, 1) := dk_42 (dk_at dksX1_hang_0 20 rfl rfl)
theorem dX1_hang_21 : decode cX1_hang 21 = .ok (.getfield 51, 3) := dk_180 0 51 (dk_at dksX1_hang_0 21 rfl rfl)
theorem dX1_hang_24 : decode cX1_hang 24 = .ok (.iload_n 1, 1) := dk_27 (dk_at dksX1_hang_1 0 rfl rfl)
theorem dX1_hang_25 : decode cX1_hang 25 = .ok (.iload_n 2, 1) := dk_28 (dk_at dksX1_hang_1 1 rfl rfl)
theorem dX1_hang_26 : decode cX1_hang 26 = .ok (.invokevirtual 280, 3) := dk_182 1 24 (dk_at dksX1_hang_1 2 rfl rfl)
theorem dX1_hang_29 : decode cX1_hang 29 = .ok (.ifCond .ne 5, 3) := dk_154 0 5 (dk_at dksX1_hang_1 5 rfl rfl)
theorem dX1_hang_32 : decode cX1_hang 32 = .ok (.iconst (-1), 1) := dk_2 (dk_at dksX1_hang_1 8 rfl rfl)
theorem dX1_hang_33 : decode cX1_hang 33 = .ok (.ireturn, 1) := dk_172 (dk_at dksX1_hang_1 9 rfl rfl)
theorem dX1_hang_34 : decode cX1_hang 34 = .ok (.aload_n 0, 1) := dk_42 (dk_at dksX1_hang_1 10 rfl rfl)
theorem dX1_hang_35 : decode cX1_hang 35 = .ok (.invokevirtual 283, 3) := dk_182 1 27 (dk_at dksX1_hang_1 11 rfl rfl)
theorem dX1_hang_38 : decode cX1_hang 38 = .ok (.aload_n 0, 1) := dk_42 (dk_at dksX1_hang_1 14 rfl rfl)
theorem dX1_hang_39 : decode cX1_hang 39 = .ok (.getfield 51, 3) := dk_180 0 51 (dk_at dksX1_hang_1 15 rfl rfl)
theorem dX1_hang_42 : decode cX1_hang 42 = .ok (.iload_n 1, 1) := dk_27 (dk_at dksX1_hang_1 18 rfl rfl)
theorem dX1_hang_43 : decode cX1_hang 43 = .ok (.iload_n 2, 1) := dk_28 (dk_at dksX1_hang_1 19 rfl rfl)
theorem dX1_hang_44 : decode cX1_hang 44 = .ok (.invokevirtual 286, 3) := dk_182 1 30 (dk_at dksX1_hang_1 20 rfl rfl)
theorem dX1_hang_47 : decode cX1_hang 47 = .ok (.aload_n 0, 1) := dk_42 (dk_at dksX1_hang_1 23 rfl rfl)
theorem dX1_hang_48 : decode cX1_hang 48 = .ok (.aload_n 0, 1) := dk_42 (dk_at dksX1_hang_2 0 rfl rfl)
theorem dX1_hang_49 : decode cX1_hang 49 = .ok (.getfield 51, 3) := dk_180 0 51 (dk_at dksX1_hang_2 1 rfl rfl)
theorem dX1_hang_52 : decode cX1_hang 52 = .ok (.invokevirtual 196, 3) := dk_182 0 196 (dk_at dksX1_hang_2 4 rfl rfl)
theorem dX1_hang_55 : decode cX1_hang 55 = .ok (.ireturn, 1) := dk_172 (dk_at dksX1_hang_2 7 rfl rfl)
abbrev cX1_canHang : ByteArray := prog_1_method_20_code
def yX1_canHang : MethodName := ⟨RX1, "canHang", "(LPegLaws$State;II)Z"⟩
def dkwX1_canHang_2 : List UInt8 := [21, 4, 182, 0, 190, 42, 43, 182, 0, 196, 163, 0, 7, 4, 167, 0, 4, 3, 172]
abbrev dktX1_canHang_2 : List UInt8 := dkwX1_canHang_2 ++ []
def dkwX1_canHang_1 : List UInt8 := [154, 0, 41, 21, 4, 4, 159, 0, 16, 21, 4, 42, 28, 182, 0, 166, 182, 0, 170, 160, 0, 22, 42, 28]
abbrev dktX1_canHang_1 : List UInt8 := dkwX1_canHang_1 ++ dktX1_canHang_2
def dkwX1_canHang_0 : List UInt8 := [29, 184, 0, 161, 54, 4, 43, 28, 182, 0, 157, 154, 0, 52, 29, 43, 182, 0, 193, 2, 130, 126]
abbrev dktX1_canHang_0 : List UInt8 := dkwX1_canHang_0 ++ dktX1_canHang_1
theorem dksX1_canHang_0 : cX1_canHang.data.toList.drop 0 = dktX1_canHang_0 := by decide +kernel
theorem dksX1_canHang_1 : cX1_canHang.data.toList.drop 22 = dktX1_canHang_1 := dk_seg dksX1_canHang_0 22 rfl rfl
theorem dksX1_canHang_2 : cX1_canHang.data.toList.drop 46 = dktX1_canHang_2 := dk_seg dksX1_canHang_1 24 rfl rfl
theorem dX1_canHang_0 : decode cX1_canHang 0 = .ok (.iload_n 3, 1) := dk_29 (dk_at dksX1_canHang_0 0 rfl rfl)
theorem dX1_canHang_1 : decode cX1_canHang 1 = .ok (.invokestatic 161, 3) := dk_184 0 161 (dk_at dksX1_canHang_0 1 rfl rfl)
theorem dX1_canHang_4 : decode cX1_canHang 4 = .ok (.istore 4, 2) := dk_54 4 (dk_at dksX1_canHang_0 4 rfl rfl)
theorem dX1_canHang_6 : decode cX1_canHang 6 = .ok (.aload_n 1, 1) := dk_43 (dk_at dksX1_canHang_0 6 rfl rfl)
theorem dX1_canHang_7 : decode cX1_canHang 7 = .ok (.iload_n 2, 1) := dk_28 (dk_at dksX1_canHang_0 7 rfl rfl)
theorem dX1_canHang_8 : decode cX1_canHang 8 = .ok (.invokevirtual 157, 3) := dk_182 0 157 (dk_at dksX1_canHang_0 8 rfl rfl)
theorem dX1_canHang_11 : decode cX1_canHang 11 = .ok (.ifCond .ne 52, 3) := dk_154 0 52 (dk_at dksX1_canHang_0 11 rfl rfl)
theorem dX1_canHang_14 : decode cX1_canHang 14 = .ok (.iload_n 3, 1) := dk_29 (dk_at dksX1_canHang_0 14 rfl rfl)
theorem dX1_canHang_15 : decode cX1_canHang 15 = .ok (.aload_n 1, 1) := dk_43 (dk_at dksX1_canHang_0 15 rfl rfl)
theorem dX1_canHang_16 : decode cX1_canHang 16 = .ok (.invokevirtual 193, 3) := dk_182 0 193 (dk_at dksX1_canHang_0 16 rfl rfl)
theorem dX1_canHang_19 : decode cX1_canHang 19 = .ok (.iconst (-1), 1) := dk_2 (dk_at dksX1_canHang_0 19 rfl rfl)
theorem dX1_canHang_20 : decode cX1_canHang 20 = .ok (.ixor, 1) := dk_130 (dk_at dksX1_canHang_0 20 rfl rfl)
theorem dX1_canHang_21 : decode cX1_canHang 21 = .ok (.iand, 1) := dk_126 (dk_at dksX1_canHang_0 21 rfl rfl)
theorem dX1_canHang_22 : decode cX1_canHang 22 = .ok (.ifCond .ne 41, 3) := dk_154 0 41 (dk_at dksX1_canHang_1 0 rfl rfl)
theorem dX1_canHang_25 : decode cX1_canHang 25 = .ok (.iload 4, 2) := dk_21 4 (dk_at dksX1_canHang_1 3 rfl rfl)
theorem dX1_canHang_27 : decode cX1_canHang 27 = .ok (.iconst 1, 1) := dk_4 (dk_at dksX1_canHang_1 5 rfl rfl)
theorem dX1_canHang_28 : decode cX1_canHang 28 = .ok (.if_icmp .eq 16, 3) := dk_159 0 16 (dk_at dksX1_canHang_1 6 rfl rfl)
theorem dX1_canHang_31 : decode cX1_canHang 31 = .ok (.iload 4, 2) := dk_21 4 (dk_at dksX1_canHang_1 9 rfl rfl)
theorem dX1_canHang_33 : decode cX1_canHang 33 = .ok (.aload_n 0, 1) := dk_42 (dk_at dksX1_canHang_1 11 rfl rfl)
theorem dX1_canHang_34 : decode cX1_canHang 34 = .ok (.iload_n 2, 1) := dk_28 (dk_at dksX1_canHang_1 12 rfl rfl)
theorem dX1_canHang_35 : decode cX1_canHang 35 = .ok (.invokevirtual 166, 3) := dk_182 0 166 (dk_at dksX1_canHang_1 13 rfl rfl)
theorem dX1_canHang_38 : decode cX1_canHang 38 = .ok (.invokevirtual 170, 3) := dk_182 0 170 (dk_at dksX1_canHang_1 16 rfl rfl)
theorem dX1_canHang_41 : decode cX1_canHang 41 = .ok (.if_icmp .ne 22, 3) := dk_160 0 22 (dk_at dksX1_canHang_1 19 rfl rfl)
theorem dX1_canHang_44 : decode cX1_canHang 44 = .ok (.aload_n 0, 1) := dk_42 (dk_at dksX1_canHang_1 22 rfl rfl)
theorem dX1_canHang_45 : decode cX1_canHang 45 = .ok (.iload_n 2, 1) := dk_28 (dk_at dksX1_canHang_1 23 rfl rfl)
theorem dX1_canHang_46 : decode cX1_canHang 46 = .ok (.iload 4, 2) := dk_21 4 (dk_at dksX1_canHang_2 0 rfl rfl)
theorem dX1_canHang_48 : decode cX1_canHang 48 = .ok (.invokevirtual 190, 3) := dk_182 0 190 (dk_at dksX1_canHang_2 2 rfl rfl)
theorem dX1_canHang_51 : decode cX1_canHang 51 = .ok (.aload_n 0, 1) := dk_42 (dk_at dksX1_canHang_2 5 rfl rfl)
theorem dX1_canHang_52 : decode cX1_canHang 52 = .ok (.aload_n 1, 1) := dk_43 (dk_at dksX1_canHang_2 6 rfl rfl)
theorem dX1_canHang_53 : decode cX1_canHang 53 = .ok (.invokevirtual 196, 3) := dk_182 0 196 (dk_at dksX1_canHang_2 7 rfl rfl)
theorem dX1_canHang_56 : decode cX1_canHang 56 = .ok (.if_icmp .gt 7, 3) := dk_163 0 7 (dk_at dksX1_canHang_2 10 rfl rfl)
theorem dX1_canHang_59 : decode cX1_canHang 59 = .ok (.iconst 1, 1) := dk_4 (dk_at dksX1_canHang_2 13 rfl rfl)
theorem dX1_canHang_60 : decode cX1_canHang 60 = .ok (.goto 4, 3) := dk_167 0 4 (dk_at dksX1_canHang_2 14 rfl rfl)
theorem dX1_canHang_63 : decode cX1_canHang 63 = .ok (.iconst 0, 1) := dk_3 (dk_at dksX1_canHang_2 17 rfl rfl)
theorem dX1_canHang_64 : decode cX1_canHang 64 = .ok (.ireturn, 1) := dk_172 (dk_at dksX1_canHang_2 18 rfl rfl)
abbrev cX1_left : ByteArray := prog_1_method_19_code
def yX1_left : MethodName := ⟨RX1, "left", "(LPegLaws$State;)I"⟩
def dkwX1_left_1 : List UInt8 := [182, 0, 157, 184, 0, 161, 182, 0, 190, 100, 61, 132, 3, 1, 167, 255, 229, 28, 172]
abbrev dktX1_left_1 : List UInt8 := dkwX1_left_1 ++ []
def dkwX1_left_0 : List UInt8 := [42, 180, 0, 35, 182, 0, 187, 61, 3, 62, 29, 42, 182, 0, 148, 162, 0, 25, 28, 42, 29, 43, 29]
abbrev dktX1_left_0 : List UInt8 := dkwX1_left_0 ++ dktX1_left_1
theorem dksX1_left_0 : cX1_left.data.toList.drop 0 = dktX1_left_0 := by decide +kernel
theorem dksX1_left_1 : cX1_left.data.toList.drop 23 = dktX1_left_1 := dk_seg dksX1_left_0 23 rfl rfl
theorem dX1_left_0 : decode cX1_left 0 = .ok (.aload_n 0, 1) := dk_42 (dk_at dksX1_left_0 0 rfl rfl)
theorem dX1_left_1 : decode cX1_left 1 = .ok (.getfield 35, 3) := dk_180 0 35 (dk_at dksX1_left_0 1 rfl rfl)
theorem dX1_left_4 : decode cX1_left 4 = .ok (.invokevirtual 187, 3) := dk_182 0 187 (dk_at dksX1_left_0 4 rfl rfl)
theorem dX1_left_7 : decode cX1_left 7 = .ok (.istore_n 2, 1) := dk_61 (dk_at dksX1_left_0 7 rfl rfl)
theorem dX1_left_8 : decode cX1_left 8 = .ok (.iconst 0, 1) := dk_3 (dk_at dksX1_left_0 8 rfl rfl)
theorem dX1_left_9 : decode cX1_left 9 = .ok (.istore_n 3, 1) := dk_62 (dk_at dksX1_left_0 9 rfl rfl)
theorem dX1_left_10 : decode cX1_left 10 = .ok (.iload_n 3, 1) := dk_29 (dk_at dksX1_left_0 10 rfl rfl)
theorem dX1_left_11 : decode cX1_left 11 = .ok (.aload_n 0, 1) := dk_42 (dk_at dksX1_left_0 11 rfl rfl)
theorem dX1_left_12 : decode cX1_left 12 = .ok (.invokevirtual 148, 3) := dk_182 0 148 (dk_at dksX1_left_0 12 rfl rfl)
theorem dX1_left_15 : decode cX1_left 15 = .ok (.if_icmp .ge 25, 3) := dk_162 0 25 (dk_at dksX1_left_0 15 rfl rfl)
theorem dX1_left_18 : decode cX1_left 18 = .ok (.iload_n 2, 1) := dk_28 (dk_at dksX1_left_0 18 rfl rfl)
theorem dX1_left_19 : decode cX1_left 19 = .ok (.aload_n 0, 1) := dk_42 (dk_at dksX1_left_0 19 rfl rfl)
theorem dX1_left_20 : decode cX1_left 20 = .ok (.iload_n 3, 1) := dk_29 (dk_at dksX1_left_0 20 rfl rfl)
theorem dX1_left_21 : decode cX1_left 21 = .ok (.aload_n 1, 1) := dk_43 (dk_at dksX1_left_0 21 rfl rfl)
theorem dX1_left_22 : decode cX1_left 22 = .ok (.iload_n 3, 1) := dk_29 (dk_at dksX1_left_0 22 rfl rfl)
theorem dX1_left_23 : decode cX1_left 23 = .ok (.invokevirtual 157, 3) := dk_182 0 157 (dk_at dksX1_left_1 0 rfl rfl)
theorem dX1_left_26 : decode cX1_left 26 = .ok (.invokestatic 161, 3) := dk_184 0 161 (dk_at dksX1_left_1 3 rfl rfl)
theorem dX1_left_29 : decode cX1_left 29 = .ok (.invokevirtual 190, 3) := dk_182 0 190 (dk_at dksX1_left_1 6 rfl rfl)
theorem dX1_left_32 : decode cX1_left 32 = .ok (.isub, 1) := dk_100 (dk_at dksX1_left_1 9 rfl rfl)
theorem dX1_left_33 : decode cX1_left 33 = .ok (.istore_n 2, 1) := dk_61 (dk_at dksX1_left_1 10 rfl rfl)
theorem dX1_left_34 : decode cX1_left 34 = .ok (.iinc 3 1, 3) := dk_132 3 1 (dk_at dksX1_left_1 11 rfl rfl)
theorem dX1_left_37 : decode cX1_left 37 = .ok (.goto (-27), 3) := dk_167 255 229 (dk_at dksX1_left_1 14 rfl rfl)
theorem dX1_left_40 : decode cX1_left 40 = .ok (.iload_n 2, 1) := dk_28 (dk_at dksX1_left_1 17 rfl rfl)
theorem dX1_left_41 : decode cX1_left 41 = .ok (.ireturn, 1) := dk_172 (dk_at dksX1_left_1 18 rfl rfl)
abbrev cX1_keeps : ByteArray := prog_1_method_30_code
def yX1_keeps : MethodName := ⟨RX1, "keeps", "()V"⟩
def dkwX1_keeps_4 : List UInt8 := [180, 0, 62, 42, 89, 180, 0, 128, 90, 4, 96, 181, 0, 128, 50, 42, 180, 0, 51, 182, 1, 20, 177]
abbrev dktX1_keeps_4 : List UInt8 := dkwX1_keeps_4 ++ []
def dkwX1_keeps_3 : List UInt8 := [180, 0, 128, 50, 199, 0, 19, 42, 180, 0, 62, 42, 180, 0, 128, 187, 0, 48, 89, 183, 0, 50, 83, 42]
abbrev dktX1_keeps_3 : List UInt8 := dkwX1_keeps_3 ++ dktX1_keeps_4
def dkwX1_keeps_2 : List UInt8 := [180, 0, 62, 16, 15, 43, 83, 42, 89, 180, 0, 128, 4, 100, 181, 0, 128, 42, 180, 0, 62, 42]
abbrev dktX1_keeps_2 : List UInt8 := dkwX1_keeps_2 ++ dktX1_keeps_3
def dkwX1_keeps_1 : List UInt8 := [162, 0, 23, 42, 180, 0, 62, 28, 42, 180, 0, 62, 28, 4, 96, 50, 83, 132, 2, 1, 167, 255, 231, 42]
abbrev dktX1_keeps_1 : List UInt8 := dkwX1_keeps_1 ++ dktX1_keeps_2
def dkwX1_keeps_0 : List UInt8 := [42, 180, 0, 128, 16, 16, 160, 0, 58, 42, 180, 0, 62, 3, 50, 76, 3, 61, 28, 4, 96, 16, 16]
abbrev dktX1_keeps_0 : List UInt8 := dkwX1_keeps_0 ++ dktX1_keeps_1
theorem dksX1_keeps_0 : cX1_keeps.data.toList.drop 0 = dktX1_keeps_0 := by decide +kernel
theorem dksX1_keeps_1 : cX1_keeps.data.toList.drop 23 = dktX1_keeps_1 := dk_seg dksX1_keeps_0 23 rfl rfl
theorem dksX1_keeps_2 : cX1_keeps.data.toList.drop 47 = dktX1_keeps_2 := dk_seg dksX1_keeps_1 24 rfl rfl
theorem dksX1_keeps_3 : cX1_keeps.data.toList.drop 69 = dktX1_keeps_3 := dk_seg dksX1_keeps_2 22 rfl rfl
theorem dksX1_keeps_4 : cX1_keeps.data.toList.drop 93 = dktX1_keeps_4 := dk_seg dksX1_keeps_3 24 rfl rfl
theorem dX1_keeps_0 : decode cX1_keeps 0 = .ok (.aload_n 0, 1) := dk_42 (dk_at dksX1_keeps_0 0 rfl rfl)
theorem dX1_keeps_1 : decode cX1_keeps 1 = .ok (.getfield 128, 3) := dk_180 0 128 (dk_at dksX1_keeps_0 1 rfl rfl)
theorem dX1_keeps_4 : decode cX1_keeps 4 = .ok (.bipush 16, 2) := dk_16 16 (dk_at dksX1_keeps_0 4 rfl rfl)
theorem dX1_keeps_6 : decode cX1_keeps 6 = .ok (.if_icmp .ne 58, 3) := dk_160 0 58 (dk_at dksX1_keeps_0 6 rfl rfl)
theorem dX1_keeps_9 : decode cX1_keeps 9 = .ok (.aload_n 0, 1) := dk_42 (dk_at dksX1_keeps_0 9 rfl rfl)
theorem dX1_keeps_10 : decode cX1_keeps 10 = .ok (.getfield 62, 3) := dk_180 0 62 (dk_at dksX1_keeps_0 10 rfl rfl)
theorem dX1_keeps_13 : decode cX1_keeps 13 = .ok (.iconst 0, 1) := dk_3 (dk_at dksX1_keeps_0 13 rfl rfl)
theorem dX1_keeps_14 : decode cX1_keeps 14 = .ok (.aaload, 1) := dk_50 (dk_at dksX1_keeps_0 14 rfl rfl)
theorem dX1_keeps_15 : decode cX1_keeps 15 = .ok (.astore_n 1, 1) := dk_76 (dk_at dksX1_keeps_0 15 rfl rfl)
theorem dX1_keeps_16 : decode cX1_keeps 16 = .ok (.iconst 0, 1) := dk_3 (dk_at dksX1_keeps_0 16 rfl rfl)
theorem dX1_keeps_17 : decode cX1_keeps 17 = .ok (.istore_n 2, 1) := dk_61 (dk_at dksX1_keeps_0 17 rfl rfl)
theorem dX1_keeps_18 : decode cX1_keeps 18 = .ok (.iload_n 2, 1) := dk_28 (dk_at dksX1_keeps_0 18 rfl rfl)
theorem dX1_keeps_19 : decode cX1_keeps 19 = .ok (.iconst 1, 1) := dk_4 (dk_at dksX1_keeps_0 19 rfl rfl)
theorem dX1_keeps_20 : decode cX1_keeps 20 = .ok (.iadd, 1) := dk_96 (dk_at dksX1_keeps_0 20 rfl rfl)
theorem dX1_keeps_21 : decode cX1_keeps 21 = .ok (.bipush 16, 2) := dk_16 16 (dk_at dksX1_keeps_0 21 rfl rfl)
theorem dX1_keeps_23 : decode cX1_keeps 23 = .ok (.if_icmp .ge 23, 3) := dk_162 0 23 (dk_at dksX1_keeps_1 0 rfl rfl)
theorem dX1_keeps_26 : decode cX1_keeps 26 = .ok (.aload_n 0, 1) := dk_42 (dk_at dksX1_keeps_1 3 rfl rfl)
theorem dX1_keeps_27 : decode cX1_keeps 27 = .ok (.getfield 62, 3) := dk_180 0 62 (dk_at dksX1_keeps_1 4 rfl rfl)
theorem dX1_keeps_30 : decode cX1_keeps 30 = .ok (.iload_n 2, 1) := dk_28 (dk_at dksX1_keeps_1 7 rfl rfl)
theorem dX1_keeps_31 : decode cX1_keeps 31 = .ok (.aload_n 0, 1) := dk_42 (dk_at dksX1_keeps_1 8 rfl rfl)
theorem dX1_keeps_32 : decode cX1_keeps 32 = .ok (.getfield 62, 3) := dk_180 0 62 (dk_at dksX1_keeps_1 9 rfl rfl)
theorem dX1_keeps_35 : decode cX1_keeps 35 = .ok (.iload_n 2, 1) := dk_28 (dk_at dksX1_keeps_1 12 rfl rfl)
theorem dX1_keeps_36 : decode cX1_keeps 36 = .ok (.iconst 1, 1) := dk_4 (dk_at dksX1_keeps_1 13 rfl rfl)
theorem dX1_keeps_37 : decode cX1_keeps 37 = .ok (.iadd, 1) := dk_96 (dk_at dksX1_keeps_1 14 rfl rfl)
theorem dX1_keeps_38 : decode cX1_keeps 38 = .ok (.aaload, 1) := dk_50 (dk_at dksX1_keeps_1 15 rfl rfl)
theorem dX1_keeps_39 : decode cX1_keeps 39 = .ok (.aastore, 1) := dk_83 (dk_at dksX1_keeps_1 16 rfl rfl)
theorem dX1_keeps_40 : decode cX1_keeps 40 = .ok (.iinc 2 1, 3) := dk_132 2 1 (dk_at dksX1_keeps_1 17 rfl rfl)
theorem dX1_keeps_43 : decode cX1_keeps 43 = .ok (.goto (-25), 3) := dk_167 255 231 (dk_at dksX1_keeps_1 20 rfl rfl)
theorem dX1_keeps_46 : decode cX1_keeps 46 = .ok (.aload_n 0, 1) := dk_42 (dk_at dksX1_keeps_1 23 rfl rfl)
theorem dX1_keeps_47 : decode cX1_keeps 47 = .ok (.getfield 62, 3) := dk_180 0 62 (dk_at dksX1_keeps_2 0 rfl rfl)
theorem dX1_keeps_50 : decode cX1_keeps 50 = .ok (.bipush 15, 2) := dk_16 15 (dk_at dksX1_keeps_2 3 rfl rfl)
theorem dX1_keeps_52 : decode cX1_keeps 52 = .ok (.aload_n 1, 1) := dk_43 (dk_at dksX1_keeps_2 5 rfl rfl)
theorem dX1_keeps_53 : decode cX1_keeps 53 = .ok (.aastore, 1) := dk_83 (dk_at dksX1_keeps_2 6 rfl rfl)
theorem dX1_keeps_54 : decode cX1_keeps 54 = .ok (.aload_n 0, 1) := dk_42 (dk_at dksX1_keeps_2 7 rfl rfl)
theorem dX1_keeps_55 : decode cX1_keeps 55 = .ok (.dup, 1) := dk_89 (dk_at dksX1_keeps_2 8 rfl rfl)
theorem dX1_keeps_56 : decode cX1_keeps 56 = .ok (.getfield 128, 3) := dk_180 0 128 (dk_at dksX1_keeps_2 9 rfl rfl)
theorem dX1_keeps_59 : decode cX1_keeps 59 = .ok (.iconst 1, 1) := dk_4 (dk_at dksX1_keeps_2 12 rfl rfl)
theorem dX1_keeps_60 : decode cX1_keeps 60 = .ok (.isub, 1) := dk_100 (dk_at dksX1_keeps_2 13 rfl rfl)
theorem dX1_keeps_61 : decode cX1_keeps 61 = .ok (.putfield 128, 3) := dk_181 0 128 (dk_at dksX1_keeps_2 14 rfl rfl)
theorem dX1_keeps_64 : decode cX1_keeps 64 = .ok (.aload_n 0, 1) := dk_42 (dk_at dksX1_keeps_2 17 rfl rfl)
theorem dX1_keeps_65 : decode cX1_keeps 65 = .ok (.getfield 62, 3) := dk_180 0 62 (dk_at dksX1_keeps_2 18 rfl rfl)
theorem dX1_keeps_68 : decode cX1_keeps 68 = .ok (.aload_n 0, 1) := dk_42 (dk_at dksX1_keeps_2 21 rfl rfl)
theorem dX1_keeps_69 : decode cX1_keeps 69 = .ok (.getfield 128, 3) := dk_180 0 128 (dk_at dksX1_keeps_3 0 rfl rfl)
theorem dX1_keeps_72 : decode cX1_keeps 72 = .ok (.aaload, 1) := dk_50 (dk_at dksX1_keeps_3 3 rfl rfl)
theorem dX1_keeps_73 : decode cX1_keeps 73 = .ok (.ifnonnull 19, 3) := dk_199 0 19 (dk_at dksX1_keeps_3 4 rfl rfl)
theorem dX1_keeps_76 : decode cX1_keeps 76 = .ok (.aload_n 0, 1) := dk_42 (dk_at dksX1_keeps_3 7 rfl rfl)
theorem dX1_keeps_77 : decode cX1_keeps 77 = .ok (.getfield 62, 3) := dk_180 0 62 (dk_at dksX1_keeps_3 8 rfl rfl)
theorem dX1_keeps_80 : decode cX1_keeps 80 = .ok (.aload_n 0, 1) := dk_42 (dk_at dksX1_keeps_3 11 rfl rfl)
theorem dX1_keeps_81 : decode cX1_keeps 81 = .ok (.getfield 128, 3) := dk_180 0 128 (dk_at dksX1_keeps_3 12 rfl rfl)
theorem dX1_keeps_84 : decode cX1_keeps 84 = .ok (.new 48, 3) := dk_187 0 48 (dk_at dksX1_keeps_3 15 rfl rfl)
theorem dX1_keeps_87 : decode cX1_keeps 87 = .ok (.dup, 1) := dk_89 (dk_at dksX1_keeps_3 18 rfl rfl)
theorem dX1_keeps_88 : decode cX1_keeps 88 = .ok (.invokespecial 50, 3) := dk_183 0 50 (dk_at dksX1_keeps_3 19 rfl rfl)
theorem dX1_keeps_91 : decode cX1_keeps 91 = .ok (.aastore, 1) := dk_83 (dk_at dksX1_keeps_3 22 rfl rfl)
theorem dX1_keeps_92 : decode cX1_keeps 92 = .ok (.aload_n 0, 1) := dk_42 (dk_at dksX1_keeps_3 23 rfl rfl)
theorem dX1_keeps_93 : decode cX1_keeps 93 = .ok (.getfield 62, 3) := dk_180 0 62 (dk_at dksX1_keeps_4 0 rfl rfl)
theorem dX1_keeps_96 : decode cX1_keeps 96 = .ok (.aload_n 0, 1) := dk_42 (dk_at dksX1_keeps_4 3 rfl rfl)
theorem dX1_keeps_97 : decode cX1_keeps 97 = .ok (.dup, 1) := dk_89 (dk_at dksX1_keeps_4 4 rfl rfl)
theorem dX1_keeps_98 : decode cX1_keeps 98 = .ok (.getfield 128, 3) := dk_180 0 128 (dk_at dksX1_keeps_4 5 rfl rfl)
theorem dX1_keeps_101 : decode cX1_keeps 101 = .ok (.dup_x1, 1) := dk_90 (dk_at dksX1_keeps_4 8 rfl rfl)
theorem dX1_keeps_102 : decode cX1_keeps 102 = .ok (.iconst 1, 1) := dk_4 (dk_at dksX1_keeps_4 9 rfl rfl)
theorem dX1_keeps_103 : decode cX1_keeps 103 = .ok (.iadd, 1) := dk_96 (dk_at dksX1_keeps_4 10 rfl rfl)
theorem dX1_keeps_104 : decode cX1_keeps 104 = .ok (.putfield 128, 3) := dk_181 0 128 (dk_at dksX1_keeps_4 11 rfl rfl)
theorem dX1_keeps_107 : decode cX1_keeps 107 = .ok (.aaload, 1) := dk_50 (dk_at dksX1_keeps_4 14 rfl rfl)
theorem dX1_keeps_108 : decode cX1_keeps 108 = .ok (.aload_n 0, 1) := dk_42 (dk_at dksX1_keeps_4 15 rfl rfl)
theorem dX1_keeps_109 : decode cX1_keeps 109 = .ok (.getfield 51, 3) := dk_180 0 51 (dk_at dksX1_keeps_4 16 rfl rfl)
theorem dX1_keeps_112 : decode cX1_keeps 112 = .ok (.invokevirtual 276, 3) := dk_182 1 20 (dk_at dksX1_keeps_4 19 rfl rfl)
theorem dX1_keeps_115 : decode cX1_keeps 115 = .ok (.return_, 1) := dk_177 (dk_at dksX1_keeps_4 22 rfl rfl)
abbrev cX1_copies : ByteArray := prog_1_method_5_code
def yX1_copies : MethodName := ⟨RX1, "copies", "([I[I)V"⟩
def dkwX1_copies_0 : List UInt8 := [3, 61, 28, 43, 190, 162, 0, 15, 43, 28, 42, 28, 46, 79, 132, 2, 1, 167, 255, 241, 177]
abbrev dktX1_copies_0 : List UInt8 := dkwX1_copies_0 ++ []
theorem dksX1_copies_0 : cX1_copies.data.toList.drop 0 = dktX1_copies_0 := by decide +kernel
theorem dX1_copies_0 : decode cX1_copies 0 = .ok (.iconst 0, 1) := dk_3 (dk_at dksX1_copies_0 0 rfl rfl)
theorem dX1_copies_1 : decode cX1_copies 1 = .ok (.istore_n 2, 1) := dk_61 (dk_at dksX1_copies_0 1 rfl rfl)
theorem dX1_copies_2 : decode cX1_copies 2 = .ok (.iload_n 2, 1) := dk_28 (dk_at dksX1_copies_0 2 rfl rfl)
theorem dX1_copies_3 : decode cX1_copies 3 = .ok (.aload_n 1, 1) := dk_43 (dk_at dksX1_copies_0 3 rfl rfl)
theorem dX1_copies_4 : decode cX1_copies 4 = .ok (.arraylength, 1) := dk_190 (dk_at dksX1_copies_0 4 rfl rfl)
theorem dX1_copies_5 : decode cX1_copies 5 = .ok (.if_icmp .ge 15, 3) := dk_162 0 15 (dk_at dksX1_copies_0 5 rfl rfl)
theorem dX1_copies_8 : decode cX1_copies 8 = .ok (.aload_n 1, 1) := dk_43 (dk_at dksX1_copies_0 8 rfl rfl)
theorem dX1_copies_9 : decode cX1_copies 9 = .ok (.iload_n 2, 1) := dk_28 (dk_at dksX1_copies_0 9 rfl rfl)
theorem dX1_copies_10 : decode cX1_copies 10 = .ok (.aload_n 0, 1) := dk_42 (dk_at dksX1_copies_0 10 rfl rfl)
theorem dX1_copies_11 : decode cX1_copies 11 = .ok (.iload_n 2, 1) := dk_28 (dk_at dksX1_copies_0 11 rfl rfl)
theorem dX1_copies_12 : decode cX1_copies 12 = .ok (.iaload, 1) := dk_46 (dk_at dksX1_copies_0 12 rfl rfl)
theorem dX1_copies_13 : decode cX1_copies 13 = .ok (.iastore, 1) := dk_79 (dk_at dksX1_copies_0 13 rfl rfl)
theorem dX1_copies_14 : decode cX1_copies 14 = .ok (.iinc 2 1, 3) := dk_132 2 1 (dk_at dksX1_copies_0 14 rfl rfl)
theorem dX1_copies_17 : decode cX1_copies 17 = .ok (.goto (-15), 3) := dk_167 255 241 (dk_at dksX1_copies_0 17 rfl rfl)
theorem dX1_copies_20 : decode cX1_copies 20 = .ok (.return_, 1) := dk_177 (dk_at dksX1_copies_0 20 rfl rfl)
abbrev cX1_take : ByteArray := prog_1_method_32_code
def yX1_take : MethodName := ⟨RX1, "take", "(I)Z"⟩
def dkwX1_take_1 : List UInt8 := [182, 1, 27, 42, 180, 0, 51, 27, 182, 1, 34, 4, 172]
abbrev dktX1_take_1 : List UInt8 := dkwX1_take_1 ++ []
def dkwX1_take_0 : List UInt8 := [42, 27, 182, 0, 254, 153, 0, 14, 42, 180, 0, 51, 27, 182, 0, 157, 154, 0, 5, 3, 172, 42]
abbrev dktX1_take_0 : List UInt8 := dkwX1_take_0 ++ dktX1_take_1
theorem dksX1_take_0 : cX1_take.data.toList.drop 0 = dktX1_take_0 := by decide +kernel
theorem dksX1_take_1 : cX1_take.data.toList.drop 22 = dktX1_take_1 := dk_seg dksX1_take_0 22 rfl rfl
theorem dX1_take_0 : decode cX1_take 0 = .ok (.aload_n 0, 1) := dk_42 (dk_at dksX1_take_0 0 rfl rfl)
theorem dX1_take_1 : decode cX1_take 1 = .ok (.iload_n 1, 1) := dk_27 (dk_at dksX1_take_0 1 rfl rfl)
theorem dX1_take_2 : decode cX1_take 2 = .ok (.invokevirtual 254, 3) := dk_182 0 254 (dk_at dksX1_take_0 2 rfl rfl)
theorem dX1_take_5 : decode cX1_take 5 = .ok (.ifCond .eq 14, 3) := dk_153 0 14 (dk_at dksX1_take_0 5 rfl rfl)
theorem dX1_take_8 : decode cX1_take 8 = .ok (.aload_n 0, 1) := dk_42 (dk_at dksX1_take_0 8 rfl rfl)
theorem dX1_take_9 : decode cX1_take 9 = .ok (.getfield 51, 3) := dk_180 0 51 (dk_at dksX1_take_0 9 rfl rfl)
theorem dX1_take_12 : decode cX1_take 12 = .ok (.iload_n 1, 1) := dk_27 (dk_at dksX1_take_0 12 rfl rfl)
theorem dX1_take_13 : decode cX1_take 13 = .ok (.invokevirtual 157, 3) := dk_182 0 157 (dk_at dksX1_take_0 13 rfl rfl)
theorem dX1_take_16 : decode cX1_take 16 = .ok (.ifCond .ne 5, 3) := dk_154 0 5 (dk_at dksX1_take_0 16 rfl rfl)
theorem dX1_take_19 : decode cX1_take 19 = .ok (.iconst 0, 1) := dk_3 (dk_at dksX1_take_0 19 rfl rfl)
theorem dX1_take_20 : decode cX1_take 20 = .ok (.ireturn, 1) := dk_172 (dk_at dksX1_take_0 20 rfl rfl)
theorem dX1_take_21 : decode cX1_take 21 = .ok (.aload_n 0, 1) := dk_42 (dk_at dksX1_take_0 21 rfl rfl)
theorem dX1_take_22 : decode cX1_take 22 = .ok (.invokevirtual 283, 3) := dk_182 1 27 (dk_at dksX1_take_1 0 rfl rfl)
theorem dX1_take_25 : decode cX1_take 25 = .ok (.aload_n 0, 1) := dk_42 (dk_at dksX1_take_1 3 rfl rfl)
theorem dX1_take_26 : decode cX1_take 26 = .ok (.getfield 51, 3) := dk_180 0 51 (dk_at dksX1_take_1 4 rfl rfl)
theorem dX1_take_29 : decode cX1_take 29 = .ok (.iload_n 1, 1) := dk_27 (dk_at dksX1_take_1 7 rfl rfl)
theorem dX1_take_30 : decode cX1_take 30 = .ok (.invokevirtual 290, 3) := dk_182 1 34 (dk_at dksX1_take_1 8 rfl rfl)
theorem dX1_take_33 : decode cX1_take 33 = .ok (.iconst 1, 1) := dk_4 (dk_at dksX1_take_1 11 rfl rfl)
theorem dX1_take_34 : decode cX1_take 34 = .ok (.ireturn, 1) := dk_172 (dk_at dksX1_take_1 12 rfl rfl)
abbrev cX1_wash : ByteArray := prog_1_method_33_code
def yX1_wash : MethodName := ⟨RX1, "wash", "(I)I"⟩
def dkwX1_wash_2 : List UInt8 := [42, 180, 0, 51, 180, 0, 154, 27, 3, 79, 28, 172]
abbrev dktX1_wash_2 : List UInt8 := dkwX1_wash_2 ++ []
def dkwX1_wash_1 : List UInt8 := [182, 1, 27, 42, 180, 0, 51, 180, 0, 154, 27, 46, 61, 42, 180, 0, 51, 180, 0, 226, 27, 16, 9, 79]
abbrev dktX1_wash_1 : List UInt8 := dkwX1_wash_1 ++ dktX1_wash_2
def dkwX1_wash_0 : List UInt8 := [42, 27, 182, 0, 254, 153, 0, 14, 42, 180, 0, 51, 27, 182, 0, 157, 153, 0, 5, 2, 172, 42]
abbrev dktX1_wash_0 : List UInt8 := dkwX1_wash_0 ++ dktX1_wash_1
theorem dksX1_wash_0 : cX1_wash.data.toList.drop 0 = dktX1_wash_0 := by decide +kernel
theorem dksX1_wash_1 : cX1_wash.data.toList.drop 22 = dktX1_wash_1 := dk_seg dksX1_wash_0 22 rfl rfl
theorem dksX1_wash_2 : cX1_wash.data.toList.drop 46 = dktX1_wash_2 := dk_seg dksX1_wash_1 24 rfl rfl
theorem dX1_wash_0 : decode cX1_wash 0 = .ok (.aload_n 0, 1) := dk_42 (dk_at dksX1_wash_0 0 rfl rfl)
theorem dX1_wash_1 : decode cX1_wash 1 = .ok (.iload_n 1, 1) := dk_27 (dk_at dksX1_wash_0 1 rfl rfl)
theorem dX1_wash_2 : decode cX1_wash 2 = .ok (.invokevirtual 254, 3) := dk_182 0 254 (dk_at dksX1_wash_0 2 rfl rfl)
theorem dX1_wash_5 : decode cX1_wash 5 = .ok (.ifCond .eq 14, 3) := dk_153 0 14 (dk_at dksX1_wash_0 5 rfl rfl)
theorem dX1_wash_8 : decode cX1_wash 8 = .ok (.aload_n 0, 1) := dk_42 (dk_at dksX1_wash_0 8 rfl rfl)
theorem dX1_wash_9 : decode cX1_wash 9 = .ok (.getfield 51, 3) := dk_180 0 51 (dk_at dksX1_wash_0 9 rfl rfl)
theorem dX1_wash_12 : decode cX1_wash 12 = .ok (.iload_n 1, 1) := dk_27 (dk_at dksX1_wash_0 12 rfl rfl)
theorem dX1_wash_13 : decode cX1_wash 13 = .ok (.invokevirtual 157, 3) := dk_182 0 157 (dk_at dksX1_wash_0 13 rfl rfl)
theorem dX1_wash_16 : decode cX1_wash 16 = .ok (.ifCond .eq 5, 3) := dk_153 0 5 (dk_at dksX1_wash_0 16 rfl rfl)
theorem dX1_wash_19 : decode cX1_wash 19 = .ok (.iconst (-1), 1) := dk_2 (dk_at dksX1_wash_0 19 rfl rfl)
theorem dX1_wash_20 : decode cX1_wash 20 = .ok (.ireturn, 1) := dk_172 (dk_at dksX1_wash_0 20 rfl rfl)
theorem dX1_wash_21 : decode cX1_wash 21 = .ok (.aload_n 0, 1) := dk_42 (dk_at dksX1_wash_0 21 rfl rfl)
theorem dX1_wash_22 : decode cX1_wash 22 = .ok (.invokevirtual 283, 3) := dk_182 1 27 (dk_at dksX1_wash_1 0 rfl rfl)
theorem dX1_wash_25 : decode cX1_wash 25 = .ok (.aload_n 0, 1) := dk_42 (dk_at dksX1_wash_1 3 rfl rfl)
theorem dX1_wash_26 : decode cX1_wash 26 = .ok (.getfield 51, 3) := dk_180 0 51 (dk_at dksX1_wash_1 4 rfl rfl)
theorem dX1_wash_29 : decode cX1_wash 29 = .ok (.getfield 154, 3) := dk_180 0 154 (dk_at dksX1_wash_1 7 rfl rfl)
theorem dX1_wash_32 : decode cX1_wash 32 = .ok (.iload_n 1, 1) := dk_27 (dk_at dksX1_wash_1 10 rfl rfl)
theorem dX1_wash_33 : decode cX1_wash 33 = .ok (.iaload, 1) := dk_46 (dk_at dksX1_wash_1 11 rfl rfl)
theorem dX1_wash_34 : decode cX1_wash 34 = .ok (.istore_n 2, 1) := dk_61 (dk_at dksX1_wash_1 12 rfl rfl)
theorem dX1_wash_35 : decode cX1_wash 35 = .ok (.aload_n 0, 1) := dk_42 (dk_at dksX1_wash_1 13 rfl rfl)
theorem dX1_wash_36 : decode cX1_wash 36 = .ok (.getfield 51, 3) := dk_180 0 51 (dk_at dksX1_wash_1 14 rfl rfl)
theorem dX1_wash_39 : decode cX1_wash 39 = .ok (.getfield 226, 3) := dk_180 0 226 (dk_at dksX1_wash_1 17 rfl rfl)
theorem dX1_wash_42 : decode cX1_wash 42 = .ok (.iload_n 1, 1) := dk_27 (dk_at dksX1_wash_1 20 rfl rfl)
theorem dX1_wash_43 : decode cX1_wash 43 = .ok (.bipush 9, 2) := dk_16 9 (dk_at dksX1_wash_1 21 rfl rfl)
theorem dX1_wash_45 : decode cX1_wash 45 = .ok (.iastore, 1) := dk_79 (dk_at dksX1_wash_1 23 rfl rfl)
theorem dX1_wash_46 : decode cX1_wash 46 = .ok (.aload_n 0, 1) := dk_42 (dk_at dksX1_wash_2 0 rfl rfl)
theorem dX1_wash_47 : decode cX1_wash 47 = .ok (.getfield 51, 3) := dk_180 0 51 (dk_at dksX1_wash_2 1 rfl rfl)
theorem dX1_wash_50 : decode cX1_wash 50 = .ok (.getfield 154, 3) := dk_180 0 154 (dk_at dksX1_wash_2 4 rfl rfl)
theorem dX1_wash_53 : decode cX1_wash 53 = .ok (.iload_n 1, 1) := dk_27 (dk_at dksX1_wash_2 7 rfl rfl)
theorem dX1_wash_54 : decode cX1_wash 54 = .ok (.iconst 0, 1) := dk_3 (dk_at dksX1_wash_2 8 rfl rfl)
theorem dX1_wash_55 : decode cX1_wash 55 = .ok (.iastore, 1) := dk_79 (dk_at dksX1_wash_2 9 rfl rfl)
theorem dX1_wash_56 : decode cX1_wash 56 = .ok (.iload_n 2, 1) := dk_28 (dk_at dksX1_wash_2 10 rfl rfl)
theorem dX1_wash_57 : decode cX1_wash 57 = .ok (.ireturn, 1) := dk_172 (dk_at dksX1_wash_2 11 rfl rfl)
abbrev cX1_buy : ByteArray := prog_1_method_34_code
def yX1_buy : MethodName := ⟨RX1, "buy", "(I)I"⟩
def dkwX1_buy_2 : List UInt8 := [89, 180, 1, 8, 90, 4, 96, 181, 1, 8, 172]
abbrev dktX1_buy_2 : List UInt8 := dkwX1_buy_2 ++ []
def dkwX1_buy_1 : List UInt8 := [42, 182, 1, 27, 42, 180, 0, 51, 180, 1, 11, 42, 180, 0, 51, 180, 1, 8, 27, 79, 42, 180, 0, 51]
abbrev dktX1_buy_1 : List UInt8 := dkwX1_buy_1 ++ dktX1_buy_2
def dkwX1_buy_0 : List UInt8 := [27, 4, 16, 9, 184, 0, 150, 153, 0, 15, 42, 180, 0, 51, 180, 1, 8, 16, 8, 160, 0, 5, 2, 172]
abbrev dktX1_buy_0 : List UInt8 := dkwX1_buy_0 ++ dktX1_buy_1
theorem dksX1_buy_0 : cX1_buy.data.toList.drop 0 = dktX1_buy_0 := by decide +kernel
theorem dksX1_buy_1 : cX1_buy.data.toList.drop 24 = dktX1_buy_1 := dk_seg dksX1_buy_0 24 rfl rfl
theorem dksX1_buy_2 : cX1_buy.data.toList.drop 48 = dktX1_buy_2 := dk_seg dksX1_buy_1 24 rfl rfl
theorem dX1_buy_0 : decode cX1_buy 0 = .ok (.iload_n 1, 1) := dk_27 (dk_at dksX1_buy_0 0 rfl rfl)
theorem dX1_buy_1 : decode cX1_buy 1 = .ok (.iconst 1, 1) := dk_4 (dk_at dksX1_buy_0 1 rfl rfl)
theorem dX1_buy_2 : decode cX1_buy 2 = .ok (.bipush 9, 2) := dk_16 9 (dk_at dksX1_buy_0 2 rfl rfl)
theorem dX1_buy_4 : decode cX1_buy 4 = .ok (.invokestatic 150, 3) := dk_184 0 150 (dk_at dksX1_buy_0 4 rfl rfl)
theorem dX1_buy_7 : decode cX1_buy 7 = .ok (.ifCond .eq 15, 3) := dk_153 0 15 (dk_at dksX1_buy_0 7 rfl rfl)
theorem dX1_buy_10 : decode cX1_buy 10 = .ok (.aload_n 0, 1) := dk_42 (dk_at dksX1_buy_0 10 rfl rfl)
theorem dX1_buy_11 : decode cX1_buy 11 = .ok (.getfield 51, 3) := dk_180 0 51 (dk_at dksX1_buy_0 11 rfl rfl)
theorem dX1_buy_14 : decode cX1_buy 14 = .ok (.getfield 264, 3) := dk_180 1 8 (dk_at dksX1_buy_0 14 rfl rfl)
theorem dX1_buy_17 : decode cX1_buy 17 = .ok (.bipush 8, 2) := dk_16 8 (dk_at dksX1_buy_0 17 rfl rfl)
theorem dX1_buy_19 : decode cX1_buy 19 = .ok (.if_icmp .ne 5, 3) := dk_160 0 5 (dk_at dksX1_buy_0 19 rfl rfl)
theorem dX1_buy_22 : decode cX1_buy 22 = .ok (.iconst (-1), 1) := dk_2 (dk_at dksX1_buy_0 22 rfl rfl)
theorem dX1_buy_23 : decode cX1_buy 23 = .ok (.ireturn, 1) := dk_172 (dk_at dksX1_buy_0 23 rfl rfl)
theorem dX1_buy_24 : decode cX1_buy 24 = .ok (.aload_n 0, 1) := dk_42 (dk_at dksX1_buy_1 0 rfl rfl)
theorem dX1_buy_25 : decode cX1_buy 25 = .ok (.invokevirtual 283, 3) := dk_182 1 27 (dk_at dksX1_buy_1 1 rfl rfl)
theorem dX1_buy_28 : decode cX1_buy 28 = .ok (.aload_n 0, 1) := dk_42 (dk_at dksX1_buy_1 4 rfl rfl)
theorem dX1_buy_29 : decode cX1_buy 29 = .ok (.getfield 51, 3) := dk_180 0 51 (dk_at dksX1_buy_1 5 rfl rfl)
theorem dX1_buy_32 : decode cX1_buy 32 = .ok (.getfield 267, 3) := dk_180 1 11 (dk_at dksX1_buy_1 8 rfl rfl)
theorem dX1_buy_35 : decode cX1_buy 35 = .ok (.aload_n 0, 1) := dk_42 (dk_at dksX1_buy_1 11 rfl rfl)
theorem dX1_buy_36 : decode cX1_buy 36 = .ok (.getfield 51, 3) := dk_180 0 51 (dk_at dksX1_buy_1 12 rfl rfl)
theorem dX1_buy_39 : decode cX1_buy 39 = .ok (.getfield 264, 3) := dk_180 1 8 (dk_at dksX1_buy_1 15 rfl rfl)
theorem dX1_buy_42 : decode cX1_buy 42 = .ok (.iload_n 1, 1) := dk_27 (dk_at dksX1_buy_1 18 rfl rfl)
theorem dX1_buy_43 : decode cX1_buy 43 = .ok (.iastore, 1) := dk_79 (dk_at dksX1_buy_1 19 rfl rfl)
theorem dX1_buy_44 : decode cX1_buy 44 = .ok (.aload_n 0, 1) := dk_42 (dk_at dksX1_buy_1 20 rfl rfl)
theorem dX1_buy_45 : decode cX1_buy 45 = .ok (.getfield 51, 3) := dk_180 0 51 (dk_at dksX1_buy_1 21 rfl rfl)
theorem dX1_buy_48 : decode cX1_buy 48 = .ok (.dup, 1) := dk_89 (dk_at dksX1_buy_2 0 rfl rfl)
theorem dX1_buy_49 : decode cX1_buy 49 = .ok (.getfield 264, 3) := dk_180 1 8 (dk_at dksX1_buy_2 1 rfl rfl)
theorem dX1_buy_52 : decode cX1_buy 52 = .ok (.dup_x1, 1) := dk_90 (dk_at dksX1_buy_2 4 rfl rfl)
theorem dX1_buy_53 : decode cX1_buy 53 = .ok (.iconst 1, 1) := dk_4 (dk_at dksX1_buy_2 5 rfl rfl)
theorem dX1_buy_54 : decode cX1_buy 54 = .ok (.iadd, 1) := dk_96 (dk_at dksX1_buy_2 6 rfl rfl)
theorem dX1_buy_55 : decode cX1_buy 55 = .ok (.putfield 264, 3) := dk_181 1 8 (dk_at dksX1_buy_2 7 rfl rfl)
theorem dX1_buy_58 : decode cX1_buy 58 = .ok (.ireturn, 1) := dk_172 (dk_at dksX1_buy_2 10 rfl rfl)
abbrev cX1_hour : ByteArray := prog_1_method_35_code
def yX1_hour : MethodName := ⟨RX1, "hour", "()I"⟩
def dkwX1_hour_0 : List UInt8 := [42, 182, 1, 27, 42, 42, 180, 0, 51, 3, 182, 1, 37, 172]
abbrev dktX1_hour_0 : List UInt8 := dkwX1_hour_0 ++ []
theorem dksX1_hour_0 : cX1_hour.data.toList.drop 0 = dktX1_hour_0 := by decide +kernel
theorem dX1_hour_0 : decode cX1_hour 0 = .ok (.aload_n 0, 1) := dk_42 (dk_at dksX1_hour_0 0 rfl rfl)
theorem dX1_hour_1 : decode cX1_hour 1 = .ok (.invokevirtual 283, 3) := dk_182 1 27 (dk_at dksX1_hour_0 1 rfl rfl)
theorem dX1_hour_4 : decode cX1_hour 4 = .ok (.aload_n 0, 1) := dk_42 (dk_at dksX1_hour_0 4 rfl rfl)
theorem dX1_hour_5 : decode cX1_hour 5 = .ok (.aload_n 0, 1) := dk_42 (dk_at dksX1_hour_0 5 rfl rfl)
theorem dX1_hour_6 : decode cX1_hour 6 = .ok (.getfield 51, 3) := dk_180 0 51 (dk_at dksX1_hour_0 6 rfl rfl)
theorem dX1_hour_9 : decode cX1_hour 9 = .ok (.iconst 0, 1) := dk_3 (dk_at dksX1_hour_0 9 rfl rfl)
theorem dX1_hour_10 : decode cX1_hour 10 = .ok (.invokevirtual 293, 3) := dk_182 1 37 (dk_at dksX1_hour_0 10 rfl rfl)
theorem dX1_hour_13 : decode cX1_hour 13 = .ok (.ireturn, 1) := dk_172 (dk_at dksX1_hour_0 13 rfl rfl)
abbrev cX1_passes : ByteArray := prog_1_method_25_code
def yX1_passes : MethodName := ⟨RX1, "passes", "(LPegLaws$State;I)I"⟩
def dkwX1_passes_2 : List UInt8 := [153, 0, 6, 132, 3, 1, 132, 5, 1, 167, 255, 220, 43, 89, 180, 0, 244, 4, 96, 181, 0, 244, 29, 172]
abbrev dktX1_passes_2 : List UInt8 := dkwX1_passes_2 ++ []
def dkwX1_passes_1 : List UInt8 := [182, 0, 148, 162, 0, 33, 43, 21, 5, 182, 0, 157, 153, 0, 18, 42, 43, 21, 5, 21, 4, 182, 0, 250]
abbrev dktX1_passes_1 : List UInt8 := dkwX1_passes_1 ++ dktX1_passes_2
def dkwX1_passes_0 : List UInt8 := [3, 62, 42, 180, 0, 35, 43, 180, 0, 244, 182, 0, 247, 28, 96, 54, 4, 3, 54, 5, 21, 5, 42]
abbrev dktX1_passes_0 : List UInt8 := dkwX1_passes_0 ++ dktX1_passes_1
theorem dksX1_passes_0 : cX1_passes.data.toList.drop 0 = dktX1_passes_0 := by decide +kernel
theorem dksX1_passes_1 : cX1_passes.data.toList.drop 23 = dktX1_passes_1 := dk_seg dksX1_passes_0 23 rfl rfl
theorem dksX1_passes_2 : cX1_passes.data.toList.drop 47 = dktX1_passes_2 := dk_seg dksX1_passes_1 24 rfl rfl
theorem dX1_passes_0 : decode cX1_passes 0 = .ok (.iconst 0, 1) := dk_3 (dk_at dksX1_passes_0 0 rfl rfl)
theorem dX1_passes_1 : decode cX1_passes 1 = .ok (.istore_n 3, 1) := dk_62 (dk_at dksX1_passes_0 1 rfl rfl)
theorem dX1_passes_2 : decode cX1_passes 2 = .ok (.aload_n 0, 1) := dk_42 (dk_at dksX1_passes_0 2 rfl rfl)
theorem dX1_passes_3 : decode cX1_passes 3 = .ok (.getfield 35, 3) := dk_180 0 35 (dk_at dksX1_passes_0 3 rfl rfl)
theorem dX1_passes_6 : decode cX1_passes 6 = .ok (.aload_n 1, 1) := dk_43 (dk_at dksX1_passes_0 6 rfl rfl)
theorem dX1_passes_7 : decode cX1_passes 7 = .ok (.getfield 244, 3) := dk_180 0 244 (dk_at dksX1_passes_0 7 rfl rfl)
theorem dX1_passes_10 : decode cX1_passes 10 = .ok (.invokevirtual 247, 3) := dk_182 0 247 (dk_at dksX1_passes_0 10 rfl rfl)
theorem dX1_passes_13 : decode cX1_passes 13 = .ok (.iload_n 2, 1) := dk_28 (dk_at dksX1_passes_0 13 rfl rfl)
theorem dX1_passes_14 : decode cX1_passes 14 = .ok (.iadd, 1) := dk_96 (dk_at dksX1_passes_0 14 rfl rfl)
theorem dX1_passes_15 : decode cX1_passes 15 = .ok (.istore 4, 2) := dk_54 4 (dk_at dksX1_passes_0 15 rfl rfl)
theorem dX1_passes_17 : decode cX1_passes 17 = .ok (.iconst 0, 1) := dk_3 (dk_at dksX1_passes_0 17 rfl rfl)
theorem dX1_passes_18 : decode cX1_passes 18 = .ok (.istore 5, 2) := dk_54 5 (dk_at dksX1_passes_0 18 rfl rfl)
theorem dX1_passes_20 : decode cX1_passes 20 = .ok (.iload 5, 2) := dk_21 5 (dk_at dksX1_passes_0 20 rfl rfl)
theorem dX1_passes_22 : decode cX1_passes 22 = .ok (.aload_n 0, 1) := dk_42 (dk_at dksX1_passes_0 22 rfl rfl)
theorem dX1_passes_23 : decode cX1_passes 23 = .ok (.invokevirtual 148, 3) := dk_182 0 148 (dk_at dksX1_passes_1 0 rfl rfl)
theorem dX1_passes_26 : decode cX1_passes 26 = .ok (.if_icmp .ge 33, 3) := dk_162 0 33 (dk_at dksX1_passes_1 3 rfl rfl)
theorem dX1_passes_29 : decode cX1_passes 29 = .ok (.aload_n 1, 1) := dk_43 (dk_at dksX1_passes_1 6 rfl rfl)
theorem dX1_passes_30 : decode cX1_passes 30 = .ok (.iload 5, 2) := dk_21 5 (dk_at dksX1_passes_1 7 rfl rfl)
theorem dX1_passes_32 : decode cX1_passes 32 = .ok (.invokevirtual 157, 3) := dk_182 0 157 (dk_at dksX1_passes_1 9 rfl rfl)
theorem dX1_passes_35 : decode cX1_passes 35 = .ok (.ifCond .eq 18, 3) := dk_153 0 18 (dk_at dksX1_passes_1 12 rfl rfl)
theorem dX1_passes_38 : decode cX1_passes 38 = .ok (.aload_n 0, 1) := dk_42 (dk_at dksX1_passes_1 15 rfl rfl)
theorem dX1_passes_39 : decode cX1_passes 39 = .ok (.aload_n 1, 1) := dk_43 (dk_at dksX1_passes_1 16 rfl rfl)
theorem dX1_passes_40 : decode cX1_passes 40 = .ok (.iload 5, 2) := dk_21 5 (dk_at dksX1_passes_1 17 rfl rfl)
theorem dX1_passes_42 : decode cX1_passes 42 = .ok (.iload 4, 2) := dk_21 4 (dk_at dksX1_passes_1 19 rfl rfl)
theorem dX1_passes_44 : decode cX1_passes 44 = .ok (.invokevirtual 250, 3) := dk_182 0 250 (dk_at dksX1_passes_1 21 rfl rfl)
theorem dX1_passes_47 : decode cX1_passes 47 = .ok (.ifCond .eq 6, 3) := dk_153 0 6 (dk_at dksX1_passes_2 0 rfl rfl)
theorem dX1_passes_50 : decode cX1_passes 50 = .ok (.iinc 3 1, 3) := dk_132 3 1 (dk_at dksX1_passes_2 3 rfl rfl)
theorem dX1_passes_53 : decode cX1_passes 53 = .ok (.iinc 5 1, 3) := dk_132 5 1 (dk_at dksX1_passes_2 6 rfl rfl)
theorem dX1_passes_56 : decode cX1_passes 56 = .ok (.goto (-36), 3) := dk_167 255 220 (dk_at dksX1_passes_2 9 rfl rfl)
theorem dX1_passes_59 : decode cX1_passes 59 = .ok (.aload_n 1, 1) := dk_43 (dk_at dksX1_passes_2 12 rfl rfl)
theorem dX1_passes_60 : decode cX1_passes 60 = .ok (.dup, 1) := dk_89 (dk_at dksX1_passes_2 13 rfl rfl)
theorem dX1_passes_61 : decode cX1_passes 61 = .ok (.getfield 244, 3) := dk_180 0 244 (dk_at dksX1_passes_2 14 rfl rfl)
theorem dX1_passes_64 : decode cX1_passes 64 = .ok (.iconst 1, 1) := dk_4 (dk_at dksX1_passes_2 17 rfl rfl)
theorem dX1_passes_65 : decode cX1_passes 65 = .ok (.iadd, 1) := dk_96 (dk_at dksX1_passes_2 18 rfl rfl)
theorem dX1_passes_66 : decode cX1_passes 66 = .ok (.putfield 244, 3) := dk_181 0 244 (dk_at dksX1_passes_2 19 rfl rfl)
theorem dX1_passes_69 : decode cX1_passes 69 = .ok (.iload_n 3, 1) := dk_29 (dk_at dksX1_passes_2 22 rfl rfl)
theorem dX1_passes_70 : decode cX1_passes 70 = .ok (.ireturn, 1) := dk_172 (dk_at dksX1_passes_2 23 rfl rfl)
abbrev cX1_blows : ByteArray := prog_1_method_24_code
def yX1_blows : MethodName := ⟨RX1, "blows", "(LPegLaws$State;II)Z"⟩
def dkwX1_blows_4 : List UInt8 := [182, 0, 241, 79, 3, 172]
abbrev dktX1_blows_4 : List UInt8 := dkwX1_blows_4 ++ []
def dkwX1_blows_3 : List UInt8 := [154, 0, 10, 43, 28, 182, 0, 238, 4, 172, 43, 180, 0, 226, 28, 42, 28, 43, 180, 0, 226, 28, 46, 29]
abbrev dktX1_blows_3 : List UInt8 := dkwX1_blows_3 ++ dktX1_blows_4
def dkwX1_blows_2 : List UInt8 := [43, 21, 4, 182, 0, 232, 164, 0, 8, 43, 28, 182, 0, 235, 21, 6, 154, 0, 11, 43, 28, 182, 0, 157]
abbrev dktX1_blows_2 : List UInt8 := dkwX1_blows_2 ++ dktX1_blows_3
def dkwX1_blows_1 : List UInt8 := [21, 4, 182, 0, 232, 164, 0, 7, 4, 167, 0, 4, 3, 54, 6, 21, 6, 154, 0, 16, 21, 5, 5, 104]
abbrev dktX1_blows_1 : List UInt8 := dkwX1_blows_1 ++ dktX1_blows_2
def dkwX1_blows_0 : List UInt8 := [43, 28, 182, 0, 157, 54, 4, 42, 28, 43, 180, 0, 226, 28, 46, 29, 182, 0, 229, 54, 5, 21, 5, 43]
abbrev dktX1_blows_0 : List UInt8 := dkwX1_blows_0 ++ dktX1_blows_1
theorem dksX1_blows_0 : cX1_blows.data.toList.drop 0 = dktX1_blows_0 := by decide +kernel
theorem dksX1_blows_1 : cX1_blows.data.toList.drop 24 = dktX1_blows_1 := dk_seg dksX1_blows_0 24 rfl rfl
theorem dksX1_blows_2 : cX1_blows.data.toList.drop 48 = dktX1_blows_2 := dk_seg dksX1_blows_1 24 rfl rfl
theorem dksX1_blows_3 : cX1_blows.data.toList.drop 72 = dktX1_blows_3 := dk_seg dksX1_blows_2 24 rfl rfl
theorem dksX1_blows_4 : cX1_blows.data.toList.drop 96 = dktX1_blows_4 := dk_seg dksX1_blows_3 24 rfl rfl
theorem dX1_blows_0 : decode cX1_blows 0 = .ok (.aload_n 1, 1) := dk_43 (dk_at dksX1_blows_0 0 rfl rfl)
theorem dX1_blows_1 : decode cX1_blows 1 = .ok (.iload_n 2, 1) := dk_28 (dk_at dksX1_blows_0 1 rfl rfl)
theorem dX1_blows_2 : decode cX1_blows 2 = .ok (.invokevirtual 157, 3) := dk_182 0 157 (dk_at dksX1_blows_0 2 rfl rfl)
theorem dX1_blows_5 : decode cX1_blows 5 = .ok (.istore 4, 2) := dk_54 4 (dk_at dksX1_blows_0 5 rfl rfl)
theorem dX1_blows_7 : decode cX1_blows 7 = .ok (.aload_n 0, 1) := dk_42 (dk_at dksX1_blows_0 7 rfl rfl)
theorem dX1_blows_8 : decode cX1_blows 8 = .ok (.iload_n 2, 1) := dk_28 (dk_at dksX1_blows_0 8 rfl rfl)
theorem dX1_blows_9 : decode cX1_blows 9 = .ok (.aload_n 1, 1) := dk_43 (dk_at dksX1_blows_0 9 rfl rfl)
theorem dX1_blows_10 : decode cX1_blows 10 = .ok (.getfield 226, 3) := dk_180 0 226 (dk_at dksX1_blows_0 10 rfl rfl)
theorem dX1_blows_13 : decode cX1_blows 13 = .ok (.iload_n 2, 1) := dk_28 (dk_at dksX1_blows_0 13 rfl rfl)
theorem dX1_blows_14 : decode cX1_blows 14 = .ok (.iaload, 1) := dk_46 (dk_at dksX1_blows_0 14 rfl rfl)
theorem dX1_blows_15 : decode cX1_blows 15 = .ok (.iload_n 3, 1) := dk_29 (dk_at dksX1_blows_0 15 rfl rfl)
theorem dX1_blows_16 : decode cX1_blows 16 = .ok (.invokevirtual 229, 3) := dk_182 0 229 (dk_at dksX1_blows_0 16 rfl rfl)
theorem dX1_blows_19 : decode cX1_blows 19 = .ok (.istore 5, 2) := dk_54 5 (dk_at dksX1_blows_0 19 rfl rfl)
theorem dX1_blows_21 : decode cX1_blows 21 = .ok (.iload 5, 2) := dk_21 5 (dk_at dksX1_blows_0 21 rfl rfl)
theorem dX1_blows_23 : decode cX1_blows 23 = .ok (.aload_n 1, 1) := dk_43 (dk_at dksX1_blows_0 23 rfl rfl)
theorem dX1_blows_24 : decode cX1_blows 24 = .ok (.iload 4, 2) := dk_21 4 (dk_at dksX1_blows_1 0 rfl rfl)
theorem dX1_blows_26 : decode cX1_blows 26 = .ok (.invokevirtual 232, 3) := dk_182 0 232 (dk_at dksX1_blows_1 2 rfl rfl)
theorem dX1_blows_29 : decode cX1_blows 29 = .ok (.if_icmp .le 7, 3) := dk_164 0 7 (dk_at dksX1_blows_1 5 rfl rfl)
theorem dX1_blows_32 : decode cX1_blows 32 = .ok (.iconst 1, 1) := dk_4 (dk_at dksX1_blows_1 8 rfl rfl)
theorem dX1_blows_33 : decode cX1_blows 33 = .ok (.goto 4, 3) := dk_167 0 4 (dk_at dksX1_blows_1 9 rfl rfl)
theorem dX1_blows_36 : decode cX1_blows 36 = .ok (.iconst 0, 1) := dk_3 (dk_at dksX1_blows_1 12 rfl rfl)
theorem dX1_blows_37 : decode cX1_blows 37 = .ok (.istore 6, 2) := dk_54 6 (dk_at dksX1_blows_1 13 rfl rfl)
theorem dX1_blows_39 : decode cX1_blows 39 = .ok (.iload 6, 2) := dk_21 6 (dk_at dksX1_blows_1 15 rfl rfl)
theorem dX1_blows_41 : decode cX1_blows 41 = .ok (.ifCond .ne 16, 3) := dk_154 0 16 (dk_at dksX1_blows_1 17 rfl rfl)
theorem dX1_blows_44 : decode cX1_blows 44 = .ok (.iload 5, 2) := dk_21 5 (dk_at dksX1_blows_1 20 rfl rfl)
theorem dX1_blows_46 : decode cX1_blows 46 = .ok (.iconst 2, 1) := dk_5 (dk_at dksX1_blows_1 22 rfl rfl)
theorem dX1_blows_47 : decode cX1_blows 47 = .ok (.imul, 1) := dk_104 (dk_at dksX1_blows_1 23 rfl rfl)
theorem dX1_blows_48 : decode cX1_blows 48 = .ok (.aload_n 1, 1) := dk_43 (dk_at dksX1_blows_2 0 rfl rfl)
theorem dX1_blows_49 : decode cX1_blows 49 = .ok (.iload 4, 2) := dk_21 4 (dk_at dksX1_blows_2 1 rfl rfl)
theorem dX1_blows_51 : decode cX1_blows 51 = .ok (.invokevirtual 232, 3) := dk_182 0 232 (dk_at dksX1_blows_2 3 rfl rfl)
theorem dX1_blows_54 : decode cX1_blows 54 = .ok (.if_icmp .le 8, 3) := dk_164 0 8 (dk_at dksX1_blows_2 6 rfl rfl)
theorem dX1_blows_57 : decode cX1_blows 57 = .ok (.aload_n 1, 1) := dk_43 (dk_at dksX1_blows_2 9 rfl rfl)
theorem dX1_blows_58 : decode cX1_blows 58 = .ok (.iload_n 2, 1) := dk_28 (dk_at dksX1_blows_2 10 rfl rfl)
theorem dX1_blows_59 : decode cX1_blows 59 = .ok (.invokevirtual 235, 3) := dk_182 0 235 (dk_at dksX1_blows_2 11 rfl rfl)
theorem dX1_blows_62 : decode cX1_blows 62 = .ok (.iload 6, 2) := dk_21 6 (dk_at dksX1_blows_2 14 rfl rfl)
theorem dX1_blows_64 : decode cX1_blows 64 = .ok (.ifCond .ne 11, 3) := dk_154 0 11 (dk_at dksX1_blows_2 16 rfl rfl)
theorem dX1_blows_67 : decode cX1_blows 67 = .ok (.aload_n 1, 1) := dk_43 (dk_at dksX1_blows_2 19 rfl rfl)
theorem dX1_blows_68 : decode cX1_blows 68 = .ok (.iload_n 2, 1) := dk_28 (dk_at dksX1_blows_2 20 rfl rfl)
theorem dX1_blows_69 : decode cX1_blows 69 = .ok (.invokevirtual 157, 3) := dk_182 0 157 (dk_at dksX1_blows_2 21 rfl rfl)
theorem dX1_blows_72 : decode cX1_blows 72 = .ok (.ifCond .ne 10, 3) := dk_154 0 10 (dk_at dksX1_blows_3 0 rfl rfl)
theorem dX1_blows_75 : decode cX1_blows 75 = .ok (.aload_n 1, 1) := dk_43 (dk_at dksX1_blows_3 3 rfl rfl)
theorem dX1_blows_76 : decode cX1_blows 76 = .ok (.iload_n 2, 1) := dk_28 (dk_at dksX1_blows_3 4 rfl rfl)
theorem dX1_blows_77 : decode cX1_blows 77 = .ok (.invokevirtual 238, 3) := dk_182 0 238 (dk_at dksX1_blows_3 5 rfl rfl)
theorem dX1_blows_80 : decode cX1_blows 80 = .ok (.iconst 1, 1) := dk_4 (dk_at dksX1_blows_3 8 rfl rfl)
theorem dX1_blows_81 : decode cX1_blows 81 = .ok (.ireturn, 1) := dk_172 (dk_at dksX1_blows_3 9 rfl rfl)
theorem dX1_blows_82 : decode cX1_blows 82 = .ok (.aload_n 1, 1) := dk_43 (dk_at dksX1_blows_3 10 rfl rfl)
theorem dX1_blows_83 : decode cX1_blows 83 = .ok (.getfield 226, 3) := dk_180 0 226 (dk_at dksX1_blows_3 11 rfl rfl)
theorem dX1_blows_86 : decode cX1_blows 86 = .ok (.iload_n 2, 1) := dk_28 (dk_at dksX1_blows_3 14 rfl rfl)
theorem dX1_blows_87 : decode cX1_blows 87 = .ok (.aload_n 0, 1) := dk_42 (dk_at dksX1_blows_3 15 rfl rfl)
theorem dX1_blows_88 : decode cX1_blows 88 = .ok (.iload_n 2, 1) := dk_28 (dk_at dksX1_blows_3 16 rfl rfl)
theorem dX1_blows_89 : decode cX1_blows 89 = .ok (.aload_n 1, 1) := dk_43 (dk_at dksX1_blows_3 17 rfl rfl)
theorem dX1_blows_90 : decode cX1_blows 90 = .ok (.getfield 226, 3) := dk_180 0 226 (dk_at dksX1_blows_3 18 rfl rfl)
theorem dX1_blows_93 : decode cX1_blows 93 = .ok (.iload_n 2, 1) := dk_28 (dk_at dksX1_blows_3 21 rfl rfl)
theorem dX1_blows_94 : decode cX1_blows 94 = .ok (.iaload, 1) := dk_46 (dk_at dksX1_blows_3 22 rfl rfl)
theorem dX1_blows_95 : decode cX1_blows 95 = .ok (.iload_n 3, 1) := dk_29 (dk_at dksX1_blows_3 23 rfl rfl)
theorem dX1_blows_96 : decode cX1_blows 96 = .ok (.invokevirtual 241, 3) := dk_182 0 241 (dk_at dksX1_blows_4 0 rfl rfl)
theorem dX1_blows_99 : decode cX1_blows 99 = .ok (.iastore, 1) := dk_79 (dk_at dksX1_blows_4 3 rfl rfl)
theorem dX1_blows_100 : decode cX1_blows 100 = .ok (.iconst 0, 1) := dk_3 (dk_at dksX1_blows_4 4 rfl rfl)
theorem dX1_blows_101 : decode cX1_blows 101 = .ok (.ireturn, 1) := dk_172 (dk_at dksX1_blows_4 5 rfl rfl)
abbrev cX1_driedOf : ByteArray := prog_1_method_23_code
def yX1_driedOf : MethodName := ⟨RX1, "driedOf", "(III)I"⟩
def dkwX1_driedOf_0 : List UInt8 := [3, 28, 42, 42, 180, 0, 35, 180, 0, 223, 27, 28, 29, 29, 16, 9, 182, 0, 217, 100, 184, 0, 7, 172]
abbrev dktX1_driedOf_0 : List UInt8 := dkwX1_driedOf_0 ++ []
theorem dksX1_driedOf_0 : cX1_driedOf.data.toList.drop 0 = dktX1_driedOf_0 := by decide +kernel
theorem dX1_driedOf_0 : decode cX1_driedOf 0 = .ok (.iconst 0, 1) := dk_3 (dk_at dksX1_driedOf_0 0 rfl rfl)
theorem dX1_driedOf_1 : decode cX1_driedOf 1 = .ok (.iload_n 2, 1) := dk_28 (dk_at dksX1_driedOf_0 1 rfl rfl)
theorem dX1_driedOf_2 : decode cX1_driedOf 2 = .ok (.aload_n 0, 1) := dk_42 (dk_at dksX1_driedOf_0 2 rfl rfl)
theorem dX1_driedOf_3 : decode cX1_driedOf 3 = .ok (.aload_n 0, 1) := dk_42 (dk_at dksX1_driedOf_0 3 rfl rfl)
theorem dX1_driedOf_4 : decode cX1_driedOf 4 = .ok (.getfield 35, 3) := dk_180 0 35 (dk_at dksX1_driedOf_0 4 rfl rfl)
theorem dX1_driedOf_7 : decode cX1_driedOf 7 = .ok (.getfield 223, 3) := dk_180 0 223 (dk_at dksX1_driedOf_0 7 rfl rfl)
theorem dX1_driedOf_10 : decode cX1_driedOf 10 = .ok (.iload_n 1, 1) := dk_27 (dk_at dksX1_driedOf_0 10 rfl rfl)
theorem dX1_driedOf_11 : decode cX1_driedOf 11 = .ok (.iload_n 2, 1) := dk_28 (dk_at dksX1_driedOf_0 11 rfl rfl)
theorem dX1_driedOf_12 : decode cX1_driedOf 12 = .ok (.iload_n 3, 1) := dk_29 (dk_at dksX1_driedOf_0 12 rfl rfl)
theorem dX1_driedOf_13 : decode cX1_driedOf 13 = .ok (.iload_n 3, 1) := dk_29 (dk_at dksX1_driedOf_0 13 rfl rfl)
theorem dX1_driedOf_14 : decode cX1_driedOf 14 = .ok (.bipush 9, 2) := dk_16 9 (dk_at dksX1_driedOf_0 14 rfl rfl)
theorem dX1_driedOf_16 : decode cX1_driedOf 16 = .ok (.invokevirtual 217, 3) := dk_182 0 217 (dk_at dksX1_driedOf_0 16 rfl rfl)
theorem dX1_driedOf_19 : decode cX1_driedOf 19 = .ok (.isub, 1) := dk_100 (dk_at dksX1_driedOf_0 19 rfl rfl)
theorem dX1_driedOf_20 : decode cX1_driedOf 20 = .ok (.invokestatic 7, 3) := dk_184 0 7 (dk_at dksX1_driedOf_0 20 rfl rfl)
theorem dX1_driedOf_23 : decode cX1_driedOf 23 = .ok (.ireturn, 1) := dk_172 (dk_at dksX1_driedOf_0 23 rfl rfl)
abbrev cX1_undo : ByteArray := prog_1_method_36_code
def yX1_undo : MethodName := ⟨RX1, "undo", "()Z"⟩
def dkwX1_undo_1 : List UInt8 := [90, 181, 0, 128, 50, 182, 1, 20, 4, 172]
abbrev dktX1_undo_1 : List UInt8 := dkwX1_undo_1 ++ []
def dkwX1_undo_0 : List UInt8 := [42, 180, 0, 128, 154, 0, 5, 3, 172, 42, 180, 0, 51, 42, 180, 0, 62, 42, 89, 180, 0, 128, 4, 100]
abbrev dktX1_undo_0 : List UInt8 := dkwX1_undo_0 ++ dktX1_undo_1
theorem dksX1_undo_0 : cX1_undo.data.toList.drop 0 = dktX1_undo_0 := by decide +kernel
theorem dksX1_undo_1 : cX1_undo.data.toList.drop 24 = dktX1_undo_1 := dk_seg dksX1_undo_0 24 rfl rfl
theorem dX1_undo_0 : decode cX1_undo 0 = .ok (.aload_n 0, 1) := dk_42 (dk_at dksX1_undo_0 0 rfl rfl)
theorem dX1_undo_1 : decode cX1_undo 1 = .ok (.getfield 128, 3) := dk_180 0 128 (dk_at dksX1_undo_0 1 rfl rfl)
theorem dX1_undo_4 : decode cX1_undo 4 = .ok (.ifCond .ne 5, 3) := dk_154 0 5 (dk_at dksX1_undo_0 4 rfl rfl)
theorem dX1_undo_7 : decode cX1_undo 7 = .ok (.iconst 0, 1) := dk_3 (dk_at dksX1_undo_0 7 rfl rfl)
theorem dX1_undo_8 : decode cX1_undo 8 = .ok (.ireturn, 1) := dk_172 (dk_at dksX1_undo_0 8 rfl rfl)
theorem dX1_undo_9 : decode cX1_undo 9 = .ok (.aload_n 0, 1) := dk_42 (dk_at dksX1_undo_0 9 rfl rfl)
theorem dX1_undo_10 : decode cX1_undo 10 = .ok (.getfield 51, 3) := dk_180 0 51 (dk_at dksX1_undo_0 10 rfl rfl)
theorem dX1_undo_13 : decode cX1_undo 13 = .ok (.aload_n 0, 1) := dk_42 (dk_at dksX1_undo_0 13 rfl rfl)
theorem dX1_undo_14 : decode cX1_undo 14 = .ok (.getfield 62, 3) := dk_180 0 62 (dk_at dksX1_undo_0 14 rfl rfl)
theorem dX1_undo_17 : decode cX1_undo 17 = .ok (.aload_n 0, 1) := dk_42 (dk_at dksX1_undo_0 17 rfl rfl)
theorem dX1_undo_18 : decode cX1_undo 18 = .ok (.dup, 1) := dk_89 (dk_at dksX1_undo_0 18 rfl rfl)
theorem dX1_undo_19 : decode cX1_undo 19 = .ok (.getfield 128, 3) := dk_180 0 128 (dk_at dksX1_undo_0 19 rfl rfl)
theorem dX1_undo_22 : decode cX1_undo 22 = .ok (.iconst 1, 1) := dk_4 (dk_at dksX1_undo_0 22 rfl rfl)
theorem dX1_undo_23 : decode cX1_undo 23 = .ok (.isub, 1) := dk_100 (dk_at dksX1_undo_0 23 rfl rfl)
theorem dX1_undo_24 : decode cX1_undo 24 = .ok (.dup_x1, 1) := dk_90 (dk_at dksX1_undo_1 0 rfl rfl)
theorem dX1_undo_25 : decode cX1_undo 25 = .ok (.putfield 128, 3) := dk_181 0 128 (dk_at dksX1_undo_1 1 rfl rfl)
theorem dX1_undo_28 : decode cX1_undo 28 = .ok (.aaload, 1) := dk_50 (dk_at dksX1_undo_1 4 rfl rfl)
theorem dX1_undo_29 : decode cX1_undo 29 = .ok (.invokevirtual 276, 3) := dk_182 1 20 (dk_at dksX1_undo_1 5 rfl rfl)
theorem dX1_undo_32 : decode cX1_undo 32 = .ok (.iconst 1, 1) := dk_4 (dk_at dksX1_undo_1 8 rfl rfl)
theorem dX1_undo_33 : decode cX1_undo 33 = .ok (.ireturn, 1) := dk_172 (dk_at dksX1_undo_1 9 rfl rfl)
abbrev cX1_judged : ByteArray := prog_1_method_37_code
def yX1_judged : MethodName := ⟨RX1, "judged", "(I)I"⟩
def dkwX1_judged_7 : List UInt8 := [172]
abbrev dktX1_judged_7 : List UInt8 := dkwX1_judged_7 ++ []
def dkwX1_judged_6 : List UInt8 := [167, 0, 24, 27, 4, 160, 0, 7, 29, 167, 0, 15, 42, 42, 42, 180, 0, 55, 182, 1, 17, 182, 1, 54]
abbrev dktX1_judged_6 : List UInt8 := dkwX1_judged_6 ++ dktX1_judged_7
def dkwX1_judged_5 : List UInt8 := [184, 0, 161, 21, 5, 162, 0, 6, 21, 4, 62, 132, 4, 1, 167, 255, 157, 27, 154, 0, 7, 28]
abbrev dktX1_judged_5 : List UInt8 := dkwX1_judged_5 ++ dktX1_judged_6
def dkwX1_judged_4 : List UInt8 := [182, 0, 142, 192, 1, 44, 182, 1, 50, 153, 0, 26, 29, 156, 0, 22, 42, 42, 180, 0, 55, 182, 1, 41]
abbrev dktX1_judged_4 : List UInt8 := dkwX1_judged_4 ++ dktX1_judged_5
def dkwX1_judged_3 : List UInt8 := [180, 0, 55, 182, 1, 46, 154, 0, 10, 28, 156, 0, 6, 21, 4, 61, 42, 180, 0, 44, 21, 4]
abbrev dktX1_judged_3 : List UInt8 := dkwX1_judged_3 ++ dktX1_judged_4
def dkwX1_judged_2 : List UInt8 := [182, 1, 41, 184, 0, 161, 54, 5, 42, 180, 0, 44, 21, 4, 182, 0, 142, 192, 1, 44, 42, 42]
abbrev dktX1_judged_2 : List UInt8 := dkwX1_judged_2 ++ dktX1_judged_3
def dkwX1_judged_1 : List UInt8 := [61, 2, 62, 3, 54, 4, 21, 4, 42, 180, 0, 44, 182, 0, 138, 162, 0, 93, 42, 42, 180, 0, 55]
abbrev dktX1_judged_1 : List UInt8 := dkwX1_judged_1 ++ dktX1_judged_2
def dkwX1_judged_0 : List UInt8 := [27, 3, 5, 184, 0, 150, 154, 0, 6, 16, 254, 172, 42, 180, 0, 55, 42, 180, 0, 35, 182, 0, 102, 2]
abbrev dktX1_judged_0 : List UInt8 := dkwX1_judged_0 ++ dktX1_judged_1
theorem dksX1_judged_0 : cX1_judged.data.toList.drop 0 = dktX1_judged_0 := by decide +kernel
theorem dksX1_judged_1 : cX1_judged.data.toList.drop 24 = dktX1_judged_1 := dk_seg dksX1_judged_0 24 rfl rfl
theorem dksX1_judged_2 : cX1_judged.data.toList.drop 47 = dktX1_judged_2 := dk_seg dksX1_judged_1 23 rfl rfl
theorem dksX1_judged_3 : cX1_judged.data.toList.drop 69 = dktX1_judged_3 := dk_seg dksX1_judged_2 22 rfl rfl
theorem dksX1_judged_4 : cX1_judged.data.toList.drop 91 = dktX1_judged_4 := dk_seg dksX1_judged_3 22 rfl rfl
theorem dksX1_judged_5 : cX1_judged.data.toList.drop 115 = dktX1_judged_5 := dk_seg dksX1_judged_4 24 rfl rfl
theorem dksX1_judged_6 : cX1_judged.data.toList.drop 137 = dktX1_judged_6 := dk_seg dksX1_judged_5 22 rfl rfl
theorem dksX1_judged_7 : cX1_judged.data.toList.drop 161 = dktX1_judged_7 := dk_seg dksX1_judged_6 24 rfl rfl
theorem dX1_judged_0 : decode cX1_judged 0 = .ok (.iload_n 1, 1) := dk_27 (dk_at dksX1_judged_0 0 rfl rfl)
theorem dX1_judged_1 : decode cX1_judged 1 = .ok (.iconst 0, 1) := dk_3 (dk_at dksX1_judged_0 1 rfl rfl)
theorem dX1_judged_2 : decode cX1_judged 2 = .ok (.iconst 2, 1) := dk_5 (dk_at dksX1_judged_0 2 rfl rfl)
theorem dX1_judged_3 : decode cX1_judged 3 = .ok (.invokestatic 150, 3) := dk_184 0 150 (dk_at dksX1_judged_0 3 rfl rfl)
theorem dX1_judged_6 : decode cX1_judged 6 = .ok (.ifCond .ne 6, 3) := dk_154 0 6 (dk_at dksX1_judged_0 6 rfl rfl)
theorem dX1_judged_9 : decode cX1_judged 9 = .ok (.bipush (-2), 2) := dk_16 254 (dk_at dksX1_judged_0 9 rfl rfl)
theorem dX1_judged_11 : decode cX1_judged 11 = .ok (.ireturn, 1) := dk_172 (dk_at dksX1_judged_0 11 rfl rfl)
theorem dX1_judged_12 : decode cX1_judged 12 = .ok (.aload_n 0, 1) := dk_42 (dk_at dksX1_judged_0 12 rfl rfl)
theorem dX1_judged_13 : decode cX1_judged 13 = .ok (.getfield 55, 3) := dk_180 0 55 (dk_at dksX1_judged_0 13 rfl rfl)
theorem dX1_judged_16 : decode cX1_judged 16 = .ok (.aload_n 0, 1) := dk_42 (dk_at dksX1_judged_0 16 rfl rfl)
theorem dX1_judged_17 : decode cX1_judged 17 = .ok (.getfield 35, 3) := dk_180 0 35 (dk_at dksX1_judged_0 17 rfl rfl)
theorem dX1_judged_20 : decode cX1_judged 20 = .ok (.invokevirtual 102, 3) := dk_182 0 102 (dk_at dksX1_judged_0 20 rfl rfl)
theorem dX1_judged_23 : decode cX1_judged 23 = .ok (.iconst (-1), 1) := dk_2 (dk_at dksX1_judged_0 23 rfl rfl)
theorem dX1_judged_24 : decode cX1_judged 24 = .ok (.istore_n 2, 1) := dk_61 (dk_at dksX1_judged_1 0 rfl rfl)
theorem dX1_judged_25 : decode cX1_judged 25 = .ok (.iconst (-1), 1) := dk_2 (dk_at dksX1_judged_1 1 rfl rfl)
theorem dX1_judged_26 : decode cX1_judged 26 = .ok (.istore_n 3, 1) := dk_62 (dk_at dksX1_judged_1 2 rfl rfl)
theorem dX1_judged_27 : decode cX1_judged 27 = .ok (.iconst 0, 1) := dk_3 (dk_at dksX1_judged_1 3 rfl rfl)
theorem dX1_judged_28 : decode cX1_judged 28 = .ok (.istore 4, 2) := dk_54 4 (dk_at dksX1_judged_1 4 rfl rfl)
theorem dX1_judged_30 : decode cX1_judged 30 = .ok (.iload 4, 2) := dk_21 4 (dk_at dksX1_judged_1 6 rfl rfl)
theorem dX1_judged_32 : decode cX1_judged 32 = .ok (.aload_n 0, 1) := dk_42 (dk_at dksX1_judged_1 8 rfl rfl)
theorem dX1_judged_33 : decode cX1_judged 33 = .ok (.getfield 44, 3) := dk_180 0 44 (dk_at dksX1_judged_1 9 rfl rfl)
theorem dX1_judged_36 : decode cX1_judged 36 = .ok (.invokevirtual 138, 3) := dk_182 0 138 (dk_at dksX1_judged_1 12 rfl rfl)
theorem dX1_judged_39 : decode cX1_judged 39 = .ok (.if_icmp .ge 93, 3) := dk_162 0 93 (dk_at dksX1_judged_1 15 rfl rfl)
theorem dX1_judged_42 : decode cX1_judged 42 = .ok (.aload_n 0, 1) := dk_42 (dk_at dksX1_judged_1 18 rfl rfl)
theorem dX1_judged_43 : decode cX1_judged 43 = .ok (.aload_n 0, 1) := dk_42 (dk_at dksX1_judged_1 19 rfl rfl)
theorem dX1_judged_44 : decode cX1_judged 44 = .ok (.getfield 55, 3) := dk_180 0 55 (dk_at dksX1_judged_1 20 rfl rfl)
theorem dX1_judged_47 : decode cX1_judged 47 = .ok (.invokevirtual 297, 3) := dk_182 1 41 (dk_at dksX1_judged_2 0 rfl rfl)
theorem dX1_judged_50 : decode cX1_judged 50 = .ok (.invokestatic 161, 3) := dk_184 0 161 (dk_at dksX1_judged_2 3 rfl rfl)
theorem dX1_judged_53 : decode cX1_judged 53 = .ok (.istore 5, 2) := dk_54 5 (dk_at dksX1_judged_2 6 rfl rfl)
theorem dX1_judged_55 : decode cX1_judged 55 = .ok (.aload_n 0, 1) := dk_42 (dk_at dksX1_judged_2 8 rfl rfl)
theorem dX1_judged_56 : decode cX1_judged 56 = .ok (.getfield 44, 3) := dk_180 0 44 (dk_at dksX1_judged_2 9 rfl rfl)
theorem dX1_judged_59 : decode cX1_judged 59 = .ok (.iload 4, 2) := dk_21 4 (dk_at dksX1_judged_2 12 rfl rfl)
theorem dX1_judged_61 : decode cX1_judged 61 = .ok (.invokevirtual 142, 3) := dk_182 0 142 (dk_at dksX1_judged_2 14 rfl rfl)
theorem dX1_judged_64 : decode cX1_judged 64 = .ok (.checkcast 300, 3) := dk_192 1 44 (dk_at dksX1_judged_2 17 rfl rfl)
theorem dX1_judged_67 : decode cX1_judged 67 = .ok (.aload_n 0, 1) := dk_42 (dk_at dksX1_judged_2 20 rfl rfl)
theorem dX1_judged_68 : decode cX1_judged 68 = .ok (.aload_n 0, 1) := dk_42 (dk_at dksX1_judged_2 21 rfl rfl)
theorem dX1_judged_69 : decode cX1_judged 69 = .ok (.getfield 55, 3) := dk_180 0 55 (dk_at dksX1_judged_3 0 rfl rfl)
theorem dX1_judged_72 : decode cX1_judged 72 = .ok (.invokevirtual 302, 3) := dk_182 1 46 (dk_at dksX1_judged_3 3 rfl rfl)
theorem dX1_judged_75 : decode cX1_judged 75 = .ok (.ifCond .ne 10, 3) := dk_154 0 10 (dk_at dksX1_judged_3 6 rfl rfl)
theorem dX1_judged_78 : decode cX1_judged 78 = .ok (.iload_n 2, 1) := dk_28 (dk_at dksX1_judged_3 9 rfl rfl)
theorem dX1_judged_79 : decode cX1_judged 79 = .ok (.ifCond .ge 6, 3) := dk_156 0 6 (dk_at dksX1_judged_3 10 rfl rfl)
theorem dX1_judged_82 : decode cX1_judged 82 = .ok (.iload 4, 2) := dk_21 4 (dk_at dksX1_judged_3 13 rfl rfl)
theorem dX1_judged_84 : decode cX1_judged 84 = .ok (.istore_n 2, 1) := dk_61 (dk_at dksX1_judged_3 15 rfl rfl)
theorem dX1_judged_85 : decode cX1_judged 85 = .ok (.aload_n 0, 1) := dk_42 (dk_at dksX1_judged_3 16 rfl rfl)
theorem dX1_judged_86 : decode cX1_judged 86 = .ok (.getfield 44, 3) := dk_180 0 44 (dk_at dksX1_judged_3 17 rfl rfl)
theorem dX1_judged_89 : decode cX1_judged 89 = .ok (.iload 4, 2) := dk_21 4 (dk_at dksX1_judged_3 20 rfl rfl)
theorem dX1_judged_91 : decode cX1_judged 91 = .ok (.invokevirtual 142, 3) := dk_182 0 142 (dk_at dksX1_judged_4 0 rfl rfl)
theorem dX1_judged_94 : decode cX1_judged 94 = .ok (.checkcast 300, 3) := dk_192 1 44 (dk_at dksX1_judged_4 3 rfl rfl)
theorem dX1_judged_97 : decode cX1_judged 97 = .ok (.invokevirtual 306, 3) := dk_182 1 50 (dk_at dksX1_judged_4 6 rfl rfl)
theorem dX1_judged_100 : decode cX1_judged 100 = .ok (.ifCond .eq 26, 3) := dk_153 0 26 (dk_at dksX1_judged_4 9 rfl rfl)
theorem dX1_judged_103 : decode cX1_judged 103 = .ok (.iload_n 3, 1) := dk_29 (dk_at dksX1_judged_4 12 rfl rfl)
theorem dX1_judged_104 : decode cX1_judged 104 = .ok (.ifCond .ge 22, 3) := dk_156 0 22 (dk_at dksX1_judged_4 13 rfl rfl)
theorem dX1_judged_107 : decode cX1_judged 107 = .ok (.aload_n 0, 1) := dk_42 (dk_at dksX1_judged_4 16 rfl rfl)
theorem dX1_judged_108 : decode cX1_judged 108 = .ok (.aload_n 0, 1) := dk_42 (dk_at dksX1_judged_4 17 rfl rfl)
theorem dX1_judged_109 : decode cX1_judged 109 = .ok (.getfield 55, 3) := dk_180 0 55 (dk_at dksX1_judged_4 18 rfl rfl)
theorem dX1_judged_112 : decode cX1_judged 112 = .ok (.invokevirtual 297, 3) := dk_182 1 41 (dk_at dksX1_judged_4 21 rfl rfl)
theorem dX1_judged_115 : decode cX1_judged 115 = .ok (.invokestatic 161, 3) := dk_184 0 161 (dk_at dksX1_judged_5 0 rfl rfl)
theorem dX1_judged_118 : decode cX1_judged 118 = .ok (.iload 5, 2) := dk_21 5 (dk_at dksX1_judged_5 3 rfl rfl)
theorem dX1_judged_120 : decode cX1_judged 120 = .ok (.if_icmp .ge 6, 3) := dk_162 0 6 (dk_at dksX1_judged_5 5 rfl rfl)
theorem dX1_judged_123 : decode cX1_judged 123 = .ok (.iload 4, 2) := dk_21 4 (dk_at dksX1_judged_5 8 rfl rfl)
theorem dX1_judged_125 : decode cX1_judged 125 = .ok (.istore_n 3, 1) := dk_62 (dk_at dksX1_judged_5 10 rfl rfl)
theorem dX1_judged_126 : decode cX1_judged 126 = .ok (.iinc 4 1, 3) := dk_132 4 1 (dk_at dksX1_judged_5 11 rfl rfl)
theorem dX1_judged_129 : decode cX1_judged 129 = .ok (.goto (-99), 3) := dk_167 255 157 (dk_at dksX1_judged_5 14 rfl rfl)
theorem dX1_judged_132 : decode cX1_judged 132 = .ok (.iload_n 1, 1) := dk_27 (dk_at dksX1_judged_5 17 rfl rfl)
theorem dX1_judged_133 : decode cX1_judged 133 = .ok (.ifCond .ne 7, 3) := dk_154 0 7 (dk_at dksX1_judged_5 18 rfl rfl)
theorem dX1_judged_136 : decode cX1_judged 136 = .ok (.iload_n 2, 1) := dk_28 (dk_at dksX1_judged_5 21 rfl rfl)
theorem dX1_judged_137 : decode cX1_judged 137 = .ok (.goto 24, 3) := dk_167 0 24 (dk_at dksX1_judged_6 0 rfl rfl)
theorem dX1_judged_140 : decode cX1_judged 140 = .ok (.iload_n 1, 1) := dk_27 (dk_at dksX1_judged_6 3 rfl rfl)
theorem dX1_judged_141 : decode cX1_judged 141 = .ok (.iconst 1, 1) := dk_4 (dk_at dksX1_judged_6 4 rfl rfl)
theorem dX1_judged_142 : decode cX1_judged 142 = .ok (.if_icmp .ne 7, 3) := dk_160 0 7 (dk_at dksX1_judged_6 5 rfl rfl)
theorem dX1_judged_145 : decode cX1_judged 145 = .ok (.iload_n 3, 1) := dk_29 (dk_at dksX1_judged_6 8 rfl rfl)
theorem dX1_judged_146 : decode cX1_judged 146 = .ok (.goto 15, 3) := dk_167 0 15 (dk_at dksX1_judged_6 9 rfl rfl)
theorem dX1_judged_149 : decode cX1_judged 149 = .ok (.aload_n 0, 1) := dk_42 (dk_at dksX1_judged_6 12 rfl rfl)
theorem dX1_judged_150 : decode cX1_judged 150 = .ok (.aload_n 0, 1) := dk_42 (dk_at dksX1_judged_6 13 rfl rfl)
theorem dX1_judged_151 : decode cX1_judged 151 = .ok (.aload_n 0, 1) := dk_42 (dk_at dksX1_judged_6 14 rfl rfl)
theorem dX1_judged_152 : decode cX1_judged 152 = .ok (.getfield 55, 3) := dk_180 0 55 (dk_at dksX1_judged_6 15 rfl rfl)
theorem dX1_judged_155 : decode cX1_judged 155 = .ok (.invokevirtual 273, 3) := dk_182 1 17 (dk_at dksX1_judged_6 18 rfl rfl)
theorem dX1_judged_158 : decode cX1_judged 158 = .ok (.invokevirtual 310, 3) := dk_182 1 54 (dk_at dksX1_judged_6 21 rfl rfl)
theorem dX1_judged_161 : decode cX1_judged 161 = .ok (.ireturn, 1) := dk_172 (dk_at dksX1_judged_7 0 rfl rfl)
abbrev cX1_hanging : ByteArray := prog_1_method_38_code
def yX1_hanging : MethodName := ⟨RX1, "hanging", "(LPegLaws$State;)I"⟩
def dkwX1_hanging_1 : List UInt8 := [3, 54, 4, 21, 4, 153, 0, 9, 28, 4, 29, 120, 128, 61, 132, 3, 1, 167, 255, 219, 28, 172]
abbrev dktX1_hanging_1 : List UInt8 := dkwX1_hanging_1 ++ []
def dkwX1_hanging_0 : List UInt8 := [3, 61, 3, 62, 29, 42, 182, 0, 148, 162, 0, 35, 43, 29, 182, 0, 157, 153, 0, 7, 4, 167, 0, 4]
abbrev dktX1_hanging_0 : List UInt8 := dkwX1_hanging_0 ++ dktX1_hanging_1
theorem dksX1_hanging_0 : cX1_hanging.data.toList.drop 0 = dktX1_hanging_0 := by decide +kernel
theorem dksX1_hanging_1 : cX1_hanging.data.toList.drop 24 = dktX1_hanging_1 := dk_seg dksX1_hanging_0 24 rfl rfl
theorem dX1_hanging_0 : decode cX1_hanging 0 = .ok (.iconst 0, 1) := dk_3 (dk_at dksX1_hanging_0 0 rfl rfl)
theorem dX1_hanging_1 : decode cX1_hanging 1 = .ok (.istore_n 2, 1) := dk_61 (dk_at dksX1_hanging_0 1 rfl rfl)
theorem dX1_hanging_2 : decode cX1_hanging 2 = .ok (.iconst 0, 1) := dk_3 (dk_at dksX1_hanging_0 2 rfl rfl)
theorem dX1_hanging_3 : decode cX1_hanging 3 = .ok (.istore_n 3, 1) := dk_62 (dk_at dksX1_hanging_0 3 rfl rfl)
theorem dX1_hanging_4 : decode cX1_hanging 4 = .ok (.iload_n 3, 1) := dk_29 (dk_at dksX1_hanging_0 4 rfl rfl)
theorem dX1_hanging_5 : decode cX1_hanging 5 = .ok (.aload_n 0, 1) := dk_42 (dk_at dksX1_hanging_0 5 rfl rfl)
theorem dX1_hanging_6 : decode cX1_hanging 6 = .ok (.invokevirtual 148, 3) := dk_182 0 148 (dk_at dksX1_hanging_0 6 rfl rfl)
theorem dX1_hanging_9 : decode cX1_hanging 9 = .ok (.if_icmp .ge 35, 3) := dk_162 0 35 (dk_at dksX1_hanging_0 9 rfl rfl)
theorem dX1_hanging_12 : decode cX1_hanging 12 = .ok (.aload_n 1, 1) := dk_43 (dk_at dksX1_hanging_0 12 rfl rfl)
theorem dX1_hanging_13 : decode cX1_hanging 13 = .ok (.iload_n 3, 1) := dk_29 (dk_at dksX1_hanging_0 13 rfl rfl)
theorem dX1_hanging_14 : decode cX1_hanging 14 = .ok (.invokevirtual 157, 3) := dk_182 0 157 (dk_at dksX1_hanging_0 14 rfl rfl)
theorem dX1_hanging_17 : decode cX1_hanging 17 = .ok (.ifCond .eq 7, 3) := dk_153 0 7 (dk_at dksX1_hanging_0 17 rfl rfl)
theorem dX1_hanging_20 : decode cX1_hanging 20 = .ok (.iconst 1, 1) := dk_4 (dk_at dksX1_hanging_0 20 rfl rfl)
theorem dX1_hanging_21 : decode cX1_hanging 21 = .ok (.goto 4, 3) := dk_167 0 4 (dk_at dksX1_hanging_0 21 rfl rfl)
theorem dX1_hanging_24 : decode cX1_hanging 24 = .ok (.iconst 0, 1) := dk_3 (dk_at dksX1_hanging_1 0 rfl rfl)
theorem dX1_hanging_25 : decode cX1_hanging 25 = .ok (.istore 4, 2) := dk_54 4 (dk_at dksX1_hanging_1 1 rfl rfl)
theorem dX1_hanging_27 : decode cX1_hanging 27 = .ok (.iload 4, 2) := dk_21 4 (dk_at dksX1_hanging_1 3 rfl rfl)
theorem dX1_hanging_29 : decode cX1_hanging 29 = .ok (.ifCond .eq 9, 3) := dk_153 0 9 (dk_at dksX1_hanging_1 5 rfl rfl)
theorem dX1_hanging_32 : decode cX1_hanging 32 = .ok (.iload_n 2, 1) := dk_28 (dk_at dksX1_hanging_1 8 rfl rfl)
theorem dX1_hanging_33 : decode cX1_hanging 33 = .ok (.iconst 1, 1) := dk_4 (dk_at dksX1_hanging_1 9 rfl rfl)
theorem dX1_hanging_34 : decode cX1_hanging 34 = .ok (.iload_n 3, 1) := dk_29 (dk_at dksX1_hanging_1 10 rfl rfl)
theorem dX1_hanging_35 : decode cX1_hanging 35 = .ok (.ishl, 1) := dk_120 (dk_at dksX1_hanging_1 11 rfl rfl)
theorem dX1_hanging_36 : decode cX1_hanging 36 = .ok (.ior, 1) := dk_128 (dk_at dksX1_hanging_1 12 rfl rfl)
theorem dX1_hanging_37 : decode cX1_hanging 37 = .ok (.istore_n 2, 1) := dk_61 (dk_at dksX1_hanging_1 13 rfl rfl)
theorem dX1_hanging_38 : decode cX1_hanging 38 = .ok (.iinc 3 1, 3) := dk_132 3 1 (dk_at dksX1_hanging_1 14 rfl rfl)
theorem dX1_hanging_41 : decode cX1_hanging 41 = .ok (.goto (-37), 3) := dk_167 255 219 (dk_at dksX1_hanging_1 17 rfl rfl)
theorem dX1_hanging_44 : decode cX1_hanging 44 = .ok (.iload_n 2, 1) := dk_28 (dk_at dksX1_hanging_1 20 rfl rfl)
theorem dX1_hanging_45 : decode cX1_hanging 45 = .ok (.ireturn, 1) := dk_172 (dk_at dksX1_hanging_1 21 rfl rfl)
abbrev cX1_worthOf : ByteArray := prog_1_method_17_code
def yX1_worthOf : MethodName := ⟨RX1, "worthOf", "(I)I"⟩
def dkwX1_worthOf_1 : List UInt8 := [182, 0, 166, 180, 0, 181, 96, 61, 132, 3, 1, 167, 255, 226, 28, 172]
abbrev dktX1_worthOf_1 : List UInt8 := dkwX1_worthOf_1 ++ []
def dkwX1_worthOf_0 : List UInt8 := [3, 61, 3, 62, 29, 42, 182, 0, 148, 162, 0, 28, 27, 29, 184, 0, 177, 153, 0, 14, 28, 42, 29]
abbrev dktX1_worthOf_0 : List UInt8 := dkwX1_worthOf_0 ++ dktX1_worthOf_1
theorem dksX1_worthOf_0 : cX1_worthOf.data.toList.drop 0 = dktX1_worthOf_0 := by decide +kernel
theorem dksX1_worthOf_1 : cX1_worthOf.data.toList.drop 23 = dktX1_worthOf_1 := dk_seg dksX1_worthOf_0 23 rfl rfl
theorem dX1_worthOf_0 : decode cX1_worthOf 0 = .ok (.iconst 0, 1) := dk_3 (dk_at dksX1_worthOf_0 0 rfl rfl)
theorem dX1_worthOf_1 : decode cX1_worthOf 1 = .ok (.istore_n 2, 1) := dk_61 (dk_at dksX1_worthOf_0 1 rfl rfl)
theorem dX1_worthOf_2 : decode cX1_worthOf 2 = .ok (.iconst 0, 1) := dk_3 (dk_at dksX1_worthOf_0 2 rfl rfl)
theorem dX1_worthOf_3 : decode cX1_worthOf 3 = .ok (.istore_n 3, 1) := dk_62 (dk_at dksX1_worthOf_0 3 rfl rfl)
theorem dX1_worthOf_4 : decode cX1_worthOf 4 = .ok (.iload_n 3, 1) := dk_29 (dk_at dksX1_worthOf_0 4 rfl rfl)
theorem dX1_worthOf_5 : decode cX1_worthOf 5 = .ok (.aload_n 0, 1) := dk_42 (dk_at dksX1_worthOf_0 5 rfl rfl)
theorem dX1_worthOf_6 : decode cX1_worthOf 6 = .ok (.invokevirtual 148, 3) := dk_182 0 148 (dk_at dksX1_worthOf_0 6 rfl rfl)
theorem dX1_worthOf_9 : decode cX1_worthOf 9 = .ok (.if_icmp .ge 28, 3) := dk_162 0 28 (dk_at dksX1_worthOf_0 9 rfl rfl)
theorem dX1_worthOf_12 : decode cX1_worthOf 12 = .ok (.iload_n 1, 1) := dk_27 (dk_at dksX1_worthOf_0 12 rfl rfl)
theorem dX1_worthOf_13 : decode cX1_worthOf 13 = .ok (.iload_n 3, 1) := dk_29 (dk_at dksX1_worthOf_0 13 rfl rfl)
theorem dX1_worthOf_14 : decode cX1_worthOf 14 = .ok (.invokestatic 177, 3) := dk_184 0 177 (dk_at dksX1_worthOf_0 14 rfl rfl)
theorem dX1_worthOf_17 : decode cX1_worthOf 17 = .ok (.ifCond .eq 14, 3) := dk_153 0 14 (dk_at dksX1_worthOf_0 17 rfl rfl)
theorem dX1_worthOf_20 : decode cX1_worthOf 20 = .ok (.iload_n 2, 1) := dk_28 (dk_at dksX1_worthOf_0 20 rfl rfl)
theorem dX1_worthOf_21 : decode cX1_worthOf 21 = .ok (.aload_n 0, 1) := dk_42 (dk_at dksX1_worthOf_0 21 rfl rfl)
theorem dX1_worthOf_22 : decode cX1_worthOf 22 = .ok (.iload_n 3, 1) := dk_29 (dk_at dksX1_worthOf_0 22 rfl rfl)
theorem dX1_worthOf_23 : decode cX1_worthOf 23 = .ok (.invokevirtual 166, 3) := dk_182 0 166 (dk_at dksX1_worthOf_1 0 rfl rfl)
theorem dX1_worthOf_26 : decode cX1_worthOf 26 = .ok (.getfield 181, 3) := dk_180 0 181 (dk_at dksX1_worthOf_1 3 rfl rfl)
theorem dX1_worthOf_29 : decode cX1_worthOf 29 = .ok (.iadd, 1) := dk_96 (dk_at dksX1_worthOf_1 6 rfl rfl)
theorem dX1_worthOf_30 : decode cX1_worthOf 30 = .ok (.istore_n 2, 1) := dk_61 (dk_at dksX1_worthOf_1 7 rfl rfl)
theorem dX1_worthOf_31 : decode cX1_worthOf 31 = .ok (.iinc 3 1, 3) := dk_132 3 1 (dk_at dksX1_worthOf_1 8 rfl rfl)
theorem dX1_worthOf_34 : decode cX1_worthOf 34 = .ok (.goto (-30), 3) := dk_167 255 226 (dk_at dksX1_worthOf_1 11 rfl rfl)
theorem dX1_worthOf_37 : decode cX1_worthOf 37 = .ok (.iload_n 2, 1) := dk_28 (dk_at dksX1_worthOf_1 14 rfl rfl)
theorem dX1_worthOf_38 : decode cX1_worthOf 38 = .ok (.ireturn, 1) := dk_172 (dk_at dksX1_worthOf_1 15 rfl rfl)
abbrev cX1_holds : ByteArray := prog_1_method_39_code
def yX1_holds : MethodName := ⟨RX1, "holds", "(I)I"⟩
def dkwX1_holds_3 : List UInt8 := [28, 172, 132, 2, 1, 167, 255, 215, 2, 172]
abbrev dktX1_holds_3 : List UInt8 := dkwX1_holds_3 ++ []
def dkwX1_holds_2 : List UInt8 := [42, 180, 0, 35, 42, 180, 0, 51, 180, 0, 244, 28, 96, 4, 100, 182, 0, 247, 182, 0, 250, 153, 0, 5]
abbrev dktX1_holds_2 : List UInt8 := dkwX1_holds_2 ++ dktX1_holds_3
def dkwX1_holds_1 : List UInt8 := [180, 0, 55, 42, 180, 0, 51, 182, 1, 20, 4, 61, 28, 16, 40, 163, 0, 41, 42, 42, 180, 0, 55, 27]
abbrev dktX1_holds_1 : List UInt8 := dkwX1_holds_1 ++ dktX1_holds_2
def dkwX1_holds_0 : List UInt8 := [42, 27, 182, 0, 254, 153, 0, 14, 42, 180, 0, 51, 27, 182, 0, 157, 154, 0, 5, 2, 172, 42]
abbrev dktX1_holds_0 : List UInt8 := dkwX1_holds_0 ++ dktX1_holds_1
theorem dksX1_holds_0 : cX1_holds.data.toList.drop 0 = dktX1_holds_0 := by decide +kernel
theorem dksX1_holds_1 : cX1_holds.data.toList.drop 22 = dktX1_holds_1 := dk_seg dksX1_holds_0 22 rfl rfl
theorem dksX1_holds_2 : cX1_holds.data.toList.drop 46 = dktX1_holds_2 := dk_seg dksX1_holds_1 24 rfl rfl
theorem dksX1_holds_3 : cX1_holds.data.toList.drop 70 = dktX1_holds_3 := dk_seg dksX1_holds_2 24 rfl rfl
theorem dX1_holds_0 : decode cX1_holds 0 = .ok (.aload_n 0, 1) := dk_42 (dk_at dksX1_holds_0 0 rfl rfl)
theorem dX1_holds_1 : decode cX1_holds 1 = .ok (.iload_n 1, 1) := dk_27 (dk_at dksX1_holds_0 1 rfl rfl)
theorem dX1_holds_2 : decode cX1_holds 2 = .ok (.invokevirtual 254, 3) := dk_182 0 254 (dk_at dksX1_holds_0 2 rfl rfl)
theorem dX1_holds_5 : decode cX1_holds 5 = .ok (.ifCond .eq 14, 3) := dk_153 0 14 (dk_at dksX1_holds_0 5 rfl rfl)
theorem dX1_holds_8 : decode cX1_holds 8 = .ok (.aload_n 0, 1) := dk_42 (dk_at dksX1_holds_0 8 rfl rfl)
theorem dX1_holds_9 : decode cX1_holds 9 = .ok (.getfield 51, 3) := dk_180 0 51 (dk_at dksX1_holds_0 9 rfl rfl)
theorem dX1_holds_12 : decode cX1_holds 12 = .ok (.iload_n 1, 1) := dk_27 (dk_at dksX1_holds_0 12 rfl rfl)
theorem dX1_holds_13 : decode cX1_holds 13 = .ok (.invokevirtual 157, 3) := dk_182 0 157 (dk_at dksX1_holds_0 13 rfl rfl)
theorem dX1_holds_16 : decode cX1_holds 16 = .ok (.ifCond .ne 5, 3) := dk_154 0 5 (dk_at dksX1_holds_0 16 rfl rfl)
theorem dX1_holds_19 : decode cX1_holds 19 = .ok (.iconst (-1), 1) := dk_2 (dk_at dksX1_holds_0 19 rfl rfl)
theorem dX1_holds_20 : decode cX1_holds 20 = .ok (.ireturn, 1) := dk_172 (dk_at dksX1_holds_0 20 rfl rfl)
theorem dX1_holds_21 : decode cX1_holds 21 = .ok (.aload_n 0, 1) := dk_42 (dk_at dksX1_holds_0 21 rfl rfl)
theorem dX1_holds_22 : decode cX1_holds 22 = .ok (.getfield 55, 3) := dk_180 0 55 (dk_at dksX1_holds_1 0 rfl rfl)
theorem dX1_holds_25 : decode cX1_holds 25 = .ok (.aload_n 0, 1) := dk_42 (dk_at dksX1_holds_1 3 rfl rfl)
theorem dX1_holds_26 : decode cX1_holds 26 = .ok (.getfield 51, 3) := dk_180 0 51 (dk_at dksX1_holds_1 4 rfl rfl)
theorem dX1_holds_29 : decode cX1_holds 29 = .ok (.invokevirtual 276, 3) := dk_182 1 20 (dk_at dksX1_holds_1 7 rfl rfl)
theorem dX1_holds_32 : decode cX1_holds 32 = .ok (.iconst 1, 1) := dk_4 (dk_at dksX1_holds_1 10 rfl rfl)
theorem dX1_holds_33 : decode cX1_holds 33 = .ok (.istore_n 2, 1) := dk_61 (dk_at dksX1_holds_1 11 rfl rfl)
theorem dX1_holds_34 : decode cX1_holds 34 = .ok (.iload_n 2, 1) := dk_28 (dk_at dksX1_holds_1 12 rfl rfl)
theorem dX1_holds_35 : decode cX1_holds 35 = .ok (.bipush 40, 2) := dk_16 40 (dk_at dksX1_holds_1 13 rfl rfl)
theorem dX1_holds_37 : decode cX1_holds 37 = .ok (.if_icmp .gt 41, 3) := dk_163 0 41 (dk_at dksX1_holds_1 15 rfl rfl)
theorem dX1_holds_40 : decode cX1_holds 40 = .ok (.aload_n 0, 1) := dk_42 (dk_at dksX1_holds_1 18 rfl rfl)
theorem dX1_holds_41 : decode cX1_holds 41 = .ok (.aload_n 0, 1) := dk_42 (dk_at dksX1_holds_1 19 rfl rfl)
theorem dX1_holds_42 : decode cX1_holds 42 = .ok (.getfield 55, 3) := dk_180 0 55 (dk_at dksX1_holds_1 20 rfl rfl)
theorem dX1_holds_45 : decode cX1_holds 45 = .ok (.iload_n 1, 1) := dk_27 (dk_at dksX1_holds_1 23 rfl rfl)
theorem dX1_holds_46 : decode cX1_holds 46 = .ok (.aload_n 0, 1) := dk_42 (dk_at dksX1_holds_2 0 rfl rfl)
theorem dX1_holds_47 : decode cX1_holds 47 = .ok (.getfield 35, 3) := dk_180 0 35 (dk_at dksX1_holds_2 1 rfl rfl)
theorem dX1_holds_50 : decode cX1_holds 50 = .ok (.aload_n 0, 1) := dk_42 (dk_at dksX1_holds_2 4 rfl rfl)
theorem dX1_holds_51 : decode cX1_holds 51 = .ok (.getfield 51, 3) := dk_180 0 51 (dk_at dksX1_holds_2 5 rfl rfl)
theorem dX1_holds_54 : decode cX1_holds 54 = .ok (.getfield 244, 3) := dk_180 0 244 (dk_at dksX1_holds_2 8 rfl rfl)
theorem dX1_holds_57 : decode cX1_holds 57 = .ok (.iload_n 2, 1) := dk_28 (dk_at dksX1_holds_2 11 rfl rfl)
theorem dX1_holds_58 : decode cX1_holds 58 = .ok (.iadd, 1) := dk_96 (dk_at dksX1_holds_2 12 rfl rfl)
theorem dX1_holds_59 : decode cX1_holds 59 = .ok (.iconst 1, 1) := dk_4 (dk_at dksX1_holds_2 13 rfl rfl)
theorem dX1_holds_60 : decode cX1_holds 60 = .ok (.isub, 1) := dk_100 (dk_at dksX1_holds_2 14 rfl rfl)
theorem dX1_holds_61 : decode cX1_holds 61 = .ok (.invokevirtual 247, 3) := dk_182 0 247 (dk_at dksX1_holds_2 15 rfl rfl)
theorem dX1_holds_64 : decode cX1_holds 64 = .ok (.invokevirtual 250, 3) := dk_182 0 250 (dk_at dksX1_holds_2 18 rfl rfl)
theorem dX1_holds_67 : decode cX1_holds 67 = .ok (.ifCond .eq 5, 3) := dk_153 0 5 (dk_at dksX1_holds_2 21 rfl rfl)
theorem dX1_holds_70 : decode cX1_holds 70 = .ok (.iload_n 2, 1) := dk_28 (dk_at dksX1_holds_3 0 rfl rfl)
theorem dX1_holds_71 : decode cX1_holds 71 = .ok (.ireturn, 1) := dk_172 (dk_at dksX1_holds_3 1 rfl rfl)
theorem dX1_holds_72 : decode cX1_holds 72 = .ok (.iinc 2 1, 3) := dk_132 2 1 (dk_at dksX1_holds_3 2 rfl rfl)
theorem dX1_holds_75 : decode cX1_holds 75 = .ok (.goto (-41), 3) := dk_167 255 215 (dk_at dksX1_holds_3 5 rfl rfl)
theorem dX1_holds_78 : decode cX1_holds 78 = .ok (.iconst (-1), 1) := dk_2 (dk_at dksX1_holds_3 8 rfl rfl)
theorem dX1_holds_79 : decode cX1_holds 79 = .ok (.ireturn, 1) := dk_172 (dk_at dksX1_holds_3 9 rfl rfl)
abbrev cX1_clashes : ByteArray := prog_1_method_41_code
def yX1_clashes : MethodName := ⟨RX1, "clashes", "()I"⟩
def dkwX1_clashes_0 : List UInt8 := [42, 42, 182, 1, 60, 182, 1, 63, 172]
abbrev dktX1_clashes_0 : List UInt8 := dkwX1_clashes_0 ++ []
theorem dksX1_clashes_0 : cX1_clashes.data.toList.drop 0 = dktX1_clashes_0 := by decide +kernel
theorem dX1_clashes_0 : decode cX1_clashes 0 = .ok (.aload_n 0, 1) := dk_42 (dk_at dksX1_clashes_0 0 rfl rfl)
theorem dX1_clashes_1 : decode cX1_clashes 1 = .ok (.aload_n 0, 1) := dk_42 (dk_at dksX1_clashes_0 1 rfl rfl)
theorem dX1_clashes_2 : decode cX1_clashes 2 = .ok (.invokevirtual 316, 3) := dk_182 1 60 (dk_at dksX1_clashes_0 2 rfl rfl)
theorem dX1_clashes_5 : decode cX1_clashes 5 = .ok (.invokevirtual 319, 3) := dk_182 1 63 (dk_at dksX1_clashes_0 5 rfl rfl)
theorem dX1_clashes_8 : decode cX1_clashes 8 = .ok (.ireturn, 1) := dk_172 (dk_at dksX1_clashes_0 8 rfl rfl)
abbrev cX1_clashesIn : ByteArray := prog_1_method_40_code
def yX1_clashesIn : MethodName := ⟨RX1, "clashesIn", "(I)I"⟩
def dkwX1_clashesIn_2 : List UInt8 := [167, 255, 214, 28, 172]
abbrev dktX1_clashesIn_2 : List UInt8 := dkwX1_clashesIn_2 ++ []
def dkwX1_clashesIn_1 : List UInt8 := [180, 0, 35, 180, 1, 57, 29, 46, 27, 126, 4, 29, 120, 4, 100, 126, 184, 0, 161, 96, 61, 132, 3, 1]
abbrev dktX1_clashesIn_1 : List UInt8 := dkwX1_clashesIn_1 ++ dktX1_clashesIn_2
def dkwX1_clashesIn_0 : List UInt8 := [3, 61, 3, 62, 29, 42, 182, 0, 148, 162, 0, 40, 27, 29, 184, 0, 177, 153, 0, 26, 28, 42]
abbrev dktX1_clashesIn_0 : List UInt8 := dkwX1_clashesIn_0 ++ dktX1_clashesIn_1
theorem dksX1_clashesIn_0 : cX1_clashesIn.data.toList.drop 0 = dktX1_clashesIn_0 := by decide +kernel
theorem dksX1_clashesIn_1 : cX1_clashesIn.data.toList.drop 22 = dktX1_clashesIn_1 := dk_seg dksX1_clashesIn_0 22 rfl rfl
theorem dksX1_clashesIn_2 : cX1_clashesIn.data.toList.drop 46 = dktX1_clashesIn_2 := dk_seg dksX1_clashesIn_1 24 rfl rfl
theorem dX1_clashesIn_0 : decode cX1_clashesIn 0 = .ok (.iconst 0, 1) := dk_3 (dk_at dksX1_clashesIn_0 0 rfl rfl)
theorem dX1_clashesIn_1 : decode cX1_clashesIn 1 = .ok (.istore_n 2, 1) := dk_61 (dk_at dksX1_clashesIn_0 1 rfl rfl)
theorem dX1_clashesIn_2 : decode cX1_clashesIn 2 = .ok (.iconst 0, 1) := dk_3 (dk_at dksX1_clashesIn_0 2 rfl rfl)
theorem dX1_clashesIn_3 : decode cX1_clashesIn 3 = .ok (.istore_n 3, 1) := dk_62 (dk_at dksX1_clashesIn_0 3 rfl rfl)
theorem dX1_clashesIn_4 : decode cX1_clashesIn 4 = .ok (.iload_n 3, 1) := dk_29 (dk_at dksX1_clashesIn_0 4 rfl rfl)
theorem dX1_clashesIn_5 : decode cX1_clashesIn 5 = .ok (.aload_n 0, 1) := dk_42 (dk_at dksX1_clashesIn_0 5 rfl rfl)
theorem dX1_clashesIn_6 : decode cX1_clashesIn 6 = .ok (.invokevirtual 148, 3) := dk_182 0 148 (dk_at dksX1_clashesIn_0 6 rfl rfl)
theorem dX1_clashesIn_9 : decode cX1_clashesIn 9 = .ok (.if_icmp .ge 40, 3) := dk_162 0 40 (dk_at dksX1_clashesIn_0 9 rfl rfl)
theorem dX1_clashesIn_12 : decode cX1_clashesIn 12 = .ok (.iload_n 1, 1) := dk_27 (dk_at dksX1_clashesIn_0 12 rfl rfl)
theorem dX1_clashesIn_13 : decode cX1_clashesIn 13 = .ok (.iload_n 3, 1) := dk_29 (dk_at dksX1_clashesIn_0 13 rfl rfl)
theorem dX1_clashesIn_14 : decode cX1_clashesIn 14 = .ok (.invokestatic 177, 3) := dk_184 0 177 (dk_at dksX1_clashesIn_0 14 rfl rfl)
theorem dX1_clashesIn_17 : decode cX1_clashesIn 17 = .ok (.ifCond .eq 26, 3) := dk_153 0 26 (dk_at dksX1_clashesIn_0 17 rfl rfl)
theorem dX1_clashesIn_20 : decode cX1_clashesIn 20 = .ok (.iload_n 2, 1) := dk_28 (dk_at dksX1_clashesIn_0 20 rfl rfl)
theorem dX1_clashesIn_21 : decode cX1_clashesIn 21 = .ok (.aload_n 0, 1) := dk_42 (dk_at dksX1_clashesIn_0 21 rfl rfl)
theorem dX1_clashesIn_22 : decode cX1_clashesIn 22 = .ok (.getfield 35, 3) := dk_180 0 35 (dk_at dksX1_clashesIn_1 0 rfl rfl)
theorem dX1_clashesIn_25 : decode cX1_clashesIn 25 = .ok (.getfield 313, 3) := dk_180 1 57 (dk_at dksX1_clashesIn_1 3 rfl rfl)
theorem dX1_clashesIn_28 : decode cX1_clashesIn 28 = .ok (.iload_n 3, 1) := dk_29 (dk_at dksX1_clashesIn_1 6 rfl rfl)
theorem dX1_clashesIn_29 : decode cX1_clashesIn 29 = .ok (.iaload, 1) := dk_46 (dk_at dksX1_clashesIn_1 7 rfl rfl)
theorem dX1_clashesIn_30 : decode cX1_clashesIn 30 = .ok (.iload_n 1, 1) := dk_27 (dk_at dksX1_clashesIn_1 8 rfl rfl)
theorem dX1_clashesIn_31 : decode cX1_clashesIn 31 = .ok (.iand, 1) := dk_126 (dk_at dksX1_clashesIn_1 9 rfl rfl)
theorem dX1_clashesIn_32 : decode cX1_clashesIn 32 = .ok (.iconst 1, 1) := dk_4 (dk_at dksX1_clashesIn_1 10 rfl rfl)
theorem dX1_clashesIn_33 : decode cX1_clashesIn 33 = .ok (.iload_n 3, 1) := dk_29 (dk_at dksX1_clashesIn_1 11 rfl rfl)
theorem dX1_clashesIn_34 : decode cX1_clashesIn 34 = .ok (.ishl, 1) := dk_120 (dk_at dksX1_clashesIn_1 12 rfl rfl)
theorem dX1_clashesIn_35 : decode cX1_clashesIn 35 = .ok (.iconst 1, 1) := dk_4 (dk_at dksX1_clashesIn_1 13 rfl rfl)
theorem dX1_clashesIn_36 : decode cX1_clashesIn 36 = .ok (.isub, 1) := dk_100 (dk_at dksX1_clashesIn_1 14 rfl rfl)
theorem dX1_clashesIn_37 : decode cX1_clashesIn 37 = .ok (.iand, 1) := dk_126 (dk_at dksX1_clashesIn_1 15 rfl rfl)
theorem dX1_clashesIn_38 : decode cX1_clashesIn 38 = .ok (.invokestatic 161, 3) := dk_184 0 161 (dk_at dksX1_clashesIn_1 16 rfl rfl)
theorem dX1_clashesIn_41 : decode cX1_clashesIn 41 = .ok (.iadd, 1) := dk_96 (dk_at dksX1_clashesIn_1 19 rfl rfl)
theorem dX1_clashesIn_42 : decode cX1_clashesIn 42 = .ok (.istore_n 2, 1) := dk_61 (dk_at dksX1_clashesIn_1 20 rfl rfl)
theorem dX1_clashesIn_43 : decode cX1_clashesIn 43 = .ok (.iinc 3 1, 3) := dk_132 3 1 (dk_at dksX1_clashesIn_1 21 rfl rfl)
theorem dX1_clashesIn_46 : decode cX1_clashesIn 46 = .ok (.goto (-42), 3) := dk_167 255 214 (dk_at dksX1_clashesIn_2 0 rfl rfl)
theorem dX1_clashesIn_49 : decode cX1_clashesIn 49 = .ok (.iload_n 2, 1) := dk_28 (dk_at dksX1_clashesIn_2 3 rfl rfl)
theorem dX1_clashesIn_50 : decode cX1_clashesIn 50 = .ok (.ireturn, 1) := dk_172 (dk_at dksX1_clashesIn_2 4 rfl rfl)
abbrev cX1_mend : ByteArray := prog_1_method_42_code
def yX1_mend : MethodName := ⟨RX1, "mend", "(I)I"⟩
def dkwX1_mend_3 : List UInt8 := [21, 4, 62, 132, 4, 1, 167, 255, 201, 27, 4, 160, 0, 7, 29, 167, 0, 8, 42, 29, 182, 1, 54, 172]
abbrev dktX1_mend_3 : List UInt8 := dkwX1_mend_3 ++ []
def dkwX1_mend_2 : List UInt8 := [158, 0, 6, 167, 0, 24, 29, 155, 0, 17, 42, 21, 4, 182, 1, 54, 42, 29, 182, 1, 54, 162, 0, 6]
abbrev dktX1_mend_2 : List UInt8 := dkwX1_mend_2 ++ dktX1_mend_3
def dkwX1_mend_1 : List UInt8 := [163, 0, 55, 21, 4, 28, 2, 130, 126, 154, 0, 40, 42, 28, 21, 4, 2, 130, 126, 182, 1, 63]
abbrev dktX1_mend_1 : List UInt8 := dkwX1_mend_1 ++ dktX1_mend_2
def dkwX1_mend_0 : List UInt8 := [27, 3, 4, 184, 0, 150, 154, 0, 5, 2, 172, 42, 182, 1, 60, 61, 2, 62, 3, 54, 4, 21, 4, 28]
abbrev dktX1_mend_0 : List UInt8 := dkwX1_mend_0 ++ dktX1_mend_1
theorem dksX1_mend_0 : cX1_mend.data.toList.drop 0 = dktX1_mend_0 := by decide +kernel
theorem dksX1_mend_1 : cX1_mend.data.toList.drop 24 = dktX1_mend_1 := dk_seg dksX1_mend_0 24 rfl rfl
theorem dksX1_mend_2 : cX1_mend.data.toList.drop 46 = dktX1_mend_2 := dk_seg dksX1_mend_1 22 rfl rfl
theorem dksX1_mend_3 : cX1_mend.data.toList.drop 70 = dktX1_mend_3 := dk_seg dksX1_mend_2 24 rfl rfl
theorem dX1_mend_0 : decode cX1_mend 0 = .ok (.iload_n 1, 1) := dk_27 (dk_at dksX1_mend_0 0 rfl rfl)
theorem dX1_mend_1 : decode cX1_mend 1 = .ok (.iconst 0, 1) := dk_3 (dk_at dksX1_mend_0 1 rfl rfl)
theorem dX1_mend_2 : decode cX1_mend 2 = .ok (.iconst 1, 1) := dk_4 (dk_at dksX1_mend_0 2 rfl rfl)
theorem dX1_mend_3 : decode cX1_mend 3 = .ok (.invokestatic 150, 3) := dk_184 0 150 (dk_at dksX1_mend_0 3 rfl rfl)
theorem dX1_mend_6 : decode cX1_mend 6 = .ok (.ifCond .ne 5, 3) := dk_154 0 5 (dk_at dksX1_mend_0 6 rfl rfl)
theorem dX1_mend_9 : decode cX1_mend 9 = .ok (.iconst (-1), 1) := dk_2 (dk_at dksX1_mend_0 9 rfl rfl)
theorem dX1_mend_10 : decode cX1_mend 10 = .ok (.ireturn, 1) := dk_172 (dk_at dksX1_mend_0 10 rfl rfl)
theorem dX1_mend_11 : decode cX1_mend 11 = .ok (.aload_n 0, 1) := dk_42 (dk_at dksX1_mend_0 11 rfl rfl)
theorem dX1_mend_12 : decode cX1_mend 12 = .ok (.invokevirtual 316, 3) := dk_182 1 60 (dk_at dksX1_mend_0 12 rfl rfl)
theorem dX1_mend_15 : decode cX1_mend 15 = .ok (.istore_n 2, 1) := dk_61 (dk_at dksX1_mend_0 15 rfl rfl)
theorem dX1_mend_16 : decode cX1_mend 16 = .ok (.iconst (-1), 1) := dk_2 (dk_at dksX1_mend_0 16 rfl rfl)
theorem dX1_mend_17 : decode cX1_mend 17 = .ok (.istore_n 3, 1) := dk_62 (dk_at dksX1_mend_0 17 rfl rfl)
theorem dX1_mend_18 : decode cX1_mend 18 = .ok (.iconst 0, 1) := dk_3 (dk_at dksX1_mend_0 18 rfl rfl)
theorem dX1_mend_19 : decode cX1_mend 19 = .ok (.istore 4, 2) := dk_54 4 (dk_at dksX1_mend_0 19 rfl rfl)
theorem dX1_mend_21 : decode cX1_mend 21 = .ok (.iload 4, 2) := dk_21 4 (dk_at dksX1_mend_0 21 rfl rfl)
theorem dX1_mend_23 : decode cX1_mend 23 = .ok (.iload_n 2, 1) := dk_28 (dk_at dksX1_mend_0 23 rfl rfl)
theorem dX1_mend_24 : decode cX1_mend 24 = .ok (.if_icmp .gt 55, 3) := dk_163 0 55 (dk_at dksX1_mend_1 0 rfl rfl)
theorem dX1_mend_27 : decode cX1_mend 27 = .ok (.iload 4, 2) := dk_21 4 (dk_at dksX1_mend_1 3 rfl rfl)
theorem dX1_mend_29 : decode cX1_mend 29 = .ok (.iload_n 2, 1) := dk_28 (dk_at dksX1_mend_1 5 rfl rfl)
theorem dX1_mend_30 : decode cX1_mend 30 = .ok (.iconst (-1), 1) := dk_2 (dk_at dksX1_mend_1 6 rfl rfl)
theorem dX1_mend_31 : decode cX1_mend 31 = .ok (.ixor, 1) := dk_130 (dk_at dksX1_mend_1 7 rfl rfl)
theorem dX1_mend_32 : decode cX1_mend 32 = .ok (.iand, 1) := dk_126 (dk_at dksX1_mend_1 8 rfl rfl)
theorem dX1_mend_33 : decode cX1_mend 33 = .ok (.ifCond .ne 40, 3) := dk_154 0 40 (dk_at dksX1_mend_1 9 rfl rfl)
theorem dX1_mend_36 : decode cX1_mend 36 = .ok (.aload_n 0, 1) := dk_42 (dk_at dksX1_mend_1 12 rfl rfl)
theorem dX1_mend_37 : decode cX1_mend 37 = .ok (.iload_n 2, 1) := dk_28 (dk_at dksX1_mend_1 13 rfl rfl)
theorem dX1_mend_38 : decode cX1_mend 38 = .ok (.iload 4, 2) := dk_21 4 (dk_at dksX1_mend_1 14 rfl rfl)
theorem dX1_mend_40 : decode cX1_mend 40 = .ok (.iconst (-1), 1) := dk_2 (dk_at dksX1_mend_1 16 rfl rfl)
theorem dX1_mend_41 : decode cX1_mend 41 = .ok (.ixor, 1) := dk_130 (dk_at dksX1_mend_1 17 rfl rfl)
theorem dX1_mend_42 : decode cX1_mend 42 = .ok (.iand, 1) := dk_126 (dk_at dksX1_mend_1 18 rfl rfl)
theorem dX1_mend_43 : decode cX1_mend 43 = .ok (.invokevirtual 319, 3) := dk_182 1 63 (dk_at dksX1_mend_1 19 rfl rfl)
theorem dX1_mend_46 : decode cX1_mend 46 = .ok (.ifCond .le 6, 3) := dk_158 0 6 (dk_at dksX1_mend_2 0 rfl rfl)
theorem dX1_mend_49 : decode cX1_mend 49 = .ok (.goto 24, 3) := dk_167 0 24 (dk_at dksX1_mend_2 3 rfl rfl)
theorem dX1_mend_52 : decode cX1_mend 52 = .ok (.iload_n 3, 1) := dk_29 (dk_at dksX1_mend_2 6 rfl rfl)
theorem dX1_mend_53 : decode cX1_mend 53 = .ok (.ifCond .lt 17, 3) := dk_155 0 17 (dk_at dksX1_mend_2 7 rfl rfl)
theorem dX1_mend_56 : decode cX1_mend 56 = .ok (.aload_n 0, 1) := dk_42 (dk_at dksX1_mend_2 10 rfl rfl)
theorem dX1_mend_57 : decode cX1_mend 57 = .ok (.iload 4, 2) := dk_21 4 (dk_at dksX1_mend_2 11 rfl rfl)
theorem dX1_mend_59 : decode cX1_mend 59 = .ok (.invokevirtual 310, 3) := dk_182 1 54 (dk_at dksX1_mend_2 13 rfl rfl)
theorem dX1_mend_62 : decode cX1_mend 62 = .ok (.aload_n 0, 1) := dk_42 (dk_at dksX1_mend_2 16 rfl rfl)
theorem dX1_mend_63 : decode cX1_mend 63 = .ok (.iload_n 3, 1) := dk_29 (dk_at dksX1_mend_2 17 rfl rfl)
theorem dX1_mend_64 : decode cX1_mend 64 = .ok (.invokevirtual 310, 3) := dk_182 1 54 (dk_at dksX1_mend_2 18 rfl rfl)
theorem dX1_mend_67 : decode cX1_mend 67 = .ok (.if_icmp .ge 6, 3) := dk_162 0 6 (dk_at dksX1_mend_2 21 rfl rfl)
theorem dX1_mend_70 : decode cX1_mend 70 = .ok (.iload 4, 2) := dk_21 4 (dk_at dksX1_mend_3 0 rfl rfl)
theorem dX1_mend_72 : decode cX1_mend 72 = .ok (.istore_n 3, 1) := dk_62 (dk_at dksX1_mend_3 2 rfl rfl)
theorem dX1_mend_73 : decode cX1_mend 73 = .ok (.iinc 4 1, 3) := dk_132 4 1 (dk_at dksX1_mend_3 3 rfl rfl)
theorem dX1_mend_76 : decode cX1_mend 76 = .ok (.goto (-55), 3) := dk_167 255 201 (dk_at dksX1_mend_3 6 rfl rfl)
theorem dX1_mend_79 : decode cX1_mend 79 = .ok (.iload_n 1, 1) := dk_27 (dk_at dksX1_mend_3 9 rfl rfl)
theorem dX1_mend_80 : decode cX1_mend 80 = .ok (.iconst 1, 1) := dk_4 (dk_at dksX1_mend_3 10 rfl rfl)
theorem dX1_mend_81 : decode cX1_mend 81 = .ok (.if_icmp .ne 7, 3) := dk_160 0 7 (dk_at dksX1_mend_3 11 rfl rfl)
theorem dX1_mend_84 : decode cX1_mend 84 = .ok (.iload_n 3, 1) := dk_29 (dk_at dksX1_mend_3 14 rfl rfl)
theorem dX1_mend_85 : decode cX1_mend 85 = .ok (.goto 8, 3) := dk_167 0 8 (dk_at dksX1_mend_3 15 rfl rfl)
theorem dX1_mend_88 : decode cX1_mend 88 = .ok (.aload_n 0, 1) := dk_42 (dk_at dksX1_mend_3 18 rfl rfl)
theorem dX1_mend_89 : decode cX1_mend 89 = .ok (.iload_n 3, 1) := dk_29 (dk_at dksX1_mend_3 19 rfl rfl)
theorem dX1_mend_90 : decode cX1_mend 90 = .ok (.invokevirtual 310, 3) := dk_182 1 54 (dk_at dksX1_mend_3 20 rfl rfl)
theorem dX1_mend_93 : decode cX1_mend 93 = .ok (.ireturn, 1) := dk_172 (dk_at dksX1_mend_3 23 rfl rfl)
abbrev cX1_fill : ByteArray := prog_1_method_45_code
def yX1_fill : MethodName := ⟨RX1, "fill", "(II)I"⟩
def dkwX1_fill_5 : List UInt8 := [182, 1, 73, 28, 2, 160, 0, 10, 42, 180, 1, 66, 167, 0, 9, 42, 180, 0, 72, 28, 46, 172]
abbrev dktX1_fill_5 : List UInt8 := dkwX1_fill_5 ++ []
def dkwX1_fill_4 : List UInt8 := [79, 132, 4, 1, 167, 255, 230, 42, 2, 181, 1, 66, 42, 3, 29, 42, 180, 0, 35, 182, 0, 187, 3]
abbrev dktX1_fill_4 : List UInt8 := dkwX1_fill_4 ++ dktX1_fill_5
def dkwX1_fill_3 : List UInt8 := [54, 4, 21, 4, 42, 182, 0, 148, 162, 0, 23, 42, 180, 0, 66, 21, 4, 42, 21, 4, 27, 182, 1, 77]
abbrev dktX1_fill_3 : List UInt8 := dkwX1_fill_3 ++ dktX1_fill_4
def dkwX1_fill_2 : List UInt8 := [180, 1, 11, 21, 4, 46, 158, 0, 10, 29, 4, 21, 4, 120, 128, 62, 132, 4, 1, 167, 255, 221, 3]
abbrev dktX1_fill_2 : List UInt8 := dkwX1_fill_2 ++ dktX1_fill_3
def dkwX1_fill_1 : List UInt8 := [16, 254, 172, 3, 62, 3, 54, 4, 21, 4, 42, 180, 0, 51, 180, 1, 8, 162, 0, 29, 42, 180, 0, 51]
abbrev dktX1_fill_1 : List UInt8 := dkwX1_fill_1 ++ dktX1_fill_2
def dkwX1_fill_0 : List UInt8 := [27, 4, 16, 6, 184, 0, 150, 153, 0, 16, 28, 2, 159, 0, 14, 42, 28, 182, 0, 254, 154, 0, 6]
abbrev dktX1_fill_0 : List UInt8 := dkwX1_fill_0 ++ dktX1_fill_1
theorem dksX1_fill_0 : cX1_fill.data.toList.drop 0 = dktX1_fill_0 := by decide +kernel
theorem dksX1_fill_1 : cX1_fill.data.toList.drop 23 = dktX1_fill_1 := dk_seg dksX1_fill_0 23 rfl rfl
theorem dksX1_fill_2 : cX1_fill.data.toList.drop 47 = dktX1_fill_2 := dk_seg dksX1_fill_1 24 rfl rfl
theorem dksX1_fill_3 : cX1_fill.data.toList.drop 70 = dktX1_fill_3 := dk_seg dksX1_fill_2 23 rfl rfl
theorem dksX1_fill_4 : cX1_fill.data.toList.drop 94 = dktX1_fill_4 := dk_seg dksX1_fill_3 24 rfl rfl
theorem dksX1_fill_5 : cX1_fill.data.toList.drop 117 = dktX1_fill_5 := dk_seg dksX1_fill_4 23 rfl rfl
theorem dX1_fill_0 : decode cX1_fill 0 = .ok (.iload_n 1, 1) := dk_27 (dk_at dksX1_fill_0 0 rfl rfl)
theorem dX1_fill_1 : decode cX1_fill 1 = .ok (.iconst 1, 1) := dk_4 (dk_at dksX1_fill_0 1 rfl rfl)
theorem dX1_fill_2 : decode cX1_fill 2 = .ok (.bipush 6, 2) := dk_16 6 (dk_at dksX1_fill_0 2 rfl rfl)
theorem dX1_fill_4 : decode cX1_fill 4 = .ok (.invokestatic 150, 3) := dk_184 0 150 (dk_at dksX1_fill_0 4 rfl rfl)
theorem dX1_fill_7 : decode cX1_fill 7 = .ok (.ifCond .eq 16, 3) := dk_153 0 16 (dk_at dksX1_fill_0 7 rfl rfl)
theorem dX1_fill_10 : decode cX1_fill 10 = .ok (.iload_n 2, 1) := dk_28 (dk_at dksX1_fill_0 10 rfl rfl)
theorem dX1_fill_11 : decode cX1_fill 11 = .ok (.iconst (-1), 1) := dk_2 (dk_at dksX1_fill_0 11 rfl rfl)
theorem dX1_fill_12 : decode cX1_fill 12 = .ok (.if_icmp .eq 14, 3) := dk_159 0 14 (dk_at dksX1_fill_0 12 rfl rfl)
theorem dX1_fill_15 : decode cX1_fill 15 = .ok (.aload_n 0, 1) := dk_42 (dk_at dksX1_fill_0 15 rfl rfl)
theorem dX1_fill_16 : decode cX1_fill 16 = .ok (.iload_n 2, 1) := dk_28 (dk_at dksX1_fill_0 16 rfl rfl)
theorem dX1_fill_17 : decode cX1_fill 17 = .ok (.invokevirtual 254, 3) := dk_182 0 254 (dk_at dksX1_fill_0 17 rfl rfl)
theorem dX1_fill_20 : decode cX1_fill 20 = .ok (.ifCond .ne 6, 3) := dk_154 0 6 (dk_at dksX1_fill_0 20 rfl rfl)
theorem dX1_fill_23 : decode cX1_fill 23 = .ok (.bipush (-2), 2) := dk_16 254 (dk_at dksX1_fill_1 0 rfl rfl)
theorem dX1_fill_25 : decode cX1_fill 25 = .ok (.ireturn, 1) := dk_172 (dk_at dksX1_fill_1 2 rfl rfl)
theorem dX1_fill_26 : decode cX1_fill 26 = .ok (.iconst 0, 1) := dk_3 (dk_at dksX1_fill_1 3 rfl rfl)
theorem dX1_fill_27 : decode cX1_fill 27 = .ok (.istore_n 3, 1) := dk_62 (dk_at dksX1_fill_1 4 rfl rfl)
theorem dX1_fill_28 : decode cX1_fill 28 = .ok (.iconst 0, 1) := dk_3 (dk_at dksX1_fill_1 5 rfl rfl)
theorem dX1_fill_29 : decode cX1_fill 29 = .ok (.istore 4, 2) := dk_54 4 (dk_at dksX1_fill_1 6 rfl rfl)
theorem dX1_fill_31 : decode cX1_fill 31 = .ok (.iload 4, 2) := dk_21 4 (dk_at dksX1_fill_1 8 rfl rfl)
theorem dX1_fill_33 : decode cX1_fill 33 = .ok (.aload_n 0, 1) := dk_42 (dk_at dksX1_fill_1 10 rfl rfl)
theorem dX1_fill_34 : decode cX1_fill 34 = .ok (.getfield 51, 3) := dk_180 0 51 (dk_at dksX1_fill_1 11 rfl rfl)
theorem dX1_fill_37 : decode cX1_fill 37 = .ok (.getfield 264, 3) := dk_180 1 8 (dk_at dksX1_fill_1 14 rfl rfl)
theorem dX1_fill_40 : decode cX1_fill 40 = .ok (.if_icmp .ge 29, 3) := dk_162 0 29 (dk_at dksX1_fill_1 17 rfl rfl)
theorem dX1_fill_43 : decode cX1_fill 43 = .ok (.aload_n 0, 1) := dk_42 (dk_at dksX1_fill_1 20 rfl rfl)
theorem dX1_fill_44 : decode cX1_fill 44 = .ok (.getfield 51, 3) := dk_180 0 51 (dk_at dksX1_fill_1 21 rfl rfl)
theorem dX1_fill_47 : decode cX1_fill 47 = .ok (.getfield 267, 3) := dk_180 1 11 (dk_at dksX1_fill_2 0 rfl rfl)
theorem dX1_fill_50 : decode cX1_fill 50 = .ok (.iload 4, 2) := dk_21 4 (dk_at dksX1_fill_2 3 rfl rfl)
theorem dX1_fill_52 : decode cX1_fill 52 = .ok (.iaload, 1) := dk_46 (dk_at dksX1_fill_2 5 rfl rfl)
theorem dX1_fill_53 : decode cX1_fill 53 = .ok (.ifCond .le 10, 3) := dk_158 0 10 (dk_at dksX1_fill_2 6 rfl rfl)
theorem dX1_fill_56 : decode cX1_fill 56 = .ok (.iload_n 3, 1) := dk_29 (dk_at dksX1_fill_2 9 rfl rfl)
theorem dX1_fill_57 : decode cX1_fill 57 = .ok (.iconst 1, 1) := dk_4 (dk_at dksX1_fill_2 10 rfl rfl)
theorem dX1_fill_58 : decode cX1_fill 58 = .ok (.iload 4, 2) := dk_21 4 (dk_at dksX1_fill_2 11 rfl rfl)
theorem dX1_fill_60 : decode cX1_fill 60 = .ok (.ishl, 1) := dk_120 (dk_at dksX1_fill_2 13 rfl rfl)
theorem dX1_fill_61 : decode cX1_fill 61 = .ok (.ior, 1) := dk_128 (dk_at dksX1_fill_2 14 rfl rfl)
theorem dX1_fill_62 : decode cX1_fill 62 = .ok (.istore_n 3, 1) := dk_62 (dk_at dksX1_fill_2 15 rfl rfl)
theorem dX1_fill_63 : decode cX1_fill 63 = .ok (.iinc 4 1, 3) := dk_132 4 1 (dk_at dksX1_fill_2 16 rfl rfl)
theorem dX1_fill_66 : decode cX1_fill 66 = .ok (.goto (-35), 3) := dk_167 255 221 (dk_at dksX1_fill_2 19 rfl rfl)
theorem dX1_fill_69 : decode cX1_fill 69 = .ok (.iconst 0, 1) := dk_3 (dk_at dksX1_fill_2 22 rfl rfl)
theorem dX1_fill_70 : decode cX1_fill 70 = .ok (.istore 4, 2) := dk_54 4 (dk_at dksX1_fill_3 0 rfl rfl)
theorem dX1_fill_72 : decode cX1_fill 72 = .ok (.iload 4, 2) := dk_21 4 (dk_at dksX1_fill_3 2 rfl rfl)
theorem dX1_fill_74 : decode cX1_fill 74 = .ok (.aload_n 0, 1) := dk_42 (dk_at dksX1_fill_3 4 rfl rfl)
theorem dX1_fill_75 : decode cX1_fill 75 = .ok (.invokevirtual 148, 3) := dk_182 0 148 (dk_at dksX1_fill_3 5 rfl rfl)
theorem dX1_fill_78 : decode cX1_fill 78 = .ok (.if_icmp .ge 23, 3) := dk_162 0 23 (dk_at dksX1_fill_3 8 rfl rfl)
theorem dX1_fill_81 : decode cX1_fill 81 = .ok (.aload_n 0, 1) := dk_42 (dk_at dksX1_fill_3 11 rfl rfl)
theorem dX1_fill_82 : decode cX1_fill 82 = .ok (.getfield 66, 3) := dk_180 0 66 (dk_at dksX1_fill_3 12 rfl rfl)
theorem dX1_fill_85 : decode cX1_fill 85 = .ok (.iload 4, 2) := dk_21 4 (dk_at dksX1_fill_3 15 rfl rfl)
theorem dX1_fill_87 : decode cX1_fill 87 = .ok (.aload_n 0, 1) := dk_42 (dk_at dksX1_fill_3 17 rfl rfl)
theorem dX1_fill_88 : decode cX1_fill 88 = .ok (.iload 4, 2) := dk_21 4 (dk_at dksX1_fill_3 18 rfl rfl)
theorem dX1_fill_90 : decode cX1_fill 90 = .ok (.iload_n 1, 1) := dk_27 (dk_at dksX1_fill_3 20 rfl rfl)
theorem dX1_fill_91 : decode cX1_fill 91 = .ok (.invokevirtual 333, 3) := dk_182 1 77 (dk_at dksX1_fill_3 21 rfl rfl)
theorem dX1_fill_94 : decode cX1_fill 94 = .ok (.iastore, 1) := dk_79 (dk_at dksX1_fill_4 0 rfl rfl)
theorem dX1_fill_95 : decode cX1_fill 95 = .ok (.iinc 4 1, 3) := dk_132 4 1 (dk_at dksX1_fill_4 1 rfl rfl)
theorem dX1_fill_98 : decode cX1_fill 98 = .ok (.goto (-26), 3) := dk_167 255 230 (dk_at dksX1_fill_4 4 rfl rfl)
theorem dX1_fill_101 : decode cX1_fill 101 = .ok (.aload_n 0, 1) := dk_42 (dk_at dksX1_fill_4 7 rfl rfl)
theorem dX1_fill_102 : decode cX1_fill 102 = .ok (.iconst (-1), 1) := dk_2 (dk_at dksX1_fill_4 8 rfl rfl)
theorem dX1_fill_103 : decode cX1_fill 103 = .ok (.putfield 322, 3) := dk_181 1 66 (dk_at dksX1_fill_4 9 rfl rfl)
theorem dX1_fill_106 : decode cX1_fill 106 = .ok (.aload_n 0, 1) := dk_42 (dk_at dksX1_fill_4 12 rfl rfl)
theorem dX1_fill_107 : decode cX1_fill 107 = .ok (.iconst 0, 1) := dk_3 (dk_at dksX1_fill_4 13 rfl rfl)
theorem dX1_fill_108 : decode cX1_fill 108 = .ok (.iload_n 3, 1) := dk_29 (dk_at dksX1_fill_4 14 rfl rfl)
theorem dX1_fill_109 : decode cX1_fill 109 = .ok (.aload_n 0, 1) := dk_42 (dk_at dksX1_fill_4 15 rfl rfl)
theorem dX1_fill_110 : decode cX1_fill 110 = .ok (.getfield 35, 3) := dk_180 0 35 (dk_at dksX1_fill_4 16 rfl rfl)
theorem dX1_fill_113 : decode cX1_fill 113 = .ok (.invokevirtual 187, 3) := dk_182 0 187 (dk_at dksX1_fill_4 19 rfl rfl)
theorem dX1_fill_116 : decode cX1_fill 116 = .ok (.iconst 0, 1) := dk_3 (dk_at dksX1_fill_4 22 rfl rfl)
theorem dX1_fill_117 : decode cX1_fill 117 = .ok (.invokevirtual 329, 3) := dk_182 1 73 (dk_at dksX1_fill_5 0 rfl rfl)
theorem dX1_fill_120 : decode cX1_fill 120 = .ok (.iload_n 2, 1) := dk_28 (dk_at dksX1_fill_5 3 rfl rfl)
theorem dX1_fill_121 : decode cX1_fill 121 = .ok (.iconst (-1), 1) := dk_2 (dk_at dksX1_fill_5 4 rfl rfl)
theorem dX1_fill_122 : decode cX1_fill 122 = .ok (.if_icmp .ne 10, 3) := dk_160 0 10 (dk_at dksX1_fill_5 5 rfl rfl)
theorem dX1_fill_125 : decode cX1_fill 125 = .ok (.aload_n 0, 1) := dk_42 (dk_at dksX1_fill_5 8 rfl rfl)
theorem dX1_fill_126 : decode cX1_fill 126 = .ok (.getfield 322, 3) := dk_180 1 66 (dk_at dksX1_fill_5 9 rfl rfl)
theorem dX1_fill_129 : decode cX1_fill 129 = .ok (.goto 9, 3) := dk_167 0 9 (dk_at dksX1_fill_5 12 rfl rfl)
theorem dX1_fill_132 : decode cX1_fill 132 = .ok (.aload_n 0, 1) := dk_42 (dk_at dksX1_fill_5 15 rfl rfl)
theorem dX1_fill_133 : decode cX1_fill 133 = .ok (.getfield 72, 3) := dk_180 0 72 (dk_at dksX1_fill_5 16 rfl rfl)
theorem dX1_fill_136 : decode cX1_fill 136 = .ok (.iload_n 2, 1) := dk_28 (dk_at dksX1_fill_5 19 rfl rfl)
theorem dX1_fill_137 : decode cX1_fill 137 = .ok (.iaload, 1) := dk_46 (dk_at dksX1_fill_5 20 rfl rfl)
theorem dX1_fill_138 : decode cX1_fill 138 = .ok (.ireturn, 1) := dk_172 (dk_at dksX1_fill_5 21 rfl rfl)
abbrev cX1_mostPull : ByteArray := prog_1_method_43_code
def yX1_mostPull : MethodName := ⟨RX1, "mostPull", "(II)I"⟩
def dkwX1_mostPull_3 : List UInt8 := [167, 255, 204, 21, 4, 172]
abbrev dktX1_mostPull_3 : List UInt8 := dkwX1_mostPull_3 ++ []
def dkwX1_mostPull_2 : List UInt8 := [21, 6, 182, 0, 229, 184, 0, 7, 54, 4, 42, 27, 29, 21, 6, 182, 0, 241, 62, 132, 5, 1]
abbrev dktX1_mostPull_2 : List UInt8 := dkwX1_mostPull_2 ++ dktX1_mostPull_3
def dkwX1_mostPull_1 : List UInt8 := [180, 0, 35, 42, 180, 0, 51, 180, 0, 244, 21, 5, 96, 182, 0, 247, 54, 6, 21, 4, 42, 27, 29]
abbrev dktX1_mostPull_1 : List UInt8 := dkwX1_mostPull_1 ++ dktX1_mostPull_2
def dkwX1_mostPull_0 : List UInt8 := [42, 180, 0, 51, 180, 0, 226, 27, 46, 62, 3, 54, 4, 3, 54, 5, 21, 5, 28, 162, 0, 52, 42]
abbrev dktX1_mostPull_0 : List UInt8 := dkwX1_mostPull_0 ++ dktX1_mostPull_1
theorem dksX1_mostPull_0 : cX1_mostPull.data.toList.drop 0 = dktX1_mostPull_0 := by decide +kernel
theorem dksX1_mostPull_1 : cX1_mostPull.data.toList.drop 23 = dktX1_mostPull_1 := dk_seg dksX1_mostPull_0 23 rfl rfl
theorem dksX1_mostPull_2 : cX1_mostPull.data.toList.drop 46 = dktX1_mostPull_2 := dk_seg dksX1_mostPull_1 23 rfl rfl
theorem dksX1_mostPull_3 : cX1_mostPull.data.toList.drop 68 = dktX1_mostPull_3 := dk_seg dksX1_mostPull_2 22 rfl rfl
theorem dX1_mostPull_0 : decode cX1_mostPull 0 = .ok (.aload_n 0, 1) := dk_42 (dk_at dksX1_mostPull_0 0 rfl rfl)
theorem dX1_mostPull_1 : decode cX1_mostPull 1 = .ok (.getfield 51, 3) := dk_180 0 51 (dk_at dksX1_mostPull_0 1 rfl rfl)
theorem dX1_mostPull_4 : decode cX1_mostPull 4 = .ok (.getfield 226, 3) := dk_180 0 226 (dk_at dksX1_mostPull_0 4 rfl rfl)
theorem dX1_mostPull_7 : decode cX1_mostPull 7 = .ok (.iload_n 1, 1) := dk_27 (dk_at dksX1_mostPull_0 7 rfl rfl)
theorem dX1_mostPull_8 : decode cX1_mostPull 8 = .ok (.iaload, 1) := dk_46 (dk_at dksX1_mostPull_0 8 rfl rfl)
theorem dX1_mostPull_9 : decode cX1_mostPull 9 = .ok (.istore_n 3, 1) := dk_62 (dk_at dksX1_mostPull_0 9 rfl rfl)
theorem dX1_mostPull_10 : decode cX1_mostPull 10 = .ok (.iconst 0, 1) := dk_3 (dk_at dksX1_mostPull_0 10 rfl rfl)
theorem dX1_mostPull_11 : decode cX1_mostPull 11 = .ok (.istore 4, 2) := dk_54 4 (dk_at dksX1_mostPull_0 11 rfl rfl)
theorem dX1_mostPull_13 : decode cX1_mostPull 13 = .ok (.iconst 0, 1) := dk_3 (dk_at dksX1_mostPull_0 13 rfl rfl)
theorem dX1_mostPull_14 : decode cX1_mostPull 14 = .ok (.istore 5, 2) := dk_54 5 (dk_at dksX1_mostPull_0 14 rfl rfl)
theorem dX1_mostPull_16 : decode cX1_mostPull 16 = .ok (.iload 5, 2) := dk_21 5 (dk_at dksX1_mostPull_0 16 rfl rfl)
theorem dX1_mostPull_18 : decode cX1_mostPull 18 = .ok (.iload_n 2, 1) := dk_28 (dk_at dksX1_mostPull_0 18 rfl rfl)
theorem dX1_mostPull_19 : decode cX1_mostPull 19 = .ok (.if_icmp .ge 52, 3) := dk_162 0 52 (dk_at dksX1_mostPull_0 19 rfl rfl)
theorem dX1_mostPull_22 : decode cX1_mostPull 22 = .ok (.aload_n 0, 1) := dk_42 (dk_at dksX1_mostPull_0 22 rfl rfl)
theorem dX1_mostPull_23 : decode cX1_mostPull 23 = .ok (.getfield 35, 3) := dk_180 0 35 (dk_at dksX1_mostPull_1 0 rfl rfl)
theorem dX1_mostPull_26 : decode cX1_mostPull 26 = .ok (.aload_n 0, 1) := dk_42 (dk_at dksX1_mostPull_1 3 rfl rfl)
theorem dX1_mostPull_27 : decode cX1_mostPull 27 = .ok (.getfield 51, 3) := dk_180 0 51 (dk_at dksX1_mostPull_1 4 rfl rfl)
theorem dX1_mostPull_30 : decode cX1_mostPull 30 = .ok (.getfield 244, 3) := dk_180 0 244 (dk_at dksX1_mostPull_1 7 rfl rfl)
theorem dX1_mostPull_33 : decode cX1_mostPull 33 = .ok (.iload 5, 2) := dk_21 5 (dk_at dksX1_mostPull_1 10 rfl rfl)
theorem dX1_mostPull_35 : decode cX1_mostPull 35 = .ok (.iadd, 1) := dk_96 (dk_at dksX1_mostPull_1 12 rfl rfl)
theorem dX1_mostPull_36 : decode cX1_mostPull 36 = .ok (.invokevirtual 247, 3) := dk_182 0 247 (dk_at dksX1_mostPull_1 13 rfl rfl)
theorem dX1_mostPull_39 : decode cX1_mostPull 39 = .ok (.istore 6, 2) := dk_54 6 (dk_at dksX1_mostPull_1 16 rfl rfl)
theorem dX1_mostPull_41 : decode cX1_mostPull 41 = .ok (.iload 4, 2) := dk_21 4 (dk_at dksX1_mostPull_1 18 rfl rfl)
theorem dX1_mostPull_43 : decode cX1_mostPull 43 = .ok (.aload_n 0, 1) := dk_42 (dk_at dksX1_mostPull_1 20 rfl rfl)
theorem dX1_mostPull_44 : decode cX1_mostPull 44 = .ok (.iload_n 1, 1) := dk_27 (dk_at dksX1_mostPull_1 21 rfl rfl)
theorem dX1_mostPull_45 : decode cX1_mostPull 45 = .ok (.iload_n 3, 1) := dk_29 (dk_at dksX1_mostPull_1 22 rfl rfl)
theorem dX1_mostPull_46 : decode cX1_mostPull 46 = .ok (.iload 6, 2) := dk_21 6 (dk_at dksX1_mostPull_2 0 rfl rfl)
theorem dX1_mostPull_48 : decode cX1_mostPull 48 = .ok (.invokevirtual 229, 3) := dk_182 0 229 (dk_at dksX1_mostPull_2 2 rfl rfl)
theorem dX1_mostPull_51 : decode cX1_mostPull 51 = .ok (.invokestatic 7, 3) := dk_184 0 7 (dk_at dksX1_mostPull_2 5 rfl rfl)
theorem dX1_mostPull_54 : decode cX1_mostPull 54 = .ok (.istore 4, 2) := dk_54 4 (dk_at dksX1_mostPull_2 8 rfl rfl)
theorem dX1_mostPull_56 : decode cX1_mostPull 56 = .ok (.aload_n 0, 1) := dk_42 (dk_at dksX1_mostPull_2 10 rfl rfl)
theorem dX1_mostPull_57 : decode cX1_mostPull 57 = .ok (.iload_n 1, 1) := dk_27 (dk_at dksX1_mostPull_2 11 rfl rfl)
theorem dX1_mostPull_58 : decode cX1_mostPull 58 = .ok (.iload_n 3, 1) := dk_29 (dk_at dksX1_mostPull_2 12 rfl rfl)
theorem dX1_mostPull_59 : decode cX1_mostPull 59 = .ok (.iload 6, 2) := dk_21 6 (dk_at dksX1_mostPull_2 13 rfl rfl)
theorem dX1_mostPull_61 : decode cX1_mostPull 61 = .ok (.invokevirtual 241, 3) := dk_182 0 241 (dk_at dksX1_mostPull_2 15 rfl rfl)
theorem dX1_mostPull_64 : decode cX1_mostPull 64 = .ok (.istore_n 3, 1) := dk_62 (dk_at dksX1_mostPull_2 18 rfl rfl)
theorem dX1_mostPull_65 : decode cX1_mostPull 65 = .ok (.iinc 5 1, 3) := dk_132 5 1 (dk_at dksX1_mostPull_2 19 rfl rfl)
theorem dX1_mostPull_68 : decode cX1_mostPull 68 = .ok (.goto (-52), 3) := dk_167 255 204 (dk_at dksX1_mostPull_3 0 rfl rfl)
theorem dX1_mostPull_71 : decode cX1_mostPull 71 = .ok (.iload 4, 2) := dk_21 4 (dk_at dksX1_mostPull_3 3 rfl rfl)
theorem dX1_mostPull_73 : decode cX1_mostPull 73 = .ok (.ireturn, 1) := dk_172 (dk_at dksX1_mostPull_3 5 rfl rfl)
abbrev cX1_fills : ByteArray := prog_1_method_44_code
def yX1_fills : MethodName := ⟨RX1, "fills", "(IIII)V"⟩
def dkwX1_fills_7 : List UInt8 := [42, 180, 0, 69, 27, 3, 79, 42, 27, 4, 96, 28, 29, 21, 4, 182, 1, 73, 177]
abbrev dktX1_fills_7 : List UInt8 := dkwX1_fills_7 ++ []
def dkwX1_fills_6 : List UInt8 := [180, 0, 184, 100, 21, 4, 42, 27, 182, 0, 166, 180, 0, 181, 96, 182, 1, 73, 132, 5, 1, 167, 255, 159]
abbrev dktX1_fills_6 : List UInt8 := dkwX1_fills_6 ++ dktX1_fills_7
def dkwX1_fills_5 : List UInt8 := [42, 180, 0, 69, 27, 21, 5, 79, 42, 27, 4, 96, 28, 21, 5, 2, 130, 126, 29, 42, 27, 182, 0, 166]
abbrev dktX1_fills_5 : List UInt8 := dkwX1_fills_5 ++ dktX1_fills_6
def dkwX1_fills_4 : List UInt8 := [160, 0, 66, 42, 180, 0, 51, 21, 5, 182, 0, 232, 42, 180, 0, 66, 27, 46, 162, 0, 6, 167, 0, 45]
abbrev dktX1_fills_4 : List UInt8 := dkwX1_fills_4 ++ dktX1_fills_5
def dkwX1_fills_3 : List UInt8 := [21, 5, 28, 2, 130, 126, 154, 0, 82, 21, 5, 184, 0, 161, 42, 27, 182, 0, 166, 182, 0, 170]
abbrev dktX1_fills_3 : List UInt8 := dkwX1_fills_3 ++ dktX1_fills_4
def dkwX1_fills_2 : List UInt8 := [162, 0, 118, 42, 27, 182, 0, 166, 180, 0, 184, 29, 163, 0, 106, 4, 54, 5, 21, 5, 28, 163, 0, 97]
abbrev dktX1_fills_2 : List UInt8 := dkwX1_fills_2 ++ dktX1_fills_3
def dkwX1_fills_1 : List UInt8 := [42, 180, 0, 69, 42, 180, 0, 72, 184, 1, 69, 177, 42, 180, 0, 51, 180, 0, 154, 27, 46, 6]
abbrev dktX1_fills_1 : List UInt8 := dkwX1_fills_1 ++ dktX1_fills_2
def dkwX1_fills_0 : List UInt8 := [27, 42, 182, 0, 148, 160, 0, 31, 21, 4, 42, 180, 1, 66, 163, 0, 4, 177, 42, 21, 4, 181, 1, 66]
abbrev dktX1_fills_0 : List UInt8 := dkwX1_fills_0 ++ dktX1_fills_1
theorem dksX1_fills_0 : cX1_fills.data.toList.drop 0 = dktX1_fills_0 := by decide +kernel
theorem dksX1_fills_1 : cX1_fills.data.toList.drop 24 = dktX1_fills_1 := dk_seg dksX1_fills_0 24 rfl rfl
theorem dksX1_fills_2 : cX1_fills.data.toList.drop 46 = dktX1_fills_2 := dk_seg dksX1_fills_1 22 rfl rfl
theorem dksX1_fills_3 : cX1_fills.data.toList.drop 70 = dktX1_fills_3 := dk_seg dksX1_fills_2 24 rfl rfl
theorem dksX1_fills_4 : cX1_fills.data.toList.drop 92 = dktX1_fills_4 := dk_seg dksX1_fills_3 22 rfl rfl
theorem dksX1_fills_5 : cX1_fills.data.toList.drop 116 = dktX1_fills_5 := dk_seg dksX1_fills_4 24 rfl rfl
theorem dksX1_fills_6 : cX1_fills.data.toList.drop 140 = dktX1_fills_6 := dk_seg dksX1_fills_5 24 rfl rfl
theorem dksX1_fills_7 : cX1_fills.data.toList.drop 164 = dktX1_fills_7 := dk_seg dksX1_fills_6 24 rfl rfl
theorem dX1_fills_0 : decode cX1_fills 0 = .ok (.iload_n 1, 1) := dk_27 (dk_at dksX1_fills_0 0 rfl rfl)
theorem dX1_fills_1 : decode cX1_fills 1 = .ok (.aload_n 0, 1) := dk_42 (dk_at dksX1_fills_0 1 rfl rfl)
theorem dX1_fills_2 : decode cX1_fills 2 = .ok (.invokevirtual 148, 3) := dk_182 0 148 (dk_at dksX1_fills_0 2 rfl rfl)
theorem dX1_fills_5 : decode cX1_fills 5 = .ok (.if_icmp .ne 31, 3) := dk_160 0 31 (dk_at dksX1_fills_0 5 rfl rfl)
theorem dX1_fills_8 : decode cX1_fills 8 = .ok (.iload 4, 2) := dk_21 4 (dk_at dksX1_fills_0 8 rfl rfl)
theorem dX1_fills_10 : decode cX1_fills 10 = .ok (.aload_n 0, 1) := dk_42 (dk_at dksX1_fills_0 10 rfl rfl)
theorem dX1_fills_11 : decode cX1_fills 11 = .ok (.getfield 322, 3) := dk_180 1 66 (dk_at dksX1_fills_0 11 rfl rfl)
theorem dX1_fills_14 : decode cX1_fills 14 = .ok (.if_icmp .gt 4, 3) := dk_163 0 4 (dk_at dksX1_fills_0 14 rfl rfl)
theorem dX1_fills_17 : decode cX1_fills 17 = .ok (.return_, 1) := dk_177 (dk_at dksX1_fills_0 17 rfl rfl)
theorem dX1_fills_18 : decode cX1_fills 18 = .ok (.aload_n 0, 1) := dk_42 (dk_at dksX1_fills_0 18 rfl rfl)
theorem dX1_fills_19 : decode cX1_fills 19 = .ok (.iload 4, 2) := dk_21 4 (dk_at dksX1_fills_0 19 rfl rfl)
theorem dX1_fills_21 : decode cX1_fills 21 = .ok (.putfield 322, 3) := dk_181 1 66 (dk_at dksX1_fills_0 21 rfl rfl)
theorem dX1_fills_24 : decode cX1_fills 24 = .ok (.aload_n 0, 1) := dk_42 (dk_at dksX1_fills_1 0 rfl rfl)
theorem dX1_fills_25 : decode cX1_fills 25 = .ok (.getfield 69, 3) := dk_180 0 69 (dk_at dksX1_fills_1 1 rfl rfl)
theorem dX1_fills_28 : decode cX1_fills 28 = .ok (.aload_n 0, 1) := dk_42 (dk_at dksX1_fills_1 4 rfl rfl)
theorem dX1_fills_29 : decode cX1_fills 29 = .ok (.getfield 72, 3) := dk_180 0 72 (dk_at dksX1_fills_1 5 rfl rfl)
theorem dX1_fills_32 : decode cX1_fills 32 = .ok (.invokestatic 325, 3) := dk_184 1 69 (dk_at dksX1_fills_1 8 rfl rfl)
theorem dX1_fills_35 : decode cX1_fills 35 = .ok (.return_, 1) := dk_177 (dk_at dksX1_fills_1 11 rfl rfl)
theorem dX1_fills_36 : decode cX1_fills 36 = .ok (.aload_n 0, 1) := dk_42 (dk_at dksX1_fills_1 12 rfl rfl)
theorem dX1_fills_37 : decode cX1_fills 37 = .ok (.getfield 51, 3) := dk_180 0 51 (dk_at dksX1_fills_1 13 rfl rfl)
theorem dX1_fills_40 : decode cX1_fills 40 = .ok (.getfield 154, 3) := dk_180 0 154 (dk_at dksX1_fills_1 16 rfl rfl)
theorem dX1_fills_43 : decode cX1_fills 43 = .ok (.iload_n 1, 1) := dk_27 (dk_at dksX1_fills_1 19 rfl rfl)
theorem dX1_fills_44 : decode cX1_fills 44 = .ok (.iaload, 1) := dk_46 (dk_at dksX1_fills_1 20 rfl rfl)
theorem dX1_fills_45 : decode cX1_fills 45 = .ok (.iconst 3, 1) := dk_6 (dk_at dksX1_fills_1 21 rfl rfl)
theorem dX1_fills_46 : decode cX1_fills 46 = .ok (.if_icmp .ge 118, 3) := dk_162 0 118 (dk_at dksX1_fills_2 0 rfl rfl)
theorem dX1_fills_49 : decode cX1_fills 49 = .ok (.aload_n 0, 1) := dk_42 (dk_at dksX1_fills_2 3 rfl rfl)
theorem dX1_fills_50 : decode cX1_fills 50 = .ok (.iload_n 1, 1) := dk_27 (dk_at dksX1_fills_2 4 rfl rfl)
theorem dX1_fills_51 : decode cX1_fills 51 = .ok (.invokevirtual 166, 3) := dk_182 0 166 (dk_at dksX1_fills_2 5 rfl rfl)
theorem dX1_fills_54 : decode cX1_fills 54 = .ok (.getfield 184, 3) := dk_180 0 184 (dk_at dksX1_fills_2 8 rfl rfl)
theorem dX1_fills_57 : decode cX1_fills 57 = .ok (.iload_n 3, 1) := dk_29 (dk_at dksX1_fills_2 11 rfl rfl)
theorem dX1_fills_58 : decode cX1_fills 58 = .ok (.if_icmp .gt 106, 3) := dk_163 0 106 (dk_at dksX1_fills_2 12 rfl rfl)
theorem dX1_fills_61 : decode cX1_fills 61 = .ok (.iconst 1, 1) := dk_4 (dk_at dksX1_fills_2 15 rfl rfl)
theorem dX1_fills_62 : decode cX1_fills 62 = .ok (.istore 5, 2) := dk_54 5 (dk_at dksX1_fills_2 16 rfl rfl)
theorem dX1_fills_64 : decode cX1_fills 64 = .ok (.iload 5, 2) := dk_21 5 (dk_at dksX1_fills_2 18 rfl rfl)
theorem dX1_fills_66 : decode cX1_fills 66 = .ok (.iload_n 2, 1) := dk_28 (dk_at dksX1_fills_2 20 rfl rfl)
theorem dX1_fills_67 : decode cX1_fills 67 = .ok (.if_icmp .gt 97, 3) := dk_163 0 97 (dk_at dksX1_fills_2 21 rfl rfl)
theorem dX1_fills_70 : decode cX1_fills 70 = .ok (.iload 5, 2) := dk_21 5 (dk_at dksX1_fills_3 0 rfl rfl)
theorem dX1_fills_72 : decode cX1_fills 72 = .ok (.iload_n 2, 1) := dk_28 (dk_at dksX1_fills_3 2 rfl rfl)
theorem dX1_fills_73 : decode cX1_fills 73 = .ok (.iconst (-1), 1) := dk_2 (dk_at dksX1_fills_3 3 rfl rfl)
theorem dX1_fills_74 : decode cX1_fills 74 = .ok (.ixor, 1) := dk_130 (dk_at dksX1_fills_3 4 rfl rfl)
theorem dX1_fills_75 : decode cX1_fills 75 = .ok (.iand, 1) := dk_126 (dk_at dksX1_fills_3 5 rfl rfl)
theorem dX1_fills_76 : decode cX1_fills 76 = .ok (.ifCond .ne 82, 3) := dk_154 0 82 (dk_at dksX1_fills_3 6 rfl rfl)
theorem dX1_fills_79 : decode cX1_fills 79 = .ok (.iload 5, 2) := dk_21 5 (dk_at dksX1_fills_3 9 rfl rfl)
theorem dX1_fills_81 : decode cX1_fills 81 = .ok (.invokestatic 161, 3) := dk_184 0 161 (dk_at dksX1_fills_3 11 rfl rfl)
theorem dX1_fills_84 : decode cX1_fills 84 = .ok (.aload_n 0, 1) := dk_42 (dk_at dksX1_fills_3 14 rfl rfl)
theorem dX1_fills_85 : decode cX1_fills 85 = .ok (.iload_n 1, 1) := dk_27 (dk_at dksX1_fills_3 15 rfl rfl)
theorem dX1_fills_86 : decode cX1_fills 86 = .ok (.invokevirtual 166, 3) := dk_182 0 166 (dk_at dksX1_fills_3 16 rfl rfl)
theorem dX1_fills_89 : decode cX1_fills 89 = .ok (.invokevirtual 170, 3) := dk_182 0 170 (dk_at dksX1_fills_3 19 rfl rfl)
theorem dX1_fills_92 : decode cX1_fills 92 = .ok (.if_icmp .ne 66, 3) := dk_160 0 66 (dk_at dksX1_fills_4 0 rfl rfl)
theorem dX1_fills_95 : decode cX1_fills 95 = .ok (.aload_n 0, 1) := dk_42 (dk_at dksX1_fills_4 3 rfl rfl)
theorem dX1_fills_96 : decode cX1_fills 96 = .ok (.getfield 51, 3) := dk_180 0 51 (dk_at dksX1_fills_4 4 rfl rfl)
theorem dX1_fills_99 : decode cX1_fills 99 = .ok (.iload 5, 2) := dk_21 5 (dk_at dksX1_fills_4 7 rfl rfl)
theorem dX1_fills_101 : decode cX1_fills 101 = .ok (.invokevirtual 232, 3) := dk_182 0 232 (dk_at dksX1_fills_4 9 rfl rfl)
theorem dX1_fills_104 : decode cX1_fills 104 = .ok (.aload_n 0, 1) := dk_42 (dk_at dksX1_fills_4 12 rfl rfl)
theorem dX1_fills_105 : decode cX1_fills 105 = .ok (.getfield 66, 3) := dk_180 0 66 (dk_at dksX1_fills_4 13 rfl rfl)
theorem dX1_fills_108 : decode cX1_fills 108 = .ok (.iload_n 1, 1) := dk_27 (dk_at dksX1_fills_4 16 rfl rfl)
theorem dX1_fills_109 : decode cX1_fills 109 = .ok (.iaload, 1) := dk_46 (dk_at dksX1_fills_4 17 rfl rfl)
theorem dX1_fills_110 : decode cX1_fills 110 = .ok (.if_icmp .ge 6, 3) := dk_162 0 6 (dk_at dksX1_fills_4 18 rfl rfl)
theorem dX1_fills_113 : decode cX1_fills 113 = .ok (.goto 45, 3) := dk_167 0 45 (dk_at dksX1_fills_4 21 rfl rfl)
theorem dX1_fills_116 : decode cX1_fills 116 = .ok (.aload_n 0, 1) := dk_42 (dk_at dksX1_fills_5 0 rfl rfl)
theorem dX1_fills_117 : decode cX1_fills 117 = .ok (.getfield 69, 3) := dk_180 0 69 (dk_at dksX1_fills_5 1 rfl rfl)
theorem dX1_fills_120 : decode cX1_fills 120 = .ok (.iload_n 1, 1) := dk_27 (dk_at dksX1_fills_5 4 rfl rfl)
theorem dX1_fills_121 : decode cX1_fills 121 = .ok (.iload 5, 2) := dk_21 5 (dk_at dksX1_fills_5 5 rfl rfl)
theorem dX1_fills_123 : decode cX1_fills 123 = .ok (.iastore, 1) := dk_79 (dk_at dksX1_fills_5 7 rfl rfl)
theorem dX1_fills_124 : decode cX1_fills 124 = .ok (.aload_n 0, 1) := dk_42 (dk_at dksX1_fills_5 8 rfl rfl)
theorem dX1_fills_125 : decode cX1_fills 125 = .ok (.iload_n 1, 1) := dk_27 (dk_at dksX1_fills_5 9 rfl rfl)
theorem dX1_fills_126 : decode cX1_fills 126 = .ok (.iconst 1, 1) := dk_4 (dk_at dksX1_fills_5 10 rfl rfl)
theorem dX1_fills_127 : decode cX1_fills 127 = .ok (.iadd, 1) := dk_96 (dk_at dksX1_fills_5 11 rfl rfl)
theorem dX1_fills_128 : decode cX1_fills 128 = .ok (.iload_n 2, 1) := dk_28 (dk_at dksX1_fills_5 12 rfl rfl)
theorem dX1_fills_129 : decode cX1_fills 129 = .ok (.iload 5, 2) := dk_21 5 (dk_at dksX1_fills_5 13 rfl rfl)
theorem dX1_fills_131 : decode cX1_fills 131 = .ok (.iconst (-1), 1) := dk_2 (dk_at dksX1_fills_5 15 rfl rfl)
theorem dX1_fills_132 : decode cX1_fills 132 = .ok (.ixor, 1) := dk_130 (dk_at dksX1_fills_5 16 rfl rfl)
theorem dX1_fills_133 : decode cX1_fills 133 = .ok (.iand, 1) := dk_126 (dk_at dksX1_fills_5 17 rfl rfl)
theorem dX1_fills_134 : decode cX1_fills 134 = .ok (.iload_n 3, 1) := dk_29 (dk_at dksX1_fills_5 18 rfl rfl)
theorem dX1_fills_135 : decode cX1_fills 135 = .ok (.aload_n 0, 1) := dk_42 (dk_at dksX1_fills_5 19 rfl rfl)
theorem dX1_fills_136 : decode cX1_fills 136 = .ok (.iload_n 1, 1) := dk_27 (dk_at dksX1_fills_5 20 rfl rfl)
theorem dX1_fills_137 : decode cX1_fills 137 = .ok (.invokevirtual 166, 3) := dk_182 0 166 (dk_at dksX1_fills_5 21 rfl rfl)
theorem dX1_fills_140 : decode cX1_fills 140 = .ok (.getfield 184, 3) := dk_180 0 184 (dk_at dksX1_fills_6 0 rfl rfl)
theorem dX1_fills_143 : decode cX1_fills 143 = .ok (.isub, 1) := dk_100 (dk_at dksX1_fills_6 3 rfl rfl)
theorem dX1_fills_144 : decode cX1_fills 144 = .ok (.iload 4, 2) := dk_21 4 (dk_at dksX1_fills_6 4 rfl rfl)
theorem dX1_fills_146 : decode cX1_fills 146 = .ok (.aload_n 0, 1) := dk_42 (dk_at dksX1_fills_6 6 rfl rfl)
theorem dX1_fills_147 : decode cX1_fills 147 = .ok (.iload_n 1, 1) := dk_27 (dk_at dksX1_fills_6 7 rfl rfl)
theorem dX1_fills_148 : decode cX1_fills 148 = .ok (.invokevirtual 166, 3) := dk_182 0 166 (dk_at dksX1_fills_6 8 rfl rfl)
theorem dX1_fills_151 : decode cX1_fills 151 = .ok (.getfield 181, 3) := dk_180 0 181 (dk_at dksX1_fills_6 11 rfl rfl)
theorem dX1_fills_154 : decode cX1_fills 154 = .ok (.iadd, 1) := dk_96 (dk_at dksX1_fills_6 14 rfl rfl)
theorem dX1_fills_155 : decode cX1_fills 155 = .ok (.invokevirtual 329, 3) := dk_182 1 73 (dk_at dksX1_fills_6 15 rfl rfl)
theorem dX1_fills_158 : decode cX1_fills 158 = .ok (.iinc 5 1, 3) := dk_132 5 1 (dk_at dksX1_fills_6 18 rfl rfl)
theorem dX1_fills_161 : decode cX1_fills 161 = .ok (.goto (-97), 3) := dk_167 255 159 (dk_at dksX1_fills_6 21 rfl rfl)
theorem dX1_fills_164 : decode cX1_fills 164 = .ok (.aload_n 0, 1) := dk_42 (dk_at dksX1_fills_7 0 rfl rfl)
theorem dX1_fills_165 : decode cX1_fills 165 = .ok (.getfield 69, 3) := dk_180 0 69 (dk_at dksX1_fills_7 1 rfl rfl)
theorem dX1_fills_168 : decode cX1_fills 168 = .ok (.iload_n 1, 1) := dk_27 (dk_at dksX1_fills_7 4 rfl rfl)
theorem dX1_fills_169 : decode cX1_fills 169 = .ok (.iconst 0, 1) := dk_3 (dk_at dksX1_fills_7 5 rfl rfl)
theorem dX1_fills_170 : decode cX1_fills 170 = .ok (.iastore, 1) := dk_79 (dk_at dksX1_fills_7 6 rfl rfl)
theorem dX1_fills_171 : decode cX1_fills 171 = .ok (.aload_n 0, 1) := dk_42 (dk_at dksX1_fills_7 7 rfl rfl)
theorem dX1_fills_172 : decode cX1_fills 172 = .ok (.iload_n 1, 1) := dk_27 (dk_at dksX1_fills_7 8 rfl rfl)
theorem dX1_fills_173 : decode cX1_fills 173 = .ok (.iconst 1, 1) := dk_4 (dk_at dksX1_fills_7 9 rfl rfl)
theorem dX1_fills_174 : decode cX1_fills 174 = .ok (.iadd, 1) := dk_96 (dk_at dksX1_fills_7 10 rfl rfl)
theorem dX1_fills_175 : decode cX1_fills 175 = .ok (.iload_n 2, 1) := dk_28 (dk_at dksX1_fills_7 11 rfl rfl)
theorem dX1_fills_176 : decode cX1_fills 176 = .ok (.iload_n 3, 1) := dk_29 (dk_at dksX1_fills_7 12 rfl rfl)
theorem dX1_fills_177 : decode cX1_fills 177 = .ok (.iload 4, 2) := dk_21 4 (dk_at dksX1_fills_7 13 rfl rfl)
theorem dX1_fills_179 : decode cX1_fills 179 = .ok (.invokevirtual 329, 3) := dk_182 1 73 (dk_at dksX1_fills_7 15 rfl rfl)
theorem dX1_fills_182 : decode cX1_fills 182 = .ok (.return_, 1) := dk_177 (dk_at dksX1_fills_7 18 rfl rfl)
abbrev cX1_odds : ByteArray := prog_1_method_47_code
def yX1_odds : MethodName := ⟨RX1, "odds", "(II)I"⟩
def dkwX1_odds_3 : List UInt8 := [28, 182, 1, 83, 20, 1, 89, 105, 33, 109, 136, 172]
abbrev dktX1_odds_3 : List UInt8 := dkwX1_odds_3 ++ []
def dkwX1_odds_2 : List UInt8 := [66, 132, 5, 1, 167, 255, 241, 42, 180, 0, 55, 42, 180, 0, 51, 182, 1, 20, 42, 42, 180, 0, 55, 27]
abbrev dktX1_odds_2 : List UInt8 := dkwX1_odds_2 ++ dktX1_odds_3
def dkwX1_odds_1 : List UInt8 := [184, 0, 150, 154, 0, 5, 2, 172, 10, 66, 3, 54, 5, 21, 5, 28, 162, 0, 15, 33, 20, 1, 87, 105]
abbrev dktX1_odds_1 : List UInt8 := dkwX1_odds_1 ++ dktX1_odds_2
def dkwX1_odds_0 : List UInt8 := [42, 27, 182, 0, 254, 153, 0, 24, 42, 180, 0, 51, 27, 182, 0, 157, 153, 0, 13, 28, 4, 16, 8]
abbrev dktX1_odds_0 : List UInt8 := dkwX1_odds_0 ++ dktX1_odds_1
theorem dksX1_odds_0 : cX1_odds.data.toList.drop 0 = dktX1_odds_0 := by decide +kernel
theorem dksX1_odds_1 : cX1_odds.data.toList.drop 23 = dktX1_odds_1 := dk_seg dksX1_odds_0 23 rfl rfl
theorem dksX1_odds_2 : cX1_odds.data.toList.drop 47 = dktX1_odds_2 := dk_seg dksX1_odds_1 24 rfl rfl
theorem dksX1_odds_3 : cX1_odds.data.toList.drop 71 = dktX1_odds_3 := dk_seg dksX1_odds_2 24 rfl rfl
theorem dX1_odds_0 : decode cX1_odds 0 = .ok (.aload_n 0, 1) := dk_42 (dk_at dksX1_odds_0 0 rfl rfl)
theorem dX1_odds_1 : decode cX1_odds 1 = .ok (.iload_n 1, 1) := dk_27 (dk_at dksX1_odds_0 1 rfl rfl)
theorem dX1_odds_2 : decode cX1_odds 2 = .ok (.invokevirtual 254, 3) := dk_182 0 254 (dk_at dksX1_odds_0 2 rfl rfl)
theorem dX1_odds_5 : decode cX1_odds 5 = .ok (.ifCond .eq 24, 3) := dk_153 0 24 (dk_at dksX1_odds_0 5 rfl rfl)
theorem dX1_odds_8 : decode cX1_odds 8 = .ok (.aload_n 0, 1) := dk_42 (dk_at dksX1_odds_0 8 rfl rfl)
theorem dX1_odds_9 : decode cX1_odds 9 = .ok (.getfield 51, 3) := dk_180 0 51 (dk_at dksX1_odds_0 9 rfl rfl)
theorem dX1_odds_12 : decode cX1_odds 12 = .ok (.iload_n 1, 1) := dk_27 (dk_at dksX1_odds_0 12 rfl rfl)
theorem dX1_odds_13 : decode cX1_odds 13 = .ok (.invokevirtual 157, 3) := dk_182 0 157 (dk_at dksX1_odds_0 13 rfl rfl)
theorem dX1_odds_16 : decode cX1_odds 16 = .ok (.ifCond .eq 13, 3) := dk_153 0 13 (dk_at dksX1_odds_0 16 rfl rfl)
theorem dX1_odds_19 : decode cX1_odds 19 = .ok (.iload_n 2, 1) := dk_28 (dk_at dksX1_odds_0 19 rfl rfl)
theorem dX1_odds_20 : decode cX1_odds 20 = .ok (.iconst 1, 1) := dk_4 (dk_at dksX1_odds_0 20 rfl rfl)
theorem dX1_odds_21 : decode cX1_odds 21 = .ok (.bipush 8, 2) := dk_16 8 (dk_at dksX1_odds_0 21 rfl rfl)
theorem dX1_odds_23 : decode cX1_odds 23 = .ok (.invokestatic 150, 3) := dk_184 0 150 (dk_at dksX1_odds_1 0 rfl rfl)
theorem dX1_odds_26 : decode cX1_odds 26 = .ok (.ifCond .ne 5, 3) := dk_154 0 5 (dk_at dksX1_odds_1 3 rfl rfl)
theorem dX1_odds_29 : decode cX1_odds 29 = .ok (.iconst (-1), 1) := dk_2 (dk_at dksX1_odds_1 6 rfl rfl)
theorem dX1_odds_30 : decode cX1_odds 30 = .ok (.ireturn, 1) := dk_172 (dk_at dksX1_odds_1 7 rfl rfl)
theorem dX1_odds_31 : decode cX1_odds 31 = .ok (.lconst 1, 1) := dk_10 (dk_at dksX1_odds_1 8 rfl rfl)
theorem dX1_odds_32 : decode cX1_odds 32 = .ok (.lstore_n 3, 1) := dk_66 (dk_at dksX1_odds_1 9 rfl rfl)
theorem dX1_odds_33 : decode cX1_odds 33 = .ok (.iconst 0, 1) := dk_3 (dk_at dksX1_odds_1 10 rfl rfl)
theorem dX1_odds_34 : decode cX1_odds 34 = .ok (.istore 5, 2) := dk_54 5 (dk_at dksX1_odds_1 11 rfl rfl)
theorem dX1_odds_36 : decode cX1_odds 36 = .ok (.iload 5, 2) := dk_21 5 (dk_at dksX1_odds_1 13 rfl rfl)
theorem dX1_odds_38 : decode cX1_odds 38 = .ok (.iload_n 2, 1) := dk_28 (dk_at dksX1_odds_1 15 rfl rfl)
theorem dX1_odds_39 : decode cX1_odds 39 = .ok (.if_icmp .ge 15, 3) := dk_162 0 15 (dk_at dksX1_odds_1 16 rfl rfl)
theorem dX1_odds_42 : decode cX1_odds 42 = .ok (.lload_n 3, 1) := dk_33 (dk_at dksX1_odds_1 19 rfl rfl)
theorem dX1_odds_43 : decode cX1_odds 43 = .ok (.ldc2_w 343, 3) := dk_20 1 87 (dk_at dksX1_odds_1 20 rfl rfl)
theorem dX1_odds_46 : decode cX1_odds 46 = .ok (.lmul, 1) := dk_105 (dk_at dksX1_odds_1 23 rfl rfl)
theorem dX1_odds_47 : decode cX1_odds 47 = .ok (.lstore_n 3, 1) := dk_66 (dk_at dksX1_odds_2 0 rfl rfl)
theorem dX1_odds_48 : decode cX1_odds 48 = .ok (.iinc 5 1, 3) := dk_132 5 1 (dk_at dksX1_odds_2 1 rfl rfl)
theorem dX1_odds_51 : decode cX1_odds 51 = .ok (.goto (-15), 3) := dk_167 255 241 (dk_at dksX1_odds_2 4 rfl rfl)
theorem dX1_odds_54 : decode cX1_odds 54 = .ok (.aload_n 0, 1) := dk_42 (dk_at dksX1_odds_2 7 rfl rfl)
theorem dX1_odds_55 : decode cX1_odds 55 = .ok (.getfield 55, 3) := dk_180 0 55 (dk_at dksX1_odds_2 8 rfl rfl)
theorem dX1_odds_58 : decode cX1_odds 58 = .ok (.aload_n 0, 1) := dk_42 (dk_at dksX1_odds_2 11 rfl rfl)
theorem dX1_odds_59 : decode cX1_odds 59 = .ok (.getfield 51, 3) := dk_180 0 51 (dk_at dksX1_odds_2 12 rfl rfl)
theorem dX1_odds_62 : decode cX1_odds 62 = .ok (.invokevirtual 276, 3) := dk_182 1 20 (dk_at dksX1_odds_2 15 rfl rfl)
theorem dX1_odds_65 : decode cX1_odds 65 = .ok (.aload_n 0, 1) := dk_42 (dk_at dksX1_odds_2 18 rfl rfl)
theorem dX1_odds_66 : decode cX1_odds 66 = .ok (.aload_n 0, 1) := dk_42 (dk_at dksX1_odds_2 19 rfl rfl)
theorem dX1_odds_67 : decode cX1_odds 67 = .ok (.getfield 55, 3) := dk_180 0 55 (dk_at dksX1_odds_2 20 rfl rfl)
theorem dX1_odds_70 : decode cX1_odds 70 = .ok (.iload_n 1, 1) := dk_27 (dk_at dksX1_odds_2 23 rfl rfl)
theorem dX1_odds_71 : decode cX1_odds 71 = .ok (.iload_n 2, 1) := dk_28 (dk_at dksX1_odds_3 0 rfl rfl)
theorem dX1_odds_72 : decode cX1_odds 72 = .ok (.invokevirtual 339, 3) := dk_182 1 83 (dk_at dksX1_odds_3 1 rfl rfl)
theorem dX1_odds_75 : decode cX1_odds 75 = .ok (.ldc2_w 345, 3) := dk_20 1 89 (dk_at dksX1_odds_3 4 rfl rfl)
theorem dX1_odds_78 : decode cX1_odds 78 = .ok (.lmul, 1) := dk_105 (dk_at dksX1_odds_3 7 rfl rfl)
theorem dX1_odds_79 : decode cX1_odds 79 = .ok (.lload_n 3, 1) := dk_33 (dk_at dksX1_odds_3 8 rfl rfl)
theorem dX1_odds_80 : decode cX1_odds 80 = .ok (.ldiv, 1) := dk_109 (dk_at dksX1_odds_3 9 rfl rfl)
theorem dX1_odds_81 : decode cX1_odds 81 = .ok (.l2i, 1) := dk_136 (dk_at dksX1_odds_3 10 rfl rfl)
theorem dX1_odds_82 : decode cX1_odds 82 = .ok (.ireturn, 1) := dk_172 (dk_at dksX1_odds_3 11 rfl rfl)
abbrev cX1_hangsBy : ByteArray := prog_1_method_46_code
def yX1_hangsBy : MethodName := ⟨RX1, "hangsBy", "(LPegLaws$State;II)J"⟩
def dkwX1_hangsBy_6 : List UInt8 := [25, 4, 28, 29, 4, 100, 182, 1, 83, 105, 97, 55, 5, 132, 7, 1, 167, 255, 145, 22, 5, 173]
abbrev dktX1_hangsBy_6 : List UInt8 := dkwX1_hangsBy_6 ++ []
def dkwX1_hangsBy_5 : List UInt8 := [54, 9, 25, 4, 89, 180, 0, 244, 4, 96, 181, 0, 244, 21, 9, 154, 0, 22, 22, 5, 21, 8, 133, 42]
abbrev dktX1_hangsBy_5 : List UInt8 := dkwX1_hangsBy_5 ++ dktX1_hangsBy_6
def dkwX1_hangsBy_4 : List UInt8 := [42, 25, 4, 28, 42, 180, 0, 35, 43, 180, 0, 244, 182, 0, 247, 21, 7, 6, 104, 96, 182, 0, 250]
abbrev dktX1_hangsBy_4 : List UInt8 := dkwX1_hangsBy_4 ++ dktX1_hangsBy_5
def dkwX1_hangsBy_3 : List UInt8 := [42, 180, 0, 35, 182, 1, 80, 100, 54, 8, 21, 8, 154, 0, 6, 167, 0, 69, 25, 4, 43, 182, 1, 20]
abbrev dktX1_hangsBy_3 : List UInt8 := dkwX1_hangsBy_3 ++ dktX1_hangsBy_4
def dkwX1_hangsBy_2 : List UInt8 := [21, 7, 5, 162, 0, 111, 21, 7, 4, 160, 0, 13, 42, 180, 0, 35, 182, 1, 80, 167, 0, 13, 16, 10]
abbrev dktX1_hangsBy_2 : List UInt8 := dkwX1_hangsBy_2 ++ dktX1_hangsBy_3
def dkwX1_hangsBy_1 : List UInt8 := [187, 0, 48, 89, 183, 0, 50, 83, 42, 180, 0, 75, 29, 4, 100, 50, 58, 4, 9, 55, 5, 3, 54, 7]
abbrev dktX1_hangsBy_1 : List UInt8 := dkwX1_hangsBy_1 ++ dktX1_hangsBy_2
def dkwX1_hangsBy_0 : List UInt8 := [29, 154, 0, 5, 10, 173, 42, 180, 0, 75, 29, 4, 100, 50, 199, 0, 18, 42, 180, 0, 75, 29, 4, 100]
abbrev dktX1_hangsBy_0 : List UInt8 := dkwX1_hangsBy_0 ++ dktX1_hangsBy_1
theorem dksX1_hangsBy_0 : cX1_hangsBy.data.toList.drop 0 = dktX1_hangsBy_0 := by decide +kernel
theorem dksX1_hangsBy_1 : cX1_hangsBy.data.toList.drop 24 = dktX1_hangsBy_1 := dk_seg dksX1_hangsBy_0 24 rfl rfl
theorem dksX1_hangsBy_2 : cX1_hangsBy.data.toList.drop 48 = dktX1_hangsBy_2 := dk_seg dksX1_hangsBy_1 24 rfl rfl
theorem dksX1_hangsBy_3 : cX1_hangsBy.data.toList.drop 72 = dktX1_hangsBy_3 := dk_seg dksX1_hangsBy_2 24 rfl rfl
theorem dksX1_hangsBy_4 : cX1_hangsBy.data.toList.drop 96 = dktX1_hangsBy_4 := dk_seg dksX1_hangsBy_3 24 rfl rfl
theorem dksX1_hangsBy_5 : cX1_hangsBy.data.toList.drop 119 = dktX1_hangsBy_5 := dk_seg dksX1_hangsBy_4 23 rfl rfl
theorem dksX1_hangsBy_6 : cX1_hangsBy.data.toList.drop 143 = dktX1_hangsBy_6 := dk_seg dksX1_hangsBy_5 24 rfl rfl
theorem dX1_hangsBy_0 : decode cX1_hangsBy 0 = .ok (.iload_n 3, 1) := dk_29 (dk_at dksX1_hangsBy_0 0 rfl rfl)
theorem dX1_hangsBy_1 : decode cX1_hangsBy 1 = .ok (.ifCond .ne 5, 3) := dk_154 0 5 (dk_at dksX1_hangsBy_0 1 rfl rfl)
theorem dX1_hangsBy_4 : decode cX1_hangsBy 4 = .ok (.lconst 1, 1) := dk_10 (dk_at dksX1_hangsBy_0 4 rfl rfl)
theorem dX1_hangsBy_5 : decode cX1_hangsBy 5 = .ok (.lreturn, 1) := dk_173 (dk_at dksX1_hangsBy_0 5 rfl rfl)
theorem dX1_hangsBy_6 : decode cX1_hangsBy 6 = .ok (.aload_n 0, 1) := dk_42 (dk_at dksX1_hangsBy_0 6 rfl rfl)
theorem dX1_hangsBy_7 : decode cX1_hangsBy 7 = .ok (.getfield 75, 3) := dk_180 0 75 (dk_at dksX1_hangsBy_0 7 rfl rfl)
theorem dX1_hangsBy_10 : decode cX1_hangsBy 10 = .ok (.iload_n 3, 1) := dk_29 (dk_at dksX1_hangsBy_0 10 rfl rfl)
theorem dX1_hangsBy_11 : decode cX1_hangsBy 11 = .ok (.iconst 1, 1) := dk_4 (dk_at dksX1_hangsBy_0 11 rfl rfl)
theorem dX1_hangsBy_12 : decode cX1_hangsBy 12 = .ok (.isub, 1) := dk_100 (dk_at dksX1_hangsBy_0 12 rfl rfl)
theorem dX1_hangsBy_13 : decode cX1_hangsBy 13 = .ok (.aaload, 1) := dk_50 (dk_at dksX1_hangsBy_0 13 rfl rfl)
theorem dX1_hangsBy_14 : decode cX1_hangsBy 14 = .ok (.ifnonnull 18, 3) := dk_199 0 18 (dk_at dksX1_hangsBy_0 14 rfl rfl)
theorem dX1_hangsBy_17 : decode cX1_hangsBy 17 = .ok (.aload_n 0, 1) := dk_42 (dk_at dksX1_hangsBy_0 17 rfl rfl)
theorem dX1_hangsBy_18 : decode cX1_hangsBy 18 = .ok (.getfield 75, 3) := dk_180 0 75 (dk_at dksX1_hangsBy_0 18 rfl rfl)
theorem dX1_hangsBy_21 : decode cX1_hangsBy 21 = .ok (.iload_n 3, 1) := dk_29 (dk_at dksX1_hangsBy_0 21 rfl rfl)
theorem dX1_hangsBy_22 : decode cX1_hangsBy 22 = .ok (.iconst 1, 1) := dk_4 (dk_at dksX1_hangsBy_0 22 rfl rfl)
theorem dX1_hangsBy_23 : decode cX1_hangsBy 23 = .ok (.isub, 1) := dk_100 (dk_at dksX1_hangsBy_0 23 rfl rfl)
theorem dX1_hangsBy_24 : decode cX1_hangsBy 24 = .ok (.new 48, 3) := dk_187 0 48 (dk_at dksX1_hangsBy_1 0 rfl rfl)
theorem dX1_hangsBy_27 : decode cX1_hangsBy 27 = .ok (.dup, 1) := dk_89 (dk_at dksX1_hangsBy_1 3 rfl rfl)
theorem dX1_hangsBy_28 : decode cX1_hangsBy 28 = .ok (.invokespecial 50, 3) := dk_183 0 50 (dk_at dksX1_hangsBy_1 4 rfl rfl)
theorem dX1_hangsBy_31 : decode cX1_hangsBy 31 = .ok (.aastore, 1) := dk_83 (dk_at dksX1_hangsBy_1 7 rfl rfl)
theorem dX1_hangsBy_32 : decode cX1_hangsBy 32 = .ok (.aload_n 0, 1) := dk_42 (dk_at dksX1_hangsBy_1 8 rfl rfl)
theorem dX1_hangsBy_33 : decode cX1_hangsBy 33 = .ok (.getfield 75, 3) := dk_180 0 75 (dk_at dksX1_hangsBy_1 9 rfl rfl)
theorem dX1_hangsBy_36 : decode cX1_hangsBy 36 = .ok (.iload_n 3, 1) := dk_29 (dk_at dksX1_hangsBy_1 12 rfl rfl)
theorem dX1_hangsBy_37 : decode cX1_hangsBy 37 = .ok (.iconst 1, 1) := dk_4 (dk_at dksX1_hangsBy_1 13 rfl rfl)
theorem dX1_hangsBy_38 : decode cX1_hangsBy 38 = .ok (.isub, 1) := dk_100 (dk_at dksX1_hangsBy_1 14 rfl rfl)
theorem dX1_hangsBy_39 : decode cX1_hangsBy 39 = .ok (.aaload, 1) := dk_50 (dk_at dksX1_hangsBy_1 15 rfl rfl)
theorem dX1_hangsBy_40 : decode cX1_hangsBy 40 = .ok (.astore 4, 2) := dk_58 4 (dk_at dksX1_hangsBy_1 16 rfl rfl)
theorem dX1_hangsBy_42 : decode cX1_hangsBy 42 = .ok (.lconst 0, 1) := dk_9 (dk_at dksX1_hangsBy_1 18 rfl rfl)
theorem dX1_hangsBy_43 : decode cX1_hangsBy 43 = .ok (.lstore 5, 2) := dk_55 5 (dk_at dksX1_hangsBy_1 19 rfl rfl)
theorem dX1_hangsBy_45 : decode cX1_hangsBy 45 = .ok (.iconst 0, 1) := dk_3 (dk_at dksX1_hangsBy_1 21 rfl rfl)
theorem dX1_hangsBy_46 : decode cX1_hangsBy 46 = .ok (.istore 7, 2) := dk_54 7 (dk_at dksX1_hangsBy_1 22 rfl rfl)
theorem dX1_hangsBy_48 : decode cX1_hangsBy 48 = .ok (.iload 7, 2) := dk_21 7 (dk_at dksX1_hangsBy_2 0 rfl rfl)
theorem dX1_hangsBy_50 : decode cX1_hangsBy 50 = .ok (.iconst 2, 1) := dk_5 (dk_at dksX1_hangsBy_2 2 rfl rfl)
theorem dX1_hangsBy_51 : decode cX1_hangsBy 51 = .ok (.if_icmp .ge 111, 3) := dk_162 0 111 (dk_at dksX1_hangsBy_2 3 rfl rfl)
theorem dX1_hangsBy_54 : decode cX1_hangsBy 54 = .ok (.iload 7, 2) := dk_21 7 (dk_at dksX1_hangsBy_2 6 rfl rfl)
theorem dX1_hangsBy_56 : decode cX1_hangsBy 56 = .ok (.iconst 1, 1) := dk_4 (dk_at dksX1_hangsBy_2 8 rfl rfl)
theorem dX1_hangsBy_57 : decode cX1_hangsBy 57 = .ok (.if_icmp .ne 13, 3) := dk_160 0 13 (dk_at dksX1_hangsBy_2 9 rfl rfl)
theorem dX1_hangsBy_60 : decode cX1_hangsBy 60 = .ok (.aload_n 0, 1) := dk_42 (dk_at dksX1_hangsBy_2 12 rfl rfl)
theorem dX1_hangsBy_61 : decode cX1_hangsBy 61 = .ok (.getfield 35, 3) := dk_180 0 35 (dk_at dksX1_hangsBy_2 13 rfl rfl)
theorem dX1_hangsBy_64 : decode cX1_hangsBy 64 = .ok (.invokevirtual 336, 3) := dk_182 1 80 (dk_at dksX1_hangsBy_2 16 rfl rfl)
theorem dX1_hangsBy_67 : decode cX1_hangsBy 67 = .ok (.goto 13, 3) := dk_167 0 13 (dk_at dksX1_hangsBy_2 19 rfl rfl)
theorem dX1_hangsBy_70 : decode cX1_hangsBy 70 = .ok (.bipush 10, 2) := dk_16 10 (dk_at dksX1_hangsBy_2 22 rfl rfl)
theorem dX1_hangsBy_72 : decode cX1_hangsBy 72 = .ok (.aload_n 0, 1) := dk_42 (dk_at dksX1_hangsBy_3 0 rfl rfl)
theorem dX1_hangsBy_73 : decode cX1_hangsBy 73 = .ok (.getfield 35, 3) := dk_180 0 35 (dk_at dksX1_hangsBy_3 1 rfl rfl)
theorem dX1_hangsBy_76 : decode cX1_hangsBy 76 = .ok (.invokevirtual 336, 3) := dk_182 1 80 (dk_at dksX1_hangsBy_3 4 rfl rfl)
theorem dX1_hangsBy_79 : decode cX1_hangsBy 79 = .ok (.isub, 1) := dk_100 (dk_at dksX1_hangsBy_3 7 rfl rfl)
theorem dX1_hangsBy_80 : decode cX1_hangsBy 80 = .ok (.istore 8, 2) := dk_54 8 (dk_at dksX1_hangsBy_3 8 rfl rfl)
theorem dX1_hangsBy_82 : decode cX1_hangsBy 82 = .ok (.iload 8, 2) := dk_21 8 (dk_at dksX1_hangsBy_3 10 rfl rfl)
theorem dX1_hangsBy_84 : decode cX1_hangsBy 84 = .ok (.ifCond .ne 6, 3) := dk_154 0 6 (dk_at dksX1_hangsBy_3 12 rfl rfl)
theorem dX1_hangsBy_87 : decode cX1_hangsBy 87 = .ok (.goto 69, 3) := dk_167 0 69 (dk_at dksX1_hangsBy_3 15 rfl rfl)
theorem dX1_hangsBy_90 : decode cX1_hangsBy 90 = .ok (.aload 4, 2) := dk_25 4 (dk_at dksX1_hangsBy_3 18 rfl rfl)
theorem dX1_hangsBy_92 : decode cX1_hangsBy 92 = .ok (.aload_n 1, 1) := dk_43 (dk_at dksX1_hangsBy_3 20 rfl rfl)
theorem dX1_hangsBy_93 : decode cX1_hangsBy 93 = .ok (.invokevirtual 276, 3) := dk_182 1 20 (dk_at dksX1_hangsBy_3 21 rfl rfl)
theorem dX1_hangsBy_96 : decode cX1_hangsBy 96 = .ok (.aload_n 0, 1) := dk_42 (dk_at dksX1_hangsBy_4 0 rfl rfl)
theorem dX1_hangsBy_97 : decode cX1_hangsBy 97 = .ok (.aload 4, 2) := dk_25 4 (dk_at dksX1_hangsBy_4 1 rfl rfl)
theorem dX1_hangsBy_99 : decode cX1_hangsBy 99 = .ok (.iload_n 2, 1) := dk_28 (dk_at dksX1_hangsBy_4 3 rfl rfl)
theorem dX1_hangsBy_100 : decode cX1_hangsBy 100 = .ok (.aload_n 0, 1) := dk_42 (dk_at dksX1_hangsBy_4 4 rfl rfl)
theorem dX1_hangsBy_101 : decode cX1_hangsBy 101 = .ok (.getfield 35, 3) := dk_180 0 35 (dk_at dksX1_hangsBy_4 5 rfl rfl)
theorem dX1_hangsBy_104 : decode cX1_hangsBy 104 = .ok (.aload_n 1, 1) := dk_43 (dk_at dksX1_hangsBy_4 8 rfl rfl)
theorem dX1_hangsBy_105 : decode cX1_hangsBy 105 = .ok (.getfield 244, 3) := dk_180 0 244 (dk_at dksX1_hangsBy_4 9 rfl rfl)
theorem dX1_hangsBy_108 : decode cX1_hangsBy 108 = .ok (.invokevirtual 247, 3) := dk_182 0 247 (dk_at dksX1_hangsBy_4 12 rfl rfl)
theorem dX1_hangsBy_111 : decode cX1_hangsBy 111 = .ok (.iload 7, 2) := dk_21 7 (dk_at dksX1_hangsBy_4 15 rfl rfl)
theorem dX1_hangsBy_113 : decode cX1_hangsBy 113 = .ok (.iconst 3, 1) := dk_6 (dk_at dksX1_hangsBy_4 17 rfl rfl)
theorem dX1_hangsBy_114 : decode cX1_hangsBy 114 = .ok (.imul, 1) := dk_104 (dk_at dksX1_hangsBy_4 18 rfl rfl)
theorem dX1_hangsBy_115 : decode cX1_hangsBy 115 = .ok (.iadd, 1) := dk_96 (dk_at dksX1_hangsBy_4 19 rfl rfl)
theorem dX1_hangsBy_116 : decode cX1_hangsBy 116 = .ok (.invokevirtual 250, 3) := dk_182 0 250 (dk_at dksX1_hangsBy_4 20 rfl rfl)
theorem dX1_hangsBy_119 : decode cX1_hangsBy 119 = .ok (.istore 9, 2) := dk_54 9 (dk_at dksX1_hangsBy_5 0 rfl rfl)
theorem dX1_hangsBy_121 : decode cX1_hangsBy 121 = .ok (.aload 4, 2) := dk_25 4 (dk_at dksX1_hangsBy_5 2 rfl rfl)
theorem dX1_hangsBy_123 : decode cX1_hangsBy 123 = .ok (.dup, 1) := dk_89 (dk_at dksX1_hangsBy_5 4 rfl rfl)
theorem dX1_hangsBy_124 : decode cX1_hangsBy 124 = .ok (.getfield 244, 3) := dk_180 0 244 (dk_at dksX1_hangsBy_5 5 rfl rfl)
theorem dX1_hangsBy_127 : decode cX1_hangsBy 127 = .ok (.iconst 1, 1) := dk_4 (dk_at dksX1_hangsBy_5 8 rfl rfl)
theorem dX1_hangsBy_128 : decode cX1_hangsBy 128 = .ok (.iadd, 1) := dk_96 (dk_at dksX1_hangsBy_5 9 rfl rfl)
theorem dX1_hangsBy_129 : decode cX1_hangsBy 129 = .ok (.putfield 244, 3) := dk_181 0 244 (dk_at dksX1_hangsBy_5 10 rfl rfl)
theorem dX1_hangsBy_132 : decode cX1_hangsBy 132 = .ok (.iload 9, 2) := dk_21 9 (dk_at dksX1_hangsBy_5 13 rfl rfl)
theorem dX1_hangsBy_134 : decode cX1_hangsBy 134 = .ok (.ifCond .ne 22, 3) := dk_154 0 22 (dk_at dksX1_hangsBy_5 15 rfl rfl)
theorem dX1_hangsBy_137 : decode cX1_hangsBy 137 = .ok (.lload 5, 2) := dk_22 5 (dk_at dksX1_hangsBy_5 18 rfl rfl)
theorem dX1_hangsBy_139 : decode cX1_hangsBy 139 = .ok (.iload 8, 2) := dk_21 8 (dk_at dksX1_hangsBy_5 20 rfl rfl)
theorem dX1_hangsBy_141 : decode cX1_hangsBy 141 = .ok (.i2l, 1) := dk_133 (dk_at dksX1_hangsBy_5 22 rfl rfl)
theorem dX1_hangsBy_142 : decode cX1_hangsBy 142 = .ok (.aload_n 0, 1) := dk_42 (dk_at dksX1_hangsBy_5 23 rfl rfl)
theorem dX1_hangsBy_143 : decode cX1_hangsBy 143 = .ok (.aload 4, 2) := dk_25 4 (dk_at dksX1_hangsBy_6 0 rfl rfl)
theorem dX1_hangsBy_145 : decode cX1_hangsBy 145 = .ok (.iload_n 2, 1) := dk_28 (dk_at dksX1_hangsBy_6 2 rfl rfl)
theorem dX1_hangsBy_146 : decode cX1_hangsBy 146 = .ok (.iload_n 3, 1) := dk_29 (dk_at dksX1_hangsBy_6 3 rfl rfl)
theorem dX1_hangsBy_147 : decode cX1_hangsBy 147 = .ok (.iconst 1, 1) := dk_4 (dk_at dksX1_hangsBy_6 4 rfl rfl)
theorem dX1_hangsBy_148 : decode cX1_hangsBy 148 = .ok (.isub, 1) := dk_100 (dk_at dksX1_hangsBy_6 5 rfl rfl)
theorem dX1_hangsBy_149 : decode cX1_hangsBy 149 = .ok (.invokevirtual 339, 3) := dk_182 1 83 (dk_at dksX1_hangsBy_6 6 rfl rfl)
theorem dX1_hangsBy_152 : decode cX1_hangsBy 152 = .ok (.lmul, 1) := dk_105 (dk_at dksX1_hangsBy_6 9 rfl rfl)
theorem dX1_hangsBy_153 : decode cX1_hangsBy 153 = .ok (.ladd, 1) := dk_97 (dk_at dksX1_hangsBy_6 10 rfl rfl)
theorem dX1_hangsBy_154 : decode cX1_hangsBy 154 = .ok (.lstore 5, 2) := dk_55 5 (dk_at dksX1_hangsBy_6 11 rfl rfl)
theorem dX1_hangsBy_156 : decode cX1_hangsBy 156 = .ok (.iinc 7 1, 3) := dk_132 7 1 (dk_at dksX1_hangsBy_6 13 rfl rfl)
theorem dX1_hangsBy_159 : decode cX1_hangsBy 159 = .ok (.goto (-111), 3) := dk_167 255 145 (dk_at dksX1_hangsBy_6 16 rfl rfl)
theorem dX1_hangsBy_162 : decode cX1_hangsBy 162 = .ok (.lload 5, 2) := dk_22 5 (dk_at dksX1_hangsBy_6 19 rfl rfl)
theorem dX1_hangsBy_164 : decode cX1_hangsBy 164 = .ok (.lreturn, 1) := dk_173 (dk_at dksX1_hangsBy_6 21 rfl rfl)
abbrev cX1_dry : ByteArray := prog_1_method_50_code
def yX1_dry : MethodName := ⟨RX1, "dry", "(I)I"⟩
def dkwX1_dry_4 : List UInt8 := [27, 154, 0, 10, 42, 180, 1, 91, 167, 0, 11, 42, 180, 0, 81, 27, 4, 100, 46, 172]
abbrev dktX1_dry_4 : List UInt8 := dkwX1_dry_4 ++ []
def dkwX1_dry_3 : List UInt8 := [181, 1, 91, 42, 3, 3, 3, 28, 182, 1, 97, 42, 180, 1, 91, 16, 99, 164, 0, 7, 2, 167, 0, 22]
abbrev dktX1_dry_3 : List UInt8 := dkwX1_dry_3 ++ dktX1_dry_4
def dkwX1_dry_2 : List UInt8 := [28, 184, 0, 161, 181, 1, 100, 27, 3, 42, 180, 1, 100, 184, 0, 150, 154, 0, 5, 2, 172, 42, 16, 100]
abbrev dktX1_dry_2 : List UInt8 := dkwX1_dry_2 ++ dktX1_dry_3
def dkwX1_dry_1 : List UInt8 := [180, 0, 51, 180, 0, 154, 29, 46, 158, 0, 9, 28, 4, 29, 120, 128, 61, 132, 3, 1, 167, 255, 216, 42]
abbrev dktX1_dry_1 : List UInt8 := dkwX1_dry_1 ++ dktX1_dry_2
def dkwX1_dry_0 : List UInt8 := [3, 61, 3, 62, 29, 42, 182, 0, 148, 162, 0, 38, 42, 180, 0, 51, 29, 182, 0, 157, 154, 0, 21, 42]
abbrev dktX1_dry_0 : List UInt8 := dkwX1_dry_0 ++ dktX1_dry_1
theorem dksX1_dry_0 : cX1_dry.data.toList.drop 0 = dktX1_dry_0 := by decide +kernel
theorem dksX1_dry_1 : cX1_dry.data.toList.drop 24 = dktX1_dry_1 := dk_seg dksX1_dry_0 24 rfl rfl
theorem dksX1_dry_2 : cX1_dry.data.toList.drop 48 = dktX1_dry_2 := dk_seg dksX1_dry_1 24 rfl rfl
theorem dksX1_dry_3 : cX1_dry.data.toList.drop 72 = dktX1_dry_3 := dk_seg dksX1_dry_2 24 rfl rfl
theorem dksX1_dry_4 : cX1_dry.data.toList.drop 96 = dktX1_dry_4 := dk_seg dksX1_dry_3 24 rfl rfl
theorem dX1_dry_0 : decode cX1_dry 0 = .ok (.iconst 0, 1) := dk_3 (dk_at dksX1_dry_0 0 rfl rfl)
theorem dX1_dry_1 : decode cX1_dry 1 = .ok (.istore_n 2, 1) := dk_61 (dk_at dksX1_dry_0 1 rfl rfl)
theorem dX1_dry_2 : decode cX1_dry 2 = .ok (.iconst 0, 1) := dk_3 (dk_at dksX1_dry_0 2 rfl rfl)
theorem dX1_dry_3 : decode cX1_dry 3 = .ok (.istore_n 3, 1) := dk_62 (dk_at dksX1_dry_0 3 rfl rfl)
theorem dX1_dry_4 : decode cX1_dry 4 = .ok (.iload_n 3, 1) := dk_29 (dk_at dksX1_dry_0 4 rfl rfl)
theorem dX1_dry_5 : decode cX1_dry 5 = .ok (.aload_n 0, 1) := dk_42 (dk_at dksX1_dry_0 5 rfl rfl)
theorem dX1_dry_6 : decode cX1_dry 6 = .ok (.invokevirtual 148, 3) := dk_182 0 148 (dk_at dksX1_dry_0 6 rfl rfl)
theorem dX1_dry_9 : decode cX1_dry 9 = .ok (.if_icmp .ge 38, 3) := dk_162 0 38 (dk_at dksX1_dry_0 9 rfl rfl)
theorem dX1_dry_12 : decode cX1_dry 12 = .ok (.aload_n 0, 1) := dk_42 (dk_at dksX1_dry_0 12 rfl rfl)
theorem dX1_dry_13 : decode cX1_dry 13 = .ok (.getfield 51, 3) := dk_180 0 51 (dk_at dksX1_dry_0 13 rfl rfl)
theorem dX1_dry_16 : decode cX1_dry 16 = .ok (.iload_n 3, 1) := dk_29 (dk_at dksX1_dry_0 16 rfl rfl)
theorem dX1_dry_17 : decode cX1_dry 17 = .ok (.invokevirtual 157, 3) := dk_182 0 157 (dk_at dksX1_dry_0 17 rfl rfl)
theorem dX1_dry_20 : decode cX1_dry 20 = .ok (.ifCond .ne 21, 3) := dk_154 0 21 (dk_at dksX1_dry_0 20 rfl rfl)
theorem dX1_dry_23 : decode cX1_dry 23 = .ok (.aload_n 0, 1) := dk_42 (dk_at dksX1_dry_0 23 rfl rfl)
theorem dX1_dry_24 : decode cX1_dry 24 = .ok (.getfield 51, 3) := dk_180 0 51 (dk_at dksX1_dry_1 0 rfl rfl)
theorem dX1_dry_27 : decode cX1_dry 27 = .ok (.getfield 154, 3) := dk_180 0 154 (dk_at dksX1_dry_1 3 rfl rfl)
theorem dX1_dry_30 : decode cX1_dry 30 = .ok (.iload_n 3, 1) := dk_29 (dk_at dksX1_dry_1 6 rfl rfl)
theorem dX1_dry_31 : decode cX1_dry 31 = .ok (.iaload, 1) := dk_46 (dk_at dksX1_dry_1 7 rfl rfl)
theorem dX1_dry_32 : decode cX1_dry 32 = .ok (.ifCond .le 9, 3) := dk_158 0 9 (dk_at dksX1_dry_1 8 rfl rfl)
theorem dX1_dry_35 : decode cX1_dry 35 = .ok (.iload_n 2, 1) := dk_28 (dk_at dksX1_dry_1 11 rfl rfl)
theorem dX1_dry_36 : decode cX1_dry 36 = .ok (.iconst 1, 1) := dk_4 (dk_at dksX1_dry_1 12 rfl rfl)
theorem dX1_dry_37 : decode cX1_dry 37 = .ok (.iload_n 3, 1) := dk_29 (dk_at dksX1_dry_1 13 rfl rfl)
theorem dX1_dry_38 : decode cX1_dry 38 = .ok (.ishl, 1) := dk_120 (dk_at dksX1_dry_1 14 rfl rfl)
theorem dX1_dry_39 : decode cX1_dry 39 = .ok (.ior, 1) := dk_128 (dk_at dksX1_dry_1 15 rfl rfl)
theorem dX1_dry_40 : decode cX1_dry 40 = .ok (.istore_n 2, 1) := dk_61 (dk_at dksX1_dry_1 16 rfl rfl)
theorem dX1_dry_41 : decode cX1_dry 41 = .ok (.iinc 3 1, 3) := dk_132 3 1 (dk_at dksX1_dry_1 17 rfl rfl)
theorem dX1_dry_44 : decode cX1_dry 44 = .ok (.goto (-40), 3) := dk_167 255 216 (dk_at dksX1_dry_1 20 rfl rfl)
theorem dX1_dry_47 : decode cX1_dry 47 = .ok (.aload_n 0, 1) := dk_42 (dk_at dksX1_dry_1 23 rfl rfl)
theorem dX1_dry_48 : decode cX1_dry 48 = .ok (.iload_n 2, 1) := dk_28 (dk_at dksX1_dry_2 0 rfl rfl)
theorem dX1_dry_49 : decode cX1_dry 49 = .ok (.invokestatic 161, 3) := dk_184 0 161 (dk_at dksX1_dry_2 1 rfl rfl)
theorem dX1_dry_52 : decode cX1_dry 52 = .ok (.putfield 356, 3) := dk_181 1 100 (dk_at dksX1_dry_2 4 rfl rfl)
theorem dX1_dry_55 : decode cX1_dry 55 = .ok (.iload_n 1, 1) := dk_27 (dk_at dksX1_dry_2 7 rfl rfl)
theorem dX1_dry_56 : decode cX1_dry 56 = .ok (.iconst 0, 1) := dk_3 (dk_at dksX1_dry_2 8 rfl rfl)
theorem dX1_dry_57 : decode cX1_dry 57 = .ok (.aload_n 0, 1) := dk_42 (dk_at dksX1_dry_2 9 rfl rfl)
theorem dX1_dry_58 : decode cX1_dry 58 = .ok (.getfield 356, 3) := dk_180 1 100 (dk_at dksX1_dry_2 10 rfl rfl)
theorem dX1_dry_61 : decode cX1_dry 61 = .ok (.invokestatic 150, 3) := dk_184 0 150 (dk_at dksX1_dry_2 13 rfl rfl)
theorem dX1_dry_64 : decode cX1_dry 64 = .ok (.ifCond .ne 5, 3) := dk_154 0 5 (dk_at dksX1_dry_2 16 rfl rfl)
theorem dX1_dry_67 : decode cX1_dry 67 = .ok (.iconst (-1), 1) := dk_2 (dk_at dksX1_dry_2 19 rfl rfl)
theorem dX1_dry_68 : decode cX1_dry 68 = .ok (.ireturn, 1) := dk_172 (dk_at dksX1_dry_2 20 rfl rfl)
theorem dX1_dry_69 : decode cX1_dry 69 = .ok (.aload_n 0, 1) := dk_42 (dk_at dksX1_dry_2 21 rfl rfl)
theorem dX1_dry_70 : decode cX1_dry 70 = .ok (.bipush 100, 2) := dk_16 100 (dk_at dksX1_dry_2 22 rfl rfl)
theorem dX1_dry_72 : decode cX1_dry 72 = .ok (.putfield 347, 3) := dk_181 1 91 (dk_at dksX1_dry_3 0 rfl rfl)
theorem dX1_dry_75 : decode cX1_dry 75 = .ok (.aload_n 0, 1) := dk_42 (dk_at dksX1_dry_3 3 rfl rfl)
theorem dX1_dry_76 : decode cX1_dry 76 = .ok (.iconst 0, 1) := dk_3 (dk_at dksX1_dry_3 4 rfl rfl)
theorem dX1_dry_77 : decode cX1_dry 77 = .ok (.iconst 0, 1) := dk_3 (dk_at dksX1_dry_3 5 rfl rfl)
theorem dX1_dry_78 : decode cX1_dry 78 = .ok (.iconst 0, 1) := dk_3 (dk_at dksX1_dry_3 6 rfl rfl)
theorem dX1_dry_79 : decode cX1_dry 79 = .ok (.iload_n 2, 1) := dk_28 (dk_at dksX1_dry_3 7 rfl rfl)
theorem dX1_dry_80 : decode cX1_dry 80 = .ok (.invokevirtual 353, 3) := dk_182 1 97 (dk_at dksX1_dry_3 8 rfl rfl)
theorem dX1_dry_83 : decode cX1_dry 83 = .ok (.aload_n 0, 1) := dk_42 (dk_at dksX1_dry_3 11 rfl rfl)
theorem dX1_dry_84 : decode cX1_dry 84 = .ok (.getfield 347, 3) := dk_180 1 91 (dk_at dksX1_dry_3 12 rfl rfl)
theorem dX1_dry_87 : decode cX1_dry 87 = .ok (.bipush 99, 2) := dk_16 99 (dk_at dksX1_dry_3 15 rfl rfl)
theorem dX1_dry_89 : decode cX1_dry 89 = .ok (.if_icmp .le 7, 3) := dk_164 0 7 (dk_at dksX1_dry_3 17 rfl rfl)
theorem dX1_dry_92 : decode cX1_dry 92 = .ok (.iconst (-1), 1) := dk_2 (dk_at dksX1_dry_3 20 rfl rfl)
theorem dX1_dry_93 : decode cX1_dry 93 = .ok (.goto 22, 3) := dk_167 0 22 (dk_at dksX1_dry_3 21 rfl rfl)
theorem dX1_dry_96 : decode cX1_dry 96 = .ok (.iload_n 1, 1) := dk_27 (dk_at dksX1_dry_4 0 rfl rfl)
theorem dX1_dry_97 : decode cX1_dry 97 = .ok (.ifCond .ne 10, 3) := dk_154 0 10 (dk_at dksX1_dry_4 1 rfl rfl)
theorem dX1_dry_100 : decode cX1_dry 100 = .ok (.aload_n 0, 1) := dk_42 (dk_at dksX1_dry_4 4 rfl rfl)
theorem dX1_dry_101 : decode cX1_dry 101 = .ok (.getfield 347, 3) := dk_180 1 91 (dk_at dksX1_dry_4 5 rfl rfl)
theorem dX1_dry_104 : decode cX1_dry 104 = .ok (.goto 11, 3) := dk_167 0 11 (dk_at dksX1_dry_4 8 rfl rfl)
theorem dX1_dry_107 : decode cX1_dry 107 = .ok (.aload_n 0, 1) := dk_42 (dk_at dksX1_dry_4 11 rfl rfl)
theorem dX1_dry_108 : decode cX1_dry 108 = .ok (.getfield 81, 3) := dk_180 0 81 (dk_at dksX1_dry_4 12 rfl rfl)
theorem dX1_dry_111 : decode cX1_dry 111 = .ok (.iload_n 1, 1) := dk_27 (dk_at dksX1_dry_4 15 rfl rfl)
theorem dX1_dry_112 : decode cX1_dry 112 = .ok (.iconst 1, 1) := dk_4 (dk_at dksX1_dry_4 16 rfl rfl)
theorem dX1_dry_113 : decode cX1_dry 113 = .ok (.isub, 1) := dk_100 (dk_at dksX1_dry_4 17 rfl rfl)
theorem dX1_dry_114 : decode cX1_dry 114 = .ok (.iaload, 1) := dk_46 (dk_at dksX1_dry_4 18 rfl rfl)
theorem dX1_dry_115 : decode cX1_dry 115 = .ok (.ireturn, 1) := dk_172 (dk_at dksX1_dry_4 19 rfl rfl)
abbrev cX1_orders : ByteArray := prog_1_method_49_code
def yX1_orders : MethodName := ⟨RX1, "orders", "(IIII)V"⟩
def dkwX1_orders_4 : List UInt8 := [132, 5, 1, 167, 255, 193, 177]
abbrev dktX1_orders_4 : List UInt8 := dkwX1_orders_4 ++ []
def dkwX1_orders_3 : List UInt8 := [96, 28, 4, 21, 5, 120, 128, 29, 42, 21, 5, 27, 182, 1, 94, 184, 0, 7, 21, 4, 182, 1, 97]
abbrev dktX1_orders_3 : List UInt8 := dkwX1_orders_3 ++ dktX1_orders_4
def dkwX1_orders_2 : List UInt8 := [130, 126, 21, 5, 184, 0, 177, 154, 0, 6, 167, 0, 37, 42, 180, 0, 78, 27, 21, 5, 79, 42, 27, 4]
abbrev dktX1_orders_2 : List UInt8 := dkwX1_orders_2 ++ dktX1_orders_3
def dkwX1_orders_1 : List UInt8 := [42, 180, 0, 81, 184, 1, 69, 177, 3, 54, 5, 21, 5, 42, 182, 0, 148, 162, 0, 60, 21, 4, 28, 2]
abbrev dktX1_orders_1 : List UInt8 := dkwX1_orders_1 ++ dktX1_orders_2
def dkwX1_orders_0 : List UInt8 := [28, 21, 4, 160, 0, 29, 29, 42, 180, 1, 91, 161, 0, 4, 177, 42, 29, 181, 1, 91, 42, 180, 0, 78]
abbrev dktX1_orders_0 : List UInt8 := dkwX1_orders_0 ++ dktX1_orders_1
theorem dksX1_orders_0 : cX1_orders.data.toList.drop 0 = dktX1_orders_0 := by decide +kernel
theorem dksX1_orders_1 : cX1_orders.data.toList.drop 24 = dktX1_orders_1 := dk_seg dksX1_orders_0 24 rfl rfl
theorem dksX1_orders_2 : cX1_orders.data.toList.drop 48 = dktX1_orders_2 := dk_seg dksX1_orders_1 24 rfl rfl
theorem dksX1_orders_3 : cX1_orders.data.toList.drop 72 = dktX1_orders_3 := dk_seg dksX1_orders_2 24 rfl rfl
theorem dksX1_orders_4 : cX1_orders.data.toList.drop 95 = dktX1_orders_4 := dk_seg dksX1_orders_3 23 rfl rfl
theorem dX1_orders_0 : decode cX1_orders 0 = .ok (.iload_n 2, 1) := dk_28 (dk_at dksX1_orders_0 0 rfl rfl)
theorem dX1_orders_1 : decode cX1_orders 1 = .ok (.iload 4, 2) := dk_21 4 (dk_at dksX1_orders_0 1 rfl rfl)
theorem dX1_orders_3 : decode cX1_orders 3 = .ok (.if_icmp .ne 29, 3) := dk_160 0 29 (dk_at dksX1_orders_0 3 rfl rfl)
theorem dX1_orders_6 : decode cX1_orders 6 = .ok (.iload_n 3, 1) := dk_29 (dk_at dksX1_orders_0 6 rfl rfl)
theorem dX1_orders_7 : decode cX1_orders 7 = .ok (.aload_n 0, 1) := dk_42 (dk_at dksX1_orders_0 7 rfl rfl)
theorem dX1_orders_8 : decode cX1_orders 8 = .ok (.getfield 347, 3) := dk_180 1 91 (dk_at dksX1_orders_0 8 rfl rfl)
theorem dX1_orders_11 : decode cX1_orders 11 = .ok (.if_icmp .lt 4, 3) := dk_161 0 4 (dk_at dksX1_orders_0 11 rfl rfl)
theorem dX1_orders_14 : decode cX1_orders 14 = .ok (.return_, 1) := dk_177 (dk_at dksX1_orders_0 14 rfl rfl)
theorem dX1_orders_15 : decode cX1_orders 15 = .ok (.aload_n 0, 1) := dk_42 (dk_at dksX1_orders_0 15 rfl rfl)
theorem dX1_orders_16 : decode cX1_orders 16 = .ok (.iload_n 3, 1) := dk_29 (dk_at dksX1_orders_0 16 rfl rfl)
theorem dX1_orders_17 : decode cX1_orders 17 = .ok (.putfield 347, 3) := dk_181 1 91 (dk_at dksX1_orders_0 17 rfl rfl)
theorem dX1_orders_20 : decode cX1_orders 20 = .ok (.aload_n 0, 1) := dk_42 (dk_at dksX1_orders_0 20 rfl rfl)
theorem dX1_orders_21 : decode cX1_orders 21 = .ok (.getfield 78, 3) := dk_180 0 78 (dk_at dksX1_orders_0 21 rfl rfl)
theorem dX1_orders_24 : decode cX1_orders 24 = .ok (.aload_n 0, 1) := dk_42 (dk_at dksX1_orders_1 0 rfl rfl)
theorem dX1_orders_25 : decode cX1_orders 25 = .ok (.getfield 81, 3) := dk_180 0 81 (dk_at dksX1_orders_1 1 rfl rfl)
theorem dX1_orders_28 : decode cX1_orders 28 = .ok (.invokestatic 325, 3) := dk_184 1 69 (dk_at dksX1_orders_1 4 rfl rfl)
theorem dX1_orders_31 : decode cX1_orders 31 = .ok (.return_, 1) := dk_177 (dk_at dksX1_orders_1 7 rfl rfl)
theorem dX1_orders_32 : decode cX1_orders 32 = .ok (.iconst 0, 1) := dk_3 (dk_at dksX1_orders_1 8 rfl rfl)
theorem dX1_orders_33 : decode cX1_orders 33 = .ok (.istore 5, 2) := dk_54 5 (dk_at dksX1_orders_1 9 rfl rfl)
theorem dX1_orders_35 : decode cX1_orders 35 = .ok (.iload 5, 2) := dk_21 5 (dk_at dksX1_orders_1 11 rfl rfl)
theorem dX1_orders_37 : decode cX1_orders 37 = .ok (.aload_n 0, 1) := dk_42 (dk_at dksX1_orders_1 13 rfl rfl)
theorem dX1_orders_38 : decode cX1_orders 38 = .ok (.invokevirtual 148, 3) := dk_182 0 148 (dk_at dksX1_orders_1 14 rfl rfl)
theorem dX1_orders_41 : decode cX1_orders 41 = .ok (.if_icmp .ge 60, 3) := dk_162 0 60 (dk_at dksX1_orders_1 17 rfl rfl)
theorem dX1_orders_44 : decode cX1_orders 44 = .ok (.iload 4, 2) := dk_21 4 (dk_at dksX1_orders_1 20 rfl rfl)
theorem dX1_orders_46 : decode cX1_orders 46 = .ok (.iload_n 2, 1) := dk_28 (dk_at dksX1_orders_1 22 rfl rfl)
theorem dX1_orders_47 : decode cX1_orders 47 = .ok (.iconst (-1), 1) := dk_2 (dk_at dksX1_orders_1 23 rfl rfl)
theorem dX1_orders_48 : decode cX1_orders 48 = .ok (.ixor, 1) := dk_130 (dk_at dksX1_orders_2 0 rfl rfl)
theorem dX1_orders_49 : decode cX1_orders 49 = .ok (.iand, 1) := dk_126 (dk_at dksX1_orders_2 1 rfl rfl)
theorem dX1_orders_50 : decode cX1_orders 50 = .ok (.iload 5, 2) := dk_21 5 (dk_at dksX1_orders_2 2 rfl rfl)
theorem dX1_orders_52 : decode cX1_orders 52 = .ok (.invokestatic 177, 3) := dk_184 0 177 (dk_at dksX1_orders_2 4 rfl rfl)
theorem dX1_orders_55 : decode cX1_orders 55 = .ok (.ifCond .ne 6, 3) := dk_154 0 6 (dk_at dksX1_orders_2 7 rfl rfl)
theorem dX1_orders_58 : decode cX1_orders 58 = .ok (.goto 37, 3) := dk_167 0 37 (dk_at dksX1_orders_2 10 rfl rfl)
theorem dX1_orders_61 : decode cX1_orders 61 = .ok (.aload_n 0, 1) := dk_42 (dk_at dksX1_orders_2 13 rfl rfl)
theorem dX1_orders_62 : decode cX1_orders 62 = .ok (.getfield 78, 3) := dk_180 0 78 (dk_at dksX1_orders_2 14 rfl rfl)
theorem dX1_orders_65 : decode cX1_orders 65 = .ok (.iload_n 1, 1) := dk_27 (dk_at dksX1_orders_2 17 rfl rfl)
theorem dX1_orders_66 : decode cX1_orders 66 = .ok (.iload 5, 2) := dk_21 5 (dk_at dksX1_orders_2 18 rfl rfl)
theorem dX1_orders_68 : decode cX1_orders 68 = .ok (.iastore, 1) := dk_79 (dk_at dksX1_orders_2 20 rfl rfl)
theorem dX1_orders_69 : decode cX1_orders 69 = .ok (.aload_n 0, 1) := dk_42 (dk_at dksX1_orders_2 21 rfl rfl)
theorem dX1_orders_70 : decode cX1_orders 70 = .ok (.iload_n 1, 1) := dk_27 (dk_at dksX1_orders_2 22 rfl rfl)
theorem dX1_orders_71 : decode cX1_orders 71 = .ok (.iconst 1, 1) := dk_4 (dk_at dksX1_orders_2 23 rfl rfl)
theorem dX1_orders_72 : decode cX1_orders 72 = .ok (.iadd, 1) := dk_96 (dk_at dksX1_orders_3 0 rfl rfl)
theorem dX1_orders_73 : decode cX1_orders 73 = .ok (.iload_n 2, 1) := dk_28 (dk_at dksX1_orders_3 1 rfl rfl)
theorem dX1_orders_74 : decode cX1_orders 74 = .ok (.iconst 1, 1) := dk_4 (dk_at dksX1_orders_3 2 rfl rfl)
theorem dX1_orders_75 : decode cX1_orders 75 = .ok (.iload 5, 2) := dk_21 5 (dk_at dksX1_orders_3 3 rfl rfl)
theorem dX1_orders_77 : decode cX1_orders 77 = .ok (.ishl, 1) := dk_120 (dk_at dksX1_orders_3 5 rfl rfl)
theorem dX1_orders_78 : decode cX1_orders 78 = .ok (.ior, 1) := dk_128 (dk_at dksX1_orders_3 6 rfl rfl)
theorem dX1_orders_79 : decode cX1_orders 79 = .ok (.iload_n 3, 1) := dk_29 (dk_at dksX1_orders_3 7 rfl rfl)
theorem dX1_orders_80 : decode cX1_orders 80 = .ok (.aload_n 0, 1) := dk_42 (dk_at dksX1_orders_3 8 rfl rfl)
theorem dX1_orders_81 : decode cX1_orders 81 = .ok (.iload 5, 2) := dk_21 5 (dk_at dksX1_orders_3 9 rfl rfl)
theorem dX1_orders_83 : decode cX1_orders 83 = .ok (.iload_n 1, 1) := dk_27 (dk_at dksX1_orders_3 11 rfl rfl)
theorem dX1_orders_84 : decode cX1_orders 84 = .ok (.invokevirtual 350, 3) := dk_182 1 94 (dk_at dksX1_orders_3 12 rfl rfl)
theorem dX1_orders_87 : decode cX1_orders 87 = .ok (.invokestatic 7, 3) := dk_184 0 7 (dk_at dksX1_orders_3 15 rfl rfl)
theorem dX1_orders_90 : decode cX1_orders 90 = .ok (.iload 4, 2) := dk_21 4 (dk_at dksX1_orders_3 18 rfl rfl)
theorem dX1_orders_92 : decode cX1_orders 92 = .ok (.invokevirtual 353, 3) := dk_182 1 97 (dk_at dksX1_orders_3 20 rfl rfl)
theorem dX1_orders_95 : decode cX1_orders 95 = .ok (.iinc 5 1, 3) := dk_132 5 1 (dk_at dksX1_orders_4 0 rfl rfl)
theorem dX1_orders_98 : decode cX1_orders 98 = .ok (.goto (-63), 3) := dk_167 255 193 (dk_at dksX1_orders_4 3 rfl rfl)
theorem dX1_orders_101 : decode cX1_orders 101 = .ok (.return_, 1) := dk_177 (dk_at dksX1_orders_4 6 rfl rfl)
abbrev cX1_dryBy : ByteArray := prog_1_method_48_code
def yX1_dryBy : MethodName := ⟨RX1, "dryBy", "(II)I"⟩
def dkwX1_dryBy_2 : List UInt8 := [158, 0, 8, 16, 100, 167, 0, 5, 21, 4, 172]
abbrev dktX1_dryBy_2 : List UInt8 := dkwX1_dryBy_2 ++ []
def dkwX1_dryBy_1 : List UInt8 := [42, 180, 0, 51, 180, 0, 244, 21, 4, 96, 182, 0, 247, 182, 0, 241, 62, 132, 4, 1, 167, 255, 218, 29]
abbrev dktX1_dryBy_1 : List UInt8 := dkwX1_dryBy_1 ++ dktX1_dryBy_2
def dkwX1_dryBy_0 : List UInt8 := [16, 9, 62, 28, 54, 4, 29, 158, 0, 40, 21, 4, 16, 99, 163, 0, 33, 42, 27, 29, 42, 180, 0, 35]
abbrev dktX1_dryBy_0 : List UInt8 := dkwX1_dryBy_0 ++ dktX1_dryBy_1
theorem dksX1_dryBy_0 : cX1_dryBy.data.toList.drop 0 = dktX1_dryBy_0 := by decide +kernel
theorem dksX1_dryBy_1 : cX1_dryBy.data.toList.drop 24 = dktX1_dryBy_1 := dk_seg dksX1_dryBy_0 24 rfl rfl
theorem dksX1_dryBy_2 : cX1_dryBy.data.toList.drop 48 = dktX1_dryBy_2 := dk_seg dksX1_dryBy_1 24 rfl rfl
theorem dX1_dryBy_0 : decode cX1_dryBy 0 = .ok (.bipush 9, 2) := dk_16 9 (dk_at dksX1_dryBy_0 0 rfl rfl)
theorem dX1_dryBy_2 : decode cX1_dryBy 2 = .ok (.istore_n 3, 1) := dk_62 (dk_at dksX1_dryBy_0 2 rfl rfl)
theorem dX1_dryBy_3 : decode cX1_dryBy 3 = .ok (.iload_n 2, 1) := dk_28 (dk_at dksX1_dryBy_0 3 rfl rfl)
theorem dX1_dryBy_4 : decode cX1_dryBy 4 = .ok (.istore 4, 2) := dk_54 4 (dk_at dksX1_dryBy_0 4 rfl rfl)
theorem dX1_dryBy_6 : decode cX1_dryBy 6 = .ok (.iload_n 3, 1) := dk_29 (dk_at dksX1_dryBy_0 6 rfl rfl)
theorem dX1_dryBy_7 : decode cX1_dryBy 7 = .ok (.ifCond .le 40, 3) := dk_158 0 40 (dk_at dksX1_dryBy_0 7 rfl rfl)
theorem dX1_dryBy_10 : decode cX1_dryBy 10 = .ok (.iload 4, 2) := dk_21 4 (dk_at dksX1_dryBy_0 10 rfl rfl)
theorem dX1_dryBy_12 : decode cX1_dryBy 12 = .ok (.bipush 99, 2) := dk_16 99 (dk_at dksX1_dryBy_0 12 rfl rfl)
theorem dX1_dryBy_14 : decode cX1_dryBy 14 = .ok (.if_icmp .gt 33, 3) := dk_163 0 33 (dk_at dksX1_dryBy_0 14 rfl rfl)
theorem dX1_dryBy_17 : decode cX1_dryBy 17 = .ok (.aload_n 0, 1) := dk_42 (dk_at dksX1_dryBy_0 17 rfl rfl)
theorem dX1_dryBy_18 : decode cX1_dryBy 18 = .ok (.iload_n 1, 1) := dk_27 (dk_at dksX1_dryBy_0 18 rfl rfl)
theorem dX1_dryBy_19 : decode cX1_dryBy 19 = .ok (.iload_n 3, 1) := dk_29 (dk_at dksX1_dryBy_0 19 rfl rfl)
theorem dX1_dryBy_20 : decode cX1_dryBy 20 = .ok (.aload_n 0, 1) := dk_42 (dk_at dksX1_dryBy_0 20 rfl rfl)
theorem dX1_dryBy_21 : decode cX1_dryBy 21 = .ok (.getfield 35, 3) := dk_180 0 35 (dk_at dksX1_dryBy_0 21 rfl rfl)
theorem dX1_dryBy_24 : decode cX1_dryBy 24 = .ok (.aload_n 0, 1) := dk_42 (dk_at dksX1_dryBy_1 0 rfl rfl)
theorem dX1_dryBy_25 : decode cX1_dryBy 25 = .ok (.getfield 51, 3) := dk_180 0 51 (dk_at dksX1_dryBy_1 1 rfl rfl)
theorem dX1_dryBy_28 : decode cX1_dryBy 28 = .ok (.getfield 244, 3) := dk_180 0 244 (dk_at dksX1_dryBy_1 4 rfl rfl)
theorem dX1_dryBy_31 : decode cX1_dryBy 31 = .ok (.iload 4, 2) := dk_21 4 (dk_at dksX1_dryBy_1 7 rfl rfl)
theorem dX1_dryBy_33 : decode cX1_dryBy 33 = .ok (.iadd, 1) := dk_96 (dk_at dksX1_dryBy_1 9 rfl rfl)
theorem dX1_dryBy_34 : decode cX1_dryBy 34 = .ok (.invokevirtual 247, 3) := dk_182 0 247 (dk_at dksX1_dryBy_1 10 rfl rfl)
theorem dX1_dryBy_37 : decode cX1_dryBy 37 = .ok (.invokevirtual 241, 3) := dk_182 0 241 (dk_at dksX1_dryBy_1 13 rfl rfl)
theorem dX1_dryBy_40 : decode cX1_dryBy 40 = .ok (.istore_n 3, 1) := dk_62 (dk_at dksX1_dryBy_1 16 rfl rfl)
theorem dX1_dryBy_41 : decode cX1_dryBy 41 = .ok (.iinc 4 1, 3) := dk_132 4 1 (dk_at dksX1_dryBy_1 17 rfl rfl)
theorem dX1_dryBy_44 : decode cX1_dryBy 44 = .ok (.goto (-38), 3) := dk_167 255 218 (dk_at dksX1_dryBy_1 20 rfl rfl)
theorem dX1_dryBy_47 : decode cX1_dryBy 47 = .ok (.iload_n 3, 1) := dk_29 (dk_at dksX1_dryBy_1 23 rfl rfl)
theorem dX1_dryBy_48 : decode cX1_dryBy 48 = .ok (.ifCond .le 8, 3) := dk_158 0 8 (dk_at dksX1_dryBy_2 0 rfl rfl)
theorem dX1_dryBy_51 : decode cX1_dryBy 51 = .ok (.bipush 100, 2) := dk_16 100 (dk_at dksX1_dryBy_2 3 rfl rfl)
theorem dX1_dryBy_53 : decode cX1_dryBy 53 = .ok (.goto 5, 3) := dk_167 0 5 (dk_at dksX1_dryBy_2 5 rfl rfl)
theorem dX1_dryBy_56 : decode cX1_dryBy 56 = .ok (.iload 4, 2) := dk_21 4 (dk_at dksX1_dryBy_2 8 rfl rfl)
theorem dX1_dryBy_58 : decode cX1_dryBy 58 = .ok (.ireturn, 1) := dk_172 (dk_at dksX1_dryBy_2 10 rfl rfl)
abbrev cX1_feel : ByteArray := prog_1_method_51_code
def yX1_feel : MethodName := ⟨RX1, "feel", "(III)Z"⟩
def dkwX1_feel_3 : List UInt8 := [90, 4, 96, 181, 0, 125, 29, 79, 4, 172]
abbrev dktX1_feel_3 : List UInt8 := dkwX1_feel_3 ++ []
def dkwX1_feel_2 : List UInt8 := [180, 0, 125, 27, 79, 42, 180, 0, 87, 42, 180, 0, 125, 28, 79, 42, 180, 0, 90, 42, 89, 180, 0, 125]
abbrev dktX1_feel_2 : List UInt8 := dkwX1_feel_2 ++ dktX1_feel_3
def dkwX1_feel_1 : List UInt8 := [184, 0, 150, 153, 0, 12, 42, 180, 0, 125, 16, 8, 160, 0, 5, 3, 172, 42, 180, 0, 84, 42]
abbrev dktX1_feel_1 : List UInt8 := dkwX1_feel_1 ++ dktX1_feel_2
def dkwX1_feel_0 : List UInt8 := [42, 27, 182, 0, 254, 153, 0, 32, 28, 3, 16, 12, 184, 0, 150, 153, 0, 22, 29, 3, 16, 9]
abbrev dktX1_feel_0 : List UInt8 := dkwX1_feel_0 ++ dktX1_feel_1
theorem dksX1_feel_0 : cX1_feel.data.toList.drop 0 = dktX1_feel_0 := by decide +kernel
theorem dksX1_feel_1 : cX1_feel.data.toList.drop 22 = dktX1_feel_1 := dk_seg dksX1_feel_0 22 rfl rfl
theorem dksX1_feel_2 : cX1_feel.data.toList.drop 44 = dktX1_feel_2 := dk_seg dksX1_feel_1 22 rfl rfl
theorem dksX1_feel_3 : cX1_feel.data.toList.drop 68 = dktX1_feel_3 := dk_seg dksX1_feel_2 24 rfl rfl
theorem dX1_feel_0 : decode cX1_feel 0 = .ok (.aload_n 0, 1) := dk_42 (dk_at dksX1_feel_0 0 rfl rfl)
theorem dX1_feel_1 : decode cX1_feel 1 = .ok (.iload_n 1, 1) := dk_27 (dk_at dksX1_feel_0 1 rfl rfl)
theorem dX1_feel_2 : decode cX1_feel 2 = .ok (.invokevirtual 254, 3) := dk_182 0 254 (dk_at dksX1_feel_0 2 rfl rfl)
theorem dX1_feel_5 : decode cX1_feel 5 = .ok (.ifCond .eq 32, 3) := dk_153 0 32 (dk_at dksX1_feel_0 5 rfl rfl)
theorem dX1_feel_8 : decode cX1_feel 8 = .ok (.iload_n 2, 1) := dk_28 (dk_at dksX1_feel_0 8 rfl rfl)
theorem dX1_feel_9 : decode cX1_feel 9 = .ok (.iconst 0, 1) := dk_3 (dk_at dksX1_feel_0 9 rfl rfl)
theorem dX1_feel_10 : decode cX1_feel 10 = .ok (.bipush 12, 2) := dk_16 12 (dk_at dksX1_feel_0 10 rfl rfl)
theorem dX1_feel_12 : decode cX1_feel 12 = .ok (.invokestatic 150, 3) := dk_184 0 150 (dk_at dksX1_feel_0 12 rfl rfl)
theorem dX1_feel_15 : decode cX1_feel 15 = .ok (.ifCond .eq 22, 3) := dk_153 0 22 (dk_at dksX1_feel_0 15 rfl rfl)
theorem dX1_feel_18 : decode cX1_feel 18 = .ok (.iload_n 3, 1) := dk_29 (dk_at dksX1_feel_0 18 rfl rfl)
theorem dX1_feel_19 : decode cX1_feel 19 = .ok (.iconst 0, 1) := dk_3 (dk_at dksX1_feel_0 19 rfl rfl)
theorem dX1_feel_20 : decode cX1_feel 20 = .ok (.bipush 9, 2) := dk_16 9 (dk_at dksX1_feel_0 20 rfl rfl)
theorem dX1_feel_22 : decode cX1_feel 22 = .ok (.invokestatic 150, 3) := dk_184 0 150 (dk_at dksX1_feel_1 0 rfl rfl)
theorem dX1_feel_25 : decode cX1_feel 25 = .ok (.ifCond .eq 12, 3) := dk_153 0 12 (dk_at dksX1_feel_1 3 rfl rfl)
theorem dX1_feel_28 : decode cX1_feel 28 = .ok (.aload_n 0, 1) := dk_42 (dk_at dksX1_feel_1 6 rfl rfl)
theorem dX1_feel_29 : decode cX1_feel 29 = .ok (.getfield 125, 3) := dk_180 0 125 (dk_at dksX1_feel_1 7 rfl rfl)
theorem dX1_feel_32 : decode cX1_feel 32 = .ok (.bipush 8, 2) := dk_16 8 (dk_at dksX1_feel_1 10 rfl rfl)
theorem dX1_feel_34 : decode cX1_feel 34 = .ok (.if_icmp .ne 5, 3) := dk_160 0 5 (dk_at dksX1_feel_1 12 rfl rfl)
theorem dX1_feel_37 : decode cX1_feel 37 = .ok (.iconst 0, 1) := dk_3 (dk_at dksX1_feel_1 15 rfl rfl)
theorem dX1_feel_38 : decode cX1_feel 38 = .ok (.ireturn, 1) := dk_172 (dk_at dksX1_feel_1 16 rfl rfl)
theorem dX1_feel_39 : decode cX1_feel 39 = .ok (.aload_n 0, 1) := dk_42 (dk_at dksX1_feel_1 17 rfl rfl)
theorem dX1_feel_40 : decode cX1_feel 40 = .ok (.getfield 84, 3) := dk_180 0 84 (dk_at dksX1_feel_1 18 rfl rfl)
theorem dX1_feel_43 : decode cX1_feel 43 = .ok (.aload_n 0, 1) := dk_42 (dk_at dksX1_feel_1 21 rfl rfl)
theorem dX1_feel_44 : decode cX1_feel 44 = .ok (.getfield 125, 3) := dk_180 0 125 (dk_at dksX1_feel_2 0 rfl rfl)
theorem dX1_feel_47 : decode cX1_feel 47 = .ok (.iload_n 1, 1) := dk_27 (dk_at dksX1_feel_2 3 rfl rfl)
theorem dX1_feel_48 : decode cX1_feel 48 = .ok (.iastore, 1) := dk_79 (dk_at dksX1_feel_2 4 rfl rfl)
theorem dX1_feel_49 : decode cX1_feel 49 = .ok (.aload_n 0, 1) := dk_42 (dk_at dksX1_feel_2 5 rfl rfl)
theorem dX1_feel_50 : decode cX1_feel 50 = .ok (.getfield 87, 3) := dk_180 0 87 (dk_at dksX1_feel_2 6 rfl rfl)
theorem dX1_feel_53 : decode cX1_feel 53 = .ok (.aload_n 0, 1) := dk_42 (dk_at dksX1_feel_2 9 rfl rfl)
theorem dX1_feel_54 : decode cX1_feel 54 = .ok (.getfield 125, 3) := dk_180 0 125 (dk_at dksX1_feel_2 10 rfl rfl)
theorem dX1_feel_57 : decode cX1_feel 57 = .ok (.iload_n 2, 1) := dk_28 (dk_at dksX1_feel_2 13 rfl rfl)
theorem dX1_feel_58 : decode cX1_feel 58 = .ok (.iastore, 1) := dk_79 (dk_at dksX1_feel_2 14 rfl rfl)
theorem dX1_feel_59 : decode cX1_feel 59 = .ok (.aload_n 0, 1) := dk_42 (dk_at dksX1_feel_2 15 rfl rfl)
theorem dX1_feel_60 : decode cX1_feel 60 = .ok (.getfield 90, 3) := dk_180 0 90 (dk_at dksX1_feel_2 16 rfl rfl)
theorem dX1_feel_63 : decode cX1_feel 63 = .ok (.aload_n 0, 1) := dk_42 (dk_at dksX1_feel_2 19 rfl rfl)
theorem dX1_feel_64 : decode cX1_feel 64 = .ok (.dup, 1) := dk_89 (dk_at dksX1_feel_2 20 rfl rfl)
theorem dX1_feel_65 : decode cX1_feel 65 = .ok (.getfield 125, 3) := dk_180 0 125 (dk_at dksX1_feel_2 21 rfl rfl)
theorem dX1_feel_68 : decode cX1_feel 68 = .ok (.dup_x1, 1) := dk_90 (dk_at dksX1_feel_3 0 rfl rfl)
theorem dX1_feel_69 : decode cX1_feel 69 = .ok (.iconst 1, 1) := dk_4 (dk_at dksX1_feel_3 1 rfl rfl)
theorem dX1_feel_70 : decode cX1_feel 70 = .ok (.iadd, 1) := dk_96 (dk_at dksX1_feel_3 2 rfl rfl)
theorem dX1_feel_71 : decode cX1_feel 71 = .ok (.putfield 125, 3) := dk_181 0 125 (dk_at dksX1_feel_3 3 rfl rfl)
theorem dX1_feel_74 : decode cX1_feel 74 = .ok (.iload_n 3, 1) := dk_29 (dk_at dksX1_feel_3 6 rfl rfl)
theorem dX1_feel_75 : decode cX1_feel 75 = .ok (.iastore, 1) := dk_79 (dk_at dksX1_feel_3 7 rfl rfl)
theorem dX1_feel_76 : decode cX1_feel 76 = .ok (.iconst 1, 1) := dk_4 (dk_at dksX1_feel_3 8 rfl rfl)
theorem dX1_feel_77 : decode cX1_feel 77 = .ok (.ireturn, 1) := dk_172 (dk_at dksX1_feel_3 9 rfl rfl)
abbrev cX1_starts : ByteArray := prog_1_method_53_code
def yX1_starts : MethodName := ⟨RX1, "starts", "()I"⟩
def dkwX1_starts_4 : List UInt8 := [172]
abbrev dktX1_starts_4 : List UInt8 := dkwX1_starts_4 ++ []
def dkwX1_starts_3 : List UInt8 := [62, 132, 4, 1, 167, 255, 205, 29, 153, 0, 9, 27, 4, 28, 120, 128, 60, 132, 2, 1, 167, 255, 169, 27]
abbrev dktX1_starts_3 : List UInt8 := dkwX1_starts_3 ++ dktX1_starts_4
def dkwX1_starts_2 : List UInt8 := [180, 0, 87, 21, 4, 46, 182, 1, 106, 42, 180, 0, 90, 21, 4, 46, 160, 0, 7, 4, 167, 0, 4, 3]
abbrev dktX1_starts_2 : List UInt8 := dkwX1_starts_2 ++ dktX1_starts_3
def dkwX1_starts_1 : List UInt8 := [21, 4, 42, 180, 0, 125, 162, 0, 48, 29, 153, 0, 44, 42, 42, 180, 0, 84, 21, 4, 46, 28, 42]
abbrev dktX1_starts_1 : List UInt8 := dkwX1_starts_1 ++ dktX1_starts_2
def dkwX1_starts_0 : List UInt8 := [3, 60, 3, 61, 28, 4, 42, 180, 0, 35, 180, 1, 103, 184, 0, 7, 162, 0, 78, 4, 62, 3, 54, 4]
abbrev dktX1_starts_0 : List UInt8 := dkwX1_starts_0 ++ dktX1_starts_1
theorem dksX1_starts_0 : cX1_starts.data.toList.drop 0 = dktX1_starts_0 := by decide +kernel
theorem dksX1_starts_1 : cX1_starts.data.toList.drop 24 = dktX1_starts_1 := dk_seg dksX1_starts_0 24 rfl rfl
theorem dksX1_starts_2 : cX1_starts.data.toList.drop 47 = dktX1_starts_2 := dk_seg dksX1_starts_1 23 rfl rfl
theorem dksX1_starts_3 : cX1_starts.data.toList.drop 71 = dktX1_starts_3 := dk_seg dksX1_starts_2 24 rfl rfl
theorem dksX1_starts_4 : cX1_starts.data.toList.drop 95 = dktX1_starts_4 := dk_seg dksX1_starts_3 24 rfl rfl
theorem dX1_starts_0 : decode cX1_starts 0 = .ok (.iconst 0, 1) := dk_3 (dk_at dksX1_starts_0 0 rfl rfl)
theorem dX1_starts_1 : decode cX1_starts 1 = .ok (.istore_n 1, 1) := dk_60 (dk_at dksX1_starts_0 1 rfl rfl)
theorem dX1_starts_2 : decode cX1_starts 2 = .ok (.iconst 0, 1) := dk_3 (dk_at dksX1_starts_0 2 rfl rfl)
theorem dX1_starts_3 : decode cX1_starts 3 = .ok (.istore_n 2, 1) := dk_61 (dk_at dksX1_starts_0 3 rfl rfl)
theorem dX1_starts_4 : decode cX1_starts 4 = .ok (.iload_n 2, 1) := dk_28 (dk_at dksX1_starts_0 4 rfl rfl)
theorem dX1_starts_5 : decode cX1_starts 5 = .ok (.iconst 1, 1) := dk_4 (dk_at dksX1_starts_0 5 rfl rfl)
theorem dX1_starts_6 : decode cX1_starts 6 = .ok (.aload_n 0, 1) := dk_42 (dk_at dksX1_starts_0 6 rfl rfl)
theorem dX1_starts_7 : decode cX1_starts 7 = .ok (.getfield 35, 3) := dk_180 0 35 (dk_at dksX1_starts_0 7 rfl rfl)
theorem dX1_starts_10 : decode cX1_starts 10 = .ok (.getfield 359, 3) := dk_180 1 103 (dk_at dksX1_starts_0 10 rfl rfl)
theorem dX1_starts_13 : decode cX1_starts 13 = .ok (.invokestatic 7, 3) := dk_184 0 7 (dk_at dksX1_starts_0 13 rfl rfl)
theorem dX1_starts_16 : decode cX1_starts 16 = .ok (.if_icmp .ge 78, 3) := dk_162 0 78 (dk_at dksX1_starts_0 16 rfl rfl)
theorem dX1_starts_19 : decode cX1_starts 19 = .ok (.iconst 1, 1) := dk_4 (dk_at dksX1_starts_0 19 rfl rfl)
theorem dX1_starts_20 : decode cX1_starts 20 = .ok (.istore_n 3, 1) := dk_62 (dk_at dksX1_starts_0 20 rfl rfl)
theorem dX1_starts_21 : decode cX1_starts 21 = .ok (.iconst 0, 1) := dk_3 (dk_at dksX1_starts_0 21 rfl rfl)
theorem dX1_starts_22 : decode cX1_starts 22 = .ok (.istore 4, 2) := dk_54 4 (dk_at dksX1_starts_0 22 rfl rfl)
theorem dX1_starts_24 : decode cX1_starts 24 = .ok (.iload 4, 2) := dk_21 4 (dk_at dksX1_starts_1 0 rfl rfl)
theorem dX1_starts_26 : decode cX1_starts 26 = .ok (.aload_n 0, 1) := dk_42 (dk_at dksX1_starts_1 2 rfl rfl)
theorem dX1_starts_27 : decode cX1_starts 27 = .ok (.getfield 125, 3) := dk_180 0 125 (dk_at dksX1_starts_1 3 rfl rfl)
theorem dX1_starts_30 : decode cX1_starts 30 = .ok (.if_icmp .ge 48, 3) := dk_162 0 48 (dk_at dksX1_starts_1 6 rfl rfl)
theorem dX1_starts_33 : decode cX1_starts 33 = .ok (.iload_n 3, 1) := dk_29 (dk_at dksX1_starts_1 9 rfl rfl)
theorem dX1_starts_34 : decode cX1_starts 34 = .ok (.ifCond .eq 44, 3) := dk_153 0 44 (dk_at dksX1_starts_1 10 rfl rfl)
theorem dX1_starts_37 : decode cX1_starts 37 = .ok (.aload_n 0, 1) := dk_42 (dk_at dksX1_starts_1 13 rfl rfl)
theorem dX1_starts_38 : decode cX1_starts 38 = .ok (.aload_n 0, 1) := dk_42 (dk_at dksX1_starts_1 14 rfl rfl)
theorem dX1_starts_39 : decode cX1_starts 39 = .ok (.getfield 84, 3) := dk_180 0 84 (dk_at dksX1_starts_1 15 rfl rfl)
theorem dX1_starts_42 : decode cX1_starts 42 = .ok (.iload 4, 2) := dk_21 4 (dk_at dksX1_starts_1 18 rfl rfl)
theorem dX1_starts_44 : decode cX1_starts 44 = .ok (.iaload, 1) := dk_46 (dk_at dksX1_starts_1 20 rfl rfl)
theorem dX1_starts_45 : decode cX1_starts 45 = .ok (.iload_n 2, 1) := dk_28 (dk_at dksX1_starts_1 21 rfl rfl)
theorem dX1_starts_46 : decode cX1_starts 46 = .ok (.aload_n 0, 1) := dk_42 (dk_at dksX1_starts_1 22 rfl rfl)
theorem dX1_starts_47 : decode cX1_starts 47 = .ok (.getfield 87, 3) := dk_180 0 87 (dk_at dksX1_starts_2 0 rfl rfl)
theorem dX1_starts_50 : decode cX1_starts 50 = .ok (.iload 4, 2) := dk_21 4 (dk_at dksX1_starts_2 3 rfl rfl)
theorem dX1_starts_52 : decode cX1_starts 52 = .ok (.iaload, 1) := dk_46 (dk_at dksX1_starts_2 5 rfl rfl)
theorem dX1_starts_53 : decode cX1_starts 53 = .ok (.invokevirtual 362, 3) := dk_182 1 106 (dk_at dksX1_starts_2 6 rfl rfl)
theorem dX1_starts_56 : decode cX1_starts 56 = .ok (.aload_n 0, 1) := dk_42 (dk_at dksX1_starts_2 9 rfl rfl)
theorem dX1_starts_57 : decode cX1_starts 57 = .ok (.getfield 90, 3) := dk_180 0 90 (dk_at dksX1_starts_2 10 rfl rfl)
theorem dX1_starts_60 : decode cX1_starts 60 = .ok (.iload 4, 2) := dk_21 4 (dk_at dksX1_starts_2 13 rfl rfl)
theorem dX1_starts_62 : decode cX1_starts 62 = .ok (.iaload, 1) := dk_46 (dk_at dksX1_starts_2 15 rfl rfl)
theorem dX1_starts_63 : decode cX1_starts 63 = .ok (.if_icmp .ne 7, 3) := dk_160 0 7 (dk_at dksX1_starts_2 16 rfl rfl)
theorem dX1_starts_66 : decode cX1_starts 66 = .ok (.iconst 1, 1) := dk_4 (dk_at dksX1_starts_2 19 rfl rfl)
theorem dX1_starts_67 : decode cX1_starts 67 = .ok (.goto 4, 3) := dk_167 0 4 (dk_at dksX1_starts_2 20 rfl rfl)
theorem dX1_starts_70 : decode cX1_starts 70 = .ok (.iconst 0, 1) := dk_3 (dk_at dksX1_starts_2 23 rfl rfl)
theorem dX1_starts_71 : decode cX1_starts 71 = .ok (.istore_n 3, 1) := dk_62 (dk_at dksX1_starts_3 0 rfl rfl)
theorem dX1_starts_72 : decode cX1_starts 72 = .ok (.iinc 4 1, 3) := dk_132 4 1 (dk_at dksX1_starts_3 1 rfl rfl)
theorem dX1_starts_75 : decode cX1_starts 75 = .ok (.goto (-51), 3) := dk_167 255 205 (dk_at dksX1_starts_3 4 rfl rfl)
theorem dX1_starts_78 : decode cX1_starts 78 = .ok (.iload_n 3, 1) := dk_29 (dk_at dksX1_starts_3 7 rfl rfl)
theorem dX1_starts_79 : decode cX1_starts 79 = .ok (.ifCond .eq 9, 3) := dk_153 0 9 (dk_at dksX1_starts_3 8 rfl rfl)
theorem dX1_starts_82 : decode cX1_starts 82 = .ok (.iload_n 1, 1) := dk_27 (dk_at dksX1_starts_3 11 rfl rfl)
theorem dX1_starts_83 : decode cX1_starts 83 = .ok (.iconst 1, 1) := dk_4 (dk_at dksX1_starts_3 12 rfl rfl)
theorem dX1_starts_84 : decode cX1_starts 84 = .ok (.iload_n 2, 1) := dk_28 (dk_at dksX1_starts_3 13 rfl rfl)
theorem dX1_starts_85 : decode cX1_starts 85 = .ok (.ishl, 1) := dk_120 (dk_at dksX1_starts_3 14 rfl rfl)
theorem dX1_starts_86 : decode cX1_starts 86 = .ok (.ior, 1) := dk_128 (dk_at dksX1_starts_3 15 rfl rfl)
theorem dX1_starts_87 : decode cX1_starts 87 = .ok (.istore_n 1, 1) := dk_60 (dk_at dksX1_starts_3 16 rfl rfl)
theorem dX1_starts_88 : decode cX1_starts 88 = .ok (.iinc 2 1, 3) := dk_132 2 1 (dk_at dksX1_starts_3 17 rfl rfl)
theorem dX1_starts_91 : decode cX1_starts 91 = .ok (.goto (-87), 3) := dk_167 255 169 (dk_at dksX1_starts_3 20 rfl rfl)
theorem dX1_starts_94 : decode cX1_starts 94 = .ok (.iload_n 1, 1) := dk_27 (dk_at dksX1_starts_3 23 rfl rfl)
theorem dX1_starts_95 : decode cX1_starts 95 = .ok (.ireturn, 1) := dk_172 (dk_at dksX1_starts_4 0 rfl rfl)
abbrev cX1_wetBy : ByteArray := prog_1_method_52_code
def yX1_wetBy : MethodName := ⟨RX1, "wetBy", "(III)I"⟩
def dkwX1_wetBy_1 : List UInt8 := [96, 182, 0, 247, 182, 0, 241, 54, 4, 132, 5, 1, 167, 255, 227, 21, 4, 172]
abbrev dktX1_wetBy_1 : List UInt8 := dkwX1_wetBy_1 ++ []
def dkwX1_wetBy_0 : List UInt8 := [16, 9, 54, 4, 3, 54, 5, 21, 5, 29, 162, 0, 29, 42, 27, 21, 4, 42, 180, 0, 35, 28, 21, 5]
abbrev dktX1_wetBy_0 : List UInt8 := dkwX1_wetBy_0 ++ dktX1_wetBy_1
theorem dksX1_wetBy_0 : cX1_wetBy.data.toList.drop 0 = dktX1_wetBy_0 := by decide +kernel
theorem dksX1_wetBy_1 : cX1_wetBy.data.toList.drop 24 = dktX1_wetBy_1 := dk_seg dksX1_wetBy_0 24 rfl rfl
theorem dX1_wetBy_0 : decode cX1_wetBy 0 = .ok (.bipush 9, 2) := dk_16 9 (dk_at dksX1_wetBy_0 0 rfl rfl)
theorem dX1_wetBy_2 : decode cX1_wetBy 2 = .ok (.istore 4, 2) := dk_54 4 (dk_at dksX1_wetBy_0 2 rfl rfl)
theorem dX1_wetBy_4 : decode cX1_wetBy 4 = .ok (.iconst 0, 1) := dk_3 (dk_at dksX1_wetBy_0 4 rfl rfl)
theorem dX1_wetBy_5 : decode cX1_wetBy 5 = .ok (.istore 5, 2) := dk_54 5 (dk_at dksX1_wetBy_0 5 rfl rfl)
theorem dX1_wetBy_7 : decode cX1_wetBy 7 = .ok (.iload 5, 2) := dk_21 5 (dk_at dksX1_wetBy_0 7 rfl rfl)
theorem dX1_wetBy_9 : decode cX1_wetBy 9 = .ok (.iload_n 3, 1) := dk_29 (dk_at dksX1_wetBy_0 9 rfl rfl)
theorem dX1_wetBy_10 : decode cX1_wetBy 10 = .ok (.if_icmp .ge 29, 3) := dk_162 0 29 (dk_at dksX1_wetBy_0 10 rfl rfl)
theorem dX1_wetBy_13 : decode cX1_wetBy 13 = .ok (.aload_n 0, 1) := dk_42 (dk_at dksX1_wetBy_0 13 rfl rfl)
theorem dX1_wetBy_14 : decode cX1_wetBy 14 = .ok (.iload_n 1, 1) := dk_27 (dk_at dksX1_wetBy_0 14 rfl rfl)
theorem dX1_wetBy_15 : decode cX1_wetBy 15 = .ok (.iload 4, 2) := dk_21 4 (dk_at dksX1_wetBy_0 15 rfl rfl)
theorem dX1_wetBy_17 : decode cX1_wetBy 17 = .ok (.aload_n 0, 1) := dk_42 (dk_at dksX1_wetBy_0 17 rfl rfl)
theorem dX1_wetBy_18 : decode cX1_wetBy 18 = .ok (.getfield 35, 3) := dk_180 0 35 (dk_at dksX1_wetBy_0 18 rfl rfl)
theorem dX1_wetBy_21 : decode cX1_wetBy 21 = .ok (.iload_n 2, 1) := dk_28 (dk_at dksX1_wetBy_0 21 rfl rfl)
theorem dX1_wetBy_22 : decode cX1_wetBy 22 = .ok (.iload 5, 2) := dk_21 5 (dk_at dksX1_wetBy_0 22 rfl rfl)
theorem dX1_wetBy_24 : decode cX1_wetBy 24 = .ok (.iadd, 1) := dk_96 (dk_at dksX1_wetBy_1 0 rfl rfl)
theorem dX1_wetBy_25 : decode cX1_wetBy 25 = .ok (.invokevirtual 247, 3) := dk_182 0 247 (dk_at dksX1_wetBy_1 1 rfl rfl)
theorem dX1_wetBy_28 : decode cX1_wetBy 28 = .ok (.invokevirtual 241, 3) := dk_182 0 241 (dk_at dksX1_wetBy_1 4 rfl rfl)
theorem dX1_wetBy_31 : decode cX1_wetBy 31 = .ok (.istore 4, 2) := dk_54 4 (dk_at dksX1_wetBy_1 7 rfl rfl)
theorem dX1_wetBy_33 : decode cX1_wetBy 33 = .ok (.iinc 5 1, 3) := dk_132 5 1 (dk_at dksX1_wetBy_1 9 rfl rfl)
theorem dX1_wetBy_36 : decode cX1_wetBy 36 = .ok (.goto (-29), 3) := dk_167 255 227 (dk_at dksX1_wetBy_1 12 rfl rfl)
theorem dX1_wetBy_39 : decode cX1_wetBy 39 = .ok (.iload 4, 2) := dk_21 4 (dk_at dksX1_wetBy_1 15 rfl rfl)
theorem dX1_wetBy_41 : decode cX1_wetBy 41 = .ok (.ireturn, 1) := dk_172 (dk_at dksX1_wetBy_1 17 rfl rfl)
abbrev cX1_ask : ByteArray := prog_1_method_55_code
def yX1_ask : MethodName := ⟨RX1, "ask", "(I)I"⟩
def dkwX1_ask_2 : List UInt8 := [161, 0, 6, 167, 0, 10, 21, 6, 62, 21, 5, 54, 4, 132, 5, 1, 167, 255, 220, 21, 4, 172]
abbrev dktX1_ask_2 : List UInt8 := dkwX1_ask_2 ++ []
def dkwX1_ask_1 : List UInt8 := [54, 5, 21, 5, 16, 12, 163, 0, 35, 42, 27, 21, 5, 28, 182, 1, 112, 54, 6, 21, 6, 29]
abbrev dktX1_ask_1 : List UInt8 := dkwX1_ask_1 ++ dktX1_ask_2
def dkwX1_ask_0 : List UInt8 := [42, 27, 182, 0, 254, 154, 0, 5, 2, 172, 42, 182, 1, 109, 61, 28, 184, 0, 161, 62, 2, 54, 4, 3]
abbrev dktX1_ask_0 : List UInt8 := dkwX1_ask_0 ++ dktX1_ask_1
theorem dksX1_ask_0 : cX1_ask.data.toList.drop 0 = dktX1_ask_0 := by decide +kernel
theorem dksX1_ask_1 : cX1_ask.data.toList.drop 24 = dktX1_ask_1 := dk_seg dksX1_ask_0 24 rfl rfl
theorem dksX1_ask_2 : cX1_ask.data.toList.drop 46 = dktX1_ask_2 := dk_seg dksX1_ask_1 22 rfl rfl
theorem dX1_ask_0 : decode cX1_ask 0 = .ok (.aload_n 0, 1) := dk_42 (dk_at dksX1_ask_0 0 rfl rfl)
theorem dX1_ask_1 : decode cX1_ask 1 = .ok (.iload_n 1, 1) := dk_27 (dk_at dksX1_ask_0 1 rfl rfl)
theorem dX1_ask_2 : decode cX1_ask 2 = .ok (.invokevirtual 254, 3) := dk_182 0 254 (dk_at dksX1_ask_0 2 rfl rfl)
theorem dX1_ask_5 : decode cX1_ask 5 = .ok (.ifCond .ne 5, 3) := dk_154 0 5 (dk_at dksX1_ask_0 5 rfl rfl)
theorem dX1_ask_8 : decode cX1_ask 8 = .ok (.iconst (-1), 1) := dk_2 (dk_at dksX1_ask_0 8 rfl rfl)
theorem dX1_ask_9 : decode cX1_ask 9 = .ok (.ireturn, 1) := dk_172 (dk_at dksX1_ask_0 9 rfl rfl)
theorem dX1_ask_10 : decode cX1_ask 10 = .ok (.aload_n 0, 1) := dk_42 (dk_at dksX1_ask_0 10 rfl rfl)
theorem dX1_ask_11 : decode cX1_ask 11 = .ok (.invokevirtual 365, 3) := dk_182 1 109 (dk_at dksX1_ask_0 11 rfl rfl)
theorem dX1_ask_14 : decode cX1_ask 14 = .ok (.istore_n 2, 1) := dk_61 (dk_at dksX1_ask_0 14 rfl rfl)
theorem dX1_ask_15 : decode cX1_ask 15 = .ok (.iload_n 2, 1) := dk_28 (dk_at dksX1_ask_0 15 rfl rfl)
theorem dX1_ask_16 : decode cX1_ask 16 = .ok (.invokestatic 161, 3) := dk_184 0 161 (dk_at dksX1_ask_0 16 rfl rfl)
theorem dX1_ask_19 : decode cX1_ask 19 = .ok (.istore_n 3, 1) := dk_62 (dk_at dksX1_ask_0 19 rfl rfl)
theorem dX1_ask_20 : decode cX1_ask 20 = .ok (.iconst (-1), 1) := dk_2 (dk_at dksX1_ask_0 20 rfl rfl)
theorem dX1_ask_21 : decode cX1_ask 21 = .ok (.istore 4, 2) := dk_54 4 (dk_at dksX1_ask_0 21 rfl rfl)
theorem dX1_ask_23 : decode cX1_ask 23 = .ok (.iconst 0, 1) := dk_3 (dk_at dksX1_ask_0 23 rfl rfl)
theorem dX1_ask_24 : decode cX1_ask 24 = .ok (.istore 5, 2) := dk_54 5 (dk_at dksX1_ask_1 0 rfl rfl)
theorem dX1_ask_26 : decode cX1_ask 26 = .ok (.iload 5, 2) := dk_21 5 (dk_at dksX1_ask_1 2 rfl rfl)
theorem dX1_ask_28 : decode cX1_ask 28 = .ok (.bipush 12, 2) := dk_16 12 (dk_at dksX1_ask_1 4 rfl rfl)
theorem dX1_ask_30 : decode cX1_ask 30 = .ok (.if_icmp .gt 35, 3) := dk_163 0 35 (dk_at dksX1_ask_1 6 rfl rfl)
theorem dX1_ask_33 : decode cX1_ask 33 = .ok (.aload_n 0, 1) := dk_42 (dk_at dksX1_ask_1 9 rfl rfl)
theorem dX1_ask_34 : decode cX1_ask 34 = .ok (.iload_n 1, 1) := dk_27 (dk_at dksX1_ask_1 10 rfl rfl)
theorem dX1_ask_35 : decode cX1_ask 35 = .ok (.iload 5, 2) := dk_21 5 (dk_at dksX1_ask_1 11 rfl rfl)
theorem dX1_ask_37 : decode cX1_ask 37 = .ok (.iload_n 2, 1) := dk_28 (dk_at dksX1_ask_1 13 rfl rfl)
theorem dX1_ask_38 : decode cX1_ask 38 = .ok (.invokevirtual 368, 3) := dk_182 1 112 (dk_at dksX1_ask_1 14 rfl rfl)
theorem dX1_ask_41 : decode cX1_ask 41 = .ok (.istore 6, 2) := dk_54 6 (dk_at dksX1_ask_1 17 rfl rfl)
theorem dX1_ask_43 : decode cX1_ask 43 = .ok (.iload 6, 2) := dk_21 6 (dk_at dksX1_ask_1 19 rfl rfl)
theorem dX1_ask_45 : decode cX1_ask 45 = .ok (.iload_n 3, 1) := dk_29 (dk_at dksX1_ask_1 21 rfl rfl)
theorem dX1_ask_46 : decode cX1_ask 46 = .ok (.if_icmp .lt 6, 3) := dk_161 0 6 (dk_at dksX1_ask_2 0 rfl rfl)
theorem dX1_ask_49 : decode cX1_ask 49 = .ok (.goto 10, 3) := dk_167 0 10 (dk_at dksX1_ask_2 3 rfl rfl)
theorem dX1_ask_52 : decode cX1_ask 52 = .ok (.iload 6, 2) := dk_21 6 (dk_at dksX1_ask_2 6 rfl rfl)
theorem dX1_ask_54 : decode cX1_ask 54 = .ok (.istore_n 3, 1) := dk_62 (dk_at dksX1_ask_2 8 rfl rfl)
theorem dX1_ask_55 : decode cX1_ask 55 = .ok (.iload 5, 2) := dk_21 5 (dk_at dksX1_ask_2 9 rfl rfl)
theorem dX1_ask_57 : decode cX1_ask 57 = .ok (.istore 4, 2) := dk_54 4 (dk_at dksX1_ask_2 11 rfl rfl)
theorem dX1_ask_59 : decode cX1_ask 59 = .ok (.iinc 5 1, 3) := dk_132 5 1 (dk_at dksX1_ask_2 13 rfl rfl)
theorem dX1_ask_62 : decode cX1_ask 62 = .ok (.goto (-36), 3) := dk_167 255 220 (dk_at dksX1_ask_2 16 rfl rfl)
theorem dX1_ask_65 : decode cX1_ask 65 = .ok (.iload 4, 2) := dk_21 4 (dk_at dksX1_ask_2 19 rfl rfl)
theorem dX1_ask_67 : decode cX1_ask 67 = .ok (.ireturn, 1) := dk_172 (dk_at dksX1_ask_2 21 rfl rfl)
abbrev cX1_mostAlike : ByteArray := prog_1_method_54_code
def yX1_mostAlike : MethodName := ⟨RX1, "mostAlike", "(III)I"⟩
def dkwX1_mostAlike_3 : List UInt8 := [132, 5, 1, 167, 255, 212, 21, 4, 172]
abbrev dktX1_mostAlike_3 : List UInt8 := dkwX1_mostAlike_3 ++ []
def dkwX1_mostAlike_2 : List UInt8 := [42, 180, 0, 93, 42, 27, 21, 5, 28, 182, 1, 106, 92, 46, 4, 96, 91, 79, 184, 0, 7, 54, 4]
abbrev dktX1_mostAlike_2 : List UInt8 := dkwX1_mostAlike_2 ++ dktX1_mostAlike_3
def dkwX1_mostAlike_1 : List UInt8 := [167, 255, 238, 3, 54, 5, 21, 5, 16, 12, 162, 0, 43, 29, 21, 5, 184, 0, 177, 153, 0, 28, 21, 4]
abbrev dktX1_mostAlike_1 : List UInt8 := dkwX1_mostAlike_1 ++ dktX1_mostAlike_2
def dkwX1_mostAlike_0 : List UInt8 := [3, 54, 4, 3, 54, 5, 21, 5, 16, 9, 163, 0, 17, 42, 180, 0, 93, 21, 5, 3, 79, 132, 5, 1]
abbrev dktX1_mostAlike_0 : List UInt8 := dkwX1_mostAlike_0 ++ dktX1_mostAlike_1
theorem dksX1_mostAlike_0 : cX1_mostAlike.data.toList.drop 0 = dktX1_mostAlike_0 := by decide +kernel
theorem dksX1_mostAlike_1 : cX1_mostAlike.data.toList.drop 24 = dktX1_mostAlike_1 := dk_seg dksX1_mostAlike_0 24 rfl rfl
theorem dksX1_mostAlike_2 : cX1_mostAlike.data.toList.drop 48 = dktX1_mostAlike_2 := dk_seg dksX1_mostAlike_1 24 rfl rfl
theorem dksX1_mostAlike_3 : cX1_mostAlike.data.toList.drop 71 = dktX1_mostAlike_3 := dk_seg dksX1_mostAlike_2 23 rfl rfl
theorem dX1_mostAlike_0 : decode cX1_mostAlike 0 = .ok (.iconst 0, 1) := dk_3 (dk_at dksX1_mostAlike_0 0 rfl rfl)
theorem dX1_mostAlike_1 : decode cX1_mostAlike 1 = .ok (.istore 4, 2) := dk_54 4 (dk_at dksX1_mostAlike_0 1 rfl rfl)
theorem dX1_mostAlike_3 : decode cX1_mostAlike 3 = .ok (.iconst 0, 1) := dk_3 (dk_at dksX1_mostAlike_0 3 rfl rfl)
theorem dX1_mostAlike_4 : decode cX1_mostAlike 4 = .ok (.istore 5, 2) := dk_54 5 (dk_at dksX1_mostAlike_0 4 rfl rfl)
theorem dX1_mostAlike_6 : decode cX1_mostAlike 6 = .ok (.iload 5, 2) := dk_21 5 (dk_at dksX1_mostAlike_0 6 rfl rfl)
theorem dX1_mostAlike_8 : decode cX1_mostAlike 8 = .ok (.bipush 9, 2) := dk_16 9 (dk_at dksX1_mostAlike_0 8 rfl rfl)
theorem dX1_mostAlike_10 : decode cX1_mostAlike 10 = .ok (.if_icmp .gt 17, 3) := dk_163 0 17 (dk_at dksX1_mostAlike_0 10 rfl rfl)
theorem dX1_mostAlike_13 : decode cX1_mostAlike 13 = .ok (.aload_n 0, 1) := dk_42 (dk_at dksX1_mostAlike_0 13 rfl rfl)
theorem dX1_mostAlike_14 : decode cX1_mostAlike 14 = .ok (.getfield 93, 3) := dk_180 0 93 (dk_at dksX1_mostAlike_0 14 rfl rfl)
theorem dX1_mostAlike_17 : decode cX1_mostAlike 17 = .ok (.iload 5, 2) := dk_21 5 (dk_at dksX1_mostAlike_0 17 rfl rfl)
theorem dX1_mostAlike_19 : decode cX1_mostAlike 19 = .ok (.iconst 0, 1) := dk_3 (dk_at dksX1_mostAlike_0 19 rfl rfl)
theorem dX1_mostAlike_20 : decode cX1_mostAlike 20 = .ok (.iastore, 1) := dk_79 (dk_at dksX1_mostAlike_0 20 rfl rfl)
theorem dX1_mostAlike_21 : decode cX1_mostAlike 21 = .ok (.iinc 5 1, 3) := dk_132 5 1 (dk_at dksX1_mostAlike_0 21 rfl rfl)
theorem dX1_mostAlike_24 : decode cX1_mostAlike 24 = .ok (.goto (-18), 3) := dk_167 255 238 (dk_at dksX1_mostAlike_1 0 rfl rfl)
theorem dX1_mostAlike_27 : decode cX1_mostAlike 27 = .ok (.iconst 0, 1) := dk_3 (dk_at dksX1_mostAlike_1 3 rfl rfl)
theorem dX1_mostAlike_28 : decode cX1_mostAlike 28 = .ok (.istore 5, 2) := dk_54 5 (dk_at dksX1_mostAlike_1 4 rfl rfl)
theorem dX1_mostAlike_30 : decode cX1_mostAlike 30 = .ok (.iload 5, 2) := dk_21 5 (dk_at dksX1_mostAlike_1 6 rfl rfl)
theorem dX1_mostAlike_32 : decode cX1_mostAlike 32 = .ok (.bipush 12, 2) := dk_16 12 (dk_at dksX1_mostAlike_1 8 rfl rfl)
theorem dX1_mostAlike_34 : decode cX1_mostAlike 34 = .ok (.if_icmp .ge 43, 3) := dk_162 0 43 (dk_at dksX1_mostAlike_1 10 rfl rfl)
theorem dX1_mostAlike_37 : decode cX1_mostAlike 37 = .ok (.iload_n 3, 1) := dk_29 (dk_at dksX1_mostAlike_1 13 rfl rfl)
theorem dX1_mostAlike_38 : decode cX1_mostAlike 38 = .ok (.iload 5, 2) := dk_21 5 (dk_at dksX1_mostAlike_1 14 rfl rfl)
theorem dX1_mostAlike_40 : decode cX1_mostAlike 40 = .ok (.invokestatic 177, 3) := dk_184 0 177 (dk_at dksX1_mostAlike_1 16 rfl rfl)
theorem dX1_mostAlike_43 : decode cX1_mostAlike 43 = .ok (.ifCond .eq 28, 3) := dk_153 0 28 (dk_at dksX1_mostAlike_1 19 rfl rfl)
theorem dX1_mostAlike_46 : decode cX1_mostAlike 46 = .ok (.iload 4, 2) := dk_21 4 (dk_at dksX1_mostAlike_1 22 rfl rfl)
theorem dX1_mostAlike_48 : decode cX1_mostAlike 48 = .ok (.aload_n 0, 1) := dk_42 (dk_at dksX1_mostAlike_2 0 rfl rfl)
theorem dX1_mostAlike_49 : decode cX1_mostAlike 49 = .ok (.getfield 93, 3) := dk_180 0 93 (dk_at dksX1_mostAlike_2 1 rfl rfl)
theorem dX1_mostAlike_52 : decode cX1_mostAlike 52 = .ok (.aload_n 0, 1) := dk_42 (dk_at dksX1_mostAlike_2 4 rfl rfl)
theorem dX1_mostAlike_53 : decode cX1_mostAlike 53 = .ok (.iload_n 1, 1) := dk_27 (dk_at dksX1_mostAlike_2 5 rfl rfl)
theorem dX1_mostAlike_54 : decode cX1_mostAlike 54 = .ok (.iload 5, 2) := dk_21 5 (dk_at dksX1_mostAlike_2 6 rfl rfl)
theorem dX1_mostAlike_56 : decode cX1_mostAlike 56 = .ok (.iload_n 2, 1) := dk_28 (dk_at dksX1_mostAlike_2 8 rfl rfl)
theorem dX1_mostAlike_57 : decode cX1_mostAlike 57 = .ok (.invokevirtual 362, 3) := dk_182 1 106 (dk_at dksX1_mostAlike_2 9 rfl rfl)
theorem dX1_mostAlike_60 : decode cX1_mostAlike 60 = .ok (.dup2, 1) := dk_92 (dk_at dksX1_mostAlike_2 12 rfl rfl)
theorem dX1_mostAlike_61 : decode cX1_mostAlike 61 = .ok (.iaload, 1) := dk_46 (dk_at dksX1_mostAlike_2 13 rfl rfl)
theorem dX1_mostAlike_62 : decode cX1_mostAlike 62 = .ok (.iconst 1, 1) := dk_4 (dk_at dksX1_mostAlike_2 14 rfl rfl)
theorem dX1_mostAlike_63 : decode cX1_mostAlike 63 = .ok (.iadd, 1) := dk_96 (dk_at dksX1_mostAlike_2 15 rfl rfl)
theorem dX1_mostAlike_64 : decode cX1_mostAlike 64 = .ok (.dup_x2, 1) := dk_91 (dk_at dksX1_mostAlike_2 16 rfl rfl)
theorem dX1_mostAlike_65 : decode cX1_mostAlike 65 = .ok (.iastore, 1) := dk_79 (dk_at dksX1_mostAlike_2 17 rfl rfl)
theorem dX1_mostAlike_66 : decode cX1_mostAlike 66 = .ok (.invokestatic 7, 3) := dk_184 0 7 (dk_at dksX1_mostAlike_2 18 rfl rfl)
theorem dX1_mostAlike_69 : decode cX1_mostAlike 69 = .ok (.istore 4, 2) := dk_54 4 (dk_at dksX1_mostAlike_2 21 rfl rfl)
theorem dX1_mostAlike_71 : decode cX1_mostAlike 71 = .ok (.iinc 5 1, 3) := dk_132 5 1 (dk_at dksX1_mostAlike_3 0 rfl rfl)
theorem dX1_mostAlike_74 : decode cX1_mostAlike 74 = .ok (.goto (-44), 3) := dk_167 255 212 (dk_at dksX1_mostAlike_3 3 rfl rfl)
theorem dX1_mostAlike_77 : decode cX1_mostAlike 77 = .ok (.iload 4, 2) := dk_21 4 (dk_at dksX1_mostAlike_3 6 rfl rfl)
theorem dX1_mostAlike_79 : decode cX1_mostAlike 79 = .ok (.ireturn, 1) := dk_172 (dk_at dksX1_mostAlike_3 8 rfl rfl)
abbrev cX1_change : ByteArray := prog_1_method_57_code
def yX1_change : MethodName := ⟨RX1, "change", "(I)I"⟩
def dkwX1_change_4 : List UInt8 := [21, 5, 62, 21, 4, 61, 132, 4, 1, 167, 255, 192, 28, 172]
abbrev dktX1_change_4 : List UInt8 := dkwX1_change_4 ++ []
def dkwX1_change_3 : List UInt8 := [16, 9, 79, 42, 42, 180, 0, 55, 27, 182, 1, 115, 54, 5, 21, 5, 29, 163, 0, 6, 167, 0, 9]
abbrev dktX1_change_3 : List UInt8 := dkwX1_change_3 ++ dktX1_change_4
def dkwX1_change_2 : List UInt8 := [162, 0, 58, 42, 180, 0, 55, 42, 180, 0, 51, 182, 1, 20, 42, 180, 0, 55, 180, 1, 11, 21, 4]
abbrev dktX1_change_2 : List UInt8 := dkwX1_change_2 ++ dktX1_change_3
def dkwX1_change_1 : List UInt8 := [61, 42, 42, 180, 0, 55, 27, 182, 1, 115, 62, 3, 54, 4, 21, 4, 42, 180, 0, 51, 180, 1, 8]
abbrev dktX1_change_1 : List UInt8 := dkwX1_change_1 ++ dktX1_change_2
def dkwX1_change_0 : List UInt8 := [27, 4, 16, 20, 184, 0, 150, 154, 0, 5, 2, 172, 42, 180, 0, 55, 42, 180, 0, 51, 182, 1, 20, 2]
abbrev dktX1_change_0 : List UInt8 := dkwX1_change_0 ++ dktX1_change_1
theorem dksX1_change_0 : cX1_change.data.toList.drop 0 = dktX1_change_0 := by decide +kernel
theorem dksX1_change_1 : cX1_change.data.toList.drop 24 = dktX1_change_1 := dk_seg dksX1_change_0 24 rfl rfl
theorem dksX1_change_2 : cX1_change.data.toList.drop 47 = dktX1_change_2 := dk_seg dksX1_change_1 23 rfl rfl
theorem dksX1_change_3 : cX1_change.data.toList.drop 70 = dktX1_change_3 := dk_seg dksX1_change_2 23 rfl rfl
theorem dksX1_change_4 : cX1_change.data.toList.drop 93 = dktX1_change_4 := dk_seg dksX1_change_3 23 rfl rfl
theorem dX1_change_0 : decode cX1_change 0 = .ok (.iload_n 1, 1) := dk_27 (dk_at dksX1_change_0 0 rfl rfl)
theorem dX1_change_1 : decode cX1_change 1 = .ok (.iconst 1, 1) := dk_4 (dk_at dksX1_change_0 1 rfl rfl)
theorem dX1_change_2 : decode cX1_change 2 = .ok (.bipush 20, 2) := dk_16 20 (dk_at dksX1_change_0 2 rfl rfl)
theorem dX1_change_4 : decode cX1_change 4 = .ok (.invokestatic 150, 3) := dk_184 0 150 (dk_at dksX1_change_0 4 rfl rfl)
theorem dX1_change_7 : decode cX1_change 7 = .ok (.ifCond .ne 5, 3) := dk_154 0 5 (dk_at dksX1_change_0 7 rfl rfl)
theorem dX1_change_10 : decode cX1_change 10 = .ok (.iconst (-1), 1) := dk_2 (dk_at dksX1_change_0 10 rfl rfl)
theorem dX1_change_11 : decode cX1_change 11 = .ok (.ireturn, 1) := dk_172 (dk_at dksX1_change_0 11 rfl rfl)
theorem dX1_change_12 : decode cX1_change 12 = .ok (.aload_n 0, 1) := dk_42 (dk_at dksX1_change_0 12 rfl rfl)
theorem dX1_change_13 : decode cX1_change 13 = .ok (.getfield 55, 3) := dk_180 0 55 (dk_at dksX1_change_0 13 rfl rfl)
theorem dX1_change_16 : decode cX1_change 16 = .ok (.aload_n 0, 1) := dk_42 (dk_at dksX1_change_0 16 rfl rfl)
theorem dX1_change_17 : decode cX1_change 17 = .ok (.getfield 51, 3) := dk_180 0 51 (dk_at dksX1_change_0 17 rfl rfl)
theorem dX1_change_20 : decode cX1_change 20 = .ok (.invokevirtual 276, 3) := dk_182 1 20 (dk_at dksX1_change_0 20 rfl rfl)
theorem dX1_change_23 : decode cX1_change 23 = .ok (.iconst (-1), 1) := dk_2 (dk_at dksX1_change_0 23 rfl rfl)
theorem dX1_change_24 : decode cX1_change 24 = .ok (.istore_n 2, 1) := dk_61 (dk_at dksX1_change_1 0 rfl rfl)
theorem dX1_change_25 : decode cX1_change 25 = .ok (.aload_n 0, 1) := dk_42 (dk_at dksX1_change_1 1 rfl rfl)
theorem dX1_change_26 : decode cX1_change 26 = .ok (.aload_n 0, 1) := dk_42 (dk_at dksX1_change_1 2 rfl rfl)
theorem dX1_change_27 : decode cX1_change 27 = .ok (.getfield 55, 3) := dk_180 0 55 (dk_at dksX1_change_1 3 rfl rfl)
theorem dX1_change_30 : decode cX1_change 30 = .ok (.iload_n 1, 1) := dk_27 (dk_at dksX1_change_1 6 rfl rfl)
theorem dX1_change_31 : decode cX1_change 31 = .ok (.invokevirtual 371, 3) := dk_182 1 115 (dk_at dksX1_change_1 7 rfl rfl)
theorem dX1_change_34 : decode cX1_change 34 = .ok (.istore_n 3, 1) := dk_62 (dk_at dksX1_change_1 10 rfl rfl)
theorem dX1_change_35 : decode cX1_change 35 = .ok (.iconst 0, 1) := dk_3 (dk_at dksX1_change_1 11 rfl rfl)
theorem dX1_change_36 : decode cX1_change 36 = .ok (.istore 4, 2) := dk_54 4 (dk_at dksX1_change_1 12 rfl rfl)
theorem dX1_change_38 : decode cX1_change 38 = .ok (.iload 4, 2) := dk_21 4 (dk_at dksX1_change_1 14 rfl rfl)
theorem dX1_change_40 : decode cX1_change 40 = .ok (.aload_n 0, 1) := dk_42 (dk_at dksX1_change_1 16 rfl rfl)
theorem dX1_change_41 : decode cX1_change 41 = .ok (.getfield 51, 3) := dk_180 0 51 (dk_at dksX1_change_1 17 rfl rfl)
theorem dX1_change_44 : decode cX1_change 44 = .ok (.getfield 264, 3) := dk_180 1 8 (dk_at dksX1_change_1 20 rfl rfl)
theorem dX1_change_47 : decode cX1_change 47 = .ok (.if_icmp .ge 58, 3) := dk_162 0 58 (dk_at dksX1_change_2 0 rfl rfl)
theorem dX1_change_50 : decode cX1_change 50 = .ok (.aload_n 0, 1) := dk_42 (dk_at dksX1_change_2 3 rfl rfl)
theorem dX1_change_51 : decode cX1_change 51 = .ok (.getfield 55, 3) := dk_180 0 55 (dk_at dksX1_change_2 4 rfl rfl)
theorem dX1_change_54 : decode cX1_change 54 = .ok (.aload_n 0, 1) := dk_42 (dk_at dksX1_change_2 7 rfl rfl)
theorem dX1_change_55 : decode cX1_change 55 = .ok (.getfield 51, 3) := dk_180 0 51 (dk_at dksX1_change_2 8 rfl rfl)
theorem dX1_change_58 : decode cX1_change 58 = .ok (.invokevirtual 276, 3) := dk_182 1 20 (dk_at dksX1_change_2 11 rfl rfl)
theorem dX1_change_61 : decode cX1_change 61 = .ok (.aload_n 0, 1) := dk_42 (dk_at dksX1_change_2 14 rfl rfl)
theorem dX1_change_62 : decode cX1_change 62 = .ok (.getfield 55, 3) := dk_180 0 55 (dk_at dksX1_change_2 15 rfl rfl)
theorem dX1_change_65 : decode cX1_change 65 = .ok (.getfield 267, 3) := dk_180 1 11 (dk_at dksX1_change_2 18 rfl rfl)
theorem dX1_change_68 : decode cX1_change 68 = .ok (.iload 4, 2) := dk_21 4 (dk_at dksX1_change_2 21 rfl rfl)
theorem dX1_change_70 : decode cX1_change 70 = .ok (.bipush 9, 2) := dk_16 9 (dk_at dksX1_change_3 0 rfl rfl)
theorem dX1_change_72 : decode cX1_change 72 = .ok (.iastore, 1) := dk_79 (dk_at dksX1_change_3 2 rfl rfl)
theorem dX1_change_73 : decode cX1_change 73 = .ok (.aload_n 0, 1) := dk_42 (dk_at dksX1_change_3 3 rfl rfl)
theorem dX1_change_74 : decode cX1_change 74 = .ok (.aload_n 0, 1) := dk_42 (dk_at dksX1_change_3 4 rfl rfl)
theorem dX1_change_75 : decode cX1_change 75 = .ok (.getfield 55, 3) := dk_180 0 55 (dk_at dksX1_change_3 5 rfl rfl)
theorem dX1_change_78 : decode cX1_change 78 = .ok (.iload_n 1, 1) := dk_27 (dk_at dksX1_change_3 8 rfl rfl)
theorem dX1_change_79 : decode cX1_change 79 = .ok (.invokevirtual 371, 3) := dk_182 1 115 (dk_at dksX1_change_3 9 rfl rfl)
theorem dX1_change_82 : decode cX1_change 82 = .ok (.istore 5, 2) := dk_54 5 (dk_at dksX1_change_3 12 rfl rfl)
theorem dX1_change_84 : decode cX1_change 84 = .ok (.iload 5, 2) := dk_21 5 (dk_at dksX1_change_3 14 rfl rfl)
theorem dX1_change_86 : decode cX1_change 86 = .ok (.iload_n 3, 1) := dk_29 (dk_at dksX1_change_3 16 rfl rfl)
theorem dX1_change_87 : decode cX1_change 87 = .ok (.if_icmp .gt 6, 3) := dk_163 0 6 (dk_at dksX1_change_3 17 rfl rfl)
theorem dX1_change_90 : decode cX1_change 90 = .ok (.goto 9, 3) := dk_167 0 9 (dk_at dksX1_change_3 20 rfl rfl)
theorem dX1_change_93 : decode cX1_change 93 = .ok (.iload 5, 2) := dk_21 5 (dk_at dksX1_change_4 0 rfl rfl)
theorem dX1_change_95 : decode cX1_change 95 = .ok (.istore_n 3, 1) := dk_62 (dk_at dksX1_change_4 2 rfl rfl)
theorem dX1_change_96 : decode cX1_change 96 = .ok (.iload 4, 2) := dk_21 4 (dk_at dksX1_change_4 3 rfl rfl)
theorem dX1_change_98 : decode cX1_change 98 = .ok (.istore_n 2, 1) := dk_61 (dk_at dksX1_change_4 5 rfl rfl)
theorem dX1_change_99 : decode cX1_change 99 = .ok (.iinc 4 1, 3) := dk_132 4 1 (dk_at dksX1_change_4 6 rfl rfl)
theorem dX1_change_102 : decode cX1_change 102 = .ok (.goto (-64), 3) := dk_167 255 192 (dk_at dksX1_change_4 9 rfl rfl)
theorem dX1_change_105 : decode cX1_change 105 = .ok (.iload_n 2, 1) := dk_28 (dk_at dksX1_change_4 12 rfl rfl)
theorem dX1_change_106 : decode cX1_change 106 = .ok (.ireturn, 1) := dk_172 (dk_at dksX1_change_4 13 rfl rfl)
abbrev cX1_worthBehind : ByteArray := prog_1_method_56_code
def yX1_worthBehind : MethodName := ⟨RX1, "worthBehind", "(LPegLaws$State;I)I"⟩
def dkwX1_worthBehind_1 : List UInt8 := [182, 1, 17, 182, 1, 54, 172]
abbrev dktX1_worthBehind_1 : List UInt8 := dkwX1_worthBehind_1 ++ []
def dkwX1_worthBehind_0 : List UInt8 := [3, 62, 29, 28, 162, 0, 16, 42, 43, 3, 182, 1, 37, 87, 132, 3, 1, 167, 255, 241, 42, 42, 43]
abbrev dktX1_worthBehind_0 : List UInt8 := dkwX1_worthBehind_0 ++ dktX1_worthBehind_1
theorem dksX1_worthBehind_0 : cX1_worthBehind.data.toList.drop 0 = dktX1_worthBehind_0 := by decide +kernel
theorem dksX1_worthBehind_1 : cX1_worthBehind.data.toList.drop 23 = dktX1_worthBehind_1 := dk_seg dksX1_worthBehind_0 23 rfl rfl
theorem dX1_worthBehind_0 : decode cX1_worthBehind 0 = .ok (.iconst 0, 1) := dk_3 (dk_at dksX1_worthBehind_0 0 rfl rfl)
theorem dX1_worthBehind_1 : decode cX1_worthBehind 1 = .ok (.istore_n 3, 1) := dk_62 (dk_at dksX1_worthBehind_0 1 rfl rfl)
theorem dX1_worthBehind_2 : decode cX1_worthBehind 2 = .ok (.iload_n 3, 1) := dk_29 (dk_at dksX1_worthBehind_0 2 rfl rfl)
theorem dX1_worthBehind_3 : decode cX1_worthBehind 3 = .ok (.iload_n 2, 1) := dk_28 (dk_at dksX1_worthBehind_0 3 rfl rfl)
theorem dX1_worthBehind_4 : decode cX1_worthBehind 4 = .ok (.if_icmp .ge 16, 3) := dk_162 0 16 (dk_at dksX1_worthBehind_0 4 rfl rfl)
theorem dX1_worthBehind_7 : decode cX1_worthBehind 7 = .ok (.aload_n 0, 1) := dk_42 (dk_at dksX1_worthBehind_0 7 rfl rfl)
theorem dX1_worthBehind_8 : decode cX1_worthBehind 8 = .ok (.aload_n 1, 1) := dk_43 (dk_at dksX1_worthBehind_0 8 rfl rfl)
theorem dX1_worthBehind_9 : decode cX1_worthBehind 9 = .ok (.iconst 0, 1) := dk_3 (dk_at dksX1_worthBehind_0 9 rfl rfl)
theorem dX1_worthBehind_10 : decode cX1_worthBehind 10 = .ok (.invokevirtual 293, 3) := dk_182 1 37 (dk_at dksX1_worthBehind_0 10 rfl rfl)
theorem dX1_worthBehind_13 : decode cX1_worthBehind 13 = .ok (.pop, 1) := dk_87 (dk_at dksX1_worthBehind_0 13 rfl rfl)
theorem dX1_worthBehind_14 : decode cX1_worthBehind 14 = .ok (.iinc 3 1, 3) := dk_132 3 1 (dk_at dksX1_worthBehind_0 14 rfl rfl)
theorem dX1_worthBehind_17 : decode cX1_worthBehind 17 = .ok (.goto (-15), 3) := dk_167 255 241 (dk_at dksX1_worthBehind_0 17 rfl rfl)
theorem dX1_worthBehind_20 : decode cX1_worthBehind 20 = .ok (.aload_n 0, 1) := dk_42 (dk_at dksX1_worthBehind_0 20 rfl rfl)
theorem dX1_worthBehind_21 : decode cX1_worthBehind 21 = .ok (.aload_n 0, 1) := dk_42 (dk_at dksX1_worthBehind_0 21 rfl rfl)
theorem dX1_worthBehind_22 : decode cX1_worthBehind 22 = .ok (.aload_n 1, 1) := dk_43 (dk_at dksX1_worthBehind_0 22 rfl rfl)
theorem dX1_worthBehind_23 : decode cX1_worthBehind 23 = .ok (.invokevirtual 273, 3) := dk_182 1 17 (dk_at dksX1_worthBehind_1 0 rfl rfl)
theorem dX1_worthBehind_26 : decode cX1_worthBehind 26 = .ok (.invokevirtual 310, 3) := dk_182 1 54 (dk_at dksX1_worthBehind_1 3 rfl rfl)
theorem dX1_worthBehind_29 : decode cX1_worthBehind 29 = .ok (.ireturn, 1) := dk_172 (dk_at dksX1_worthBehind_1 6 rfl rfl)
abbrev cX1_decades : ByteArray := prog_1_method_64_code
def yX1_decades : MethodName := ⟨RX1, "decades", "(III)I"⟩
def dkwX1_decades_5 : List UInt8 := [167, 0, 13, 42, 180, 0, 55, 17, 0, 255, 182, 0, 232, 172]
abbrev dktX1_decades_5 : List UInt8 := dkwX1_decades_5 ++ []
def dkwX1_decades_4 : List UInt8 := [54, 4, 132, 6, 1, 167, 255, 218, 29, 154, 0, 8, 21, 4, 167, 0, 23, 29, 4, 160, 0, 8, 21, 5]
abbrev dktX1_decades_4 : List UInt8 := dkwX1_decades_4 ++ dktX1_decades_5
def dkwX1_decades_3 : List UInt8 := [180, 0, 55, 182, 1, 147, 96, 54, 5, 21, 4, 42, 42, 180, 0, 55, 182, 1, 17, 184, 0, 161, 96]
abbrev dktX1_decades_3 : List UInt8 := dkwX1_decades_3 ++ dktX1_decades_4
def dkwX1_decades_2 : List UInt8 := [182, 1, 20, 3, 54, 4, 3, 54, 5, 3, 54, 6, 21, 6, 28, 162, 0, 38, 21, 5, 42, 42]
abbrev dktX1_decades_2 : List UInt8 := dkwX1_decades_2 ++ dktX1_decades_3
def dkwX1_decades_1 : List UInt8 := [184, 0, 150, 154, 0, 5, 2, 172, 42, 27, 133, 181, 1, 129, 42, 180, 0, 55, 42, 180, 0, 51]
abbrev dktX1_decades_1 : List UInt8 := dkwX1_decades_1 ++ dktX1_decades_2
def dkwX1_decades_0 : List UInt8 := [27, 3, 17, 39, 15, 184, 0, 150, 153, 0, 22, 28, 4, 16, 60, 184, 0, 150, 153, 0, 12, 29, 3, 5]
abbrev dktX1_decades_0 : List UInt8 := dkwX1_decades_0 ++ dktX1_decades_1
theorem dksX1_decades_0 : cX1_decades.data.toList.drop 0 = dktX1_decades_0 := by decide +kernel
theorem dksX1_decades_1 : cX1_decades.data.toList.drop 24 = dktX1_decades_1 := dk_seg dksX1_decades_0 24 rfl rfl
theorem dksX1_decades_2 : cX1_decades.data.toList.drop 46 = dktX1_decades_2 := dk_seg dksX1_decades_1 22 rfl rfl
theorem dksX1_decades_3 : cX1_decades.data.toList.drop 68 = dktX1_decades_3 := dk_seg dksX1_decades_2 22 rfl rfl
theorem dksX1_decades_4 : cX1_decades.data.toList.drop 91 = dktX1_decades_4 := dk_seg dksX1_decades_3 23 rfl rfl
theorem dksX1_decades_5 : cX1_decades.data.toList.drop 115 = dktX1_decades_5 := dk_seg dksX1_decades_4 24 rfl rfl
theorem dX1_decades_0 : decode cX1_decades 0 = .ok (.iload_n 1, 1) := dk_27 (dk_at dksX1_decades_0 0 rfl rfl)
theorem dX1_decades_1 : decode cX1_decades 1 = .ok (.iconst 0, 1) := dk_3 (dk_at dksX1_decades_0 1 rfl rfl)
theorem dX1_decades_2 : decode cX1_decades 2 = .ok (.sipush 9999, 3) := dk_17 39 15 (dk_at dksX1_decades_0 2 rfl rfl)
theorem dX1_decades_5 : decode cX1_decades 5 = .ok (.invokestatic 150, 3) := dk_184 0 150 (dk_at dksX1_decades_0 5 rfl rfl)
theorem dX1_decades_8 : decode cX1_decades 8 = .ok (.ifCond .eq 22, 3) := dk_153 0 22 (dk_at dksX1_decades_0 8 rfl rfl)
theorem dX1_decades_11 : decode cX1_decades 11 = .ok (.iload_n 2, 1) := dk_28 (dk_at dksX1_decades_0 11 rfl rfl)
theorem dX1_decades_12 : decode cX1_decades 12 = .ok (.iconst 1, 1) := dk_4 (dk_at dksX1_decades_0 12 rfl rfl)
theorem dX1_decades_13 : decode cX1_decades 13 = .ok (.bipush 60, 2) := dk_16 60 (dk_at dksX1_decades_0 13 rfl rfl)
theorem dX1_decades_15 : decode cX1_decades 15 = .ok (.invokestatic 150, 3) := dk_184 0 150 (dk_at dksX1_decades_0 15 rfl rfl)
theorem dX1_decades_18 : decode cX1_decades 18 = .ok (.ifCond .eq 12, 3) := dk_153 0 12 (dk_at dksX1_decades_0 18 rfl rfl)
theorem dX1_decades_21 : decode cX1_decades 21 = .ok (.iload_n 3, 1) := dk_29 (dk_at dksX1_decades_0 21 rfl rfl)
theorem dX1_decades_22 : decode cX1_decades 22 = .ok (.iconst 0, 1) := dk_3 (dk_at dksX1_decades_0 22 rfl rfl)
theorem dX1_decades_23 : decode cX1_decades 23 = .ok (.iconst 2, 1) := dk_5 (dk_at dksX1_decades_0 23 rfl rfl)
theorem dX1_decades_24 : decode cX1_decades 24 = .ok (.invokestatic 150, 3) := dk_184 0 150 (dk_at dksX1_decades_1 0 rfl rfl)
theorem dX1_decades_27 : decode cX1_decades 27 = .ok (.ifCond .ne 5, 3) := dk_154 0 5 (dk_at dksX1_decades_1 3 rfl rfl)
theorem dX1_decades_30 : decode cX1_decades 30 = .ok (.iconst (-1), 1) := dk_2 (dk_at dksX1_decades_1 6 rfl rfl)
theorem dX1_decades_31 : decode cX1_decades 31 = .ok (.ireturn, 1) := dk_172 (dk_at dksX1_decades_1 7 rfl rfl)
theorem dX1_decades_32 : decode cX1_decades 32 = .ok (.aload_n 0, 1) := dk_42 (dk_at dksX1_decades_1 8 rfl rfl)
theorem dX1_decades_33 : decode cX1_decades 33 = .ok (.iload_n 1, 1) := dk_27 (dk_at dksX1_decades_1 9 rfl rfl)
theorem dX1_decades_34 : decode cX1_decades 34 = .ok (.i2l, 1) := dk_133 (dk_at dksX1_decades_1 10 rfl rfl)
theorem dX1_decades_35 : decode cX1_decades 35 = .ok (.putfield 385, 3) := dk_181 1 129 (dk_at dksX1_decades_1 11 rfl rfl)
theorem dX1_decades_38 : decode cX1_decades 38 = .ok (.aload_n 0, 1) := dk_42 (dk_at dksX1_decades_1 14 rfl rfl)
theorem dX1_decades_39 : decode cX1_decades 39 = .ok (.getfield 55, 3) := dk_180 0 55 (dk_at dksX1_decades_1 15 rfl rfl)
theorem dX1_decades_42 : decode cX1_decades 42 = .ok (.aload_n 0, 1) := dk_42 (dk_at dksX1_decades_1 18 rfl rfl)
theorem dX1_decades_43 : decode cX1_decades 43 = .ok (.getfield 51, 3) := dk_180 0 51 (dk_at dksX1_decades_1 19 rfl rfl)
theorem dX1_decades_46 : decode cX1_decades 46 = .ok (.invokevirtual 276, 3) := dk_182 1 20 (dk_at dksX1_decades_2 0 rfl rfl)
theorem dX1_decades_49 : decode cX1_decades 49 = .ok (.iconst 0, 1) := dk_3 (dk_at dksX1_decades_2 3 rfl rfl)
theorem dX1_decades_50 : decode cX1_decades 50 = .ok (.istore 4, 2) := dk_54 4 (dk_at dksX1_decades_2 4 rfl rfl)
theorem dX1_decades_52 : decode cX1_decades 52 = .ok (.iconst 0, 1) := dk_3 (dk_at dksX1_decades_2 6 rfl rfl)
theorem dX1_decades_53 : decode cX1_decades 53 = .ok (.istore 5, 2) := dk_54 5 (dk_at dksX1_decades_2 7 rfl rfl)
theorem dX1_decades_55 : decode cX1_decades 55 = .ok (.iconst 0, 1) := dk_3 (dk_at dksX1_decades_2 9 rfl rfl)
theorem dX1_decades_56 : decode cX1_decades 56 = .ok (.istore 6, 2) := dk_54 6 (dk_at dksX1_decades_2 10 rfl rfl)
theorem dX1_decades_58 : decode cX1_decades 58 = .ok (.iload 6, 2) := dk_21 6 (dk_at dksX1_decades_2 12 rfl rfl)
theorem dX1_decades_60 : decode cX1_decades 60 = .ok (.iload_n 2, 1) := dk_28 (dk_at dksX1_decades_2 14 rfl rfl)
theorem dX1_decades_61 : decode cX1_decades 61 = .ok (.if_icmp .ge 38, 3) := dk_162 0 38 (dk_at dksX1_decades_2 15 rfl rfl)
theorem dX1_decades_64 : decode cX1_decades 64 = .ok (.iload 5, 2) := dk_21 5 (dk_at dksX1_decades_2 18 rfl rfl)
theorem dX1_decades_66 : decode cX1_decades 66 = .ok (.aload_n 0, 1) := dk_42 (dk_at dksX1_decades_2 20 rfl rfl)
theorem dX1_decades_67 : decode cX1_decades 67 = .ok (.aload_n 0, 1) := dk_42 (dk_at dksX1_decades_2 21 rfl rfl)
theorem dX1_decades_68 : decode cX1_decades 68 = .ok (.getfield 55, 3) := dk_180 0 55 (dk_at dksX1_decades_3 0 rfl rfl)
theorem dX1_decades_71 : decode cX1_decades 71 = .ok (.invokevirtual 403, 3) := dk_182 1 147 (dk_at dksX1_decades_3 3 rfl rfl)
theorem dX1_decades_74 : decode cX1_decades 74 = .ok (.iadd, 1) := dk_96 (dk_at dksX1_decades_3 6 rfl rfl)
theorem dX1_decades_75 : decode cX1_decades 75 = .ok (.istore 5, 2) := dk_54 5 (dk_at dksX1_decades_3 7 rfl rfl)
theorem dX1_decades_77 : decode cX1_decades 77 = .ok (.iload 4, 2) := dk_21 4 (dk_at dksX1_decades_3 9 rfl rfl)
theorem dX1_decades_79 : decode cX1_decades 79 = .ok (.aload_n 0, 1) := dk_42 (dk_at dksX1_decades_3 11 rfl rfl)
theorem dX1_decades_80 : decode cX1_decades 80 = .ok (.aload_n 0, 1) := dk_42 (dk_at dksX1_decades_3 12 rfl rfl)
theorem dX1_decades_81 : decode cX1_decades 81 = .ok (.getfield 55, 3) := dk_180 0 55 (dk_at dksX1_decades_3 13 rfl rfl)
theorem dX1_decades_84 : decode cX1_decades 84 = .ok (.invokevirtual 273, 3) := dk_182 1 17 (dk_at dksX1_decades_3 16 rfl rfl)
theorem dX1_decades_87 : decode cX1_decades 87 = .ok (.invokestatic 161, 3) := dk_184 0 161 (dk_at dksX1_decades_3 19 rfl rfl)
theorem dX1_decades_90 : decode cX1_decades 90 = .ok (.iadd, 1) := dk_96 (dk_at dksX1_decades_3 22 rfl rfl)
theorem dX1_decades_91 : decode cX1_decades 91 = .ok (.istore 4, 2) := dk_54 4 (dk_at dksX1_decades_4 0 rfl rfl)
theorem dX1_decades_93 : decode cX1_decades 93 = .ok (.iinc 6 1, 3) := dk_132 6 1 (dk_at dksX1_decades_4 2 rfl rfl)
theorem dX1_decades_96 : decode cX1_decades 96 = .ok (.goto (-38), 3) := dk_167 255 218 (dk_at dksX1_decades_4 5 rfl rfl)
theorem dX1_decades_99 : decode cX1_decades 99 = .ok (.iload_n 3, 1) := dk_29 (dk_at dksX1_decades_4 8 rfl rfl)
theorem dX1_decades_100 : decode cX1_decades 100 = .ok (.ifCond .ne 8, 3) := dk_154 0 8 (dk_at dksX1_decades_4 9 rfl rfl)
theorem dX1_decades_103 : decode cX1_decades 103 = .ok (.iload 4, 2) := dk_21 4 (dk_at dksX1_decades_4 12 rfl rfl)
theorem dX1_decades_105 : decode cX1_decades 105 = .ok (.goto 23, 3) := dk_167 0 23 (dk_at dksX1_decades_4 14 rfl rfl)
theorem dX1_decades_108 : decode cX1_decades 108 = .ok (.iload_n 3, 1) := dk_29 (dk_at dksX1_decades_4 17 rfl rfl)
theorem dX1_decades_109 : decode cX1_decades 109 = .ok (.iconst 1, 1) := dk_4 (dk_at dksX1_decades_4 18 rfl rfl)
theorem dX1_decades_110 : decode cX1_decades 110 = .ok (.if_icmp .ne 8, 3) := dk_160 0 8 (dk_at dksX1_decades_4 19 rfl rfl)
theorem dX1_decades_113 : decode cX1_decades 113 = .ok (.iload 5, 2) := dk_21 5 (dk_at dksX1_decades_4 22 rfl rfl)
theorem dX1_decades_115 : decode cX1_decades 115 = .ok (.goto 13, 3) := dk_167 0 13 (dk_at dksX1_decades_5 0 rfl rfl)
theorem dX1_decades_118 : decode cX1_decades 118 = .ok (.aload_n 0, 1) := dk_42 (dk_at dksX1_decades_5 3 rfl rfl)
theorem dX1_decades_119 : decode cX1_decades 119 = .ok (.getfield 55, 3) := dk_180 0 55 (dk_at dksX1_decades_5 4 rfl rfl)
theorem dX1_decades_122 : decode cX1_decades 122 = .ok (.sipush 255, 3) := dk_17 0 255 (dk_at dksX1_decades_5 7 rfl rfl)
theorem dX1_decades_125 : decode cX1_decades 125 = .ok (.invokevirtual 232, 3) := dk_182 0 232 (dk_at dksX1_decades_5 10 rfl rfl)
theorem dX1_decades_128 : decode cX1_decades 128 = .ok (.ireturn, 1) := dk_172 (dk_at dksX1_decades_5 13 rfl rfl)
abbrev cX1_livesHour : ByteArray := prog_1_method_63_code
def yX1_livesHour : MethodName := ⟨RX1, "livesHour", "(LPegLaws$State;)I"⟩
def dkwX1_livesHour_4 : List UInt8 := [6, 167, 0, 4, 3, 182, 1, 37, 172]
abbrev dktX1_livesHour_4 : List UInt8 := dkwX1_livesHour_4 ++ []
def dkwX1_livesHour_3 : List UInt8 := [43, 28, 29, 182, 1, 30, 42, 43, 42, 16, 10, 182, 1, 141, 42, 180, 0, 35, 182, 1, 80, 162, 0, 7]
abbrev dktX1_livesHour_3 : List UInt8 := dkwX1_livesHour_3 ++ dktX1_livesHour_4
def dkwX1_livesHour_2 : List UInt8 := [184, 0, 161, 42, 28, 182, 0, 166, 182, 0, 170, 160, 0, 19, 42, 43, 28, 29, 182, 1, 24, 153, 0, 9]
abbrev dktX1_livesHour_2 : List UInt8 := dkwX1_livesHour_2 ++ dktX1_livesHour_3
def dkwX1_livesHour_1 : List UInt8 := [42, 7, 182, 1, 141, 154, 0, 49, 43, 28, 182, 1, 34, 167, 0, 41, 42, 43, 28, 182, 1, 144, 62, 29]
abbrev dktX1_livesHour_1 : List UInt8 := dkwX1_livesHour_1 ++ dktX1_livesHour_2
def dkwX1_livesHour_0 : List UInt8 := [42, 182, 0, 148, 158, 0, 74, 42, 42, 182, 0, 148, 182, 1, 141, 61, 43, 28, 182, 0, 157, 153, 0, 19]
abbrev dktX1_livesHour_0 : List UInt8 := dkwX1_livesHour_0 ++ dktX1_livesHour_1
theorem dksX1_livesHour_0 : cX1_livesHour.data.toList.drop 0 = dktX1_livesHour_0 := by decide +kernel
theorem dksX1_livesHour_1 : cX1_livesHour.data.toList.drop 24 = dktX1_livesHour_1 := dk_seg dksX1_livesHour_0 24 rfl rfl
theorem dksX1_livesHour_2 : cX1_livesHour.data.toList.drop 48 = dktX1_livesHour_2 := dk_seg dksX1_livesHour_1 24 rfl rfl
theorem dksX1_livesHour_3 : cX1_livesHour.data.toList.drop 72 = dktX1_livesHour_3 := dk_seg dksX1_livesHour_2 24 rfl rfl
theorem dksX1_livesHour_4 : cX1_livesHour.data.toList.drop 96 = dktX1_livesHour_4 := dk_seg dksX1_livesHour_3 24 rfl rfl
theorem dX1_livesHour_0 : decode cX1_livesHour 0 = .ok (.aload_n 0, 1) := dk_42 (dk_at dksX1_livesHour_0 0 rfl rfl)
theorem dX1_livesHour_1 : decode cX1_livesHour 1 = .ok (.invokevirtual 148, 3) := dk_182 0 148 (dk_at dksX1_livesHour_0 1 rfl rfl)
theorem dX1_livesHour_4 : decode cX1_livesHour 4 = .ok (.ifCond .le 74, 3) := dk_158 0 74 (dk_at dksX1_livesHour_0 4 rfl rfl)
theorem dX1_livesHour_7 : decode cX1_livesHour 7 = .ok (.aload_n 0, 1) := dk_42 (dk_at dksX1_livesHour_0 7 rfl rfl)
theorem dX1_livesHour_8 : decode cX1_livesHour 8 = .ok (.aload_n 0, 1) := dk_42 (dk_at dksX1_livesHour_0 8 rfl rfl)
theorem dX1_livesHour_9 : decode cX1_livesHour 9 = .ok (.invokevirtual 148, 3) := dk_182 0 148 (dk_at dksX1_livesHour_0 9 rfl rfl)
theorem dX1_livesHour_12 : decode cX1_livesHour 12 = .ok (.invokevirtual 397, 3) := dk_182 1 141 (dk_at dksX1_livesHour_0 12 rfl rfl)
theorem dX1_livesHour_15 : decode cX1_livesHour 15 = .ok (.istore_n 2, 1) := dk_61 (dk_at dksX1_livesHour_0 15 rfl rfl)
theorem dX1_livesHour_16 : decode cX1_livesHour 16 = .ok (.aload_n 1, 1) := dk_43 (dk_at dksX1_livesHour_0 16 rfl rfl)
theorem dX1_livesHour_17 : decode cX1_livesHour 17 = .ok (.iload_n 2, 1) := dk_28 (dk_at dksX1_livesHour_0 17 rfl rfl)
theorem dX1_livesHour_18 : decode cX1_livesHour 18 = .ok (.invokevirtual 157, 3) := dk_182 0 157 (dk_at dksX1_livesHour_0 18 rfl rfl)
theorem dX1_livesHour_21 : decode cX1_livesHour 21 = .ok (.ifCond .eq 19, 3) := dk_153 0 19 (dk_at dksX1_livesHour_0 21 rfl rfl)
theorem dX1_livesHour_24 : decode cX1_livesHour 24 = .ok (.aload_n 0, 1) := dk_42 (dk_at dksX1_livesHour_1 0 rfl rfl)
theorem dX1_livesHour_25 : decode cX1_livesHour 25 = .ok (.iconst 4, 1) := dk_7 (dk_at dksX1_livesHour_1 1 rfl rfl)
theorem dX1_livesHour_26 : decode cX1_livesHour 26 = .ok (.invokevirtual 397, 3) := dk_182 1 141 (dk_at dksX1_livesHour_1 2 rfl rfl)
theorem dX1_livesHour_29 : decode cX1_livesHour 29 = .ok (.ifCond .ne 49, 3) := dk_154 0 49 (dk_at dksX1_livesHour_1 5 rfl rfl)
theorem dX1_livesHour_32 : decode cX1_livesHour 32 = .ok (.aload_n 1, 1) := dk_43 (dk_at dksX1_livesHour_1 8 rfl rfl)
theorem dX1_livesHour_33 : decode cX1_livesHour 33 = .ok (.iload_n 2, 1) := dk_28 (dk_at dksX1_livesHour_1 9 rfl rfl)
theorem dX1_livesHour_34 : decode cX1_livesHour 34 = .ok (.invokevirtual 290, 3) := dk_182 1 34 (dk_at dksX1_livesHour_1 10 rfl rfl)
theorem dX1_livesHour_37 : decode cX1_livesHour 37 = .ok (.goto 41, 3) := dk_167 0 41 (dk_at dksX1_livesHour_1 13 rfl rfl)
theorem dX1_livesHour_40 : decode cX1_livesHour 40 = .ok (.aload_n 0, 1) := dk_42 (dk_at dksX1_livesHour_1 16 rfl rfl)
theorem dX1_livesHour_41 : decode cX1_livesHour 41 = .ok (.aload_n 1, 1) := dk_43 (dk_at dksX1_livesHour_1 17 rfl rfl)
theorem dX1_livesHour_42 : decode cX1_livesHour 42 = .ok (.iload_n 2, 1) := dk_28 (dk_at dksX1_livesHour_1 18 rfl rfl)
theorem dX1_livesHour_43 : decode cX1_livesHour 43 = .ok (.invokevirtual 400, 3) := dk_182 1 144 (dk_at dksX1_livesHour_1 19 rfl rfl)
theorem dX1_livesHour_46 : decode cX1_livesHour 46 = .ok (.istore_n 3, 1) := dk_62 (dk_at dksX1_livesHour_1 22 rfl rfl)
theorem dX1_livesHour_47 : decode cX1_livesHour 47 = .ok (.iload_n 3, 1) := dk_29 (dk_at dksX1_livesHour_1 23 rfl rfl)
theorem dX1_livesHour_48 : decode cX1_livesHour 48 = .ok (.invokestatic 161, 3) := dk_184 0 161 (dk_at dksX1_livesHour_2 0 rfl rfl)
theorem dX1_livesHour_51 : decode cX1_livesHour 51 = .ok (.aload_n 0, 1) := dk_42 (dk_at dksX1_livesHour_2 3 rfl rfl)
theorem dX1_livesHour_52 : decode cX1_livesHour 52 = .ok (.iload_n 2, 1) := dk_28 (dk_at dksX1_livesHour_2 4 rfl rfl)
theorem dX1_livesHour_53 : decode cX1_livesHour 53 = .ok (.invokevirtual 166, 3) := dk_182 0 166 (dk_at dksX1_livesHour_2 5 rfl rfl)
theorem dX1_livesHour_56 : decode cX1_livesHour 56 = .ok (.invokevirtual 170, 3) := dk_182 0 170 (dk_at dksX1_livesHour_2 8 rfl rfl)
theorem dX1_livesHour_59 : decode cX1_livesHour 59 = .ok (.if_icmp .ne 19, 3) := dk_160 0 19 (dk_at dksX1_livesHour_2 11 rfl rfl)
theorem dX1_livesHour_62 : decode cX1_livesHour 62 = .ok (.aload_n 0, 1) := dk_42 (dk_at dksX1_livesHour_2 14 rfl rfl)
theorem dX1_livesHour_63 : decode cX1_livesHour 63 = .ok (.aload_n 1, 1) := dk_43 (dk_at dksX1_livesHour_2 15 rfl rfl)
theorem dX1_livesHour_64 : decode cX1_livesHour 64 = .ok (.iload_n 2, 1) := dk_28 (dk_at dksX1_livesHour_2 16 rfl rfl)
theorem dX1_livesHour_65 : decode cX1_livesHour 65 = .ok (.iload_n 3, 1) := dk_29 (dk_at dksX1_livesHour_2 17 rfl rfl)
theorem dX1_livesHour_66 : decode cX1_livesHour 66 = .ok (.invokevirtual 280, 3) := dk_182 1 24 (dk_at dksX1_livesHour_2 18 rfl rfl)
theorem dX1_livesHour_69 : decode cX1_livesHour 69 = .ok (.ifCond .eq 9, 3) := dk_153 0 9 (dk_at dksX1_livesHour_2 21 rfl rfl)
theorem dX1_livesHour_72 : decode cX1_livesHour 72 = .ok (.aload_n 1, 1) := dk_43 (dk_at dksX1_livesHour_3 0 rfl rfl)
theorem dX1_livesHour_73 : decode cX1_livesHour 73 = .ok (.iload_n 2, 1) := dk_28 (dk_at dksX1_livesHour_3 1 rfl rfl)
theorem dX1_livesHour_74 : decode cX1_livesHour 74 = .ok (.iload_n 3, 1) := dk_29 (dk_at dksX1_livesHour_3 2 rfl rfl)
theorem dX1_livesHour_75 : decode cX1_livesHour 75 = .ok (.invokevirtual 286, 3) := dk_182 1 30 (dk_at dksX1_livesHour_3 3 rfl rfl)
theorem dX1_livesHour_78 : decode cX1_livesHour 78 = .ok (.aload_n 0, 1) := dk_42 (dk_at dksX1_livesHour_3 6 rfl rfl)
theorem dX1_livesHour_79 : decode cX1_livesHour 79 = .ok (.aload_n 1, 1) := dk_43 (dk_at dksX1_livesHour_3 7 rfl rfl)
theorem dX1_livesHour_80 : decode cX1_livesHour 80 = .ok (.aload_n 0, 1) := dk_42 (dk_at dksX1_livesHour_3 8 rfl rfl)
theorem dX1_livesHour_81 : decode cX1_livesHour 81 = .ok (.bipush 10, 2) := dk_16 10 (dk_at dksX1_livesHour_3 9 rfl rfl)
theorem dX1_livesHour_83 : decode cX1_livesHour 83 = .ok (.invokevirtual 397, 3) := dk_182 1 141 (dk_at dksX1_livesHour_3 11 rfl rfl)
theorem dX1_livesHour_86 : decode cX1_livesHour 86 = .ok (.aload_n 0, 1) := dk_42 (dk_at dksX1_livesHour_3 14 rfl rfl)
theorem dX1_livesHour_87 : decode cX1_livesHour 87 = .ok (.getfield 35, 3) := dk_180 0 35 (dk_at dksX1_livesHour_3 15 rfl rfl)
theorem dX1_livesHour_90 : decode cX1_livesHour 90 = .ok (.invokevirtual 336, 3) := dk_182 1 80 (dk_at dksX1_livesHour_3 18 rfl rfl)
theorem dX1_livesHour_93 : decode cX1_livesHour 93 = .ok (.if_icmp .ge 7, 3) := dk_162 0 7 (dk_at dksX1_livesHour_3 21 rfl rfl)
theorem dX1_livesHour_96 : decode cX1_livesHour 96 = .ok (.iconst 3, 1) := dk_6 (dk_at dksX1_livesHour_4 0 rfl rfl)
theorem dX1_livesHour_97 : decode cX1_livesHour 97 = .ok (.goto 4, 3) := dk_167 0 4 (dk_at dksX1_livesHour_4 1 rfl rfl)
theorem dX1_livesHour_100 : decode cX1_livesHour 100 = .ok (.iconst 0, 1) := dk_3 (dk_at dksX1_livesHour_4 4 rfl rfl)
theorem dX1_livesHour_101 : decode cX1_livesHour 101 = .ok (.invokevirtual 293, 3) := dk_182 1 37 (dk_at dksX1_livesHour_4 5 rfl rfl)
theorem dX1_livesHour_104 : decode cX1_livesHour 104 = .ok (.ireturn, 1) := dk_172 (dk_at dksX1_livesHour_4 8 rfl rfl)
abbrev cX1_draws : ByteArray := prog_1_method_61_code
def yX1_draws : MethodName := ⟨RX1, "draws", "(I)I"⟩
def dkwX1_draws_1 : List UInt8 := [20, 1, 139, 109, 27, 133, 113, 136, 172]
abbrev dktX1_draws_1 : List UInt8 := dkwX1_draws_1 ++ []
def dkwX1_draws_0 : List UInt8 := [42, 42, 180, 1, 129, 20, 1, 133, 105, 20, 1, 135, 97, 20, 1, 137, 113, 181, 1, 129, 42, 180, 1, 129]
abbrev dktX1_draws_0 : List UInt8 := dkwX1_draws_0 ++ dktX1_draws_1
theorem dksX1_draws_0 : cX1_draws.data.toList.drop 0 = dktX1_draws_0 := by decide +kernel
theorem dksX1_draws_1 : cX1_draws.data.toList.drop 24 = dktX1_draws_1 := dk_seg dksX1_draws_0 24 rfl rfl
theorem dX1_draws_0 : decode cX1_draws 0 = .ok (.aload_n 0, 1) := dk_42 (dk_at dksX1_draws_0 0 rfl rfl)
theorem dX1_draws_1 : decode cX1_draws 1 = .ok (.aload_n 0, 1) := dk_42 (dk_at dksX1_draws_0 1 rfl rfl)
theorem dX1_draws_2 : decode cX1_draws 2 = .ok (.getfield 385, 3) := dk_180 1 129 (dk_at dksX1_draws_0 2 rfl rfl)
theorem dX1_draws_5 : decode cX1_draws 5 = .ok (.ldc2_w 389, 3) := dk_20 1 133 (dk_at dksX1_draws_0 5 rfl rfl)
theorem dX1_draws_8 : decode cX1_draws 8 = .ok (.lmul, 1) := dk_105 (dk_at dksX1_draws_0 8 rfl rfl)
theorem dX1_draws_9 : decode cX1_draws 9 = .ok (.ldc2_w 391, 3) := dk_20 1 135 (dk_at dksX1_draws_0 9 rfl rfl)
theorem dX1_draws_12 : decode cX1_draws 12 = .ok (.ladd, 1) := dk_97 (dk_at dksX1_draws_0 12 rfl rfl)
theorem dX1_draws_13 : decode cX1_draws 13 = .ok (.ldc2_w 393, 3) := dk_20 1 137 (dk_at dksX1_draws_0 13 rfl rfl)
theorem dX1_draws_16 : decode cX1_draws 16 = .ok (.lrem, 1) := dk_113 (dk_at dksX1_draws_0 16 rfl rfl)
theorem dX1_draws_17 : decode cX1_draws 17 = .ok (.putfield 385, 3) := dk_181 1 129 (dk_at dksX1_draws_0 17 rfl rfl)
theorem dX1_draws_20 : decode cX1_draws 20 = .ok (.aload_n 0, 1) := dk_42 (dk_at dksX1_draws_0 20 rfl rfl)
theorem dX1_draws_21 : decode cX1_draws 21 = .ok (.getfield 385, 3) := dk_180 1 129 (dk_at dksX1_draws_0 21 rfl rfl)
theorem dX1_draws_24 : decode cX1_draws 24 = .ok (.ldc2_w 395, 3) := dk_20 1 139 (dk_at dksX1_draws_1 0 rfl rfl)
theorem dX1_draws_27 : decode cX1_draws 27 = .ok (.ldiv, 1) := dk_109 (dk_at dksX1_draws_1 3 rfl rfl)
theorem dX1_draws_28 : decode cX1_draws 28 = .ok (.iload_n 1, 1) := dk_27 (dk_at dksX1_draws_1 4 rfl rfl)
theorem dX1_draws_29 : decode cX1_draws 29 = .ok (.i2l, 1) := dk_133 (dk_at dksX1_draws_1 5 rfl rfl)
theorem dX1_draws_30 : decode cX1_draws 30 = .ok (.lrem, 1) := dk_113 (dk_at dksX1_draws_1 6 rfl rfl)
theorem dX1_draws_31 : decode cX1_draws 31 = .ok (.l2i, 1) := dk_136 (dk_at dksX1_draws_1 7 rfl rfl)
theorem dX1_draws_32 : decode cX1_draws 32 = .ok (.ireturn, 1) := dk_172 (dk_at dksX1_draws_1 8 rfl rfl)
abbrev cX1_firstFree : ByteArray := prog_1_method_62_code
def yX1_firstFree : MethodName := ⟨RX1, "firstFree", "(LPegLaws$State;I)I"⟩
def dkwX1_firstFree_2 : List UInt8 := [120, 128, 54, 4, 132, 5, 1, 167, 255, 212, 21, 4, 172]
abbrev dktX1_firstFree_2 : List UInt8 := dkwX1_firstFree_2 ++ []
def dkwX1_firstFree_1 : List UInt8 := [28, 182, 0, 166, 182, 0, 170, 162, 0, 27, 29, 21, 5, 184, 0, 177, 153, 0, 12, 21, 4, 4, 21, 5]
abbrev dktX1_firstFree_1 : List UInt8 := dkwX1_firstFree_1 ++ dktX1_firstFree_2
def dkwX1_firstFree_0 : List UInt8 := [43, 182, 0, 193, 62, 3, 54, 4, 3, 54, 5, 21, 5, 16, 8, 162, 0, 43, 21, 4, 184, 0, 161, 42]
abbrev dktX1_firstFree_0 : List UInt8 := dkwX1_firstFree_0 ++ dktX1_firstFree_1
theorem dksX1_firstFree_0 : cX1_firstFree.data.toList.drop 0 = dktX1_firstFree_0 := by decide +kernel
theorem dksX1_firstFree_1 : cX1_firstFree.data.toList.drop 24 = dktX1_firstFree_1 := dk_seg dksX1_firstFree_0 24 rfl rfl
theorem dksX1_firstFree_2 : cX1_firstFree.data.toList.drop 48 = dktX1_firstFree_2 := dk_seg dksX1_firstFree_1 24 rfl rfl
theorem dX1_firstFree_0 : decode cX1_firstFree 0 = .ok (.aload_n 1, 1) := dk_43 (dk_at dksX1_firstFree_0 0 rfl rfl)
theorem dX1_firstFree_1 : decode cX1_firstFree 1 = .ok (.invokevirtual 193, 3) := dk_182 0 193 (dk_at dksX1_firstFree_0 1 rfl rfl)
theorem dX1_firstFree_4 : decode cX1_firstFree 4 = .ok (.istore_n 3, 1) := dk_62 (dk_at dksX1_firstFree_0 4 rfl rfl)
theorem dX1_firstFree_5 : decode cX1_firstFree 5 = .ok (.iconst 0, 1) := dk_3 (dk_at dksX1_firstFree_0 5 rfl rfl)
theorem dX1_firstFree_6 : decode cX1_firstFree 6 = .ok (.istore 4, 2) := dk_54 4 (dk_at dksX1_firstFree_0 6 rfl rfl)
theorem dX1_firstFree_8 : decode cX1_firstFree 8 = .ok (.iconst 0, 1) := dk_3 (dk_at dksX1_firstFree_0 8 rfl rfl)
theorem dX1_firstFree_9 : decode cX1_firstFree 9 = .ok (.istore 5, 2) := dk_54 5 (dk_at dksX1_firstFree_0 9 rfl rfl)
theorem dX1_firstFree_11 : decode cX1_firstFree 11 = .ok (.iload 5, 2) := dk_21 5 (dk_at dksX1_firstFree_0 11 rfl rfl)
theorem dX1_firstFree_13 : decode cX1_firstFree 13 = .ok (.bipush 8, 2) := dk_16 8 (dk_at dksX1_firstFree_0 13 rfl rfl)
theorem dX1_firstFree_15 : decode cX1_firstFree 15 = .ok (.if_icmp .ge 43, 3) := dk_162 0 43 (dk_at dksX1_firstFree_0 15 rfl rfl)
theorem dX1_firstFree_18 : decode cX1_firstFree 18 = .ok (.iload 4, 2) := dk_21 4 (dk_at dksX1_firstFree_0 18 rfl rfl)
theorem dX1_firstFree_20 : decode cX1_firstFree 20 = .ok (.invokestatic 161, 3) := dk_184 0 161 (dk_at dksX1_firstFree_0 20 rfl rfl)
theorem dX1_firstFree_23 : decode cX1_firstFree 23 = .ok (.aload_n 0, 1) := dk_42 (dk_at dksX1_firstFree_0 23 rfl rfl)
theorem dX1_firstFree_24 : decode cX1_firstFree 24 = .ok (.iload_n 2, 1) := dk_28 (dk_at dksX1_firstFree_1 0 rfl rfl)
theorem dX1_firstFree_25 : decode cX1_firstFree 25 = .ok (.invokevirtual 166, 3) := dk_182 0 166 (dk_at dksX1_firstFree_1 1 rfl rfl)
theorem dX1_firstFree_28 : decode cX1_firstFree 28 = .ok (.invokevirtual 170, 3) := dk_182 0 170 (dk_at dksX1_firstFree_1 4 rfl rfl)
theorem dX1_firstFree_31 : decode cX1_firstFree 31 = .ok (.if_icmp .ge 27, 3) := dk_162 0 27 (dk_at dksX1_firstFree_1 7 rfl rfl)
theorem dX1_firstFree_34 : decode cX1_firstFree 34 = .ok (.iload_n 3, 1) := dk_29 (dk_at dksX1_firstFree_1 10 rfl rfl)
theorem dX1_firstFree_35 : decode cX1_firstFree 35 = .ok (.iload 5, 2) := dk_21 5 (dk_at dksX1_firstFree_1 11 rfl rfl)
theorem dX1_firstFree_37 : decode cX1_firstFree 37 = .ok (.invokestatic 177, 3) := dk_184 0 177 (dk_at dksX1_firstFree_1 13 rfl rfl)
theorem dX1_firstFree_40 : decode cX1_firstFree 40 = .ok (.ifCond .eq 12, 3) := dk_153 0 12 (dk_at dksX1_firstFree_1 16 rfl rfl)
theorem dX1_firstFree_43 : decode cX1_firstFree 43 = .ok (.iload 4, 2) := dk_21 4 (dk_at dksX1_firstFree_1 19 rfl rfl)
theorem dX1_firstFree_45 : decode cX1_firstFree 45 = .ok (.iconst 1, 1) := dk_4 (dk_at dksX1_firstFree_1 21 rfl rfl)
theorem dX1_firstFree_46 : decode cX1_firstFree 46 = .ok (.iload 5, 2) := dk_21 5 (dk_at dksX1_firstFree_1 22 rfl rfl)
theorem dX1_firstFree_48 : decode cX1_firstFree 48 = .ok (.ishl, 1) := dk_120 (dk_at dksX1_firstFree_2 0 rfl rfl)
theorem dX1_firstFree_49 : decode cX1_firstFree 49 = .ok (.ior, 1) := dk_128 (dk_at dksX1_firstFree_2 1 rfl rfl)
theorem dX1_firstFree_50 : decode cX1_firstFree 50 = .ok (.istore 4, 2) := dk_54 4 (dk_at dksX1_firstFree_2 2 rfl rfl)
theorem dX1_firstFree_52 : decode cX1_firstFree 52 = .ok (.iinc 5 1, 3) := dk_132 5 1 (dk_at dksX1_firstFree_2 4 rfl rfl)
theorem dX1_firstFree_55 : decode cX1_firstFree 55 = .ok (.goto (-44), 3) := dk_167 255 212 (dk_at dksX1_firstFree_2 7 rfl rfl)
theorem dX1_firstFree_58 : decode cX1_firstFree 58 = .ok (.iload 4, 2) := dk_21 4 (dk_at dksX1_firstFree_2 10 rfl rfl)
theorem dX1_firstFree_60 : decode cX1_firstFree 60 = .ok (.ireturn, 1) := dk_172 (dk_at dksX1_firstFree_2 12 rfl rfl)
abbrev cX1_mark : ByteArray := prog_1_method_65_code
def yX1_mark : MethodName := ⟨RX1, "mark", "(IZ)Z"⟩
def dkwX1_mark_7 : List UInt8 := [184, 1, 69, 45, 42, 180, 0, 125, 181, 1, 158, 4, 172]
abbrev dktX1_mark_7 : List UInt8 := dkwX1_mark_7 ++ []
def dkwX1_mark_6 : List UInt8 := [184, 1, 69, 42, 180, 0, 87, 45, 180, 1, 154, 184, 1, 69, 42, 180, 0, 90, 45, 180, 1, 157]
abbrev dktX1_mark_6 : List UInt8 := dkwX1_mark_6 ++ dktX1_mark_7
def dkwX1_mark_5 : List UInt8 := [167, 0, 55, 45, 180, 1, 151, 42, 180, 0, 51, 182, 1, 20, 42, 180, 0, 84, 45, 180, 1, 152]
abbrev dktX1_mark_5 : List UInt8 := dkwX1_mark_5 ++ dktX1_mark_6
def dkwX1_mark_4 : List UInt8 := [180, 1, 157, 42, 180, 0, 90, 184, 1, 69, 42, 45, 180, 1, 158, 181, 0, 125, 42, 3, 181, 0, 128]
abbrev dktX1_mark_4 : List UInt8 := dkwX1_mark_4 ++ dktX1_mark_5
def dkwX1_mark_3 : List UInt8 := [180, 1, 152, 42, 180, 0, 84, 184, 1, 69, 45, 180, 1, 154, 42, 180, 0, 87, 184, 1, 69, 45]
abbrev dktX1_mark_3 : List UInt8 := dkwX1_mark_3 ++ dktX1_mark_4
def dkwX1_mark_2 : List UInt8 := [180, 0, 98, 27, 50, 78, 28, 153, 0, 63, 42, 180, 0, 51, 45, 180, 1, 151, 182, 1, 20, 45]
abbrev dktX1_mark_2 : List UInt8 := dkwX1_mark_2 ++ dktX1_mark_3
def dkwX1_mark_1 : List UInt8 := [42, 180, 0, 98, 27, 50, 199, 0, 16, 42, 180, 0, 98, 27, 187, 0, 96, 89, 183, 1, 150, 83, 42]
abbrev dktX1_mark_1 : List UInt8 := dkwX1_mark_1 ++ dktX1_mark_2
def dkwX1_mark_0 : List UInt8 := [27, 3, 6, 184, 0, 150, 153, 0, 16, 28, 153, 0, 14, 42, 180, 0, 98, 27, 50, 199, 0, 5, 3, 172]
abbrev dktX1_mark_0 : List UInt8 := dkwX1_mark_0 ++ dktX1_mark_1
theorem dksX1_mark_0 : cX1_mark.data.toList.drop 0 = dktX1_mark_0 := by decide +kernel
theorem dksX1_mark_1 : cX1_mark.data.toList.drop 24 = dktX1_mark_1 := dk_seg dksX1_mark_0 24 rfl rfl
theorem dksX1_mark_2 : cX1_mark.data.toList.drop 47 = dktX1_mark_2 := dk_seg dksX1_mark_1 23 rfl rfl
theorem dksX1_mark_3 : cX1_mark.data.toList.drop 69 = dktX1_mark_3 := dk_seg dksX1_mark_2 22 rfl rfl
theorem dksX1_mark_4 : cX1_mark.data.toList.drop 91 = dktX1_mark_4 := dk_seg dksX1_mark_3 22 rfl rfl
theorem dksX1_mark_5 : cX1_mark.data.toList.drop 114 = dktX1_mark_5 := dk_seg dksX1_mark_4 23 rfl rfl
theorem dksX1_mark_6 : cX1_mark.data.toList.drop 136 = dktX1_mark_6 := dk_seg dksX1_mark_5 22 rfl rfl
theorem dksX1_mark_7 : cX1_mark.data.toList.drop 158 = dktX1_mark_7 := dk_seg dksX1_mark_6 22 rfl rfl
theorem dX1_mark_0 : decode cX1_mark 0 = .ok (.iload_n 1, 1) := dk_27 (dk_at dksX1_mark_0 0 rfl rfl)
theorem dX1_mark_1 : decode cX1_mark 1 = .ok (.iconst 0, 1) := dk_3 (dk_at dksX1_mark_0 1 rfl rfl)
theorem dX1_mark_2 : decode cX1_mark 2 = .ok (.iconst 3, 1) := dk_6 (dk_at dksX1_mark_0 2 rfl rfl)
theorem dX1_mark_3 : decode cX1_mark 3 = .ok (.invokestatic 150, 3) := dk_184 0 150 (dk_at dksX1_mark_0 3 rfl rfl)
theorem dX1_mark_6 : decode cX1_mark 6 = .ok (.ifCond .eq 16, 3) := dk_153 0 16 (dk_at dksX1_mark_0 6 rfl rfl)
theorem dX1_mark_9 : decode cX1_mark 9 = .ok (.iload_n 2, 1) := dk_28 (dk_at dksX1_mark_0 9 rfl rfl)
theorem dX1_mark_10 : decode cX1_mark 10 = .ok (.ifCond .eq 14, 3) := dk_153 0 14 (dk_at dksX1_mark_0 10 rfl rfl)
theorem dX1_mark_13 : decode cX1_mark 13 = .ok (.aload_n 0, 1) := dk_42 (dk_at dksX1_mark_0 13 rfl rfl)
theorem dX1_mark_14 : decode cX1_mark 14 = .ok (.getfield 98, 3) := dk_180 0 98 (dk_at dksX1_mark_0 14 rfl rfl)
theorem dX1_mark_17 : decode cX1_mark 17 = .ok (.iload_n 1, 1) := dk_27 (dk_at dksX1_mark_0 17 rfl rfl)
theorem dX1_mark_18 : decode cX1_mark 18 = .ok (.aaload, 1) := dk_50 (dk_at dksX1_mark_0 18 rfl rfl)
theorem dX1_mark_19 : decode cX1_mark 19 = .ok (.ifnonnull 5, 3) := dk_199 0 5 (dk_at dksX1_mark_0 19 rfl rfl)
theorem dX1_mark_22 : decode cX1_mark 22 = .ok (.iconst 0, 1) := dk_3 (dk_at dksX1_mark_0 22 rfl rfl)
theorem dX1_mark_23 : decode cX1_mark 23 = .ok (.ireturn, 1) := dk_172 (dk_at dksX1_mark_0 23 rfl rfl)
theorem dX1_mark_24 : decode cX1_mark 24 = .ok (.aload_n 0, 1) := dk_42 (dk_at dksX1_mark_1 0 rfl rfl)
theorem dX1_mark_25 : decode cX1_mark 25 = .ok (.getfield 98, 3) := dk_180 0 98 (dk_at dksX1_mark_1 1 rfl rfl)
theorem dX1_mark_28 : decode cX1_mark 28 = .ok (.iload_n 1, 1) := dk_27 (dk_at dksX1_mark_1 4 rfl rfl)
theorem dX1_mark_29 : decode cX1_mark 29 = .ok (.aaload, 1) := dk_50 (dk_at dksX1_mark_1 5 rfl rfl)
theorem dX1_mark_30 : decode cX1_mark 30 = .ok (.ifnonnull 16, 3) := dk_199 0 16 (dk_at dksX1_mark_1 6 rfl rfl)
theorem dX1_mark_33 : decode cX1_mark 33 = .ok (.aload_n 0, 1) := dk_42 (dk_at dksX1_mark_1 9 rfl rfl)
theorem dX1_mark_34 : decode cX1_mark 34 = .ok (.getfield 98, 3) := dk_180 0 98 (dk_at dksX1_mark_1 10 rfl rfl)
theorem dX1_mark_37 : decode cX1_mark 37 = .ok (.iload_n 1, 1) := dk_27 (dk_at dksX1_mark_1 13 rfl rfl)
theorem dX1_mark_38 : decode cX1_mark 38 = .ok (.new 96, 3) := dk_187 0 96 (dk_at dksX1_mark_1 14 rfl rfl)
theorem dX1_mark_41 : decode cX1_mark 41 = .ok (.dup, 1) := dk_89 (dk_at dksX1_mark_1 17 rfl rfl)
theorem dX1_mark_42 : decode cX1_mark 42 = .ok (.invokespecial 406, 3) := dk_183 1 150 (dk_at dksX1_mark_1 18 rfl rfl)
theorem dX1_mark_45 : decode cX1_mark 45 = .ok (.aastore, 1) := dk_83 (dk_at dksX1_mark_1 21 rfl rfl)
theorem dX1_mark_46 : decode cX1_mark 46 = .ok (.aload_n 0, 1) := dk_42 (dk_at dksX1_mark_1 22 rfl rfl)
theorem dX1_mark_47 : decode cX1_mark 47 = .ok (.getfield 98, 3) := dk_180 0 98 (dk_at dksX1_mark_2 0 rfl rfl)
theorem dX1_mark_50 : decode cX1_mark 50 = .ok (.iload_n 1, 1) := dk_27 (dk_at dksX1_mark_2 3 rfl rfl)
theorem dX1_mark_51 : decode cX1_mark 51 = .ok (.aaload, 1) := dk_50 (dk_at dksX1_mark_2 4 rfl rfl)
theorem dX1_mark_52 : decode cX1_mark 52 = .ok (.astore_n 3, 1) := dk_78 (dk_at dksX1_mark_2 5 rfl rfl)
theorem dX1_mark_53 : decode cX1_mark 53 = .ok (.iload_n 2, 1) := dk_28 (dk_at dksX1_mark_2 6 rfl rfl)
theorem dX1_mark_54 : decode cX1_mark 54 = .ok (.ifCond .eq 63, 3) := dk_153 0 63 (dk_at dksX1_mark_2 7 rfl rfl)
theorem dX1_mark_57 : decode cX1_mark 57 = .ok (.aload_n 0, 1) := dk_42 (dk_at dksX1_mark_2 10 rfl rfl)
theorem dX1_mark_58 : decode cX1_mark 58 = .ok (.getfield 51, 3) := dk_180 0 51 (dk_at dksX1_mark_2 11 rfl rfl)
theorem dX1_mark_61 : decode cX1_mark 61 = .ok (.aload_n 3, 1) := dk_45 (dk_at dksX1_mark_2 14 rfl rfl)
theorem dX1_mark_62 : decode cX1_mark 62 = .ok (.getfield 407, 3) := dk_180 1 151 (dk_at dksX1_mark_2 15 rfl rfl)
theorem dX1_mark_65 : decode cX1_mark 65 = .ok (.invokevirtual 276, 3) := dk_182 1 20 (dk_at dksX1_mark_2 18 rfl rfl)
theorem dX1_mark_68 : decode cX1_mark 68 = .ok (.aload_n 3, 1) := dk_45 (dk_at dksX1_mark_2 21 rfl rfl)
theorem dX1_mark_69 : decode cX1_mark 69 = .ok (.getfield 408, 3) := dk_180 1 152 (dk_at dksX1_mark_3 0 rfl rfl)
theorem dX1_mark_72 : decode cX1_mark 72 = .ok (.aload_n 0, 1) := dk_42 (dk_at dksX1_mark_3 3 rfl rfl)
theorem dX1_mark_73 : decode cX1_mark 73 = .ok (.getfield 84, 3) := dk_180 0 84 (dk_at dksX1_mark_3 4 rfl rfl)
theorem dX1_mark_76 : decode cX1_mark 76 = .ok (.invokestatic 325, 3) := dk_184 1 69 (dk_at dksX1_mark_3 7 rfl rfl)
theorem dX1_mark_79 : decode cX1_mark 79 = .ok (.aload_n 3, 1) := dk_45 (dk_at dksX1_mark_3 10 rfl rfl)
theorem dX1_mark_80 : decode cX1_mark 80 = .ok (.getfield 410, 3) := dk_180 1 154 (dk_at dksX1_mark_3 11 rfl rfl)
theorem dX1_mark_83 : decode cX1_mark 83 = .ok (.aload_n 0, 1) := dk_42 (dk_at dksX1_mark_3 14 rfl rfl)
theorem dX1_mark_84 : decode cX1_mark 84 = .ok (.getfield 87, 3) := dk_180 0 87 (dk_at dksX1_mark_3 15 rfl rfl)
theorem dX1_mark_87 : decode cX1_mark 87 = .ok (.invokestatic 325, 3) := dk_184 1 69 (dk_at dksX1_mark_3 18 rfl rfl)
theorem dX1_mark_90 : decode cX1_mark 90 = .ok (.aload_n 3, 1) := dk_45 (dk_at dksX1_mark_3 21 rfl rfl)
theorem dX1_mark_91 : decode cX1_mark 91 = .ok (.getfield 413, 3) := dk_180 1 157 (dk_at dksX1_mark_4 0 rfl rfl)
theorem dX1_mark_94 : decode cX1_mark 94 = .ok (.aload_n 0, 1) := dk_42 (dk_at dksX1_mark_4 3 rfl rfl)
theorem dX1_mark_95 : decode cX1_mark 95 = .ok (.getfield 90, 3) := dk_180 0 90 (dk_at dksX1_mark_4 4 rfl rfl)
theorem dX1_mark_98 : decode cX1_mark 98 = .ok (.invokestatic 325, 3) := dk_184 1 69 (dk_at dksX1_mark_4 7 rfl rfl)
theorem dX1_mark_101 : decode cX1_mark 101 = .ok (.aload_n 0, 1) := dk_42 (dk_at dksX1_mark_4 10 rfl rfl)
theorem dX1_mark_102 : decode cX1_mark 102 = .ok (.aload_n 3, 1) := dk_45 (dk_at dksX1_mark_4 11 rfl rfl)
theorem dX1_mark_103 : decode cX1_mark 103 = .ok (.getfield 414, 3) := dk_180 1 158 (dk_at dksX1_mark_4 12 rfl rfl)
theorem dX1_mark_106 : decode cX1_mark 106 = .ok (.putfield 125, 3) := dk_181 0 125 (dk_at dksX1_mark_4 15 rfl rfl)
theorem dX1_mark_109 : decode cX1_mark 109 = .ok (.aload_n 0, 1) := dk_42 (dk_at dksX1_mark_4 18 rfl rfl)
theorem dX1_mark_110 : decode cX1_mark 110 = .ok (.iconst 0, 1) := dk_3 (dk_at dksX1_mark_4 19 rfl rfl)
theorem dX1_mark_111 : decode cX1_mark 111 = .ok (.putfield 128, 3) := dk_181 0 128 (dk_at dksX1_mark_4 20 rfl rfl)
theorem dX1_mark_114 : decode cX1_mark 114 = .ok (.goto 55, 3) := dk_167 0 55 (dk_at dksX1_mark_5 0 rfl rfl)
theorem dX1_mark_117 : decode cX1_mark 117 = .ok (.aload_n 3, 1) := dk_45 (dk_at dksX1_mark_5 3 rfl rfl)
theorem dX1_mark_118 : decode cX1_mark 118 = .ok (.getfield 407, 3) := dk_180 1 151 (dk_at dksX1_mark_5 4 rfl rfl)
theorem dX1_mark_121 : decode cX1_mark 121 = .ok (.aload_n 0, 1) := dk_42 (dk_at dksX1_mark_5 7 rfl rfl)
theorem dX1_mark_122 : decode cX1_mark 122 = .ok (.getfield 51, 3) := dk_180 0 51 (dk_at dksX1_mark_5 8 rfl rfl)
theorem dX1_mark_125 : decode cX1_mark 125 = .ok (.invokevirtual 276, 3) := dk_182 1 20 (dk_at dksX1_mark_5 11 rfl rfl)
theorem dX1_mark_128 : decode cX1_mark 128 = .ok (.aload_n 0, 1) := dk_42 (dk_at dksX1_mark_5 14 rfl rfl)
theorem dX1_mark_129 : decode cX1_mark 129 = .ok (.getfield 84, 3) := dk_180 0 84 (dk_at dksX1_mark_5 15 rfl rfl)
theorem dX1_mark_132 : decode cX1_mark 132 = .ok (.aload_n 3, 1) := dk_45 (dk_at dksX1_mark_5 18 rfl rfl)
theorem dX1_mark_133 : decode cX1_mark 133 = .ok (.getfield 408, 3) := dk_180 1 152 (dk_at dksX1_mark_5 19 rfl rfl)
theorem dX1_mark_136 : decode cX1_mark 136 = .ok (.invokestatic 325, 3) := dk_184 1 69 (dk_at dksX1_mark_6 0 rfl rfl)
theorem dX1_mark_139 : decode cX1_mark 139 = .ok (.aload_n 0, 1) := dk_42 (dk_at dksX1_mark_6 3 rfl rfl)
theorem dX1_mark_140 : decode cX1_mark 140 = .ok (.getfield 87, 3) := dk_180 0 87 (dk_at dksX1_mark_6 4 rfl rfl)
theorem dX1_mark_143 : decode cX1_mark 143 = .ok (.aload_n 3, 1) := dk_45 (dk_at dksX1_mark_6 7 rfl rfl)
theorem dX1_mark_144 : decode cX1_mark 144 = .ok (.getfield 410, 3) := dk_180 1 154 (dk_at dksX1_mark_6 8 rfl rfl)
theorem dX1_mark_147 : decode cX1_mark 147 = .ok (.invokestatic 325, 3) := dk_184 1 69 (dk_at dksX1_mark_6 11 rfl rfl)
theorem dX1_mark_150 : decode cX1_mark 150 = .ok (.aload_n 0, 1) := dk_42 (dk_at dksX1_mark_6 14 rfl rfl)
theorem dX1_mark_151 : decode cX1_mark 151 = .ok (.getfield 90, 3) := dk_180 0 90 (dk_at dksX1_mark_6 15 rfl rfl)
theorem dX1_mark_154 : decode cX1_mark 154 = .ok (.aload_n 3, 1) := dk_45 (dk_at dksX1_mark_6 18 rfl rfl)
theorem dX1_mark_155 : decode cX1_mark 155 = .ok (.getfield 413, 3) := dk_180 1 157 (dk_at dksX1_mark_6 19 rfl rfl)
theorem dX1_mark_158 : decode cX1_mark 158 = .ok (.invokestatic 325, 3) := dk_184 1 69 (dk_at dksX1_mark_7 0 rfl rfl)
theorem dX1_mark_161 : decode cX1_mark 161 = .ok (.aload_n 3, 1) := dk_45 (dk_at dksX1_mark_7 3 rfl rfl)
theorem dX1_mark_162 : decode cX1_mark 162 = .ok (.aload_n 0, 1) := dk_42 (dk_at dksX1_mark_7 4 rfl rfl)
theorem dX1_mark_163 : decode cX1_mark 163 = .ok (.getfield 125, 3) := dk_180 0 125 (dk_at dksX1_mark_7 5 rfl rfl)
theorem dX1_mark_166 : decode cX1_mark 166 = .ok (.putfield 414, 3) := dk_181 1 158 (dk_at dksX1_mark_7 8 rfl rfl)
theorem dX1_mark_169 : decode cX1_mark 169 = .ok (.iconst 1, 1) := dk_4 (dk_at dksX1_mark_7 11 rfl rfl)
theorem dX1_mark_170 : decode cX1_mark 170 = .ok (.ireturn, 1) := dk_172 (dk_at dksX1_mark_7 12 rfl rfl)
abbrev cX1_count : ByteArray := prog_1_method_67_code
def yX1_count : MethodName := ⟨RX1, "count", "(I)I"⟩
def dkwX1_count_6 : List UInt8 := [172, 42, 180, 0, 106, 172, 2, 172]
abbrev dktX1_count_6 : List UInt8 := dkwX1_count_6 ++ []
def dkwX1_count_5 : List UInt8 := [180, 0, 35, 180, 1, 162, 172, 42, 180, 0, 44, 182, 0, 138, 172, 42, 180, 0, 125, 172, 42, 180, 0, 128]
abbrev dktX1_count_5 : List UInt8 := dkwX1_count_5 ++ dktX1_count_6
def dkwX1_count_4 : List UInt8 := [180, 0, 244, 182, 0, 247, 172, 42, 42, 182, 1, 60, 182, 1, 54, 172, 42, 182, 1, 159, 172, 42]
abbrev dktX1_count_4 : List UInt8 := dkwX1_count_4 ++ dktX1_count_5
def dkwX1_count_3 : List UInt8 := [180, 0, 51, 182, 0, 196, 172, 42, 180, 0, 51, 180, 0, 244, 172, 42, 180, 0, 35, 42, 180, 0, 51]
abbrev dktX1_count_3 : List UInt8 := dkwX1_count_3 ++ dktX1_count_4
def dkwX1_count_2 : List UInt8 := [42, 182, 0, 148, 172, 42, 180, 0, 51, 180, 1, 8, 172, 42, 180, 0, 35, 182, 0, 187, 172, 42, 42]
abbrev dktX1_count_2 : List UInt8 := dkwX1_count_2 ++ dktX1_count_3
def dkwX1_count_1 : List UInt8 := [170, 0, 0, 0, 0, 0, 165, 0, 0, 0, 0, 0, 0, 0, 12, 0, 0, 0, 67, 0, 0, 0, 72, 0, 0, 0, 80, 0, 0, 0, 88, 0, 0, 0, 97, 0, 0, 0, 105, 0, 0, 0, 120, 0, 0, 0, 129, 0, 0, 0, 134, 0, 0, 0, 142, 0, 0, 0, 150, 0, 0, 0, 155, 0, 0, 0, 160]
abbrev dktX1_count_1 : List UInt8 := dkwX1_count_1 ++ dktX1_count_2
def dkwX1_count_0 : List UInt8 := [27]
abbrev dktX1_count_0 : List UInt8 := dkwX1_count_0 ++ dktX1_count_1
theorem dksX1_count_0 : cX1_count.data.toList.drop 0 = dktX1_count_0 := by decide +kernel
theorem dksX1_count_1 : cX1_count.data.toList.drop 1 = dktX1_count_1 := dk_seg dksX1_count_0 1 rfl rfl
theorem dksX1_count_2 : cX1_count.data.toList.drop 68 = dktX1_count_2 := dk_seg dksX1_count_1 67 rfl rfl
theorem dksX1_count_3 : cX1_count.data.toList.drop 91 = dktX1_count_3 := dk_seg dksX1_count_2 23 rfl rfl
theorem dksX1_count_4 : cX1_count.data.toList.drop 114 = dktX1_count_4 := dk_seg dksX1_count_3 23 rfl rfl
theorem dksX1_count_5 : cX1_count.data.toList.drop 136 = dktX1_count_5 := dk_seg dksX1_count_4 22 rfl rfl
theorem dksX1_count_6 : cX1_count.data.toList.drop 160 = dktX1_count_6 := dk_seg dksX1_count_5 24 rfl rfl
theorem dX1_count_0 : decode cX1_count 0 = .ok (.iload_n 1, 1) := dk_27 (dk_at dksX1_count_0 0 rfl rfl)
theorem dX1_count_1 : decode cX1_count 1 = .ok (.tableswitch 165 0 12 #[67, 72, 80, 88, 97, 105, 120, 129, 134, 142, 150, 155, 160], 67) := by decide +kernel
theorem dX1_count_68 : decode cX1_count 68 = .ok (.aload_n 0, 1) := dk_42 (dk_at dksX1_count_2 0 rfl rfl)
theorem dX1_count_69 : decode cX1_count 69 = .ok (.invokevirtual 148, 3) := dk_182 0 148 (dk_at dksX1_count_2 1 rfl rfl)
theorem dX1_count_72 : decode cX1_count 72 = .ok (.ireturn, 1) := dk_172 (dk_at dksX1_count_2 4 rfl rfl)
theorem dX1_count_73 : decode cX1_count 73 = .ok (.aload_n 0, 1) := dk_42 (dk_at dksX1_count_2 5 rfl rfl)
theorem dX1_count_74 : decode cX1_count 74 = .ok (.getfield 51, 3) := dk_180 0 51 (dk_at dksX1_count_2 6 rfl rfl)
theorem dX1_count_77 : decode cX1_count 77 = .ok (.getfield 264, 3) := dk_180 1 8 (dk_at dksX1_count_2 9 rfl rfl)
theorem dX1_count_80 : decode cX1_count 80 = .ok (.ireturn, 1) := dk_172 (dk_at dksX1_count_2 12 rfl rfl)
theorem dX1_count_81 : decode cX1_count 81 = .ok (.aload_n 0, 1) := dk_42 (dk_at dksX1_count_2 13 rfl rfl)
theorem dX1_count_82 : decode cX1_count 82 = .ok (.getfield 35, 3) := dk_180 0 35 (dk_at dksX1_count_2 14 rfl rfl)
theorem dX1_count_85 : decode cX1_count 85 = .ok (.invokevirtual 187, 3) := dk_182 0 187 (dk_at dksX1_count_2 17 rfl rfl)
theorem dX1_count_88 : decode cX1_count 88 = .ok (.ireturn, 1) := dk_172 (dk_at dksX1_count_2 20 rfl rfl)
theorem dX1_count_89 : decode cX1_count 89 = .ok (.aload_n 0, 1) := dk_42 (dk_at dksX1_count_2 21 rfl rfl)
theorem dX1_count_90 : decode cX1_count 90 = .ok (.aload_n 0, 1) := dk_42 (dk_at dksX1_count_2 22 rfl rfl)
theorem dX1_count_91 : decode cX1_count 91 = .ok (.getfield 51, 3) := dk_180 0 51 (dk_at dksX1_count_3 0 rfl rfl)
theorem dX1_count_94 : decode cX1_count 94 = .ok (.invokevirtual 196, 3) := dk_182 0 196 (dk_at dksX1_count_3 3 rfl rfl)
theorem dX1_count_97 : decode cX1_count 97 = .ok (.ireturn, 1) := dk_172 (dk_at dksX1_count_3 6 rfl rfl)
theorem dX1_count_98 : decode cX1_count 98 = .ok (.aload_n 0, 1) := dk_42 (dk_at dksX1_count_3 7 rfl rfl)
theorem dX1_count_99 : decode cX1_count 99 = .ok (.getfield 51, 3) := dk_180 0 51 (dk_at dksX1_count_3 8 rfl rfl)
theorem dX1_count_102 : decode cX1_count 102 = .ok (.getfield 244, 3) := dk_180 0 244 (dk_at dksX1_count_3 11 rfl rfl)
theorem dX1_count_105 : decode cX1_count 105 = .ok (.ireturn, 1) := dk_172 (dk_at dksX1_count_3 14 rfl rfl)
theorem dX1_count_106 : decode cX1_count 106 = .ok (.aload_n 0, 1) := dk_42 (dk_at dksX1_count_3 15 rfl rfl)
theorem dX1_count_107 : decode cX1_count 107 = .ok (.getfield 35, 3) := dk_180 0 35 (dk_at dksX1_count_3 16 rfl rfl)
theorem dX1_count_110 : decode cX1_count 110 = .ok (.aload_n 0, 1) := dk_42 (dk_at dksX1_count_3 19 rfl rfl)
theorem dX1_count_111 : decode cX1_count 111 = .ok (.getfield 51, 3) := dk_180 0 51 (dk_at dksX1_count_3 20 rfl rfl)
theorem dX1_count_114 : decode cX1_count 114 = .ok (.getfield 244, 3) := dk_180 0 244 (dk_at dksX1_count_4 0 rfl rfl)
theorem dX1_count_117 : decode cX1_count 117 = .ok (.invokevirtual 247, 3) := dk_182 0 247 (dk_at dksX1_count_4 3 rfl rfl)
theorem dX1_count_120 : decode cX1_count 120 = .ok (.ireturn, 1) := dk_172 (dk_at dksX1_count_4 6 rfl rfl)
theorem dX1_count_121 : decode cX1_count 121 = .ok (.aload_n 0, 1) := dk_42 (dk_at dksX1_count_4 7 rfl rfl)
theorem dX1_count_122 : decode cX1_count 122 = .ok (.aload_n 0, 1) := dk_42 (dk_at dksX1_count_4 8 rfl rfl)
theorem dX1_count_123 : decode cX1_count 123 = .ok (.invokevirtual 316, 3) := dk_182 1 60 (dk_at dksX1_count_4 9 rfl rfl)
theorem dX1_count_126 : decode cX1_count 126 = .ok (.invokevirtual 310, 3) := dk_182 1 54 (dk_at dksX1_count_4 12 rfl rfl)
theorem dX1_count_129 : decode cX1_count 129 = .ok (.ireturn, 1) := dk_172 (dk_at dksX1_count_4 15 rfl rfl)
theorem dX1_count_130 : decode cX1_count 130 = .ok (.aload_n 0, 1) := dk_42 (dk_at dksX1_count_4 16 rfl rfl)
theorem dX1_count_131 : decode cX1_count 131 = .ok (.invokevirtual 415, 3) := dk_182 1 159 (dk_at dksX1_count_4 17 rfl rfl)
theorem dX1_count_134 : decode cX1_count 134 = .ok (.ireturn, 1) := dk_172 (dk_at dksX1_count_4 20 rfl rfl)
theorem dX1_count_135 : decode cX1_count 135 = .ok (.aload_n 0, 1) := dk_42 (dk_at dksX1_count_4 21 rfl rfl)
theorem dX1_count_136 : decode cX1_count 136 = .ok (.getfield 35, 3) := dk_180 0 35 (dk_at dksX1_count_5 0 rfl rfl)
theorem dX1_count_139 : decode cX1_count 139 = .ok (.getfield 418, 3) := dk_180 1 162 (dk_at dksX1_count_5 3 rfl rfl)
theorem dX1_count_142 : decode cX1_count 142 = .ok (.ireturn, 1) := dk_172 (dk_at dksX1_count_5 6 rfl rfl)
theorem dX1_count_143 : decode cX1_count 143 = .ok (.aload_n 0, 1) := dk_42 (dk_at dksX1_count_5 7 rfl rfl)
theorem dX1_count_144 : decode cX1_count 144 = .ok (.getfield 44, 3) := dk_180 0 44 (dk_at dksX1_count_5 8 rfl rfl)
theorem dX1_count_147 : decode cX1_count 147 = .ok (.invokevirtual 138, 3) := dk_182 0 138 (dk_at dksX1_count_5 11 rfl rfl)
theorem dX1_count_150 : decode cX1_count 150 = .ok (.ireturn, 1) := dk_172 (dk_at dksX1_count_5 14 rfl rfl)
theorem dX1_count_151 : decode cX1_count 151 = .ok (.aload_n 0, 1) := dk_42 (dk_at dksX1_count_5 15 rfl rfl)
theorem dX1_count_152 : decode cX1_count 152 = .ok (.getfield 125, 3) := dk_180 0 125 (dk_at dksX1_count_5 16 rfl rfl)
theorem dX1_count_155 : decode cX1_count 155 = .ok (.ireturn, 1) := dk_172 (dk_at dksX1_count_5 19 rfl rfl)
theorem dX1_count_156 : decode cX1_count 156 = .ok (.aload_n 0, 1) := dk_42 (dk_at dksX1_count_5 20 rfl rfl)
theorem dX1_count_157 : decode cX1_count 157 = .ok (.getfield 128, 3) := dk_180 0 128 (dk_at dksX1_count_5 21 rfl rfl)
theorem dX1_count_160 : decode cX1_count 160 = .ok (.ireturn, 1) := dk_172 (dk_at dksX1_count_6 0 rfl rfl)
theorem dX1_count_161 : decode cX1_count 161 = .ok (.aload_n 0, 1) := dk_42 (dk_at dksX1_count_6 1 rfl rfl)
theorem dX1_count_162 : decode cX1_count 162 = .ok (.getfield 106, 3) := dk_180 0 106 (dk_at dksX1_count_6 2 rfl rfl)
theorem dX1_count_165 : decode cX1_count 165 = .ok (.ireturn, 1) := dk_172 (dk_at dksX1_count_6 5 rfl rfl)
theorem dX1_count_166 : decode cX1_count 166 = .ok (.iconst (-1), 1) := dk_2 (dk_at dksX1_count_6 6 rfl rfl)
theorem dX1_count_167 : decode cX1_count 167 = .ok (.ireturn, 1) := dk_172 (dk_at dksX1_count_6 7 rfl rfl)
abbrev cX1_turned : ByteArray := prog_1_method_66_code
def yX1_turned : MethodName := ⟨RX1, "turned", "()I"⟩
def dkwX1_turned_1 : List UInt8 := [27, 4, 28, 120, 128, 60, 132, 2, 1, 167, 255, 227, 27, 172]
abbrev dktX1_turned_1 : List UInt8 := dkwX1_turned_1 ++ []
def dkwX1_turned_0 : List UInt8 := [3, 60, 3, 61, 28, 42, 182, 0, 148, 162, 0, 27, 42, 42, 180, 0, 51, 28, 182, 1, 5, 153, 0, 9]
abbrev dktX1_turned_0 : List UInt8 := dkwX1_turned_0 ++ dktX1_turned_1
theorem dksX1_turned_0 : cX1_turned.data.toList.drop 0 = dktX1_turned_0 := by decide +kernel
theorem dksX1_turned_1 : cX1_turned.data.toList.drop 24 = dktX1_turned_1 := dk_seg dksX1_turned_0 24 rfl rfl
theorem dX1_turned_0 : decode cX1_turned 0 = .ok (.iconst 0, 1) := dk_3 (dk_at dksX1_turned_0 0 rfl rfl)
theorem dX1_turned_1 : decode cX1_turned 1 = .ok (.istore_n 1, 1) := dk_60 (dk_at dksX1_turned_0 1 rfl rfl)
theorem dX1_turned_2 : decode cX1_turned 2 = .ok (.iconst 0, 1) := dk_3 (dk_at dksX1_turned_0 2 rfl rfl)
theorem dX1_turned_3 : decode cX1_turned 3 = .ok (.istore_n 2, 1) := dk_61 (dk_at dksX1_turned_0 3 rfl rfl)
theorem dX1_turned_4 : decode cX1_turned 4 = .ok (.iload_n 2, 1) := dk_28 (dk_at dksX1_turned_0 4 rfl rfl)
theorem dX1_turned_5 : decode cX1_turned 5 = .ok (.aload_n 0, 1) := dk_42 (dk_at dksX1_turned_0 5 rfl rfl)
theorem dX1_turned_6 : decode cX1_turned 6 = .ok (.invokevirtual 148, 3) := dk_182 0 148 (dk_at dksX1_turned_0 6 rfl rfl)
theorem dX1_turned_9 : decode cX1_turned 9 = .ok (.if_icmp .ge 27, 3) := dk_162 0 27 (dk_at dksX1_turned_0 9 rfl rfl)
theorem dX1_turned_12 : decode cX1_turned 12 = .ok (.aload_n 0, 1) := dk_42 (dk_at dksX1_turned_0 12 rfl rfl)
theorem dX1_turned_13 : decode cX1_turned 13 = .ok (.aload_n 0, 1) := dk_42 (dk_at dksX1_turned_0 13 rfl rfl)
theorem dX1_turned_14 : decode cX1_turned 14 = .ok (.getfield 51, 3) := dk_180 0 51 (dk_at dksX1_turned_0 14 rfl rfl)
theorem dX1_turned_17 : decode cX1_turned 17 = .ok (.iload_n 2, 1) := dk_28 (dk_at dksX1_turned_0 17 rfl rfl)
theorem dX1_turned_18 : decode cX1_turned 18 = .ok (.invokevirtual 261, 3) := dk_182 1 5 (dk_at dksX1_turned_0 18 rfl rfl)
theorem dX1_turned_21 : decode cX1_turned 21 = .ok (.ifCond .eq 9, 3) := dk_153 0 9 (dk_at dksX1_turned_0 21 rfl rfl)
theorem dX1_turned_24 : decode cX1_turned 24 = .ok (.iload_n 1, 1) := dk_27 (dk_at dksX1_turned_1 0 rfl rfl)
theorem dX1_turned_25 : decode cX1_turned 25 = .ok (.iconst 1, 1) := dk_4 (dk_at dksX1_turned_1 1 rfl rfl)
theorem dX1_turned_26 : decode cX1_turned 26 = .ok (.iload_n 2, 1) := dk_28 (dk_at dksX1_turned_1 2 rfl rfl)
theorem dX1_turned_27 : decode cX1_turned 27 = .ok (.ishl, 1) := dk_120 (dk_at dksX1_turned_1 3 rfl rfl)
theorem dX1_turned_28 : decode cX1_turned 28 = .ok (.ior, 1) := dk_128 (dk_at dksX1_turned_1 4 rfl rfl)
theorem dX1_turned_29 : decode cX1_turned 29 = .ok (.istore_n 1, 1) := dk_60 (dk_at dksX1_turned_1 5 rfl rfl)
theorem dX1_turned_30 : decode cX1_turned 30 = .ok (.iinc 2 1, 3) := dk_132 2 1 (dk_at dksX1_turned_1 6 rfl rfl)
theorem dX1_turned_33 : decode cX1_turned 33 = .ok (.goto (-29), 3) := dk_167 255 227 (dk_at dksX1_turned_1 9 rfl rfl)
theorem dX1_turned_36 : decode cX1_turned 36 = .ok (.iload_n 1, 1) := dk_27 (dk_at dksX1_turned_1 12 rfl rfl)
theorem dX1_turned_37 : decode cX1_turned 37 = .ok (.ireturn, 1) := dk_172 (dk_at dksX1_turned_1 13 rfl rfl)
abbrev cX1_rests : ByteArray := prog_1_method_60_code
def yX1_rests : MethodName := ⟨RX1, "rests", "(IIII)I"⟩
def dkwX1_rests_7 : List UInt8 := [2, 160, 0, 7, 4, 167, 0, 4, 3, 184, 1, 121, 21, 5, 172]
abbrev dktX1_rests_7 : List UInt8 := dkwX1_rests_7 ++ []
def dkwX1_rests_6 : List UInt8 := [167, 0, 16, 21, 5, 21, 4, 160, 0, 6, 21, 6, 172, 132, 5, 1, 132, 6, 1, 167, 255, 145, 21, 4]
abbrev dktX1_rests_6 : List UInt8 := dkwX1_rests_6 ++ dktX1_rests_7
def dkwX1_rests_5 : List UInt8 := [21, 7, 163, 0, 7, 4, 167, 0, 4, 3, 54, 8, 132, 9, 1, 167, 255, 201, 21, 8, 154, 0, 6]
abbrev dktX1_rests_5 : List UInt8 := dkwX1_rests_5 ++ dktX1_rests_6
def dkwX1_rests_4 : List UInt8 := [21, 6, 6, 112, 184, 1, 125, 21, 7, 161, 0, 24, 27, 28, 29, 21, 6, 6, 108, 21, 9, 184, 1, 125]
abbrev dktX1_rests_4 : List UInt8 := dkwX1_rests_4 ++ dktX1_rests_5
def dkwX1_rests_3 : List UInt8 := [54, 7, 4, 54, 8, 3, 54, 9, 21, 9, 6, 162, 0, 55, 21, 8, 153, 0, 41, 27, 28, 29, 21, 9]
abbrev dktX1_rests_3 : List UInt8 := dkwX1_rests_3 ++ dktX1_rests_4
def dkwX1_rests_2 : List UInt8 := [54, 6, 21, 6, 16, 9, 162, 0, 110, 27, 28, 29, 21, 6, 6, 108, 21, 6, 6, 112, 184, 1, 125]
abbrev dktX1_rests_2 : List UInt8 := dkwX1_rests_2 ++ dktX1_rests_3
def dkwX1_rests_1 : List UInt8 := [184, 0, 150, 153, 0, 13, 21, 4, 2, 161, 0, 7, 4, 167, 0, 4, 3, 184, 1, 121, 3, 54, 5, 3]
abbrev dktX1_rests_1 : List UInt8 := dkwX1_rests_1 ++ dktX1_rests_2
def dkwX1_rests_0 : List UInt8 := [27, 3, 16, 9, 184, 0, 150, 153, 0, 33, 28, 3, 16, 9, 184, 0, 150, 153, 0, 23, 29, 3, 16, 9]
abbrev dktX1_rests_0 : List UInt8 := dkwX1_rests_0 ++ dktX1_rests_1
theorem dksX1_rests_0 : cX1_rests.data.toList.drop 0 = dktX1_rests_0 := by decide +kernel
theorem dksX1_rests_1 : cX1_rests.data.toList.drop 24 = dktX1_rests_1 := dk_seg dksX1_rests_0 24 rfl rfl
theorem dksX1_rests_2 : cX1_rests.data.toList.drop 48 = dktX1_rests_2 := dk_seg dksX1_rests_1 24 rfl rfl
theorem dksX1_rests_3 : cX1_rests.data.toList.drop 71 = dktX1_rests_3 := dk_seg dksX1_rests_2 23 rfl rfl
theorem dksX1_rests_4 : cX1_rests.data.toList.drop 95 = dktX1_rests_4 := dk_seg dksX1_rests_3 24 rfl rfl
theorem dksX1_rests_5 : cX1_rests.data.toList.drop 119 = dktX1_rests_5 := dk_seg dksX1_rests_4 24 rfl rfl
theorem dksX1_rests_6 : cX1_rests.data.toList.drop 142 = dktX1_rests_6 := dk_seg dksX1_rests_5 23 rfl rfl
theorem dksX1_rests_7 : cX1_rests.data.toList.drop 166 = dktX1_rests_7 := dk_seg dksX1_rests_6 24 rfl rfl
theorem dX1_rests_0 : decode cX1_rests 0 = .ok (.iload_n 1, 1) := dk_27 (dk_at dksX1_rests_0 0 rfl rfl)
theorem dX1_rests_1 : decode cX1_rests 1 = .ok (.iconst 0, 1) := dk_3 (dk_at dksX1_rests_0 1 rfl rfl)
theorem dX1_rests_2 : decode cX1_rests 2 = .ok (.bipush 9, 2) := dk_16 9 (dk_at dksX1_rests_0 2 rfl rfl)
theorem dX1_rests_4 : decode cX1_rests 4 = .ok (.invokestatic 150, 3) := dk_184 0 150 (dk_at dksX1_rests_0 4 rfl rfl)
theorem dX1_rests_7 : decode cX1_rests 7 = .ok (.ifCond .eq 33, 3) := dk_153 0 33 (dk_at dksX1_rests_0 7 rfl rfl)
theorem dX1_rests_10 : decode cX1_rests 10 = .ok (.iload_n 2, 1) := dk_28 (dk_at dksX1_rests_0 10 rfl rfl)
theorem dX1_rests_11 : decode cX1_rests 11 = .ok (.iconst 0, 1) := dk_3 (dk_at dksX1_rests_0 11 rfl rfl)
theorem dX1_rests_12 : decode cX1_rests 12 = .ok (.bipush 9, 2) := dk_16 9 (dk_at dksX1_rests_0 12 rfl rfl)
theorem dX1_rests_14 : decode cX1_rests 14 = .ok (.invokestatic 150, 3) := dk_184 0 150 (dk_at dksX1_rests_0 14 rfl rfl)
theorem dX1_rests_17 : decode cX1_rests 17 = .ok (.ifCond .eq 23, 3) := dk_153 0 23 (dk_at dksX1_rests_0 17 rfl rfl)
theorem dX1_rests_20 : decode cX1_rests 20 = .ok (.iload_n 3, 1) := dk_29 (dk_at dksX1_rests_0 20 rfl rfl)
theorem dX1_rests_21 : decode cX1_rests 21 = .ok (.iconst 0, 1) := dk_3 (dk_at dksX1_rests_0 21 rfl rfl)
theorem dX1_rests_22 : decode cX1_rests 22 = .ok (.bipush 9, 2) := dk_16 9 (dk_at dksX1_rests_0 22 rfl rfl)
theorem dX1_rests_24 : decode cX1_rests 24 = .ok (.invokestatic 150, 3) := dk_184 0 150 (dk_at dksX1_rests_1 0 rfl rfl)
theorem dX1_rests_27 : decode cX1_rests 27 = .ok (.ifCond .eq 13, 3) := dk_153 0 13 (dk_at dksX1_rests_1 3 rfl rfl)
theorem dX1_rests_30 : decode cX1_rests 30 = .ok (.iload 4, 2) := dk_21 4 (dk_at dksX1_rests_1 6 rfl rfl)
theorem dX1_rests_32 : decode cX1_rests 32 = .ok (.iconst (-1), 1) := dk_2 (dk_at dksX1_rests_1 8 rfl rfl)
theorem dX1_rests_33 : decode cX1_rests 33 = .ok (.if_icmp .lt 7, 3) := dk_161 0 7 (dk_at dksX1_rests_1 9 rfl rfl)
theorem dX1_rests_36 : decode cX1_rests 36 = .ok (.iconst 1, 1) := dk_4 (dk_at dksX1_rests_1 12 rfl rfl)
theorem dX1_rests_37 : decode cX1_rests 37 = .ok (.goto 4, 3) := dk_167 0 4 (dk_at dksX1_rests_1 13 rfl rfl)
theorem dX1_rests_40 : decode cX1_rests 40 = .ok (.iconst 0, 1) := dk_3 (dk_at dksX1_rests_1 16 rfl rfl)
theorem dX1_rests_41 : decode cX1_rests 41 = .ok (.invokestatic 377, 3) := dk_184 1 121 (dk_at dksX1_rests_1 17 rfl rfl)
theorem dX1_rests_44 : decode cX1_rests 44 = .ok (.iconst 0, 1) := dk_3 (dk_at dksX1_rests_1 20 rfl rfl)
theorem dX1_rests_45 : decode cX1_rests 45 = .ok (.istore 5, 2) := dk_54 5 (dk_at dksX1_rests_1 21 rfl rfl)
theorem dX1_rests_47 : decode cX1_rests 47 = .ok (.iconst 0, 1) := dk_3 (dk_at dksX1_rests_1 23 rfl rfl)
theorem dX1_rests_48 : decode cX1_rests 48 = .ok (.istore 6, 2) := dk_54 6 (dk_at dksX1_rests_2 0 rfl rfl)
theorem dX1_rests_50 : decode cX1_rests 50 = .ok (.iload 6, 2) := dk_21 6 (dk_at dksX1_rests_2 2 rfl rfl)
theorem dX1_rests_52 : decode cX1_rests 52 = .ok (.bipush 9, 2) := dk_16 9 (dk_at dksX1_rests_2 4 rfl rfl)
theorem dX1_rests_54 : decode cX1_rests 54 = .ok (.if_icmp .ge 110, 3) := dk_162 0 110 (dk_at dksX1_rests_2 6 rfl rfl)
theorem dX1_rests_57 : decode cX1_rests 57 = .ok (.iload_n 1, 1) := dk_27 (dk_at dksX1_rests_2 9 rfl rfl)
theorem dX1_rests_58 : decode cX1_rests 58 = .ok (.iload_n 2, 1) := dk_28 (dk_at dksX1_rests_2 10 rfl rfl)
theorem dX1_rests_59 : decode cX1_rests 59 = .ok (.iload_n 3, 1) := dk_29 (dk_at dksX1_rests_2 11 rfl rfl)
theorem dX1_rests_60 : decode cX1_rests 60 = .ok (.iload 6, 2) := dk_21 6 (dk_at dksX1_rests_2 12 rfl rfl)
theorem dX1_rests_62 : decode cX1_rests 62 = .ok (.iconst 3, 1) := dk_6 (dk_at dksX1_rests_2 14 rfl rfl)
theorem dX1_rests_63 : decode cX1_rests 63 = .ok (.idiv, 1) := dk_108 (dk_at dksX1_rests_2 15 rfl rfl)
theorem dX1_rests_64 : decode cX1_rests 64 = .ok (.iload 6, 2) := dk_21 6 (dk_at dksX1_rests_2 16 rfl rfl)
theorem dX1_rests_66 : decode cX1_rests 66 = .ok (.iconst 3, 1) := dk_6 (dk_at dksX1_rests_2 18 rfl rfl)
theorem dX1_rests_67 : decode cX1_rests 67 = .ok (.irem, 1) := dk_112 (dk_at dksX1_rests_2 19 rfl rfl)
theorem dX1_rests_68 : decode cX1_rests 68 = .ok (.invokestatic 381, 3) := dk_184 1 125 (dk_at dksX1_rests_2 20 rfl rfl)
theorem dX1_rests_71 : decode cX1_rests 71 = .ok (.istore 7, 2) := dk_54 7 (dk_at dksX1_rests_3 0 rfl rfl)
theorem dX1_rests_73 : decode cX1_rests 73 = .ok (.iconst 1, 1) := dk_4 (dk_at dksX1_rests_3 2 rfl rfl)
theorem dX1_rests_74 : decode cX1_rests 74 = .ok (.istore 8, 2) := dk_54 8 (dk_at dksX1_rests_3 3 rfl rfl)
theorem dX1_rests_76 : decode cX1_rests 76 = .ok (.iconst 0, 1) := dk_3 (dk_at dksX1_rests_3 5 rfl rfl)
theorem dX1_rests_77 : decode cX1_rests 77 = .ok (.istore 9, 2) := dk_54 9 (dk_at dksX1_rests_3 6 rfl rfl)
theorem dX1_rests_79 : decode cX1_rests 79 = .ok (.iload 9, 2) := dk_21 9 (dk_at dksX1_rests_3 8 rfl rfl)
theorem dX1_rests_81 : decode cX1_rests 81 = .ok (.iconst 3, 1) := dk_6 (dk_at dksX1_rests_3 10 rfl rfl)
theorem dX1_rests_82 : decode cX1_rests 82 = .ok (.if_icmp .ge 55, 3) := dk_162 0 55 (dk_at dksX1_rests_3 11 rfl rfl)
theorem dX1_rests_85 : decode cX1_rests 85 = .ok (.iload 8, 2) := dk_21 8 (dk_at dksX1_rests_3 14 rfl rfl)
theorem dX1_rests_87 : decode cX1_rests 87 = .ok (.ifCond .eq 41, 3) := dk_153 0 41 (dk_at dksX1_rests_3 16 rfl rfl)
theorem dX1_rests_90 : decode cX1_rests 90 = .ok (.iload_n 1, 1) := dk_27 (dk_at dksX1_rests_3 19 rfl rfl)
theorem dX1_rests_91 : decode cX1_rests 91 = .ok (.iload_n 2, 1) := dk_28 (dk_at dksX1_rests_3 20 rfl rfl)
theorem dX1_rests_92 : decode cX1_rests 92 = .ok (.iload_n 3, 1) := dk_29 (dk_at dksX1_rests_3 21 rfl rfl)
theorem dX1_rests_93 : decode cX1_rests 93 = .ok (.iload 9, 2) := dk_21 9 (dk_at dksX1_rests_3 22 rfl rfl)
theorem dX1_rests_95 : decode cX1_rests 95 = .ok (.iload 6, 2) := dk_21 6 (dk_at dksX1_rests_4 0 rfl rfl)
theorem dX1_rests_97 : decode cX1_rests 97 = .ok (.iconst 3, 1) := dk_6 (dk_at dksX1_rests_4 2 rfl rfl)
theorem dX1_rests_98 : decode cX1_rests 98 = .ok (.irem, 1) := dk_112 (dk_at dksX1_rests_4 3 rfl rfl)
theorem dX1_rests_99 : decode cX1_rests 99 = .ok (.invokestatic 381, 3) := dk_184 1 125 (dk_at dksX1_rests_4 4 rfl rfl)
theorem dX1_rests_102 : decode cX1_rests 102 = .ok (.iload 7, 2) := dk_21 7 (dk_at dksX1_rests_4 7 rfl rfl)
theorem dX1_rests_104 : decode cX1_rests 104 = .ok (.if_icmp .lt 24, 3) := dk_161 0 24 (dk_at dksX1_rests_4 9 rfl rfl)
theorem dX1_rests_107 : decode cX1_rests 107 = .ok (.iload_n 1, 1) := dk_27 (dk_at dksX1_rests_4 12 rfl rfl)
theorem dX1_rests_108 : decode cX1_rests 108 = .ok (.iload_n 2, 1) := dk_28 (dk_at dksX1_rests_4 13 rfl rfl)
theorem dX1_rests_109 : decode cX1_rests 109 = .ok (.iload_n 3, 1) := dk_29 (dk_at dksX1_rests_4 14 rfl rfl)
theorem dX1_rests_110 : decode cX1_rests 110 = .ok (.iload 6, 2) := dk_21 6 (dk_at dksX1_rests_4 15 rfl rfl)
theorem dX1_rests_112 : decode cX1_rests 112 = .ok (.iconst 3, 1) := dk_6 (dk_at dksX1_rests_4 17 rfl rfl)
theorem dX1_rests_113 : decode cX1_rests 113 = .ok (.idiv, 1) := dk_108 (dk_at dksX1_rests_4 18 rfl rfl)
theorem dX1_rests_114 : decode cX1_rests 114 = .ok (.iload 9, 2) := dk_21 9 (dk_at dksX1_rests_4 19 rfl rfl)
theorem dX1_rests_116 : decode cX1_rests 116 = .ok (.invokestatic 381, 3) := dk_184 1 125 (dk_at dksX1_rests_4 21 rfl rfl)
theorem dX1_rests_119 : decode cX1_rests 119 = .ok (.iload 7, 2) := dk_21 7 (dk_at dksX1_rests_5 0 rfl rfl)
theorem dX1_rests_121 : decode cX1_rests 121 = .ok (.if_icmp .gt 7, 3) := dk_163 0 7 (dk_at dksX1_rests_5 2 rfl rfl)
theorem dX1_rests_124 : decode cX1_rests 124 = .ok (.iconst 1, 1) := dk_4 (dk_at dksX1_rests_5 5 rfl rfl)
theorem dX1_rests_125 : decode cX1_rests 125 = .ok (.goto 4, 3) := dk_167 0 4 (dk_at dksX1_rests_5 6 rfl rfl)
theorem dX1_rests_128 : decode cX1_rests 128 = .ok (.iconst 0, 1) := dk_3 (dk_at dksX1_rests_5 9 rfl rfl)
theorem dX1_rests_129 : decode cX1_rests 129 = .ok (.istore 8, 2) := dk_54 8 (dk_at dksX1_rests_5 10 rfl rfl)
theorem dX1_rests_131 : decode cX1_rests 131 = .ok (.iinc 9 1, 3) := dk_132 9 1 (dk_at dksX1_rests_5 12 rfl rfl)
theorem dX1_rests_134 : decode cX1_rests 134 = .ok (.goto (-55), 3) := dk_167 255 201 (dk_at dksX1_rests_5 15 rfl rfl)
theorem dX1_rests_137 : decode cX1_rests 137 = .ok (.iload 8, 2) := dk_21 8 (dk_at dksX1_rests_5 18 rfl rfl)
theorem dX1_rests_139 : decode cX1_rests 139 = .ok (.ifCond .ne 6, 3) := dk_154 0 6 (dk_at dksX1_rests_5 20 rfl rfl)
theorem dX1_rests_142 : decode cX1_rests 142 = .ok (.goto 16, 3) := dk_167 0 16 (dk_at dksX1_rests_6 0 rfl rfl)
theorem dX1_rests_145 : decode cX1_rests 145 = .ok (.iload 5, 2) := dk_21 5 (dk_at dksX1_rests_6 3 rfl rfl)
theorem dX1_rests_147 : decode cX1_rests 147 = .ok (.iload 4, 2) := dk_21 4 (dk_at dksX1_rests_6 5 rfl rfl)
theorem dX1_rests_149 : decode cX1_rests 149 = .ok (.if_icmp .ne 6, 3) := dk_160 0 6 (dk_at dksX1_rests_6 7 rfl rfl)
theorem dX1_rests_152 : decode cX1_rests 152 = .ok (.iload 6, 2) := dk_21 6 (dk_at dksX1_rests_6 10 rfl rfl)
theorem dX1_rests_154 : decode cX1_rests 154 = .ok (.ireturn, 1) := dk_172 (dk_at dksX1_rests_6 12 rfl rfl)
theorem dX1_rests_155 : decode cX1_rests 155 = .ok (.iinc 5 1, 3) := dk_132 5 1 (dk_at dksX1_rests_6 13 rfl rfl)
theorem dX1_rests_158 : decode cX1_rests 158 = .ok (.iinc 6 1, 3) := dk_132 6 1 (dk_at dksX1_rests_6 16 rfl rfl)
theorem dX1_rests_161 : decode cX1_rests 161 = .ok (.goto (-111), 3) := dk_167 255 145 (dk_at dksX1_rests_6 19 rfl rfl)
theorem dX1_rests_164 : decode cX1_rests 164 = .ok (.iload 4, 2) := dk_21 4 (dk_at dksX1_rests_6 22 rfl rfl)
theorem dX1_rests_166 : decode cX1_rests 166 = .ok (.iconst (-1), 1) := dk_2 (dk_at dksX1_rests_7 0 rfl rfl)
theorem dX1_rests_167 : decode cX1_rests 167 = .ok (.if_icmp .ne 7, 3) := dk_160 0 7 (dk_at dksX1_rests_7 1 rfl rfl)
theorem dX1_rests_170 : decode cX1_rests 170 = .ok (.iconst 1, 1) := dk_4 (dk_at dksX1_rests_7 4 rfl rfl)
theorem dX1_rests_171 : decode cX1_rests 171 = .ok (.goto 4, 3) := dk_167 0 4 (dk_at dksX1_rests_7 5 rfl rfl)
theorem dX1_rests_174 : decode cX1_rests 174 = .ok (.iconst 0, 1) := dk_3 (dk_at dksX1_rests_7 8 rfl rfl)
theorem dX1_rests_175 : decode cX1_rests 175 = .ok (.invokestatic 377, 3) := dk_184 1 121 (dk_at dksX1_rests_7 9 rfl rfl)
theorem dX1_rests_178 : decode cX1_rests 178 = .ok (.iload 5, 2) := dk_21 5 (dk_at dksX1_rests_7 12 rfl rfl)
theorem dX1_rests_180 : decode cX1_rests 180 = .ok (.ireturn, 1) := dk_172 (dk_at dksX1_rests_7 14 rfl rfl)
abbrev cX1_need : ByteArray := prog_1_method_4_code
def yX1_need : MethodName := ⟨RX1, "need", "(Z)V"⟩
def dkwX1_need_0 : List UInt8 := [26, 154, 0, 11, 187, 0, 10, 89, 183, 0, 12, 191, 177]
abbrev dktX1_need_0 : List UInt8 := dkwX1_need_0 ++ []
theorem dksX1_need_0 : cX1_need.data.toList.drop 0 = dktX1_need_0 := by decide +kernel
theorem dX1_need_0 : decode cX1_need 0 = .ok (.iload_n 0, 1) := dk_26 (dk_at dksX1_need_0 0 rfl rfl)
theorem dX1_need_1 : decode cX1_need 1 = .ok (.ifCond .ne 11, 3) := dk_154 0 11 (dk_at dksX1_need_0 1 rfl rfl)
theorem dX1_need_4 : decode cX1_need 4 = .ok (.new 10, 3) := dk_187 0 10 (dk_at dksX1_need_0 4 rfl rfl)
theorem dX1_need_7 : decode cX1_need 7 = .ok (.dup, 1) := dk_89 (dk_at dksX1_need_0 7 rfl rfl)
theorem dX1_need_8 : decode cX1_need 8 = .ok (.invokespecial 12, 3) := dk_183 0 12 (dk_at dksX1_need_0 8 rfl rfl)
theorem dX1_need_11 : decode cX1_need 11 = .ok (.athrow, 1) := dk_191 (dk_at dksX1_need_0 11 rfl rfl)
theorem dX1_need_12 : decode cX1_need 12 = .ok (.return_, 1) := dk_177 (dk_at dksX1_need_0 12 rfl rfl)
abbrev cX1_stolen : ByteArray := prog_1_method_59_code
def yX1_stolen : MethodName := ⟨RX1, "stolen", "(IIIII)I"⟩
def dkwX1_stolen_0 : List UInt8 := [29, 21, 4, 160, 0, 7, 3, 167, 0, 11, 26, 27, 28, 21, 4, 184, 1, 118, 172]
abbrev dktX1_stolen_0 : List UInt8 := dkwX1_stolen_0 ++ []
theorem dksX1_stolen_0 : cX1_stolen.data.toList.drop 0 = dktX1_stolen_0 := by decide +kernel
theorem dX1_stolen_0 : decode cX1_stolen 0 = .ok (.iload_n 3, 1) := dk_29 (dk_at dksX1_stolen_0 0 rfl rfl)
theorem dX1_stolen_1 : decode cX1_stolen 1 = .ok (.iload 4, 2) := dk_21 4 (dk_at dksX1_stolen_0 1 rfl rfl)
theorem dX1_stolen_3 : decode cX1_stolen 3 = .ok (.if_icmp .ne 7, 3) := dk_160 0 7 (dk_at dksX1_stolen_0 3 rfl rfl)
theorem dX1_stolen_6 : decode cX1_stolen 6 = .ok (.iconst 0, 1) := dk_3 (dk_at dksX1_stolen_0 6 rfl rfl)
theorem dX1_stolen_7 : decode cX1_stolen 7 = .ok (.goto 11, 3) := dk_167 0 11 (dk_at dksX1_stolen_0 7 rfl rfl)
theorem dX1_stolen_10 : decode cX1_stolen 10 = .ok (.iload_n 0, 1) := dk_26 (dk_at dksX1_stolen_0 10 rfl rfl)
theorem dX1_stolen_11 : decode cX1_stolen 11 = .ok (.iload_n 1, 1) := dk_27 (dk_at dksX1_stolen_0 11 rfl rfl)
theorem dX1_stolen_12 : decode cX1_stolen 12 = .ok (.iload_n 2, 1) := dk_28 (dk_at dksX1_stolen_0 12 rfl rfl)
theorem dX1_stolen_13 : decode cX1_stolen 13 = .ok (.iload 4, 2) := dk_21 4 (dk_at dksX1_stolen_0 13 rfl rfl)
theorem dX1_stolen_15 : decode cX1_stolen 15 = .ok (.invokestatic 374, 3) := dk_184 1 118 (dk_at dksX1_stolen_0 15 rfl rfl)
theorem dX1_stolen_18 : decode cX1_stolen 18 = .ok (.ireturn, 1) := dk_172 (dk_at dksX1_stolen_0 18 rfl rfl)
abbrev cX1_worthOf_2 : ByteArray := prog_1_method_58_code
def yX1_worthOf_2 : MethodName := ⟨RX1, "worthOf", "(IIII)I"⟩
def dkwX1_worthOf_2_0 : List UInt8 := [29, 154, 0, 7, 26, 167, 0, 13, 29, 4, 160, 0, 7, 27, 167, 0, 4, 28, 172]
abbrev dktX1_worthOf_2_0 : List UInt8 := dkwX1_worthOf_2_0 ++ []
theorem dksX1_worthOf_2_0 : cX1_worthOf_2.data.toList.drop 0 = dktX1_worthOf_2_0 := by decide +kernel
theorem dX1_worthOf_2_0 : decode cX1_worthOf_2 0 = .ok (.iload_n 3, 1) := dk_29 (dk_at dksX1_worthOf_2_0 0 rfl rfl)
theorem dX1_worthOf_2_1 : decode cX1_worthOf_2 1 = .ok (.ifCond .ne 7, 3) := dk_154 0 7 (dk_at dksX1_worthOf_2_0 1 rfl rfl)
theorem dX1_worthOf_2_4 : decode cX1_worthOf_2 4 = .ok (.iload_n 0, 1) := dk_26 (dk_at dksX1_worthOf_2_0 4 rfl rfl)
theorem dX1_worthOf_2_5 : decode cX1_worthOf_2 5 = .ok (.goto 13, 3) := dk_167 0 13 (dk_at dksX1_worthOf_2_0 5 rfl rfl)
theorem dX1_worthOf_2_8 : decode cX1_worthOf_2 8 = .ok (.iload_n 3, 1) := dk_29 (dk_at dksX1_worthOf_2_0 8 rfl rfl)
theorem dX1_worthOf_2_9 : decode cX1_worthOf_2 9 = .ok (.iconst 1, 1) := dk_4 (dk_at dksX1_worthOf_2_0 9 rfl rfl)
theorem dX1_worthOf_2_10 : decode cX1_worthOf_2 10 = .ok (.if_icmp .ne 7, 3) := dk_160 0 7 (dk_at dksX1_worthOf_2_0 10 rfl rfl)
theorem dX1_worthOf_2_13 : decode cX1_worthOf_2 13 = .ok (.iload_n 1, 1) := dk_27 (dk_at dksX1_worthOf_2_0 13 rfl rfl)
theorem dX1_worthOf_2_14 : decode cX1_worthOf_2 14 = .ok (.goto 4, 3) := dk_167 0 4 (dk_at dksX1_worthOf_2_0 14 rfl rfl)
theorem dX1_worthOf_2_17 : decode cX1_worthOf_2 17 = .ok (.iload_n 2, 1) := dk_28 (dk_at dksX1_worthOf_2_0 17 rfl rfl)
theorem dX1_worthOf_2_18 : decode cX1_worthOf_2 18 = .ok (.ireturn, 1) := dk_172 (dk_at dksX1_worthOf_2_0 18 rfl rfl)
theorem q133 : (Jvm.Cond.initialized "PegLaws") ∈ lw_all := lw_g (lw_at lw_m1 1 rfl) rfl
theorem q176 : (Jvm.Cond.instantiable "PegLaws" (26 : Nat)) ∈ lw_all := lw_g (lw_at lw_m1 44 rfl) rfl
theorem q178 : (Jvm.Cond.instanceMethod ({ cls := "PegLaws", name := "<init>", desc := "()V" } : Jvm.MethodName)) ∈ lw_all := lw_g (lw_at lw_m1 46 rfl) rfl
theorem q179 : (Jvm.Cond.code ({ cls := "PegLaws", name := "<init>", desc := "()V" } : Jvm.MethodName) prog_1_method_6_code (1 : Nat) (Option.none : Option Jvm.ClassFile.FieldType)) ∈ lw_all := lw_g (lw_at lw_m1 47 rfl) rfl
theorem q180 : (Jvm.Cond.methodLink "PegLaws" (16 : Nat) ({ cls := "java/lang/Object", name := "<init>", desc := "()V" } : Jvm.MethodName)) ∈ lw_all := lw_g (lw_at lw_m1 48 rfl) rfl
theorem q183 : (Jvm.Cond.classLink "PegLaws" (25 : Nat) "PegLaws$Reader") ∈ lw_all := lw_g (lw_at lw_m1 51 rfl) rfl
theorem q185 : (Jvm.Cond.methodLinkNest "PegLaws" (27 : Nat) ({ cls := "PegLaws$Reader", name := "<init>", desc := "()V" } : Jvm.MethodName) "PegLaws") ∈ lw_tbl := lw_at lw_m1 53 rfl
theorem q215 : (Jvm.Cond.classLink "PegLaws" (32 : Nat) "PegLaws$Rope") ∈ lw_all := lw_g (lw_at lw_m1 83 rfl) rfl
theorem q217 : (Jvm.Cond.methodLinkNest "PegLaws" (34 : Nat) ({ cls := "PegLaws$Rope", name := "<init>", desc := "()V" } : Jvm.MethodName) "PegLaws") ∈ lw_tbl := lw_at lw_m1 85 rfl
theorem q250 : (Jvm.Cond.fieldLinkNest "PegLaws" (135 : Nat) "PegLaws$Rope" "cloths" "Ljava/util/ArrayList;" "PegLaws") ∈ lw_tbl := lw_at lw_m1 118 rfl
theorem q259 : (Jvm.Cond.fieldLinkNest "PegLaws" (313 : Nat) "PegLaws$Rope" "clashes" "[I" "PegLaws") ∈ lw_tbl := lw_at lw_m1 127 rfl
theorem q264 : (Jvm.Cond.fieldLinkNest "PegLaws" (359 : Nat) "PegLaws$Rope" "many" "I" "PegLaws") ∈ lw_tbl := lw_at lw_m1 132 rfl
theorem q266 : (Jvm.Cond.fieldLinkNest "PegLaws" (418 : Nat) "PegLaws$Rope" "pairs" "I" "PegLaws") ∈ lw_tbl := lw_at lw_m1 134 rfl
theorem q272 : (Jvm.Cond.fieldLinkNest "PegLaws" (213 : Nat) "PegLaws$Rope" "pulls" "LPegLaws$Expression;" "PegLaws") ∈ lw_tbl := lw_at lw_m1 140 rfl
theorem q274 : (Jvm.Cond.fieldLinkNest "PegLaws" (223 : Nat) "PegLaws$Rope" "dries" "LPegLaws$Expression;" "PegLaws") ∈ lw_tbl := lw_at lw_m1 142 rfl
theorem q299 : (Jvm.Cond.classLink "PegLaws" (39 : Nat) "java/util/ArrayList") ∈ lw_all := lw_g (lw_at lw_m1 167 rfl) rfl
theorem q300 : (Jvm.Cond.methodLink "PegLaws" (41 : Nat) ({ cls := "java/util/ArrayList", name := "<init>", desc := "(I)V" } : Jvm.MethodName)) ∈ lw_all := lw_g (lw_at lw_m1 168 rfl) rfl
theorem q301 : (Jvm.Cond.classLink "PegLaws" (48 : Nat) "PegLaws$State") ∈ lw_all := lw_g (lw_at lw_m1 169 rfl) rfl
theorem q303 : (Jvm.Cond.methodLinkNest "PegLaws" (50 : Nat) ({ cls := "PegLaws$State", name := "<init>", desc := "()V" } : Jvm.MethodName) "PegLaws") ∈ lw_tbl := lw_at lw_m1 171 rfl
theorem q309 : (Jvm.Cond.fieldLinkNest "PegLaws" (267 : Nat) "PegLaws$State" "grip" "[I" "PegLaws") ∈ lw_tbl := lw_at lw_m1 177 rfl
theorem q311 : (Jvm.Cond.fieldLinkNest "PegLaws" (270 : Nat) "PegLaws$State" "holds" "[I" "PegLaws") ∈ lw_tbl := lw_at lw_m1 179 rfl
theorem q314 : (Jvm.Cond.fieldLinkNest "PegLaws" (226 : Nat) "PegLaws$State" "wet" "[I" "PegLaws") ∈ lw_tbl := lw_at lw_m1 182 rfl
theorem q317 : (Jvm.Cond.fieldLinkNest "PegLaws" (154 : Nat) "PegLaws$State" "stains" "[I" "PegLaws") ∈ lw_tbl := lw_at lw_m1 185 rfl
theorem q319 : (Jvm.Cond.fieldLinkNest "PegLaws" (244 : Nat) "PegLaws$State" "hour" "I" "PegLaws") ∈ lw_tbl := lw_at lw_m1 187 rfl
theorem q322 : (Jvm.Cond.fieldLinkNest "PegLaws" (264 : Nat) "PegLaws$State" "pegs" "I" "PegLaws") ∈ lw_tbl := lw_at lw_m1 190 rfl
theorem q337 : (Jvm.Cond.classLink "PegLaws" (96 : Nat) "PegLaws$Mark") ∈ lw_all := lw_g (lw_at lw_m1 205 rfl) rfl
theorem q339 : (Jvm.Cond.methodLink "PegLaws" (102 : Nat) ({ cls := "PegLaws$State", name := "begin", desc := "(LPegLaws$Rope;)V" } : Jvm.MethodName)) ∈ lw_all := lw_g (lw_at lw_m1 207 rfl) rfl
theorem q343 : (Jvm.Cond.fieldLink "PegLaws" (21 : Nat) "PegLaws" "tape" "[B") ∈ lw_all := lw_g (lw_at lw_m1 211 rfl) rfl
theorem q344 : (Jvm.Cond.fieldLink "PegLaws" (28 : Nat) "PegLaws" "reader" "LPegLaws$Reader;") ∈ lw_all := lw_g (lw_at lw_m1 212 rfl) rfl
theorem q345 : (Jvm.Cond.fieldLink "PegLaws" (35 : Nat) "PegLaws" "rope" "LPegLaws$Rope;") ∈ lw_all := lw_g (lw_at lw_m1 213 rfl) rfl
theorem q346 : (Jvm.Cond.fieldLink "PegLaws" (44 : Nat) "PegLaws" "lines" "Ljava/util/ArrayList;") ∈ lw_all := lw_g (lw_at lw_m1 214 rfl) rfl
theorem q347 : (Jvm.Cond.fieldLink "PegLaws" (51 : Nat) "PegLaws" "state" "LPegLaws$State;") ∈ lw_all := lw_g (lw_at lw_m1 215 rfl) rfl
theorem q348 : (Jvm.Cond.fieldLink "PegLaws" (55 : Nat) "PegLaws" "trial" "LPegLaws$State;") ∈ lw_all := lw_g (lw_at lw_m1 216 rfl) rfl
theorem q349 : (Jvm.Cond.fieldLink "PegLaws" (58 : Nat) "PegLaws" "facts" "[I") ∈ lw_all := lw_g (lw_at lw_m1 217 rfl) rfl
theorem q350 : (Jvm.Cond.fieldLink "PegLaws" (106 : Nat) "PegLaws" "taped" "I") ∈ lw_all := lw_g (lw_at lw_m1 218 rfl) rfl
theorem q351 : (Jvm.Cond.fieldLink "PegLaws" (62 : Nat) "PegLaws" "undone" "[LPegLaws$State;") ∈ lw_all := lw_g (lw_at lw_m1 219 rfl) rfl
theorem q352 : (Jvm.Cond.fieldLink "PegLaws" (128 : Nat) "PegLaws" "done" "I") ∈ lw_all := lw_g (lw_at lw_m1 220 rfl) rfl
theorem q353 : (Jvm.Cond.fieldLink "PegLaws" (66 : Nat) "PegLaws" "most" "[I") ∈ lw_all := lw_g (lw_at lw_m1 221 rfl) rfl
theorem q354 : (Jvm.Cond.fieldLink "PegLaws" (69 : Nat) "PegLaws" "pegsOf" "[I") ∈ lw_all := lw_g (lw_at lw_m1 222 rfl) rfl
theorem q355 : (Jvm.Cond.fieldLink "PegLaws" (72 : Nat) "PegLaws" "bestPegs" "[I") ∈ lw_all := lw_g (lw_at lw_m1 223 rfl) rfl
theorem q356 : (Jvm.Cond.fieldLink "PegLaws" (322 : Nat) "PegLaws" "bestWorth" "I") ∈ lw_all := lw_g (lw_at lw_m1 224 rfl) rfl
theorem q357 : (Jvm.Cond.fieldLink "PegLaws" (75 : Nat) "PegLaws" "winds" "[LPegLaws$State;") ∈ lw_all := lw_g (lw_at lw_m1 225 rfl) rfl
theorem q358 : (Jvm.Cond.fieldLink "PegLaws" (78 : Nat) "PegLaws" "order" "[I") ∈ lw_all := lw_g (lw_at lw_m1 226 rfl) rfl
theorem q359 : (Jvm.Cond.fieldLink "PegLaws" (81 : Nat) "PegLaws" "bestOrder" "[I") ∈ lw_all := lw_g (lw_at lw_m1 227 rfl) rfl
theorem q360 : (Jvm.Cond.fieldLink "PegLaws" (356 : Nat) "PegLaws" "washing" "I") ∈ lw_all := lw_g (lw_at lw_m1 228 rfl) rfl
theorem q361 : (Jvm.Cond.fieldLink "PegLaws" (347 : Nat) "PegLaws" "soonest" "I") ∈ lw_all := lw_g (lw_at lw_m1 229 rfl) rfl
theorem q362 : (Jvm.Cond.fieldLink "PegLaws" (84 : Nat) "PegLaws" "feltCloth" "[I") ∈ lw_all := lw_g (lw_at lw_m1 230 rfl) rfl
theorem q363 : (Jvm.Cond.fieldLink "PegLaws" (87 : Nat) "PegLaws" "feltHours" "[I") ∈ lw_all := lw_g (lw_at lw_m1 231 rfl) rfl
theorem q364 : (Jvm.Cond.fieldLink "PegLaws" (90 : Nat) "PegLaws" "feltWet" "[I") ∈ lw_all := lw_g (lw_at lw_m1 232 rfl) rfl
theorem q365 : (Jvm.Cond.fieldLink "PegLaws" (125 : Nat) "PegLaws" "felt" "I") ∈ lw_all := lw_g (lw_at lw_m1 233 rfl) rfl
theorem q366 : (Jvm.Cond.fieldLink "PegLaws" (93 : Nat) "PegLaws" "alike" "[I") ∈ lw_all := lw_g (lw_at lw_m1 234 rfl) rfl
theorem q367 : (Jvm.Cond.fieldLink "PegLaws" (385 : Nat) "PegLaws" "g" "J") ∈ lw_all := lw_g (lw_at lw_m1 235 rfl) rfl
theorem q368 : (Jvm.Cond.fieldLink "PegLaws" (98 : Nat) "PegLaws" "marks" "[LPegLaws$Mark;") ∈ lw_all := lw_g (lw_at lw_m1 236 rfl) rfl
theorem q369 : (Jvm.Cond.laysFinal "PegLaws" "PegLaws" "tape" "[B") ∈ lw_all := lw_g (lw_at lw_m1 237 rfl) rfl
theorem q370 : (Jvm.Cond.soleField "PegLaws" "tape") ∈ lw_all := lw_g (lw_at lw_m1 238 rfl) rfl
theorem q371 : (Jvm.Cond.laysFinal "PegLaws" "PegLaws" "reader" "LPegLaws$Reader;") ∈ lw_all := lw_g (lw_at lw_m1 239 rfl) rfl
theorem q372 : (Jvm.Cond.soleField "PegLaws" "reader") ∈ lw_all := lw_g (lw_at lw_m2 0 rfl) rfl
theorem q373 : (Jvm.Cond.lays "PegLaws" "PegLaws" "rope" "LPegLaws$Rope;") ∈ lw_all := lw_g (lw_at lw_m2 1 rfl) rfl
theorem q374 : (Jvm.Cond.soleField "PegLaws" "rope") ∈ lw_all := lw_g (lw_at lw_m2 2 rfl) rfl
theorem q375 : (Jvm.Cond.lays "PegLaws" "PegLaws" "lines" "Ljava/util/ArrayList;") ∈ lw_all := lw_g (lw_at lw_m2 3 rfl) rfl
theorem q376 : (Jvm.Cond.soleField "PegLaws" "lines") ∈ lw_all := lw_g (lw_at lw_m2 4 rfl) rfl
theorem q377 : (Jvm.Cond.laysFinal "PegLaws" "PegLaws" "state" "LPegLaws$State;") ∈ lw_all := lw_g (lw_at lw_m2 5 rfl) rfl
theorem q378 : (Jvm.Cond.soleField "PegLaws" "state") ∈ lw_all := lw_g (lw_at lw_m2 6 rfl) rfl
theorem q379 : (Jvm.Cond.laysFinal "PegLaws" "PegLaws" "trial" "LPegLaws$State;") ∈ lw_all := lw_g (lw_at lw_m2 7 rfl) rfl
theorem q380 : (Jvm.Cond.soleField "PegLaws" "trial") ∈ lw_all := lw_g (lw_at lw_m2 8 rfl) rfl
theorem q381 : (Jvm.Cond.laysFinal "PegLaws" "PegLaws" "facts" "[I") ∈ lw_all := lw_g (lw_at lw_m2 9 rfl) rfl
theorem q382 : (Jvm.Cond.soleField "PegLaws" "facts") ∈ lw_all := lw_g (lw_at lw_m2 10 rfl) rfl
theorem q383 : (Jvm.Cond.lays "PegLaws" "PegLaws" "taped" "I") ∈ lw_all := lw_g (lw_at lw_m2 11 rfl) rfl
theorem q384 : (Jvm.Cond.soleField "PegLaws" "taped") ∈ lw_all := lw_g (lw_at lw_m2 12 rfl) rfl
theorem q385 : (Jvm.Cond.laysFinal "PegLaws" "PegLaws" "undone" "[LPegLaws$State;") ∈ lw_all := lw_g (lw_at lw_m2 13 rfl) rfl
theorem q386 : (Jvm.Cond.soleField "PegLaws" "undone") ∈ lw_all := lw_g (lw_at lw_m2 14 rfl) rfl
theorem q387 : (Jvm.Cond.lays "PegLaws" "PegLaws" "done" "I") ∈ lw_all := lw_g (lw_at lw_m2 15 rfl) rfl
theorem q388 : (Jvm.Cond.soleField "PegLaws" "done") ∈ lw_all := lw_g (lw_at lw_m2 16 rfl) rfl
theorem q389 : (Jvm.Cond.laysFinal "PegLaws" "PegLaws" "most" "[I") ∈ lw_all := lw_g (lw_at lw_m2 17 rfl) rfl
theorem q390 : (Jvm.Cond.soleField "PegLaws" "most") ∈ lw_all := lw_g (lw_at lw_m2 18 rfl) rfl
theorem q391 : (Jvm.Cond.laysFinal "PegLaws" "PegLaws" "pegsOf" "[I") ∈ lw_all := lw_g (lw_at lw_m2 19 rfl) rfl
theorem q392 : (Jvm.Cond.soleField "PegLaws" "pegsOf") ∈ lw_all := lw_g (lw_at lw_m2 20 rfl) rfl
theorem q393 : (Jvm.Cond.laysFinal "PegLaws" "PegLaws" "bestPegs" "[I") ∈ lw_all := lw_g (lw_at lw_m2 21 rfl) rfl
theorem q394 : (Jvm.Cond.soleField "PegLaws" "bestPegs") ∈ lw_all := lw_g (lw_at lw_m2 22 rfl) rfl
theorem q395 : (Jvm.Cond.lays "PegLaws" "PegLaws" "bestWorth" "I") ∈ lw_all := lw_g (lw_at lw_m2 23 rfl) rfl
theorem q396 : (Jvm.Cond.soleField "PegLaws" "bestWorth") ∈ lw_all := lw_g (lw_at lw_m2 24 rfl) rfl
theorem q397 : (Jvm.Cond.laysFinal "PegLaws" "PegLaws" "winds" "[LPegLaws$State;") ∈ lw_all := lw_g (lw_at lw_m2 25 rfl) rfl
theorem q398 : (Jvm.Cond.soleField "PegLaws" "winds") ∈ lw_all := lw_g (lw_at lw_m2 26 rfl) rfl
theorem q399 : (Jvm.Cond.laysFinal "PegLaws" "PegLaws" "order" "[I") ∈ lw_all := lw_g (lw_at lw_m2 27 rfl) rfl
theorem q400 : (Jvm.Cond.soleField "PegLaws" "order") ∈ lw_all := lw_g (lw_at lw_m2 28 rfl) rfl
theorem q401 : (Jvm.Cond.laysFinal "PegLaws" "PegLaws" "bestOrder" "[I") ∈ lw_all := lw_g (lw_at lw_m2 29 rfl) rfl
theorem q402 : (Jvm.Cond.soleField "PegLaws" "bestOrder") ∈ lw_all := lw_g (lw_at lw_m2 30 rfl) rfl
theorem q403 : (Jvm.Cond.lays "PegLaws" "PegLaws" "washing" "I") ∈ lw_all := lw_g (lw_at lw_m2 31 rfl) rfl
theorem q404 : (Jvm.Cond.soleField "PegLaws" "washing") ∈ lw_all := lw_g (lw_at lw_m2 32 rfl) rfl
theorem q405 : (Jvm.Cond.lays "PegLaws" "PegLaws" "soonest" "I") ∈ lw_all := lw_g (lw_at lw_m2 33 rfl) rfl
theorem q406 : (Jvm.Cond.soleField "PegLaws" "soonest") ∈ lw_all := lw_g (lw_at lw_m2 34 rfl) rfl
theorem q407 : (Jvm.Cond.laysFinal "PegLaws" "PegLaws" "feltCloth" "[I") ∈ lw_all := lw_g (lw_at lw_m2 35 rfl) rfl
theorem q408 : (Jvm.Cond.soleField "PegLaws" "feltCloth") ∈ lw_all := lw_g (lw_at lw_m2 36 rfl) rfl
theorem q409 : (Jvm.Cond.laysFinal "PegLaws" "PegLaws" "feltHours" "[I") ∈ lw_all := lw_g (lw_at lw_m2 37 rfl) rfl
theorem q410 : (Jvm.Cond.soleField "PegLaws" "feltHours") ∈ lw_all := lw_g (lw_at lw_m2 38 rfl) rfl
theorem q411 : (Jvm.Cond.laysFinal "PegLaws" "PegLaws" "feltWet" "[I") ∈ lw_all := lw_g (lw_at lw_m2 39 rfl) rfl
theorem q412 : (Jvm.Cond.soleField "PegLaws" "feltWet") ∈ lw_all := lw_g (lw_at lw_m2 40 rfl) rfl
theorem q413 : (Jvm.Cond.lays "PegLaws" "PegLaws" "felt" "I") ∈ lw_all := lw_g (lw_at lw_m2 41 rfl) rfl
theorem q414 : (Jvm.Cond.soleField "PegLaws" "felt") ∈ lw_all := lw_g (lw_at lw_m2 42 rfl) rfl
theorem q415 : (Jvm.Cond.laysFinal "PegLaws" "PegLaws" "alike" "[I") ∈ lw_all := lw_g (lw_at lw_m2 43 rfl) rfl
theorem q416 : (Jvm.Cond.soleField "PegLaws" "alike") ∈ lw_all := lw_g (lw_at lw_m2 44 rfl) rfl
theorem q417 : (Jvm.Cond.lays "PegLaws" "PegLaws" "g" "J") ∈ lw_all := lw_g (lw_at lw_m2 45 rfl) rfl
theorem q418 : (Jvm.Cond.soleField "PegLaws" "g") ∈ lw_all := lw_g (lw_at lw_m2 46 rfl) rfl
theorem q419 : (Jvm.Cond.laysFinal "PegLaws" "PegLaws" "marks" "[LPegLaws$Mark;") ∈ lw_all := lw_g (lw_at lw_m2 47 rfl) rfl
theorem q420 : (Jvm.Cond.soleField "PegLaws" "marks") ∈ lw_all := lw_g (lw_at lw_m2 48 rfl) rfl
theorem q421 : (Jvm.Cond.superclass "PegLaws" "java/lang/Object") ∈ lw_all := lw_g (lw_at lw_m2 49 rfl) rfl
theorem q423 : (Jvm.Cond.instanceMethod ({ cls := "PegLaws", name := "feed", desc := "(JJJ)I" } : Jvm.MethodName)) ∈ lw_all := lw_g (lw_at lw_m2 51 rfl) rfl
theorem q424 : (Jvm.Cond.selects "PegLaws" ({ cls := "PegLaws", name := "feed", desc := "(JJJ)I" } : Jvm.MethodName) ({ cls := "PegLaws", name := "feed", desc := "(JJJ)I" } : Jvm.MethodName)) ∈ lw_all := lw_g (lw_at lw_m2 52 rfl) rfl
theorem q425 : (Jvm.Cond.code ({ cls := "PegLaws", name := "feed", desc := "(JJJ)I" } : Jvm.MethodName) prog_1_method_7_code (9 : Nat) (Option.some Jvm.ClassFile.FieldType.int)) ∈ lw_all := lw_g (lw_at lw_m2 53 rfl) rfl
theorem q427 : (Jvm.Cond.instanceMethod ({ cls := "PegLaws", name := "line", desc := "()I" } : Jvm.MethodName)) ∈ lw_all := lw_g (lw_at lw_m2 55 rfl) rfl
theorem q428 : (Jvm.Cond.selects "PegLaws" ({ cls := "PegLaws", name := "line", desc := "()I" } : Jvm.MethodName) ({ cls := "PegLaws", name := "line", desc := "()I" } : Jvm.MethodName)) ∈ lw_all := lw_g (lw_at lw_m2 56 rfl) rfl
theorem q429 : (Jvm.Cond.codeWith ({ cls := "PegLaws", name := "line", desc := "()I" } : Jvm.MethodName) prog_1_method_9_code (2 : Nat) (Option.some Jvm.ClassFile.FieldType.int) [((4 : Nat), (15 : Nat), (18 : Nat), (120 : Nat))]) ∈ lw_all := lw_g (lw_at lw_m2 57 rfl) rfl
theorem q430 : (Jvm.Cond.classLink "PegLaws" (120 : Nat) "PegLaws$Wrong") ∈ lw_all := lw_g (lw_at lw_m2 58 rfl) rfl
theorem q431 : (Jvm.Cond.methodLink "PegLaws" (113 : Nat) ({ cls := "PegLaws", name := "reads", desc := "()V" } : Jvm.MethodName)) ∈ lw_all := lw_g (lw_at lw_m2 59 rfl) rfl
theorem q432 : (Jvm.Cond.privateMethod ({ cls := "PegLaws", name := "reads", desc := "()V" } : Jvm.MethodName)) ∈ lw_tbl := lw_at lw_m2 60 rfl
theorem q433 : (Jvm.Cond.instanceMethod ({ cls := "PegLaws", name := "reads", desc := "()V" } : Jvm.MethodName)) ∈ lw_all := lw_g (lw_at lw_m2 61 rfl) rfl
theorem q434 : (Jvm.Cond.code ({ cls := "PegLaws", name := "reads", desc := "()V" } : Jvm.MethodName) prog_1_method_8_code (1 : Nat) (Option.none : Option Jvm.ClassFile.FieldType)) ∈ lw_all := lw_g (lw_at lw_m2 62 rfl) rfl
theorem q435 : (Jvm.Cond.methodLink "PegLaws" (110 : Nat) ({ cls := "PegLaws$Reader", name := "begin", desc := "([BI)V" } : Jvm.MethodName)) ∈ lw_all := lw_g (lw_at lw_m2 63 rfl) rfl
theorem q540 : (Jvm.Cond.methodLink "PegLaws" (116 : Nat) ({ cls := "PegLaws$Reader", name := "line", desc := "()LPegLaws$Rope;" } : Jvm.MethodName)) ∈ lw_all := lw_g (lw_at lw_m2 168 rfl) rfl
theorem q630 : (Jvm.Cond.fieldLinkNest "PegLaws" (122 : Nat) "PegLaws$Wrong" "fault" "I" "PegLaws") ∈ lw_tbl := lw_at lw_m3 18 rfl
theorem q864 : (Jvm.Cond.fieldLink "PegLaws" (184 : Nat) "PegLaws$Cloth" "wide" "I") ∈ lw_all := lw_g (lw_at lw_m4 12 rfl) rfl
theorem q870 : (Jvm.Cond.fieldLink "PegLaws" (181 : Nat) "PegLaws$Cloth" "worth" "I") ∈ lw_all := lw_g (lw_at lw_m4 18 rfl) rfl
theorem q954 : (Jvm.Cond.selects "PegLaws" ({ cls := "java/lang/Object", name := "getClass", desc := "()Ljava/lang/Class;" } : Jvm.MethodName) ({ cls := "java/lang/Object", name := "getClass", desc := "()Ljava/lang/Class;" } : Jvm.MethodName)) ∈ lw_all := lw_g (lw_at lw_m4 102 rfl) rfl
theorem q994 : (Jvm.Cond.static ({ cls := "PegLaws", name := "in", desc := "(III)Z" } : Jvm.MethodName)) ∈ lw_all := lw_g (lw_at lw_m4 142 rfl) rfl
theorem q995 : (Jvm.Cond.code ({ cls := "PegLaws", name := "in", desc := "(III)Z" } : Jvm.MethodName) prog_1_method_1_code (3 : Nat) (Option.some Jvm.ClassFile.FieldType.boolean)) ∈ lw_all := lw_g (lw_at lw_m4 143 rfl) rfl
theorem q1005 : (Jvm.Cond.static ({ cls := "PegLaws", name := "isIn", desc := "(II)Z" } : Jvm.MethodName)) ∈ lw_all := lw_g (lw_at lw_m4 153 rfl) rfl
theorem q1006 : (Jvm.Cond.code ({ cls := "PegLaws", name := "isIn", desc := "(II)Z" } : Jvm.MethodName) prog_1_method_3_code (2 : Nat) (Option.some Jvm.ClassFile.FieldType.boolean)) ∈ lw_all := lw_g (lw_at lw_m4 154 rfl) rfl
theorem q1084 : (Jvm.Cond.instanceMethod ({ cls := "PegLaws", name := "day", desc := "()I" } : Jvm.MethodName)) ∈ lw_all := lw_g (lw_at lw_m4 232 rfl) rfl
theorem q1085 : (Jvm.Cond.selects "PegLaws" ({ cls := "PegLaws", name := "day", desc := "()I" } : Jvm.MethodName) ({ cls := "PegLaws", name := "day", desc := "()I" } : Jvm.MethodName)) ∈ lw_all := lw_g (lw_at lw_m4 233 rfl) rfl
theorem q1086 : (Jvm.Cond.codeWith ({ cls := "PegLaws", name := "day", desc := "()I" } : Jvm.MethodName) prog_1_method_10_code (2 : Nat) (Option.some Jvm.ClassFile.FieldType.int) [((4 : Nat), (19 : Nat), (22 : Nat), (120 : Nat))]) ∈ lw_all := lw_g (lw_at lw_m4 234 rfl) rfl
theorem q1087 : (Jvm.Cond.methodLink "PegLaws" (131 : Nat) ({ cls := "PegLaws$Reader", name := "day", desc := "(LPegLaws$Rope;)Ljava/util/ArrayList;" } : Jvm.MethodName)) ∈ lw_all := lw_g (lw_at lw_m4 235 rfl) rfl
theorem q1158 : (Jvm.Cond.instanceMethod ({ cls := "PegLaws", name := "cloth", desc := "(II)I" } : Jvm.MethodName)) ∈ lw_all := lw_g (lw_at lw_m5 66 rfl) rfl
theorem q1159 : (Jvm.Cond.selects "PegLaws" ({ cls := "PegLaws", name := "cloth", desc := "(II)I" } : Jvm.MethodName) ({ cls := "PegLaws", name := "cloth", desc := "(II)I" } : Jvm.MethodName)) ∈ lw_all := lw_g (lw_at lw_m5 67 rfl) rfl
theorem q1160 : (Jvm.Cond.code ({ cls := "PegLaws", name := "cloth", desc := "(II)I" } : Jvm.MethodName) prog_1_method_26_code (4 : Nat) (Option.some Jvm.ClassFile.FieldType.int)) ∈ lw_all := lw_g (lw_at lw_m5 68 rfl) rfl
theorem q1161 : (Jvm.Cond.methodLink "PegLaws" (254 : Nat) ({ cls := "PegLaws", name := "isCloth", desc := "(I)Z" } : Jvm.MethodName)) ∈ lw_all := lw_g (lw_at lw_m5 69 rfl) rfl
theorem q1162 : (Jvm.Cond.privateMethod ({ cls := "PegLaws", name := "isCloth", desc := "(I)Z" } : Jvm.MethodName)) ∈ lw_tbl := lw_at lw_m5 70 rfl
theorem q1163 : (Jvm.Cond.instanceMethod ({ cls := "PegLaws", name := "isCloth", desc := "(I)Z" } : Jvm.MethodName)) ∈ lw_all := lw_g (lw_at lw_m5 71 rfl) rfl
theorem q1164 : (Jvm.Cond.code ({ cls := "PegLaws", name := "isCloth", desc := "(I)Z" } : Jvm.MethodName) prog_1_method_13_code (2 : Nat) (Option.some Jvm.ClassFile.FieldType.boolean)) ∈ lw_all := lw_g (lw_at lw_m5 72 rfl) rfl
theorem q1165 : (Jvm.Cond.methodLink "PegLaws" (148 : Nat) ({ cls := "PegLaws", name := "cloths", desc := "()I" } : Jvm.MethodName)) ∈ lw_all := lw_g (lw_at lw_m5 73 rfl) rfl
theorem q1166 : (Jvm.Cond.privateMethod ({ cls := "PegLaws", name := "cloths", desc := "()I" } : Jvm.MethodName)) ∈ lw_tbl := lw_at lw_m5 74 rfl
theorem q1167 : (Jvm.Cond.instanceMethod ({ cls := "PegLaws", name := "cloths", desc := "()I" } : Jvm.MethodName)) ∈ lw_all := lw_g (lw_at lw_m5 75 rfl) rfl
theorem q1168 : (Jvm.Cond.code ({ cls := "PegLaws", name := "cloths", desc := "()I" } : Jvm.MethodName) prog_1_method_11_code (1 : Nat) (Option.some Jvm.ClassFile.FieldType.int)) ∈ lw_all := lw_g (lw_at lw_m5 76 rfl) rfl
theorem q1169 : (Jvm.Cond.methodLink "PegLaws" (138 : Nat) ({ cls := "java/util/ArrayList", name := "size", desc := "()I" } : Jvm.MethodName)) ∈ lw_all := lw_g (lw_at lw_m5 77 rfl) rfl
theorem q1170 : (Jvm.Cond.methodLink "PegLaws" (150 : Nat) ({ cls := "PegLaws", name := "in", desc := "(III)Z" } : Jvm.MethodName)) ∈ lw_all := lw_g (lw_at lw_m5 78 rfl) rfl
theorem q1171 : (Jvm.Cond.methodLink "PegLaws" (157 : Nat) ({ cls := "PegLaws$State", name := "by", desc := "(I)I" } : Jvm.MethodName)) ∈ lw_all := lw_g (lw_at lw_m5 79 rfl) rfl
theorem q1175 : (Jvm.Cond.methodLink "PegLaws" (166 : Nat) ({ cls := "PegLaws", name := "cloth", desc := "(I)LPegLaws$Cloth;" } : Jvm.MethodName)) ∈ lw_all := lw_g (lw_at lw_m5 83 rfl) rfl
theorem q1176 : (Jvm.Cond.privateMethod ({ cls := "PegLaws", name := "cloth", desc := "(I)LPegLaws$Cloth;" } : Jvm.MethodName)) ∈ lw_tbl := lw_at lw_m5 84 rfl
theorem q1177 : (Jvm.Cond.instanceMethod ({ cls := "PegLaws", name := "cloth", desc := "(I)LPegLaws$Cloth;" } : Jvm.MethodName)) ∈ lw_all := lw_g (lw_at lw_m5 85 rfl) rfl
theorem q1178 : (Jvm.Cond.code ({ cls := "PegLaws", name := "cloth", desc := "(I)LPegLaws$Cloth;" } : Jvm.MethodName) prog_1_method_12_code (2 : Nat) (Option.some (Jvm.ClassFile.FieldType.object "PegLaws$Cloth"))) ∈ lw_all := lw_g (lw_at lw_m5 86 rfl) rfl
theorem q1179 : (Jvm.Cond.methodLink "PegLaws" (142 : Nat) ({ cls := "java/util/ArrayList", name := "get", desc := "(I)Ljava/lang/Object;" } : Jvm.MethodName)) ∈ lw_all := lw_g (lw_at lw_m5 87 rfl) rfl
theorem q1180 : (Jvm.Cond.classLink "PegLaws" (146 : Nat) "PegLaws$Cloth") ∈ lw_all := lw_g (lw_at lw_m5 88 rfl) rfl
theorem q1181 : (Jvm.Cond.methodLink "PegLaws" (258 : Nat) ({ cls := "PegLaws$Cloth", name := "kind", desc := "()I" } : Jvm.MethodName)) ∈ lw_all := lw_g (lw_at lw_m5 89 rfl) rfl
theorem q1195 : (Jvm.Cond.methodLink "PegLaws" (173 : Nat) ({ cls := "PegLaws", name := "isLaw", desc := "(LPegLaws$State;I)Z" } : Jvm.MethodName)) ∈ lw_all := lw_g (lw_at lw_m5 103 rfl) rfl
theorem q1196 : (Jvm.Cond.privateMethod ({ cls := "PegLaws", name := "isLaw", desc := "(LPegLaws$State;I)Z" } : Jvm.MethodName)) ∈ lw_tbl := lw_at lw_m5 104 rfl
theorem q1197 : (Jvm.Cond.instanceMethod ({ cls := "PegLaws", name := "isLaw", desc := "(LPegLaws$State;I)Z" } : Jvm.MethodName)) ∈ lw_all := lw_g (lw_at lw_m5 105 rfl) rfl
theorem q1198 : (Jvm.Cond.code ({ cls := "PegLaws", name := "isLaw", desc := "(LPegLaws$State;I)Z" } : Jvm.MethodName) prog_1_method_14_code (3 : Nat) (Option.some Jvm.ClassFile.FieldType.boolean)) ∈ lw_all := lw_g (lw_at lw_m5 106 rfl) rfl
theorem q1199 : (Jvm.Cond.methodLink "PegLaws" (161 : Nat) ({ cls := "java/lang/Integer", name := "bitCount", desc := "(I)I" } : Jvm.MethodName)) ∈ lw_all := lw_g (lw_at lw_m5 107 rfl) rfl
theorem q1200 : (Jvm.Cond.methodLink "PegLaws" (170 : Nat) ({ cls := "PegLaws$Cloth", name := "needs", desc := "()I" } : Jvm.MethodName)) ∈ lw_all := lw_g (lw_at lw_m5 108 rfl) rfl
theorem q1210 : (Jvm.Cond.methodLink "PegLaws" (261 : Nat) ({ cls := "PegLaws", name := "isTurned", desc := "(LPegLaws$State;I)Z" } : Jvm.MethodName)) ∈ lw_all := lw_g (lw_at lw_m5 118 rfl) rfl
theorem q1211 : (Jvm.Cond.privateMethod ({ cls := "PegLaws", name := "isTurned", desc := "(LPegLaws$State;I)Z" } : Jvm.MethodName)) ∈ lw_tbl := lw_at lw_m5 119 rfl
theorem q1212 : (Jvm.Cond.instanceMethod ({ cls := "PegLaws", name := "isTurned", desc := "(LPegLaws$State;I)Z" } : Jvm.MethodName)) ∈ lw_all := lw_g (lw_at lw_m5 120 rfl) rfl
theorem q1213 : (Jvm.Cond.code ({ cls := "PegLaws", name := "isTurned", desc := "(LPegLaws$State;I)Z" } : Jvm.MethodName) prog_1_method_15_code (3 : Nat) (Option.some Jvm.ClassFile.FieldType.boolean)) ∈ lw_all := lw_g (lw_at lw_m5 121 rfl) rfl
theorem q1214 : (Jvm.Cond.methodLink "PegLaws" (190 : Nat) ({ cls := "PegLaws", name := "roomBy", desc := "(II)I" } : Jvm.MethodName)) ∈ lw_all := lw_g (lw_at lw_m5 122 rfl) rfl
theorem q1215 : (Jvm.Cond.privateMethod ({ cls := "PegLaws", name := "roomBy", desc := "(II)I" } : Jvm.MethodName)) ∈ lw_tbl := lw_at lw_m5 123 rfl
theorem q1216 : (Jvm.Cond.instanceMethod ({ cls := "PegLaws", name := "roomBy", desc := "(II)I" } : Jvm.MethodName)) ∈ lw_all := lw_g (lw_at lw_m5 124 rfl) rfl
theorem q1217 : (Jvm.Cond.code ({ cls := "PegLaws", name := "roomBy", desc := "(II)I" } : Jvm.MethodName) prog_1_method_18_code (3 : Nat) (Option.some Jvm.ClassFile.FieldType.int)) ∈ lw_all := lw_g (lw_at lw_m5 125 rfl) rfl
theorem q1218 : (Jvm.Cond.methodLink "PegLaws" (247 : Nat) ({ cls := "PegLaws$Rope", name := "wind", desc := "(I)I" } : Jvm.MethodName)) ∈ lw_all := lw_g (lw_at lw_m5 126 rfl) rfl
theorem q1222 : (Jvm.Cond.methodLink "PegLaws" (229 : Nat) ({ cls := "PegLaws", name := "pullOf", desc := "(III)I" } : Jvm.MethodName)) ∈ lw_all := lw_g (lw_at lw_m5 130 rfl) rfl
theorem q1223 : (Jvm.Cond.privateMethod ({ cls := "PegLaws", name := "pullOf", desc := "(III)I" } : Jvm.MethodName)) ∈ lw_tbl := lw_at lw_m5 131 rfl
theorem q1224 : (Jvm.Cond.instanceMethod ({ cls := "PegLaws", name := "pullOf", desc := "(III)I" } : Jvm.MethodName)) ∈ lw_all := lw_g (lw_at lw_m5 132 rfl) rfl
theorem q1225 : (Jvm.Cond.code ({ cls := "PegLaws", name := "pullOf", desc := "(III)I" } : Jvm.MethodName) prog_1_method_22_code (4 : Nat) (Option.some Jvm.ClassFile.FieldType.int)) ∈ lw_all := lw_g (lw_at lw_m5 133 rfl) rfl
theorem q1226 : (Jvm.Cond.methodLink "PegLaws" (204 : Nat) ({ cls := "PegLaws$Cloth", name := "mass", desc := "(I)I" } : Jvm.MethodName)) ∈ lw_all := lw_g (lw_at lw_m5 134 rfl) rfl
theorem q1236 : (Jvm.Cond.methodLink "PegLaws" (217 : Nat) ({ cls := "PegLaws", name := "worked", desc := "(LPegLaws$Expression;IIIII)I" } : Jvm.MethodName)) ∈ lw_all := lw_g (lw_at lw_m5 144 rfl) rfl
theorem q1237 : (Jvm.Cond.privateMethod ({ cls := "PegLaws", name := "worked", desc := "(LPegLaws$Expression;IIIII)I" } : Jvm.MethodName)) ∈ lw_tbl := lw_at lw_m5 145 rfl
theorem q1238 : (Jvm.Cond.instanceMethod ({ cls := "PegLaws", name := "worked", desc := "(LPegLaws$Expression;IIIII)I" } : Jvm.MethodName)) ∈ lw_all := lw_g (lw_at lw_m5 146 rfl) rfl
theorem q1239 : (Jvm.Cond.code ({ cls := "PegLaws", name := "worked", desc := "(LPegLaws$Expression;IIIII)I" } : Jvm.MethodName) prog_1_method_21_code (7 : Nat) (Option.some Jvm.ClassFile.FieldType.int)) ∈ lw_all := lw_g (lw_at lw_m5 147 rfl) rfl
theorem q1240 : (Jvm.Cond.methodLink "PegLaws" (200 : Nat) ({ cls := "PegLaws", name := "between", desc := "(III)I" } : Jvm.MethodName)) ∈ lw_all := lw_g (lw_at lw_m5 148 rfl) rfl
theorem q1241 : (Jvm.Cond.static ({ cls := "PegLaws", name := "between", desc := "(III)I" } : Jvm.MethodName)) ∈ lw_all := lw_g (lw_at lw_m5 149 rfl) rfl
theorem q1242 : (Jvm.Cond.code ({ cls := "PegLaws", name := "between", desc := "(III)I" } : Jvm.MethodName) prog_1_method_2_code (3 : Nat) (Option.some Jvm.ClassFile.FieldType.int)) ∈ lw_all := lw_g (lw_at lw_m5 150 rfl) rfl
theorem q1243 : (Jvm.Cond.methodLink "PegLaws" (1 : Nat) ({ cls := "java/lang/Math", name := "min", desc := "(II)I" } : Jvm.MethodName)) ∈ lw_all := lw_g (lw_at lw_m5 151 rfl) rfl
theorem q1244 : (Jvm.Cond.methodLink "PegLaws" (7 : Nat) ({ cls := "java/lang/Math", name := "max", desc := "(II)I" } : Jvm.MethodName)) ∈ lw_all := lw_g (lw_at lw_m5 152 rfl) rfl
theorem q1245 : (Jvm.Cond.methodLink "PegLaws" (207 : Nat) ({ cls := "PegLaws$Expression", name := "worked", desc := "([I)I" } : Jvm.MethodName)) ∈ lw_all := lw_g (lw_at lw_m5 153 rfl) rfl
theorem q1262 : (Jvm.Cond.methodLink "PegLaws" (220 : Nat) ({ cls := "PegLaws$Cloth", name := "pulled", desc := "(I)I" } : Jvm.MethodName)) ∈ lw_all := lw_g (lw_at lw_m5 170 rfl) rfl
theorem q1273 : (Jvm.Cond.instanceMethod ({ cls := "PegLaws", name := "peg", desc := "(II)I" } : Jvm.MethodName)) ∈ lw_all := lw_g (lw_at lw_m5 181 rfl) rfl
theorem q1274 : (Jvm.Cond.selects "PegLaws" ({ cls := "PegLaws", name := "peg", desc := "(II)I" } : Jvm.MethodName) ({ cls := "PegLaws", name := "peg", desc := "(II)I" } : Jvm.MethodName)) ∈ lw_all := lw_g (lw_at lw_m5 182 rfl) rfl
theorem q1275 : (Jvm.Cond.code ({ cls := "PegLaws", name := "peg", desc := "(II)I" } : Jvm.MethodName) prog_1_method_27_code (3 : Nat) (Option.some Jvm.ClassFile.FieldType.int)) ∈ lw_all := lw_g (lw_at lw_m5 183 rfl) rfl
theorem q1277 : (Jvm.Cond.instanceMethod ({ cls := "PegLaws", name := "laws", desc := "()I" } : Jvm.MethodName)) ∈ lw_all := lw_g (lw_at lw_m5 185 rfl) rfl
theorem q1278 : (Jvm.Cond.selects "PegLaws" ({ cls := "PegLaws", name := "laws", desc := "()I" } : Jvm.MethodName) ({ cls := "PegLaws", name := "laws", desc := "()I" } : Jvm.MethodName)) ∈ lw_all := lw_g (lw_at lw_m5 186 rfl) rfl
theorem q1279 : (Jvm.Cond.code ({ cls := "PegLaws", name := "laws", desc := "()I" } : Jvm.MethodName) prog_1_method_28_code (1 : Nat) (Option.some Jvm.ClassFile.FieldType.int)) ∈ lw_all := lw_g (lw_at lw_m5 187 rfl) rfl
theorem q1280 : (Jvm.Cond.methodLink "PegLaws" (273 : Nat) ({ cls := "PegLaws", name := "lawsOf", desc := "(LPegLaws$State;)I" } : Jvm.MethodName)) ∈ lw_all := lw_g (lw_at lw_m5 188 rfl) rfl
theorem q1281 : (Jvm.Cond.privateMethod ({ cls := "PegLaws", name := "lawsOf", desc := "(LPegLaws$State;)I" } : Jvm.MethodName)) ∈ lw_tbl := lw_at lw_m5 189 rfl
theorem q1282 : (Jvm.Cond.instanceMethod ({ cls := "PegLaws", name := "lawsOf", desc := "(LPegLaws$State;)I" } : Jvm.MethodName)) ∈ lw_all := lw_g (lw_at lw_m5 190 rfl) rfl
theorem q1283 : (Jvm.Cond.code ({ cls := "PegLaws", name := "lawsOf", desc := "(LPegLaws$State;)I" } : Jvm.MethodName) prog_1_method_16_code (4 : Nat) (Option.some Jvm.ClassFile.FieldType.int)) ∈ lw_all := lw_g (lw_at lw_m5 191 rfl) rfl
theorem q1285 : (Jvm.Cond.instanceMethod ({ cls := "PegLaws", name := "free", desc := "()I" } : Jvm.MethodName)) ∈ lw_all := lw_g (lw_at lw_m5 193 rfl) rfl
theorem q1286 : (Jvm.Cond.selects "PegLaws" ({ cls := "PegLaws", name := "free", desc := "()I" } : Jvm.MethodName) ({ cls := "PegLaws", name := "free", desc := "()I" } : Jvm.MethodName)) ∈ lw_all := lw_g (lw_at lw_m5 194 rfl) rfl
theorem q1287 : (Jvm.Cond.code ({ cls := "PegLaws", name := "free", desc := "()I" } : Jvm.MethodName) prog_1_method_29_code (1 : Nat) (Option.some Jvm.ClassFile.FieldType.int)) ∈ lw_all := lw_g (lw_at lw_m5 195 rfl) rfl
theorem q1288 : (Jvm.Cond.methodLink "PegLaws" (193 : Nat) ({ cls := "PegLaws$State", name := "free", desc := "()I" } : Jvm.MethodName)) ∈ lw_all := lw_g (lw_at lw_m5 196 rfl) rfl
theorem q1293 : (Jvm.Cond.instanceMethod ({ cls := "PegLaws", name := "hang", desc := "(II)I" } : Jvm.MethodName)) ∈ lw_all := lw_g (lw_at lw_m5 201 rfl) rfl
theorem q1294 : (Jvm.Cond.selects "PegLaws" ({ cls := "PegLaws", name := "hang", desc := "(II)I" } : Jvm.MethodName) ({ cls := "PegLaws", name := "hang", desc := "(II)I" } : Jvm.MethodName)) ∈ lw_all := lw_g (lw_at lw_m5 202 rfl) rfl
theorem q1295 : (Jvm.Cond.code ({ cls := "PegLaws", name := "hang", desc := "(II)I" } : Jvm.MethodName) prog_1_method_31_code (3 : Nat) (Option.some Jvm.ClassFile.FieldType.int)) ∈ lw_all := lw_g (lw_at lw_m5 203 rfl) rfl
theorem q1296 : (Jvm.Cond.methodLink "PegLaws" (280 : Nat) ({ cls := "PegLaws", name := "canHang", desc := "(LPegLaws$State;II)Z" } : Jvm.MethodName)) ∈ lw_all := lw_g (lw_at lw_m5 204 rfl) rfl
theorem q1297 : (Jvm.Cond.privateMethod ({ cls := "PegLaws", name := "canHang", desc := "(LPegLaws$State;II)Z" } : Jvm.MethodName)) ∈ lw_tbl := lw_at lw_m5 205 rfl
theorem q1298 : (Jvm.Cond.instanceMethod ({ cls := "PegLaws", name := "canHang", desc := "(LPegLaws$State;II)Z" } : Jvm.MethodName)) ∈ lw_all := lw_g (lw_at lw_m5 206 rfl) rfl
theorem q1299 : (Jvm.Cond.code ({ cls := "PegLaws", name := "canHang", desc := "(LPegLaws$State;II)Z" } : Jvm.MethodName) prog_1_method_20_code (5 : Nat) (Option.some Jvm.ClassFile.FieldType.boolean)) ∈ lw_all := lw_g (lw_at lw_m5 207 rfl) rfl
theorem q1300 : (Jvm.Cond.methodLink "PegLaws" (196 : Nat) ({ cls := "PegLaws", name := "left", desc := "(LPegLaws$State;)I" } : Jvm.MethodName)) ∈ lw_all := lw_g (lw_at lw_m5 208 rfl) rfl
theorem q1301 : (Jvm.Cond.privateMethod ({ cls := "PegLaws", name := "left", desc := "(LPegLaws$State;)I" } : Jvm.MethodName)) ∈ lw_tbl := lw_at lw_m5 209 rfl
theorem q1302 : (Jvm.Cond.instanceMethod ({ cls := "PegLaws", name := "left", desc := "(LPegLaws$State;)I" } : Jvm.MethodName)) ∈ lw_all := lw_g (lw_at lw_m5 210 rfl) rfl
theorem q1303 : (Jvm.Cond.code ({ cls := "PegLaws", name := "left", desc := "(LPegLaws$State;)I" } : Jvm.MethodName) prog_1_method_19_code (4 : Nat) (Option.some Jvm.ClassFile.FieldType.int)) ∈ lw_all := lw_g (lw_at lw_m5 211 rfl) rfl
theorem q1304 : (Jvm.Cond.methodLink "PegLaws" (187 : Nat) ({ cls := "PegLaws$Rope", name := "yards", desc := "()I" } : Jvm.MethodName)) ∈ lw_all := lw_g (lw_at lw_m5 212 rfl) rfl
theorem q1308 : (Jvm.Cond.methodLink "PegLaws" (283 : Nat) ({ cls := "PegLaws", name := "keeps", desc := "()V" } : Jvm.MethodName)) ∈ lw_all := lw_g (lw_at lw_m5 216 rfl) rfl
theorem q1309 : (Jvm.Cond.privateMethod ({ cls := "PegLaws", name := "keeps", desc := "()V" } : Jvm.MethodName)) ∈ lw_tbl := lw_at lw_m5 217 rfl
theorem q1310 : (Jvm.Cond.instanceMethod ({ cls := "PegLaws", name := "keeps", desc := "()V" } : Jvm.MethodName)) ∈ lw_all := lw_g (lw_at lw_m5 218 rfl) rfl
theorem q1311 : (Jvm.Cond.code ({ cls := "PegLaws", name := "keeps", desc := "()V" } : Jvm.MethodName) prog_1_method_30_code (3 : Nat) (Option.none : Option Jvm.ClassFile.FieldType)) ∈ lw_all := lw_g (lw_at lw_m5 219 rfl) rfl
theorem q1312 : (Jvm.Cond.methodLink "PegLaws" (276 : Nat) ({ cls := "PegLaws$State", name := "be", desc := "(LPegLaws$State;)V" } : Jvm.MethodName)) ∈ lw_all := lw_g (lw_at lw_m5 220 rfl) rfl
theorem q1317 : (Jvm.Cond.static ({ cls := "PegLaws", name := "copies", desc := "([I[I)V" } : Jvm.MethodName)) ∈ lw_all := lw_g (lw_at lw_m5 225 rfl) rfl
theorem q1318 : (Jvm.Cond.code ({ cls := "PegLaws", name := "copies", desc := "([I[I)V" } : Jvm.MethodName) prog_1_method_5_code (3 : Nat) (Option.none : Option Jvm.ClassFile.FieldType)) ∈ lw_all := lw_g (lw_at lw_m5 226 rfl) rfl
theorem q1319 : (Jvm.Cond.methodLink "PegLaws" (286 : Nat) ({ cls := "PegLaws$State", name := "hangs", desc := "(II)V" } : Jvm.MethodName)) ∈ lw_all := lw_g (lw_at lw_m5 227 rfl) rfl
theorem q1325 : (Jvm.Cond.instanceMethod ({ cls := "PegLaws", name := "take", desc := "(I)Z" } : Jvm.MethodName)) ∈ lw_all := lw_g (lw_at lw_m5 233 rfl) rfl
theorem q1326 : (Jvm.Cond.selects "PegLaws" ({ cls := "PegLaws", name := "take", desc := "(I)Z" } : Jvm.MethodName) ({ cls := "PegLaws", name := "take", desc := "(I)Z" } : Jvm.MethodName)) ∈ lw_all := lw_g (lw_at lw_m5 234 rfl) rfl
theorem q1327 : (Jvm.Cond.code ({ cls := "PegLaws", name := "take", desc := "(I)Z" } : Jvm.MethodName) prog_1_method_32_code (2 : Nat) (Option.some Jvm.ClassFile.FieldType.boolean)) ∈ lw_all := lw_g (lw_at lw_m5 235 rfl) rfl
theorem q1328 : (Jvm.Cond.methodLink "PegLaws" (290 : Nat) ({ cls := "PegLaws$State", name := "comesIn", desc := "(I)V" } : Jvm.MethodName)) ∈ lw_all := lw_g (lw_at lw_m5 236 rfl) rfl
theorem q1333 : (Jvm.Cond.instanceMethod ({ cls := "PegLaws", name := "wash", desc := "(I)I" } : Jvm.MethodName)) ∈ lw_all := lw_g (lw_at lw_m6 1 rfl) rfl
theorem q1334 : (Jvm.Cond.selects "PegLaws" ({ cls := "PegLaws", name := "wash", desc := "(I)I" } : Jvm.MethodName) ({ cls := "PegLaws", name := "wash", desc := "(I)I" } : Jvm.MethodName)) ∈ lw_all := lw_g (lw_at lw_m6 2 rfl) rfl
theorem q1335 : (Jvm.Cond.code ({ cls := "PegLaws", name := "wash", desc := "(I)I" } : Jvm.MethodName) prog_1_method_33_code (3 : Nat) (Option.some Jvm.ClassFile.FieldType.int)) ∈ lw_all := lw_g (lw_at lw_m6 3 rfl) rfl
theorem q1337 : (Jvm.Cond.instanceMethod ({ cls := "PegLaws", name := "buy", desc := "(I)I" } : Jvm.MethodName)) ∈ lw_all := lw_g (lw_at lw_m6 5 rfl) rfl
theorem q1338 : (Jvm.Cond.selects "PegLaws" ({ cls := "PegLaws", name := "buy", desc := "(I)I" } : Jvm.MethodName) ({ cls := "PegLaws", name := "buy", desc := "(I)I" } : Jvm.MethodName)) ∈ lw_all := lw_g (lw_at lw_m6 6 rfl) rfl
theorem q1339 : (Jvm.Cond.code ({ cls := "PegLaws", name := "buy", desc := "(I)I" } : Jvm.MethodName) prog_1_method_34_code (2 : Nat) (Option.some Jvm.ClassFile.FieldType.int)) ∈ lw_all := lw_g (lw_at lw_m6 7 rfl) rfl
theorem q1341 : (Jvm.Cond.instanceMethod ({ cls := "PegLaws", name := "hour", desc := "()I" } : Jvm.MethodName)) ∈ lw_all := lw_g (lw_at lw_m6 9 rfl) rfl
theorem q1342 : (Jvm.Cond.selects "PegLaws" ({ cls := "PegLaws", name := "hour", desc := "()I" } : Jvm.MethodName) ({ cls := "PegLaws", name := "hour", desc := "()I" } : Jvm.MethodName)) ∈ lw_all := lw_g (lw_at lw_m6 10 rfl) rfl
theorem q1343 : (Jvm.Cond.code ({ cls := "PegLaws", name := "hour", desc := "()I" } : Jvm.MethodName) prog_1_method_35_code (1 : Nat) (Option.some Jvm.ClassFile.FieldType.int)) ∈ lw_all := lw_g (lw_at lw_m6 11 rfl) rfl
theorem q1344 : (Jvm.Cond.methodLink "PegLaws" (293 : Nat) ({ cls := "PegLaws", name := "passes", desc := "(LPegLaws$State;I)I" } : Jvm.MethodName)) ∈ lw_all := lw_g (lw_at lw_m6 12 rfl) rfl
theorem q1345 : (Jvm.Cond.privateMethod ({ cls := "PegLaws", name := "passes", desc := "(LPegLaws$State;I)I" } : Jvm.MethodName)) ∈ lw_tbl := lw_at lw_m6 13 rfl
theorem q1346 : (Jvm.Cond.instanceMethod ({ cls := "PegLaws", name := "passes", desc := "(LPegLaws$State;I)I" } : Jvm.MethodName)) ∈ lw_all := lw_g (lw_at lw_m6 14 rfl) rfl
theorem q1347 : (Jvm.Cond.code ({ cls := "PegLaws", name := "passes", desc := "(LPegLaws$State;I)I" } : Jvm.MethodName) prog_1_method_25_code (6 : Nat) (Option.some Jvm.ClassFile.FieldType.int)) ∈ lw_all := lw_g (lw_at lw_m6 15 rfl) rfl
theorem q1348 : (Jvm.Cond.methodLink "PegLaws" (250 : Nat) ({ cls := "PegLaws", name := "blows", desc := "(LPegLaws$State;II)Z" } : Jvm.MethodName)) ∈ lw_all := lw_g (lw_at lw_m6 16 rfl) rfl
theorem q1349 : (Jvm.Cond.privateMethod ({ cls := "PegLaws", name := "blows", desc := "(LPegLaws$State;II)Z" } : Jvm.MethodName)) ∈ lw_tbl := lw_at lw_m6 17 rfl
theorem q1350 : (Jvm.Cond.instanceMethod ({ cls := "PegLaws", name := "blows", desc := "(LPegLaws$State;II)Z" } : Jvm.MethodName)) ∈ lw_all := lw_g (lw_at lw_m6 18 rfl) rfl
theorem q1351 : (Jvm.Cond.code ({ cls := "PegLaws", name := "blows", desc := "(LPegLaws$State;II)Z" } : Jvm.MethodName) prog_1_method_24_code (7 : Nat) (Option.some Jvm.ClassFile.FieldType.boolean)) ∈ lw_all := lw_g (lw_at lw_m6 19 rfl) rfl
theorem q1352 : (Jvm.Cond.methodLink "PegLaws" (232 : Nat) ({ cls := "PegLaws$State", name := "grips", desc := "(I)I" } : Jvm.MethodName)) ∈ lw_all := lw_g (lw_at lw_m6 20 rfl) rfl
theorem q1356 : (Jvm.Cond.methodLink "PegLaws" (235 : Nat) ({ cls := "PegLaws$State", name := "wears", desc := "(I)V" } : Jvm.MethodName)) ∈ lw_all := lw_g (lw_at lw_m6 24 rfl) rfl
theorem q1361 : (Jvm.Cond.methodLink "PegLaws" (238 : Nat) ({ cls := "PegLaws$State", name := "falls", desc := "(I)V" } : Jvm.MethodName)) ∈ lw_all := lw_g (lw_at lw_m6 29 rfl) rfl
theorem q1367 : (Jvm.Cond.methodLink "PegLaws" (241 : Nat) ({ cls := "PegLaws", name := "driedOf", desc := "(III)I" } : Jvm.MethodName)) ∈ lw_all := lw_g (lw_at lw_m6 35 rfl) rfl
theorem q1368 : (Jvm.Cond.privateMethod ({ cls := "PegLaws", name := "driedOf", desc := "(III)I" } : Jvm.MethodName)) ∈ lw_tbl := lw_at lw_m6 36 rfl
theorem q1369 : (Jvm.Cond.instanceMethod ({ cls := "PegLaws", name := "driedOf", desc := "(III)I" } : Jvm.MethodName)) ∈ lw_all := lw_g (lw_at lw_m6 37 rfl) rfl
theorem q1370 : (Jvm.Cond.code ({ cls := "PegLaws", name := "driedOf", desc := "(III)I" } : Jvm.MethodName) prog_1_method_23_code (4 : Nat) (Option.some Jvm.ClassFile.FieldType.int)) ∈ lw_all := lw_g (lw_at lw_m6 38 rfl) rfl
theorem q1372 : (Jvm.Cond.instanceMethod ({ cls := "PegLaws", name := "undo", desc := "()Z" } : Jvm.MethodName)) ∈ lw_all := lw_g (lw_at lw_m6 40 rfl) rfl
theorem q1373 : (Jvm.Cond.selects "PegLaws" ({ cls := "PegLaws", name := "undo", desc := "()Z" } : Jvm.MethodName) ({ cls := "PegLaws", name := "undo", desc := "()Z" } : Jvm.MethodName)) ∈ lw_all := lw_g (lw_at lw_m6 41 rfl) rfl
theorem q1374 : (Jvm.Cond.code ({ cls := "PegLaws", name := "undo", desc := "()Z" } : Jvm.MethodName) prog_1_method_36_code (1 : Nat) (Option.some Jvm.ClassFile.FieldType.boolean)) ∈ lw_all := lw_g (lw_at lw_m6 42 rfl) rfl
theorem q1376 : (Jvm.Cond.instanceMethod ({ cls := "PegLaws", name := "judged", desc := "(I)I" } : Jvm.MethodName)) ∈ lw_all := lw_g (lw_at lw_m6 44 rfl) rfl
theorem q1377 : (Jvm.Cond.selects "PegLaws" ({ cls := "PegLaws", name := "judged", desc := "(I)I" } : Jvm.MethodName) ({ cls := "PegLaws", name := "judged", desc := "(I)I" } : Jvm.MethodName)) ∈ lw_all := lw_g (lw_at lw_m6 45 rfl) rfl
theorem q1378 : (Jvm.Cond.code ({ cls := "PegLaws", name := "judged", desc := "(I)I" } : Jvm.MethodName) prog_1_method_37_code (6 : Nat) (Option.some Jvm.ClassFile.FieldType.int)) ∈ lw_all := lw_g (lw_at lw_m6 46 rfl) rfl
theorem q1379 : (Jvm.Cond.methodLink "PegLaws" (297 : Nat) ({ cls := "PegLaws", name := "hanging", desc := "(LPegLaws$State;)I" } : Jvm.MethodName)) ∈ lw_all := lw_g (lw_at lw_m6 47 rfl) rfl
theorem q1380 : (Jvm.Cond.privateMethod ({ cls := "PegLaws", name := "hanging", desc := "(LPegLaws$State;)I" } : Jvm.MethodName)) ∈ lw_tbl := lw_at lw_m6 48 rfl
theorem q1381 : (Jvm.Cond.instanceMethod ({ cls := "PegLaws", name := "hanging", desc := "(LPegLaws$State;)I" } : Jvm.MethodName)) ∈ lw_all := lw_g (lw_at lw_m6 49 rfl) rfl
theorem q1382 : (Jvm.Cond.code ({ cls := "PegLaws", name := "hanging", desc := "(LPegLaws$State;)I" } : Jvm.MethodName) prog_1_method_38_code (5 : Nat) (Option.some Jvm.ClassFile.FieldType.int)) ∈ lw_all := lw_g (lw_at lw_m6 50 rfl) rfl
theorem q1383 : (Jvm.Cond.classLink "PegLaws" (300 : Nat) "PegLaws$Line") ∈ lw_all := lw_g (lw_at lw_m6 51 rfl) rfl
theorem q1384 : (Jvm.Cond.methodLink "PegLaws" (302 : Nat) ({ cls := "PegLaws$Line", name := "isDone", desc := "(LPegLaws;LPegLaws$State;)Z" } : Jvm.MethodName)) ∈ lw_all := lw_g (lw_at lw_m6 52 rfl) rfl
theorem q1408 : (Jvm.Cond.methodLink "PegLaws" (306 : Nat) ({ cls := "PegLaws$Line", name := "isHour", desc := "()Z" } : Jvm.MethodName)) ∈ lw_all := lw_g (lw_at lw_m6 76 rfl) rfl
theorem q1419 : (Jvm.Cond.methodLink "PegLaws" (310 : Nat) ({ cls := "PegLaws", name := "worthOf", desc := "(I)I" } : Jvm.MethodName)) ∈ lw_all := lw_g (lw_at lw_m6 87 rfl) rfl
theorem q1420 : (Jvm.Cond.privateMethod ({ cls := "PegLaws", name := "worthOf", desc := "(I)I" } : Jvm.MethodName)) ∈ lw_tbl := lw_at lw_m6 88 rfl
theorem q1421 : (Jvm.Cond.instanceMethod ({ cls := "PegLaws", name := "worthOf", desc := "(I)I" } : Jvm.MethodName)) ∈ lw_all := lw_g (lw_at lw_m6 89 rfl) rfl
theorem q1422 : (Jvm.Cond.code ({ cls := "PegLaws", name := "worthOf", desc := "(I)I" } : Jvm.MethodName) prog_1_method_17_code (4 : Nat) (Option.some Jvm.ClassFile.FieldType.int)) ∈ lw_all := lw_g (lw_at lw_m6 90 rfl) rfl
theorem q1423 : (Jvm.Cond.methodLink "PegLaws" (177 : Nat) ({ cls := "PegLaws", name := "isIn", desc := "(II)Z" } : Jvm.MethodName)) ∈ lw_all := lw_g (lw_at lw_m6 91 rfl) rfl
theorem q1425 : (Jvm.Cond.instanceMethod ({ cls := "PegLaws", name := "holds", desc := "(I)I" } : Jvm.MethodName)) ∈ lw_all := lw_g (lw_at lw_m6 93 rfl) rfl
theorem q1426 : (Jvm.Cond.selects "PegLaws" ({ cls := "PegLaws", name := "holds", desc := "(I)I" } : Jvm.MethodName) ({ cls := "PegLaws", name := "holds", desc := "(I)I" } : Jvm.MethodName)) ∈ lw_all := lw_g (lw_at lw_m6 94 rfl) rfl
theorem q1427 : (Jvm.Cond.code ({ cls := "PegLaws", name := "holds", desc := "(I)I" } : Jvm.MethodName) prog_1_method_39_code (3 : Nat) (Option.some Jvm.ClassFile.FieldType.int)) ∈ lw_all := lw_g (lw_at lw_m6 95 rfl) rfl
theorem q1429 : (Jvm.Cond.instanceMethod ({ cls := "PegLaws", name := "clashes", desc := "()I" } : Jvm.MethodName)) ∈ lw_all := lw_g (lw_at lw_m6 97 rfl) rfl
theorem q1430 : (Jvm.Cond.selects "PegLaws" ({ cls := "PegLaws", name := "clashes", desc := "()I" } : Jvm.MethodName) ({ cls := "PegLaws", name := "clashes", desc := "()I" } : Jvm.MethodName)) ∈ lw_all := lw_g (lw_at lw_m6 98 rfl) rfl
theorem q1431 : (Jvm.Cond.code ({ cls := "PegLaws", name := "clashes", desc := "()I" } : Jvm.MethodName) prog_1_method_41_code (1 : Nat) (Option.some Jvm.ClassFile.FieldType.int)) ∈ lw_all := lw_g (lw_at lw_m6 99 rfl) rfl
theorem q1432 : (Jvm.Cond.methodLink "PegLaws" (316 : Nat) ({ cls := "PegLaws", name := "laws", desc := "()I" } : Jvm.MethodName)) ∈ lw_all := lw_g (lw_at lw_m6 100 rfl) rfl
theorem q1433 : (Jvm.Cond.methodLink "PegLaws" (319 : Nat) ({ cls := "PegLaws", name := "clashesIn", desc := "(I)I" } : Jvm.MethodName)) ∈ lw_all := lw_g (lw_at lw_m6 101 rfl) rfl
theorem q1434 : (Jvm.Cond.privateMethod ({ cls := "PegLaws", name := "clashesIn", desc := "(I)I" } : Jvm.MethodName)) ∈ lw_tbl := lw_at lw_m6 102 rfl
theorem q1435 : (Jvm.Cond.instanceMethod ({ cls := "PegLaws", name := "clashesIn", desc := "(I)I" } : Jvm.MethodName)) ∈ lw_all := lw_g (lw_at lw_m6 103 rfl) rfl
theorem q1436 : (Jvm.Cond.code ({ cls := "PegLaws", name := "clashesIn", desc := "(I)I" } : Jvm.MethodName) prog_1_method_40_code (4 : Nat) (Option.some Jvm.ClassFile.FieldType.int)) ∈ lw_all := lw_g (lw_at lw_m6 104 rfl) rfl
theorem q1438 : (Jvm.Cond.instanceMethod ({ cls := "PegLaws", name := "mend", desc := "(I)I" } : Jvm.MethodName)) ∈ lw_all := lw_g (lw_at lw_m6 106 rfl) rfl
theorem q1439 : (Jvm.Cond.selects "PegLaws" ({ cls := "PegLaws", name := "mend", desc := "(I)I" } : Jvm.MethodName) ({ cls := "PegLaws", name := "mend", desc := "(I)I" } : Jvm.MethodName)) ∈ lw_all := lw_g (lw_at lw_m6 107 rfl) rfl
theorem q1440 : (Jvm.Cond.code ({ cls := "PegLaws", name := "mend", desc := "(I)I" } : Jvm.MethodName) prog_1_method_42_code (5 : Nat) (Option.some Jvm.ClassFile.FieldType.int)) ∈ lw_all := lw_g (lw_at lw_m6 108 rfl) rfl
theorem q1442 : (Jvm.Cond.instanceMethod ({ cls := "PegLaws", name := "fill", desc := "(II)I" } : Jvm.MethodName)) ∈ lw_all := lw_g (lw_at lw_m6 110 rfl) rfl
theorem q1443 : (Jvm.Cond.selects "PegLaws" ({ cls := "PegLaws", name := "fill", desc := "(II)I" } : Jvm.MethodName) ({ cls := "PegLaws", name := "fill", desc := "(II)I" } : Jvm.MethodName)) ∈ lw_all := lw_g (lw_at lw_m6 111 rfl) rfl
theorem q1444 : (Jvm.Cond.code ({ cls := "PegLaws", name := "fill", desc := "(II)I" } : Jvm.MethodName) prog_1_method_45_code (5 : Nat) (Option.some Jvm.ClassFile.FieldType.int)) ∈ lw_all := lw_g (lw_at lw_m6 112 rfl) rfl
theorem q1445 : (Jvm.Cond.methodLink "PegLaws" (333 : Nat) ({ cls := "PegLaws", name := "mostPull", desc := "(II)I" } : Jvm.MethodName)) ∈ lw_all := lw_g (lw_at lw_m6 113 rfl) rfl
theorem q1446 : (Jvm.Cond.privateMethod ({ cls := "PegLaws", name := "mostPull", desc := "(II)I" } : Jvm.MethodName)) ∈ lw_tbl := lw_at lw_m6 114 rfl
theorem q1447 : (Jvm.Cond.instanceMethod ({ cls := "PegLaws", name := "mostPull", desc := "(II)I" } : Jvm.MethodName)) ∈ lw_all := lw_g (lw_at lw_m6 115 rfl) rfl
theorem q1448 : (Jvm.Cond.code ({ cls := "PegLaws", name := "mostPull", desc := "(II)I" } : Jvm.MethodName) prog_1_method_43_code (7 : Nat) (Option.some Jvm.ClassFile.FieldType.int)) ∈ lw_all := lw_g (lw_at lw_m6 116 rfl) rfl
theorem q1449 : (Jvm.Cond.methodLink "PegLaws" (329 : Nat) ({ cls := "PegLaws", name := "fills", desc := "(IIII)V" } : Jvm.MethodName)) ∈ lw_all := lw_g (lw_at lw_m6 117 rfl) rfl
theorem q1450 : (Jvm.Cond.privateMethod ({ cls := "PegLaws", name := "fills", desc := "(IIII)V" } : Jvm.MethodName)) ∈ lw_tbl := lw_at lw_m6 118 rfl
theorem q1451 : (Jvm.Cond.instanceMethod ({ cls := "PegLaws", name := "fills", desc := "(IIII)V" } : Jvm.MethodName)) ∈ lw_all := lw_g (lw_at lw_m6 119 rfl) rfl
theorem q1452 : (Jvm.Cond.code ({ cls := "PegLaws", name := "fills", desc := "(IIII)V" } : Jvm.MethodName) prog_1_method_44_code (6 : Nat) (Option.none : Option Jvm.ClassFile.FieldType)) ∈ lw_all := lw_g (lw_at lw_m6 120 rfl) rfl
theorem q1453 : (Jvm.Cond.methodLink "PegLaws" (325 : Nat) ({ cls := "PegLaws", name := "copies", desc := "([I[I)V" } : Jvm.MethodName)) ∈ lw_all := lw_g (lw_at lw_m6 121 rfl) rfl
theorem q1455 : (Jvm.Cond.instanceMethod ({ cls := "PegLaws", name := "odds", desc := "(II)I" } : Jvm.MethodName)) ∈ lw_all := lw_g (lw_at lw_m6 123 rfl) rfl
theorem q1456 : (Jvm.Cond.selects "PegLaws" ({ cls := "PegLaws", name := "odds", desc := "(II)I" } : Jvm.MethodName) ({ cls := "PegLaws", name := "odds", desc := "(II)I" } : Jvm.MethodName)) ∈ lw_all := lw_g (lw_at lw_m6 124 rfl) rfl
theorem q1457 : (Jvm.Cond.code ({ cls := "PegLaws", name := "odds", desc := "(II)I" } : Jvm.MethodName) prog_1_method_47_code (6 : Nat) (Option.some Jvm.ClassFile.FieldType.int)) ∈ lw_all := lw_g (lw_at lw_m6 125 rfl) rfl
theorem q1458 : (Jvm.Cond.constantLong "PegLaws" (343 : Nat) (10 : Int64)) ∈ lw_all := lw_g (lw_at lw_m6 126 rfl) rfl
theorem q1459 : (Jvm.Cond.methodLink "PegLaws" (339 : Nat) ({ cls := "PegLaws", name := "hangsBy", desc := "(LPegLaws$State;II)J" } : Jvm.MethodName)) ∈ lw_all := lw_g (lw_at lw_m6 127 rfl) rfl
theorem q1460 : (Jvm.Cond.privateMethod ({ cls := "PegLaws", name := "hangsBy", desc := "(LPegLaws$State;II)J" } : Jvm.MethodName)) ∈ lw_tbl := lw_at lw_m6 128 rfl
theorem q1461 : (Jvm.Cond.instanceMethod ({ cls := "PegLaws", name := "hangsBy", desc := "(LPegLaws$State;II)J" } : Jvm.MethodName)) ∈ lw_all := lw_g (lw_at lw_m6 129 rfl) rfl
theorem q1462 : (Jvm.Cond.code ({ cls := "PegLaws", name := "hangsBy", desc := "(LPegLaws$State;II)J" } : Jvm.MethodName) prog_1_method_46_code (10 : Nat) (Option.some Jvm.ClassFile.FieldType.long)) ∈ lw_all := lw_g (lw_at lw_m6 130 rfl) rfl
theorem q1463 : (Jvm.Cond.methodLink "PegLaws" (336 : Nat) ({ cls := "PegLaws$Rope", name := "gusts", desc := "()I" } : Jvm.MethodName)) ∈ lw_all := lw_g (lw_at lw_m6 131 rfl) rfl
theorem q1468 : (Jvm.Cond.constantLong "PegLaws" (345 : Nat) (1000000 : Int64)) ∈ lw_all := lw_g (lw_at lw_m6 136 rfl) rfl
theorem q1470 : (Jvm.Cond.instanceMethod ({ cls := "PegLaws", name := "dry", desc := "(I)I" } : Jvm.MethodName)) ∈ lw_all := lw_g (lw_at lw_m6 138 rfl) rfl
theorem q1471 : (Jvm.Cond.selects "PegLaws" ({ cls := "PegLaws", name := "dry", desc := "(I)I" } : Jvm.MethodName) ({ cls := "PegLaws", name := "dry", desc := "(I)I" } : Jvm.MethodName)) ∈ lw_all := lw_g (lw_at lw_m6 139 rfl) rfl
theorem q1472 : (Jvm.Cond.code ({ cls := "PegLaws", name := "dry", desc := "(I)I" } : Jvm.MethodName) prog_1_method_50_code (4 : Nat) (Option.some Jvm.ClassFile.FieldType.int)) ∈ lw_all := lw_g (lw_at lw_m6 140 rfl) rfl
theorem q1473 : (Jvm.Cond.methodLink "PegLaws" (353 : Nat) ({ cls := "PegLaws", name := "orders", desc := "(IIII)V" } : Jvm.MethodName)) ∈ lw_all := lw_g (lw_at lw_m6 141 rfl) rfl
theorem q1474 : (Jvm.Cond.privateMethod ({ cls := "PegLaws", name := "orders", desc := "(IIII)V" } : Jvm.MethodName)) ∈ lw_tbl := lw_at lw_m6 142 rfl
theorem q1475 : (Jvm.Cond.instanceMethod ({ cls := "PegLaws", name := "orders", desc := "(IIII)V" } : Jvm.MethodName)) ∈ lw_all := lw_g (lw_at lw_m6 143 rfl) rfl
theorem q1476 : (Jvm.Cond.code ({ cls := "PegLaws", name := "orders", desc := "(IIII)V" } : Jvm.MethodName) prog_1_method_49_code (6 : Nat) (Option.none : Option Jvm.ClassFile.FieldType)) ∈ lw_all := lw_g (lw_at lw_m6 144 rfl) rfl
theorem q1477 : (Jvm.Cond.methodLink "PegLaws" (350 : Nat) ({ cls := "PegLaws", name := "dryBy", desc := "(II)I" } : Jvm.MethodName)) ∈ lw_all := lw_g (lw_at lw_m6 145 rfl) rfl
theorem q1478 : (Jvm.Cond.privateMethod ({ cls := "PegLaws", name := "dryBy", desc := "(II)I" } : Jvm.MethodName)) ∈ lw_tbl := lw_at lw_m6 146 rfl
theorem q1479 : (Jvm.Cond.instanceMethod ({ cls := "PegLaws", name := "dryBy", desc := "(II)I" } : Jvm.MethodName)) ∈ lw_all := lw_g (lw_at lw_m6 147 rfl) rfl
theorem q1480 : (Jvm.Cond.code ({ cls := "PegLaws", name := "dryBy", desc := "(II)I" } : Jvm.MethodName) prog_1_method_48_code (5 : Nat) (Option.some Jvm.ClassFile.FieldType.int)) ∈ lw_all := lw_g (lw_at lw_m6 148 rfl) rfl
theorem q1482 : (Jvm.Cond.instanceMethod ({ cls := "PegLaws", name := "feel", desc := "(III)Z" } : Jvm.MethodName)) ∈ lw_all := lw_g (lw_at lw_m6 150 rfl) rfl
theorem q1483 : (Jvm.Cond.selects "PegLaws" ({ cls := "PegLaws", name := "feel", desc := "(III)Z" } : Jvm.MethodName) ({ cls := "PegLaws", name := "feel", desc := "(III)Z" } : Jvm.MethodName)) ∈ lw_all := lw_g (lw_at lw_m6 151 rfl) rfl
theorem q1484 : (Jvm.Cond.code ({ cls := "PegLaws", name := "feel", desc := "(III)Z" } : Jvm.MethodName) prog_1_method_51_code (4 : Nat) (Option.some Jvm.ClassFile.FieldType.boolean)) ∈ lw_all := lw_g (lw_at lw_m6 152 rfl) rfl
theorem q1486 : (Jvm.Cond.instanceMethod ({ cls := "PegLaws", name := "starts", desc := "()I" } : Jvm.MethodName)) ∈ lw_all := lw_g (lw_at lw_m6 154 rfl) rfl
theorem q1487 : (Jvm.Cond.selects "PegLaws" ({ cls := "PegLaws", name := "starts", desc := "()I" } : Jvm.MethodName) ({ cls := "PegLaws", name := "starts", desc := "()I" } : Jvm.MethodName)) ∈ lw_all := lw_g (lw_at lw_m6 155 rfl) rfl
theorem q1488 : (Jvm.Cond.code ({ cls := "PegLaws", name := "starts", desc := "()I" } : Jvm.MethodName) prog_1_method_53_code (5 : Nat) (Option.some Jvm.ClassFile.FieldType.int)) ∈ lw_all := lw_g (lw_at lw_m6 156 rfl) rfl
theorem q1489 : (Jvm.Cond.methodLink "PegLaws" (362 : Nat) ({ cls := "PegLaws", name := "wetBy", desc := "(III)I" } : Jvm.MethodName)) ∈ lw_all := lw_g (lw_at lw_m6 157 rfl) rfl
theorem q1490 : (Jvm.Cond.privateMethod ({ cls := "PegLaws", name := "wetBy", desc := "(III)I" } : Jvm.MethodName)) ∈ lw_tbl := lw_at lw_m6 158 rfl
theorem q1491 : (Jvm.Cond.instanceMethod ({ cls := "PegLaws", name := "wetBy", desc := "(III)I" } : Jvm.MethodName)) ∈ lw_all := lw_g (lw_at lw_m6 159 rfl) rfl
theorem q1492 : (Jvm.Cond.code ({ cls := "PegLaws", name := "wetBy", desc := "(III)I" } : Jvm.MethodName) prog_1_method_52_code (6 : Nat) (Option.some Jvm.ClassFile.FieldType.int)) ∈ lw_all := lw_g (lw_at lw_m6 160 rfl) rfl
theorem q1494 : (Jvm.Cond.instanceMethod ({ cls := "PegLaws", name := "ask", desc := "(I)I" } : Jvm.MethodName)) ∈ lw_all := lw_g (lw_at lw_m6 162 rfl) rfl
theorem q1495 : (Jvm.Cond.selects "PegLaws" ({ cls := "PegLaws", name := "ask", desc := "(I)I" } : Jvm.MethodName) ({ cls := "PegLaws", name := "ask", desc := "(I)I" } : Jvm.MethodName)) ∈ lw_all := lw_g (lw_at lw_m6 163 rfl) rfl
theorem q1496 : (Jvm.Cond.code ({ cls := "PegLaws", name := "ask", desc := "(I)I" } : Jvm.MethodName) prog_1_method_55_code (7 : Nat) (Option.some Jvm.ClassFile.FieldType.int)) ∈ lw_all := lw_g (lw_at lw_m6 164 rfl) rfl
theorem q1497 : (Jvm.Cond.methodLink "PegLaws" (365 : Nat) ({ cls := "PegLaws", name := "starts", desc := "()I" } : Jvm.MethodName)) ∈ lw_all := lw_g (lw_at lw_m6 165 rfl) rfl
theorem q1498 : (Jvm.Cond.methodLink "PegLaws" (368 : Nat) ({ cls := "PegLaws", name := "mostAlike", desc := "(III)I" } : Jvm.MethodName)) ∈ lw_all := lw_g (lw_at lw_m6 166 rfl) rfl
theorem q1499 : (Jvm.Cond.privateMethod ({ cls := "PegLaws", name := "mostAlike", desc := "(III)I" } : Jvm.MethodName)) ∈ lw_tbl := lw_at lw_m6 167 rfl
theorem q1500 : (Jvm.Cond.instanceMethod ({ cls := "PegLaws", name := "mostAlike", desc := "(III)I" } : Jvm.MethodName)) ∈ lw_all := lw_g (lw_at lw_m6 168 rfl) rfl
theorem q1501 : (Jvm.Cond.code ({ cls := "PegLaws", name := "mostAlike", desc := "(III)I" } : Jvm.MethodName) prog_1_method_54_code (6 : Nat) (Option.some Jvm.ClassFile.FieldType.int)) ∈ lw_all := lw_g (lw_at lw_m6 169 rfl) rfl
theorem q1503 : (Jvm.Cond.instanceMethod ({ cls := "PegLaws", name := "change", desc := "(I)I" } : Jvm.MethodName)) ∈ lw_all := lw_g (lw_at lw_m6 171 rfl) rfl
theorem q1504 : (Jvm.Cond.selects "PegLaws" ({ cls := "PegLaws", name := "change", desc := "(I)I" } : Jvm.MethodName) ({ cls := "PegLaws", name := "change", desc := "(I)I" } : Jvm.MethodName)) ∈ lw_all := lw_g (lw_at lw_m6 172 rfl) rfl
theorem q1505 : (Jvm.Cond.code ({ cls := "PegLaws", name := "change", desc := "(I)I" } : Jvm.MethodName) prog_1_method_57_code (6 : Nat) (Option.some Jvm.ClassFile.FieldType.int)) ∈ lw_all := lw_g (lw_at lw_m6 173 rfl) rfl
theorem q1506 : (Jvm.Cond.methodLink "PegLaws" (371 : Nat) ({ cls := "PegLaws", name := "worthBehind", desc := "(LPegLaws$State;I)I" } : Jvm.MethodName)) ∈ lw_all := lw_g (lw_at lw_m6 174 rfl) rfl
theorem q1507 : (Jvm.Cond.privateMethod ({ cls := "PegLaws", name := "worthBehind", desc := "(LPegLaws$State;I)I" } : Jvm.MethodName)) ∈ lw_tbl := lw_at lw_m6 175 rfl
theorem q1508 : (Jvm.Cond.instanceMethod ({ cls := "PegLaws", name := "worthBehind", desc := "(LPegLaws$State;I)I" } : Jvm.MethodName)) ∈ lw_all := lw_g (lw_at lw_m6 176 rfl) rfl
theorem q1509 : (Jvm.Cond.code ({ cls := "PegLaws", name := "worthBehind", desc := "(LPegLaws$State;I)I" } : Jvm.MethodName) prog_1_method_56_code (4 : Nat) (Option.some Jvm.ClassFile.FieldType.int)) ∈ lw_all := lw_g (lw_at lw_m6 177 rfl) rfl
theorem q1511 : (Jvm.Cond.instanceMethod ({ cls := "PegLaws", name := "decades", desc := "(III)I" } : Jvm.MethodName)) ∈ lw_all := lw_g (lw_at lw_m6 179 rfl) rfl
theorem q1512 : (Jvm.Cond.selects "PegLaws" ({ cls := "PegLaws", name := "decades", desc := "(III)I" } : Jvm.MethodName) ({ cls := "PegLaws", name := "decades", desc := "(III)I" } : Jvm.MethodName)) ∈ lw_all := lw_g (lw_at lw_m6 180 rfl) rfl
theorem q1513 : (Jvm.Cond.code ({ cls := "PegLaws", name := "decades", desc := "(III)I" } : Jvm.MethodName) prog_1_method_64_code (7 : Nat) (Option.some Jvm.ClassFile.FieldType.int)) ∈ lw_all := lw_g (lw_at lw_m6 181 rfl) rfl
theorem q1514 : (Jvm.Cond.methodLink "PegLaws" (403 : Nat) ({ cls := "PegLaws", name := "livesHour", desc := "(LPegLaws$State;)I" } : Jvm.MethodName)) ∈ lw_all := lw_g (lw_at lw_m6 182 rfl) rfl
theorem q1515 : (Jvm.Cond.privateMethod ({ cls := "PegLaws", name := "livesHour", desc := "(LPegLaws$State;)I" } : Jvm.MethodName)) ∈ lw_tbl := lw_at lw_m6 183 rfl
theorem q1516 : (Jvm.Cond.instanceMethod ({ cls := "PegLaws", name := "livesHour", desc := "(LPegLaws$State;)I" } : Jvm.MethodName)) ∈ lw_all := lw_g (lw_at lw_m6 184 rfl) rfl
theorem q1517 : (Jvm.Cond.code ({ cls := "PegLaws", name := "livesHour", desc := "(LPegLaws$State;)I" } : Jvm.MethodName) prog_1_method_63_code (4 : Nat) (Option.some Jvm.ClassFile.FieldType.int)) ∈ lw_all := lw_g (lw_at lw_m6 185 rfl) rfl
theorem q1518 : (Jvm.Cond.methodLink "PegLaws" (397 : Nat) ({ cls := "PegLaws", name := "draws", desc := "(I)I" } : Jvm.MethodName)) ∈ lw_all := lw_g (lw_at lw_m6 186 rfl) rfl
theorem q1519 : (Jvm.Cond.privateMethod ({ cls := "PegLaws", name := "draws", desc := "(I)I" } : Jvm.MethodName)) ∈ lw_tbl := lw_at lw_m6 187 rfl
theorem q1520 : (Jvm.Cond.instanceMethod ({ cls := "PegLaws", name := "draws", desc := "(I)I" } : Jvm.MethodName)) ∈ lw_all := lw_g (lw_at lw_m6 188 rfl) rfl
theorem q1521 : (Jvm.Cond.code ({ cls := "PegLaws", name := "draws", desc := "(I)I" } : Jvm.MethodName) prog_1_method_61_code (2 : Nat) (Option.some Jvm.ClassFile.FieldType.int)) ∈ lw_all := lw_g (lw_at lw_m6 189 rfl) rfl
theorem q1522 : (Jvm.Cond.constantLong "PegLaws" (389 : Nat) (1103515245 : Int64)) ∈ lw_all := lw_g (lw_at lw_m6 190 rfl) rfl
theorem q1523 : (Jvm.Cond.constantLong "PegLaws" (391 : Nat) (12345 : Int64)) ∈ lw_all := lw_g (lw_at lw_m6 191 rfl) rfl
theorem q1524 : (Jvm.Cond.constantLong "PegLaws" (393 : Nat) (2147483648 : Int64)) ∈ lw_all := lw_g (lw_at lw_m6 192 rfl) rfl
theorem q1525 : (Jvm.Cond.constantLong "PegLaws" (395 : Nat) (65536 : Int64)) ∈ lw_all := lw_g (lw_at lw_m6 193 rfl) rfl
theorem q1526 : (Jvm.Cond.methodLink "PegLaws" (400 : Nat) ({ cls := "PegLaws", name := "firstFree", desc := "(LPegLaws$State;I)I" } : Jvm.MethodName)) ∈ lw_all := lw_g (lw_at lw_m6 194 rfl) rfl
theorem q1527 : (Jvm.Cond.privateMethod ({ cls := "PegLaws", name := "firstFree", desc := "(LPegLaws$State;I)I" } : Jvm.MethodName)) ∈ lw_tbl := lw_at lw_m6 195 rfl
theorem q1528 : (Jvm.Cond.instanceMethod ({ cls := "PegLaws", name := "firstFree", desc := "(LPegLaws$State;I)I" } : Jvm.MethodName)) ∈ lw_all := lw_g (lw_at lw_m6 196 rfl) rfl
theorem q1529 : (Jvm.Cond.code ({ cls := "PegLaws", name := "firstFree", desc := "(LPegLaws$State;I)I" } : Jvm.MethodName) prog_1_method_62_code (6 : Nat) (Option.some Jvm.ClassFile.FieldType.int)) ∈ lw_all := lw_g (lw_at lw_m6 197 rfl) rfl
theorem q1531 : (Jvm.Cond.instanceMethod ({ cls := "PegLaws", name := "mark", desc := "(IZ)Z" } : Jvm.MethodName)) ∈ lw_all := lw_g (lw_at lw_m6 199 rfl) rfl
theorem q1532 : (Jvm.Cond.selects "PegLaws" ({ cls := "PegLaws", name := "mark", desc := "(IZ)Z" } : Jvm.MethodName) ({ cls := "PegLaws", name := "mark", desc := "(IZ)Z" } : Jvm.MethodName)) ∈ lw_all := lw_g (lw_at lw_m6 200 rfl) rfl
theorem q1533 : (Jvm.Cond.code ({ cls := "PegLaws", name := "mark", desc := "(IZ)Z" } : Jvm.MethodName) prog_1_method_65_code (4 : Nat) (Option.some Jvm.ClassFile.FieldType.boolean)) ∈ lw_all := lw_g (lw_at lw_m6 201 rfl) rfl
theorem q1535 : (Jvm.Cond.methodLinkNest "PegLaws" (406 : Nat) ({ cls := "PegLaws$Mark", name := "<init>", desc := "()V" } : Jvm.MethodName) "PegLaws") ∈ lw_tbl := lw_at lw_m6 203 rfl
theorem q1542 : (Jvm.Cond.fieldLinkNest "PegLaws" (407 : Nat) "PegLaws$Mark" "state" "LPegLaws$State;" "PegLaws") ∈ lw_tbl := lw_at lw_m6 210 rfl
theorem q1544 : (Jvm.Cond.fieldLinkNest "PegLaws" (408 : Nat) "PegLaws$Mark" "cloth" "[I" "PegLaws") ∈ lw_tbl := lw_at lw_m6 212 rfl
theorem q1546 : (Jvm.Cond.fieldLinkNest "PegLaws" (410 : Nat) "PegLaws$Mark" "hours" "[I" "PegLaws") ∈ lw_tbl := lw_at lw_m6 214 rfl
theorem q1548 : (Jvm.Cond.fieldLinkNest "PegLaws" (413 : Nat) "PegLaws$Mark" "wet" "[I" "PegLaws") ∈ lw_tbl := lw_at lw_m6 216 rfl
theorem q1549 : (Jvm.Cond.fieldLinkNest "PegLaws" (414 : Nat) "PegLaws$Mark" "felt" "I" "PegLaws") ∈ lw_tbl := lw_at lw_m6 217 rfl
theorem q1562 : (Jvm.Cond.instanceMethod ({ cls := "PegLaws", name := "count", desc := "(I)I" } : Jvm.MethodName)) ∈ lw_all := lw_g (lw_at lw_m6 230 rfl) rfl
theorem q1563 : (Jvm.Cond.selects "PegLaws" ({ cls := "PegLaws", name := "count", desc := "(I)I" } : Jvm.MethodName) ({ cls := "PegLaws", name := "count", desc := "(I)I" } : Jvm.MethodName)) ∈ lw_all := lw_g (lw_at lw_m6 231 rfl) rfl
theorem q1564 : (Jvm.Cond.code ({ cls := "PegLaws", name := "count", desc := "(I)I" } : Jvm.MethodName) prog_1_method_67_code (2 : Nat) (Option.some Jvm.ClassFile.FieldType.int)) ∈ lw_all := lw_g (lw_at lw_m6 232 rfl) rfl
theorem q1565 : (Jvm.Cond.methodLink "PegLaws" (415 : Nat) ({ cls := "PegLaws", name := "turned", desc := "()I" } : Jvm.MethodName)) ∈ lw_all := lw_g (lw_at lw_m6 233 rfl) rfl
theorem q1566 : (Jvm.Cond.privateMethod ({ cls := "PegLaws", name := "turned", desc := "()I" } : Jvm.MethodName)) ∈ lw_tbl := lw_at lw_m6 234 rfl
theorem q1567 : (Jvm.Cond.instanceMethod ({ cls := "PegLaws", name := "turned", desc := "()I" } : Jvm.MethodName)) ∈ lw_all := lw_g (lw_at lw_m6 235 rfl) rfl
theorem q1568 : (Jvm.Cond.code ({ cls := "PegLaws", name := "turned", desc := "()I" } : Jvm.MethodName) prog_1_method_66_code (3 : Nat) (Option.some Jvm.ClassFile.FieldType.int)) ∈ lw_all := lw_g (lw_at lw_m6 236 rfl) rfl
theorem q1574 : (Jvm.Cond.instanceMethod ({ cls := "PegLaws", name := "rests", desc := "(IIII)I" } : Jvm.MethodName)) ∈ lw_all := lw_g (lw_at lw_m7 2 rfl) rfl
theorem q1575 : (Jvm.Cond.selects "PegLaws" ({ cls := "PegLaws", name := "rests", desc := "(IIII)I" } : Jvm.MethodName) ({ cls := "PegLaws", name := "rests", desc := "(IIII)I" } : Jvm.MethodName)) ∈ lw_all := lw_g (lw_at lw_m7 3 rfl) rfl
theorem q1576 : (Jvm.Cond.code ({ cls := "PegLaws", name := "rests", desc := "(IIII)I" } : Jvm.MethodName) prog_1_method_60_code (10 : Nat) (Option.some Jvm.ClassFile.FieldType.int)) ∈ lw_all := lw_g (lw_at lw_m7 4 rfl) rfl
theorem q1577 : (Jvm.Cond.methodLink "PegLaws" (377 : Nat) ({ cls := "PegLaws", name := "need", desc := "(Z)V" } : Jvm.MethodName)) ∈ lw_all := lw_g (lw_at lw_m7 5 rfl) rfl
theorem q1578 : (Jvm.Cond.static ({ cls := "PegLaws", name := "need", desc := "(Z)V" } : Jvm.MethodName)) ∈ lw_all := lw_g (lw_at lw_m7 6 rfl) rfl
theorem q1579 : (Jvm.Cond.code ({ cls := "PegLaws", name := "need", desc := "(Z)V" } : Jvm.MethodName) prog_1_method_4_code (1 : Nat) (Option.none : Option Jvm.ClassFile.FieldType)) ∈ lw_all := lw_g (lw_at lw_m7 7 rfl) rfl
theorem q1580 : (Jvm.Cond.classLink "PegLaws" (10 : Nat) "java/util/NoSuchElementException") ∈ lw_all := lw_g (lw_at lw_m7 8 rfl) rfl
theorem q1589 : (Jvm.Cond.methodLink "PegLaws" (12 : Nat) ({ cls := "java/util/NoSuchElementException", name := "<init>", desc := "()V" } : Jvm.MethodName)) ∈ lw_all := lw_g (lw_at lw_m7 17 rfl) rfl
theorem q1601 : (Jvm.Cond.methodLink "PegLaws" (381 : Nat) ({ cls := "PegLaws", name := "stolen", desc := "(IIIII)I" } : Jvm.MethodName)) ∈ lw_all := lw_g (lw_at lw_m7 29 rfl) rfl
theorem q1602 : (Jvm.Cond.static ({ cls := "PegLaws", name := "stolen", desc := "(IIIII)I" } : Jvm.MethodName)) ∈ lw_all := lw_g (lw_at lw_m7 30 rfl) rfl
theorem q1603 : (Jvm.Cond.code ({ cls := "PegLaws", name := "stolen", desc := "(IIIII)I" } : Jvm.MethodName) prog_1_method_59_code (5 : Nat) (Option.some Jvm.ClassFile.FieldType.int)) ∈ lw_all := lw_g (lw_at lw_m7 31 rfl) rfl
theorem q1604 : (Jvm.Cond.methodLink "PegLaws" (374 : Nat) ({ cls := "PegLaws", name := "worthOf", desc := "(IIII)I" } : Jvm.MethodName)) ∈ lw_all := lw_g (lw_at lw_m7 32 rfl) rfl
theorem q1605 : (Jvm.Cond.static ({ cls := "PegLaws", name := "worthOf", desc := "(IIII)I" } : Jvm.MethodName)) ∈ lw_all := lw_g (lw_at lw_m7 33 rfl) rfl
theorem q1606 : (Jvm.Cond.code ({ cls := "PegLaws", name := "worthOf", desc := "(IIII)I" } : Jvm.MethodName) prog_1_method_58_code (4 : Nat) (Option.some Jvm.ClassFile.FieldType.int)) ∈ lw_all := lw_g (lw_at lw_m7 34 rfl) rfl
theorem q2214 : (Jvm.Cond.castable "PegLaws" "java/lang/Object") ∈ lw_tbl := lw_at lw_m9 162 rfl
theorem in_X1 : ∀ w ∈ wsX10, w ∈ lw_all := lw_in wsX10 [369, 371, 373, 375, 377, 379, 381, 383, 385, 387, 389, 391, 393, 395, 397, 399, 401, 403, 405, 407, 409, 411, 413, 415, 417, 419] (by decide +kernel) (by decide +kernel)
