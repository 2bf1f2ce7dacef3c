/-! PegLawsModel -/
set_option maxRecDepth 100000
def RX5 : String := "PegLawsModel"
def TX5 : u_T := fun k => match k with
  | 0 => ("PegLawsModel", "thrown", "I", false)
  | 1 => ("PegLawsModel", "tape", "[I", true)
  | 2 => ("PegLawsModel", "taped", "I", false)
  | 3 => ("PegLawsModel", "size", "I", false)
  | 4 => ("PegLawsModel", "sort", "[I", true)
  | 5 => ("PegLawsModel", "place", "[I", true)
  | 6 => ("PegLawsModel", "value", "[J", true)
  | 7 => ("PegLawsModel", "at", "I", false)
  | 8 => ("PegLawsModel", "fault", "I", false)
  | 9 => ("PegLawsModel", "words", "[J", true)
  | 10 => ("PegLawsModel", "ropes", "[I", true)
  | 11 => ("PegLawsModel", "op", "[I", true)
  | 12 => ("PegLawsModel", "arg", "[I", true)
  | 13 => ("PegLawsModel", "codes", "I", false)
  | 14 => ("PegLawsModel", "names", "[J", true)
  | 15 => ("PegLawsModel", "readNames", "[J", true)
  | 16 => ("PegLawsModel", "namesMany", "I", false)
  | 17 => ("PegLawsModel", "readMany", "I", false)
  | 18 => ("PegLawsModel", "once", "I", false)
  | 19 => ("PegLawsModel", "lines", "[I", true)
  | 20 => ("PegLawsModel", "facts", "[I", true)
  | 21 => ("PegLawsModel", "pile", "[I", true)
  | 22 => ("PegLawsModel", "state", "[I", true)
  | 23 => ("PegLawsModel", "undos", "I", false)
  | 24 => ("PegLawsModel", "isMarked", "[Z", true)
  | 25 => ("PegLawsModel", "hardest", "[I", true)
  | 26 => ("PegLawsModel", "pegRow", "[I", true)
  | 27 => ("PegLawsModel", "bestPegs", "[I", true)
  | 28 => ("PegLawsModel", "mostWorth", "I", false)
  | 29 => ("PegLawsModel", "whole", "I", false)
  | 30 => ("PegLawsModel", "chanceGrips", "[I", true)
  | 31 => ("PegLawsModel", "dryAt", "[I", true)
  | 32 => ("PegLawsModel", "dryRow", "[I", true)
  | 33 => ("PegLawsModel", "bestDry", "[I", true)
  | 34 => ("PegLawsModel", "soonest", "I", false)
  | 35 => ("PegLawsModel", "toWash", "I", false)
  | 36 => ("PegLawsModel", "alike", "[I", true)
  | _ => ("PegLawsModel", "g", "J", false)
def tyX5 : Nat → FieldType := fun k => match k with
  | 0 => .int
  | 1 => .array .int
  | 2 => .int
  | 3 => .int
  | 4 => .array .int
  | 5 => .array .int
  | 6 => .array .long
  | 7 => .int
  | 8 => .int
  | 9 => .array .long
  | 10 => .array .int
  | 11 => .array .int
  | 12 => .array .int
  | 13 => .int
  | 14 => .array .long
  | 15 => .array .long
  | 16 => .int
  | 17 => .int
  | 18 => .int
  | 19 => .array .int
  | 20 => .array .int
  | 21 => .array .int
  | 22 => .array .int
  | 23 => .int
  | 24 => .array .boolean
  | 25 => .array .int
  | 26 => .array .int
  | 27 => .array .int
  | 28 => .int
  | 29 => .int
  | 30 => .array .int
  | 31 => .array .int
  | 32 => .array .int
  | 33 => .array .int
  | 34 => .int
  | 35 => .int
  | 36 => .array .int
  | _ => .long
abbrev wsX50 : List Cond := u_ws RX5 TX5 38
set_option maxRecDepth 100000 in
theorem nmX5 : ∀ a, a < 38 → ∀ b, b < 38 → a ≠ b → (TX5 a).2.1 ≠ (TX5 b).2.1 := by decide +kernel
set_option maxRecDepth 100000 in
theorem tyX5_ok : ∀ k, k < 38 → parseFieldDescriptor (TX5 k).2.2.1 = some (tyX5 k) := by decide +kernel
abbrev cX5_thrown : ByteArray := prog_23_method_1_code
def yX5_thrown : MethodName := ⟨RX5, "thrown", "()I"⟩
theorem dX5_thrown_0 : decode cX5_thrown 0 = .ok (.aload_n 0, 1) := by decide +kernel
theorem dX5_thrown_1 : decode cX5_thrown 1 = .ok (.getfield 1, 3) := by decide +kernel
theorem dX5_thrown_4 : decode cX5_thrown 4 = .ok (.ireturn, 1) := by decide +kernel
abbrev cX5_feed : ByteArray := prog_23_method_2_code
def yX5_feed : MethodName := ⟨RX5, "feed", "(JJJ)I"⟩
def dkwX5_feed_1 : List UInt8 := [180, 0, 11, 172]
abbrev dktX5_feed_1 : List UInt8 := dkwX5_feed_1 ++ []
def dkwX5_feed_0 : List UInt8 := [42, 3, 181, 0, 1, 42, 31, 182, 0, 7, 42, 33, 182, 0, 7, 42, 22, 5, 182, 0, 7, 42]
abbrev dktX5_feed_0 : List UInt8 := dkwX5_feed_0 ++ dktX5_feed_1
theorem dksX5_feed_0 : cX5_feed.data.toList.drop 0 = dktX5_feed_0 := by decide +kernel
theorem dksX5_feed_1 : cX5_feed.data.toList.drop 22 = dktX5_feed_1 := dk_seg dksX5_feed_0 22 rfl rfl
theorem dX5_feed_0 : decode cX5_feed 0 = .ok (.aload_n 0, 1) := dk_42 (dk_at dksX5_feed_0 0 rfl rfl)
theorem dX5_feed_1 : decode cX5_feed 1 = .ok (.iconst 0, 1) := dk_3 (dk_at dksX5_feed_0 1 rfl rfl)
theorem dX5_feed_2 : decode cX5_feed 2 = .ok (.putfield 1, 3) := dk_181 0 1 (dk_at dksX5_feed_0 2 rfl rfl)
theorem dX5_feed_5 : decode cX5_feed 5 = .ok (.aload_n 0, 1) := dk_42 (dk_at dksX5_feed_0 5 rfl rfl)
theorem dX5_feed_6 : decode cX5_feed 6 = .ok (.lload_n 1, 1) := dk_31 (dk_at dksX5_feed_0 6 rfl rfl)
theorem dX5_feed_7 : decode cX5_feed 7 = .ok (.invokevirtual 7, 3) := dk_182 0 7 (dk_at dksX5_feed_0 7 rfl rfl)
theorem dX5_feed_10 : decode cX5_feed 10 = .ok (.aload_n 0, 1) := dk_42 (dk_at dksX5_feed_0 10 rfl rfl)
theorem dX5_feed_11 : decode cX5_feed 11 = .ok (.lload_n 3, 1) := dk_33 (dk_at dksX5_feed_0 11 rfl rfl)
theorem dX5_feed_12 : decode cX5_feed 12 = .ok (.invokevirtual 7, 3) := dk_182 0 7 (dk_at dksX5_feed_0 12 rfl rfl)
theorem dX5_feed_15 : decode cX5_feed 15 = .ok (.aload_n 0, 1) := dk_42 (dk_at dksX5_feed_0 15 rfl rfl)
theorem dX5_feed_16 : decode cX5_feed 16 = .ok (.lload 5, 2) := dk_22 5 (dk_at dksX5_feed_0 16 rfl rfl)
theorem dX5_feed_18 : decode cX5_feed 18 = .ok (.invokevirtual 7, 3) := dk_182 0 7 (dk_at dksX5_feed_0 18 rfl rfl)
theorem dX5_feed_21 : decode cX5_feed 21 = .ok (.aload_n 0, 1) := dk_42 (dk_at dksX5_feed_0 21 rfl rfl)
theorem dX5_feed_22 : decode cX5_feed 22 = .ok (.getfield 11, 3) := dk_180 0 11 (dk_at dksX5_feed_1 0 rfl rfl)
theorem dX5_feed_25 : decode cX5_feed 25 = .ok (.ireturn, 1) := dk_172 (dk_at dksX5_feed_1 3 rfl rfl)
abbrev cX5_lay : ByteArray := prog_23_method_3_code
def yX5_lay : MethodName := ⟨RX5, "lay", "(J)V"⟩
def dkwX5_lay_3 : List UInt8 := [167, 255, 187, 177]
abbrev dktX5_lay_3 : List UInt8 := dkwX5_lay_3 ++ []
def dkwX5_lay_2 : List UInt8 := [42, 180, 0, 14, 42, 180, 0, 11, 21, 4, 79, 42, 89, 180, 0, 11, 4, 96, 181, 0, 11, 132, 3, 248]
abbrev dktX5_lay_2 : List UInt8 := dkwX5_lay_2 ++ dktX5_lay_3
def dkwX5_lay_1 : List UInt8 := [21, 4, 16, 32, 161, 0, 41, 21, 4, 16, 126, 163, 0, 34, 42, 180, 0, 11, 17, 3, 232, 162, 0, 24]
abbrev dktX5_lay_1 : List UInt8 := dkwX5_lay_1 ++ dktX5_lay_2
def dkwX5_lay_0 : List UInt8 := [16, 56, 62, 29, 155, 0, 71, 31, 29, 123, 136, 17, 0, 255, 126, 54, 4, 21, 4, 16, 10, 159, 0, 17]
abbrev dktX5_lay_0 : List UInt8 := dkwX5_lay_0 ++ dktX5_lay_1
theorem dksX5_lay_0 : cX5_lay.data.toList.drop 0 = dktX5_lay_0 := by decide +kernel
theorem dksX5_lay_1 : cX5_lay.data.toList.drop 24 = dktX5_lay_1 := dk_seg dksX5_lay_0 24 rfl rfl
theorem dksX5_lay_2 : cX5_lay.data.toList.drop 48 = dktX5_lay_2 := dk_seg dksX5_lay_1 24 rfl rfl
theorem dksX5_lay_3 : cX5_lay.data.toList.drop 72 = dktX5_lay_3 := dk_seg dksX5_lay_2 24 rfl rfl
theorem dX5_lay_0 : decode cX5_lay 0 = .ok (.bipush 56, 2) := dk_16 56 (dk_at dksX5_lay_0 0 rfl rfl)
theorem dX5_lay_2 : decode cX5_lay 2 = .ok (.istore_n 3, 1) := dk_62 (dk_at dksX5_lay_0 2 rfl rfl)
theorem dX5_lay_3 : decode cX5_lay 3 = .ok (.iload_n 3, 1) := dk_29 (dk_at dksX5_lay_0 3 rfl rfl)
theorem dX5_lay_4 : decode cX5_lay 4 = .ok (.ifCond .lt 71, 3) := dk_155 0 71 (dk_at dksX5_lay_0 4 rfl rfl)
theorem dX5_lay_7 : decode cX5_lay 7 = .ok (.lload_n 1, 1) := dk_31 (dk_at dksX5_lay_0 7 rfl rfl)
theorem dX5_lay_8 : decode cX5_lay 8 = .ok (.iload_n 3, 1) := dk_29 (dk_at dksX5_lay_0 8 rfl rfl)
theorem dX5_lay_9 : decode cX5_lay 9 = .ok (.lshr, 1) := dk_123 (dk_at dksX5_lay_0 9 rfl rfl)
theorem dX5_lay_10 : decode cX5_lay 10 = .ok (.l2i, 1) := dk_136 (dk_at dksX5_lay_0 10 rfl rfl)
theorem dX5_lay_11 : decode cX5_lay 11 = .ok (.sipush 255, 3) := dk_17 0 255 (dk_at dksX5_lay_0 11 rfl rfl)
theorem dX5_lay_14 : decode cX5_lay 14 = .ok (.iand, 1) := dk_126 (dk_at dksX5_lay_0 14 rfl rfl)
theorem dX5_lay_15 : decode cX5_lay 15 = .ok (.istore 4, 2) := dk_54 4 (dk_at dksX5_lay_0 15 rfl rfl)
theorem dX5_lay_17 : decode cX5_lay 17 = .ok (.iload 4, 2) := dk_21 4 (dk_at dksX5_lay_0 17 rfl rfl)
theorem dX5_lay_19 : decode cX5_lay 19 = .ok (.bipush 10, 2) := dk_16 10 (dk_at dksX5_lay_0 19 rfl rfl)
theorem dX5_lay_21 : decode cX5_lay 21 = .ok (.if_icmp .eq 17, 3) := dk_159 0 17 (dk_at dksX5_lay_0 21 rfl rfl)
theorem dX5_lay_24 : decode cX5_lay 24 = .ok (.iload 4, 2) := dk_21 4 (dk_at dksX5_lay_1 0 rfl rfl)
theorem dX5_lay_26 : decode cX5_lay 26 = .ok (.bipush 32, 2) := dk_16 32 (dk_at dksX5_lay_1 2 rfl rfl)
theorem dX5_lay_28 : decode cX5_lay 28 = .ok (.if_icmp .lt 41, 3) := dk_161 0 41 (dk_at dksX5_lay_1 4 rfl rfl)
theorem dX5_lay_31 : decode cX5_lay 31 = .ok (.iload 4, 2) := dk_21 4 (dk_at dksX5_lay_1 7 rfl rfl)
theorem dX5_lay_33 : decode cX5_lay 33 = .ok (.bipush 126, 2) := dk_16 126 (dk_at dksX5_lay_1 9 rfl rfl)
theorem dX5_lay_35 : decode cX5_lay 35 = .ok (.if_icmp .gt 34, 3) := dk_163 0 34 (dk_at dksX5_lay_1 11 rfl rfl)
theorem dX5_lay_38 : decode cX5_lay 38 = .ok (.aload_n 0, 1) := dk_42 (dk_at dksX5_lay_1 14 rfl rfl)
theorem dX5_lay_39 : decode cX5_lay 39 = .ok (.getfield 11, 3) := dk_180 0 11 (dk_at dksX5_lay_1 15 rfl rfl)
theorem dX5_lay_42 : decode cX5_lay 42 = .ok (.sipush 1000, 3) := dk_17 3 232 (dk_at dksX5_lay_1 18 rfl rfl)
theorem dX5_lay_45 : decode cX5_lay 45 = .ok (.if_icmp .ge 24, 3) := dk_162 0 24 (dk_at dksX5_lay_1 21 rfl rfl)
theorem dX5_lay_48 : decode cX5_lay 48 = .ok (.aload_n 0, 1) := dk_42 (dk_at dksX5_lay_2 0 rfl rfl)
theorem dX5_lay_49 : decode cX5_lay 49 = .ok (.getfield 14, 3) := dk_180 0 14 (dk_at dksX5_lay_2 1 rfl rfl)
theorem dX5_lay_52 : decode cX5_lay 52 = .ok (.aload_n 0, 1) := dk_42 (dk_at dksX5_lay_2 4 rfl rfl)
theorem dX5_lay_53 : decode cX5_lay 53 = .ok (.getfield 11, 3) := dk_180 0 11 (dk_at dksX5_lay_2 5 rfl rfl)
theorem dX5_lay_56 : decode cX5_lay 56 = .ok (.iload 4, 2) := dk_21 4 (dk_at dksX5_lay_2 8 rfl rfl)
theorem dX5_lay_58 : decode cX5_lay 58 = .ok (.iastore, 1) := dk_79 (dk_at dksX5_lay_2 10 rfl rfl)
theorem dX5_lay_59 : decode cX5_lay 59 = .ok (.aload_n 0, 1) := dk_42 (dk_at dksX5_lay_2 11 rfl rfl)
theorem dX5_lay_60 : decode cX5_lay 60 = .ok (.dup, 1) := dk_89 (dk_at dksX5_lay_2 12 rfl rfl)
theorem dX5_lay_61 : decode cX5_lay 61 = .ok (.getfield 11, 3) := dk_180 0 11 (dk_at dksX5_lay_2 13 rfl rfl)
theorem dX5_lay_64 : decode cX5_lay 64 = .ok (.iconst 1, 1) := dk_4 (dk_at dksX5_lay_2 16 rfl rfl)
theorem dX5_lay_65 : decode cX5_lay 65 = .ok (.iadd, 1) := dk_96 (dk_at dksX5_lay_2 17 rfl rfl)
theorem dX5_lay_66 : decode cX5_lay 66 = .ok (.putfield 11, 3) := dk_181 0 11 (dk_at dksX5_lay_2 18 rfl rfl)
theorem dX5_lay_69 : decode cX5_lay 69 = .ok (.iinc 3 (-8), 3) := dk_132 3 248 (dk_at dksX5_lay_2 21 rfl rfl)
theorem dX5_lay_72 : decode cX5_lay 72 = .ok (.goto (-69), 3) := dk_167 255 187 (dk_at dksX5_lay_3 0 rfl rfl)
theorem dX5_lay_75 : decode cX5_lay 75 = .ok (.return_, 1) := dk_177 (dk_at dksX5_lay_3 3 rfl rfl)
abbrev cX5_init : ByteArray := prog_23_method_4_code
def yX5_init : MethodName := ⟨RX5, "<init>", "()V"⟩
def dkwX5_init_16 : List UInt8 := [182, 0, 148, 177]
abbrev dktX5_init_16 : List UInt8 := dkwX5_init_16 ++ []
def dkwX5_init_15 : List UInt8 := [42, 16, 6, 188, 10, 181, 0, 138, 42, 16, 10, 188, 10, 181, 0, 141, 42, 3, 182, 0, 144, 42]
abbrev dktX5_init_15 : List UInt8 := dkwX5_init_15 ++ dktX5_init_16
def dkwX5_init_14 : List UInt8 := [42, 16, 72, 188, 10, 181, 0, 129, 42, 16, 36, 188, 10, 181, 0, 132, 42, 16, 6, 188, 10, 181, 0, 135]
abbrev dktX5_init_14 : List UInt8 := dkwX5_init_14 ++ dktX5_init_15
def dkwX5_init_13 : List UInt8 := [42, 16, 6, 188, 10, 181, 0, 120, 42, 16, 6, 188, 10, 181, 0, 123, 42, 16, 6, 188, 10, 181, 0, 126]
abbrev dktX5_init_13 : List UInt8 := dkwX5_init_13 ++ dktX5_init_14
def dkwX5_init_12 : List UInt8 := [17, 4, 76, 188, 10, 181, 0, 110, 42, 17, 4, 218, 188, 10, 181, 0, 113, 42, 7, 188, 4, 181, 0, 116]
abbrev dktX5_init_12 : List UInt8 := dkwX5_init_12 ++ dktX5_init_13
def dkwX5_init_11 : List UInt8 := [16, 6, 188, 11, 181, 0, 101, 42, 17, 0, 200, 188, 10, 181, 0, 104, 42, 6, 188, 10, 181, 0, 107, 42]
abbrev dktX5_init_11 : List UInt8 := dkwX5_init_11 ++ dktX5_init_12
def dkwX5_init_10 : List UInt8 := [188, 10, 181, 0, 92, 42, 17, 8, 152, 188, 10, 181, 0, 95, 42, 16, 6, 188, 11, 181, 0, 98, 42]
abbrev dktX5_init_10 : List UInt8 := dkwX5_init_10 ++ dktX5_init_11
def dkwX5_init_9 : List UInt8 := [80, 89, 16, 25, 20, 0, 84, 80, 181, 0, 86, 42, 17, 0, 200, 188, 10, 181, 0, 89, 42, 17, 8, 152]
abbrev dktX5_init_9 : List UInt8 := dkwX5_init_9 ++ dktX5_init_10
def dkwX5_init_8 : List UInt8 := [20, 0, 76, 80, 89, 16, 22, 20, 0, 78, 80, 89, 16, 23, 20, 0, 80, 80, 89, 16, 24, 20, 0, 82]
abbrev dktX5_init_8 : List UInt8 := dkwX5_init_8 ++ dktX5_init_9
def dkwX5_init_7 : List UInt8 := [16, 18, 20, 0, 70, 80, 89, 16, 19, 20, 0, 72, 80, 89, 16, 20, 20, 0, 74, 80, 89, 16, 21]
abbrev dktX5_init_7 : List UInt8 := dkwX5_init_7 ++ dktX5_init_8
def dkwX5_init_6 : List UInt8 := [80, 89, 16, 15, 20, 0, 64, 80, 89, 16, 16, 20, 0, 66, 80, 89, 16, 17, 20, 0, 68, 80, 89]
abbrev dktX5_init_6 : List UInt8 := dkwX5_init_6 ++ dktX5_init_7
def dkwX5_init_5 : List UInt8 := [20, 0, 56, 80, 89, 16, 12, 20, 0, 58, 80, 89, 16, 13, 20, 0, 60, 80, 89, 16, 14, 20, 0, 62]
abbrev dktX5_init_5 : List UInt8 := dkwX5_init_5 ++ dktX5_init_6
def dkwX5_init_4 : List UInt8 := [89, 16, 8, 20, 0, 50, 80, 89, 16, 9, 20, 0, 52, 80, 89, 16, 10, 20, 0, 54, 80, 89, 16, 11]
abbrev dktX5_init_4 : List UInt8 := dkwX5_init_4 ++ dktX5_init_5
def dkwX5_init_3 : List UInt8 := [20, 0, 42, 80, 89, 8, 20, 0, 44, 80, 89, 16, 6, 20, 0, 46, 80, 89, 16, 7, 20, 0, 48, 80]
abbrev dktX5_init_3 : List UInt8 := dkwX5_init_3 ++ dktX5_init_4
def dkwX5_init_2 : List UInt8 := [20, 0, 34, 80, 89, 4, 20, 0, 36, 80, 89, 5, 20, 0, 38, 80, 89, 6, 20, 0, 40, 80, 89, 7]
abbrev dktX5_init_2 : List UInt8 := dkwX5_init_2 ++ dktX5_init_3
def dkwX5_init_1 : List UInt8 := [17, 3, 234, 188, 10, 181, 0, 27, 42, 17, 3, 234, 188, 11, 181, 0, 30, 42, 16, 26, 188, 11, 89, 3]
abbrev dktX5_init_1 : List UInt8 := dkwX5_init_1 ++ dktX5_init_2
def dkwX5_init_0 : List UInt8 := [42, 183, 0, 18, 42, 17, 3, 232, 188, 10, 181, 0, 14, 42, 17, 3, 234, 188, 10, 181, 0, 24, 42]
abbrev dktX5_init_0 : List UInt8 := dkwX5_init_0 ++ dktX5_init_1
theorem dksX5_init_0 : cX5_init.data.toList.drop 0 = dktX5_init_0 := by decide +kernel
theorem dksX5_init_1 : cX5_init.data.toList.drop 23 = dktX5_init_1 := dk_seg dksX5_init_0 23 rfl rfl
theorem dksX5_init_2 : cX5_init.data.toList.drop 47 = dktX5_init_2 := dk_seg dksX5_init_1 24 rfl rfl
theorem dksX5_init_3 : cX5_init.data.toList.drop 71 = dktX5_init_3 := dk_seg dksX5_init_2 24 rfl rfl
theorem dksX5_init_4 : cX5_init.data.toList.drop 95 = dktX5_init_4 := dk_seg dksX5_init_3 24 rfl rfl
theorem dksX5_init_5 : cX5_init.data.toList.drop 119 = dktX5_init_5 := dk_seg dksX5_init_4 24 rfl rfl
theorem dksX5_init_6 : cX5_init.data.toList.drop 143 = dktX5_init_6 := dk_seg dksX5_init_5 24 rfl rfl
theorem dksX5_init_7 : cX5_init.data.toList.drop 166 = dktX5_init_7 := dk_seg dksX5_init_6 23 rfl rfl
theorem dksX5_init_8 : cX5_init.data.toList.drop 189 = dktX5_init_8 := dk_seg dksX5_init_7 23 rfl rfl
theorem dksX5_init_9 : cX5_init.data.toList.drop 213 = dktX5_init_9 := dk_seg dksX5_init_8 24 rfl rfl
theorem dksX5_init_10 : cX5_init.data.toList.drop 237 = dktX5_init_10 := dk_seg dksX5_init_9 24 rfl rfl
theorem dksX5_init_11 : cX5_init.data.toList.drop 260 = dktX5_init_11 := dk_seg dksX5_init_10 23 rfl rfl
theorem dksX5_init_12 : cX5_init.data.toList.drop 284 = dktX5_init_12 := dk_seg dksX5_init_11 24 rfl rfl
theorem dksX5_init_13 : cX5_init.data.toList.drop 308 = dktX5_init_13 := dk_seg dksX5_init_12 24 rfl rfl
theorem dksX5_init_14 : cX5_init.data.toList.drop 332 = dktX5_init_14 := dk_seg dksX5_init_13 24 rfl rfl
theorem dksX5_init_15 : cX5_init.data.toList.drop 356 = dktX5_init_15 := dk_seg dksX5_init_14 24 rfl rfl
theorem dksX5_init_16 : cX5_init.data.toList.drop 378 = dktX5_init_16 := dk_seg dksX5_init_15 22 rfl rfl
theorem dX5_init_0 : decode cX5_init 0 = .ok (.aload_n 0, 1) := dk_42 (dk_at dksX5_init_0 0 rfl rfl)
theorem dX5_init_1 : decode cX5_init 1 = .ok (.invokespecial 18, 3) := dk_183 0 18 (dk_at dksX5_init_0 1 rfl rfl)
theorem dX5_init_4 : decode cX5_init 4 = .ok (.aload_n 0, 1) := dk_42 (dk_at dksX5_init_0 4 rfl rfl)
theorem dX5_init_5 : decode cX5_init 5 = .ok (.sipush 1000, 3) := dk_17 3 232 (dk_at dksX5_init_0 5 rfl rfl)
theorem dX5_init_8 : decode cX5_init 8 = .ok (.newarray .int, 2) := dk_188_10 (dk_at dksX5_init_0 8 rfl rfl)
theorem dX5_init_10 : decode cX5_init 10 = .ok (.putfield 14, 3) := dk_181 0 14 (dk_at dksX5_init_0 10 rfl rfl)
theorem dX5_init_13 : decode cX5_init 13 = .ok (.aload_n 0, 1) := dk_42 (dk_at dksX5_init_0 13 rfl rfl)
theorem dX5_init_14 : decode cX5_init 14 = .ok (.sipush 1002, 3) := dk_17 3 234 (dk_at dksX5_init_0 14 rfl rfl)
theorem dX5_init_17 : decode cX5_init 17 = .ok (.newarray .int, 2) := dk_188_10 (dk_at dksX5_init_0 17 rfl rfl)
theorem dX5_init_19 : decode cX5_init 19 = .ok (.putfield 24, 3) := dk_181 0 24 (dk_at dksX5_init_0 19 rfl rfl)
theorem dX5_init_22 : decode cX5_init 22 = .ok (.aload_n 0, 1) := dk_42 (dk_at dksX5_init_0 22 rfl rfl)
theorem dX5_init_23 : decode cX5_init 23 = .ok (.sipush 1002, 3) := dk_17 3 234 (dk_at dksX5_init_1 0 rfl rfl)
theorem dX5_init_26 : decode cX5_init 26 = .ok (.newarray .int, 2) := dk_188_10 (dk_at dksX5_init_1 3 rfl rfl)
theorem dX5_init_28 : decode cX5_init 28 = .ok (.putfield 27, 3) := dk_181 0 27 (dk_at dksX5_init_1 5 rfl rfl)
theorem dX5_init_31 : decode cX5_init 31 = .ok (.aload_n 0, 1) := dk_42 (dk_at dksX5_init_1 8 rfl rfl)
theorem dX5_init_32 : decode cX5_init 32 = .ok (.sipush 1002, 3) := dk_17 3 234 (dk_at dksX5_init_1 9 rfl rfl)
theorem dX5_init_35 : decode cX5_init 35 = .ok (.newarray .long, 2) := dk_188_11 (dk_at dksX5_init_1 12 rfl rfl)
theorem dX5_init_37 : decode cX5_init 37 = .ok (.putfield 30, 3) := dk_181 0 30 (dk_at dksX5_init_1 14 rfl rfl)
theorem dX5_init_40 : decode cX5_init 40 = .ok (.aload_n 0, 1) := dk_42 (dk_at dksX5_init_1 17 rfl rfl)
theorem dX5_init_41 : decode cX5_init 41 = .ok (.bipush 26, 2) := dk_16 26 (dk_at dksX5_init_1 18 rfl rfl)
theorem dX5_init_43 : decode cX5_init 43 = .ok (.newarray .long, 2) := dk_188_11 (dk_at dksX5_init_1 20 rfl rfl)
theorem dX5_init_45 : decode cX5_init 45 = .ok (.dup, 1) := dk_89 (dk_at dksX5_init_1 22 rfl rfl)
theorem dX5_init_46 : decode cX5_init 46 = .ok (.iconst 0, 1) := dk_3 (dk_at dksX5_init_1 23 rfl rfl)
theorem dX5_init_47 : decode cX5_init 47 = .ok (.ldc2_w 34, 3) := dk_20 0 34 (dk_at dksX5_init_2 0 rfl rfl)
theorem dX5_init_50 : decode cX5_init 50 = .ok (.lastore, 1) := dk_80 (dk_at dksX5_init_2 3 rfl rfl)
theorem dX5_init_51 : decode cX5_init 51 = .ok (.dup, 1) := dk_89 (dk_at dksX5_init_2 4 rfl rfl)
theorem dX5_init_52 : decode cX5_init 52 = .ok (.iconst 1, 1) := dk_4 (dk_at dksX5_init_2 5 rfl rfl)
theorem dX5_init_53 : decode cX5_init 53 = .ok (.ldc2_w 36, 3) := dk_20 0 36 (dk_at dksX5_init_2 6 rfl rfl)
theorem dX5_init_56 : decode cX5_init 56 = .ok (.lastore, 1) := dk_80 (dk_at dksX5_init_2 9 rfl rfl)
theorem dX5_init_57 : decode cX5_init 57 = .ok (.dup, 1) := dk_89 (dk_at dksX5_init_2 10 rfl rfl)
theorem dX5_init_58 : decode cX5_init 58 = .ok (.iconst 2, 1) := dk_5 (dk_at dksX5_init_2 11 rfl rfl)
theorem dX5_init_59 : decode cX5_init 59 = .ok (.ldc2_w 38, 3) := dk_20 0 38 (dk_at dksX5_init_2 12 rfl rfl)
theorem dX5_init_62 : decode cX5_init 62 = .ok (.lastore, 1) := dk_80 (dk_at dksX5_init_2 15 rfl rfl)
theorem dX5_init_63 : decode cX5_init 63 = .ok (.dup, 1) := dk_89 (dk_at dksX5_init_2 16 rfl rfl)
theorem dX5_init_64 : decode cX5_init 64 = .ok (.iconst 3, 1) := dk_6 (dk_at dksX5_init_2 17 rfl rfl)
theorem dX5_init_65 : decode cX5_init 65 = .ok (.ldc2_w 40, 3) := dk_20 0 40 (dk_at dksX5_init_2 18 rfl rfl)
theorem dX5_init_68 : decode cX5_init 68 = .ok (.lastore, 1) := dk_80 (dk_at dksX5_init_2 21 rfl rfl)
theorem dX5_init_69 : decode cX5_init 69 = .ok (.dup, 1) := dk_89 (dk_at dksX5_init_2 22 rfl rfl)
theorem dX5_init_70 : decode cX5_init 70 = .ok (.iconst 4, 1) := dk_7 (dk_at dksX5_init_2 23 rfl rfl)
theorem dX5_init_71 : decode cX5_init 71 = .ok (.ldc2_w 42, 3) := dk_20 0 42 (dk_at dksX5_init_3 0 rfl rfl)
theorem dX5_init_74 : decode cX5_init 74 = .ok (.lastore, 1) := dk_80 (dk_at dksX5_init_3 3 rfl rfl)
theorem dX5_init_75 : decode cX5_init 75 = .ok (.dup, 1) := dk_89 (dk_at dksX5_init_3 4 rfl rfl)
theorem dX5_init_76 : decode cX5_init 76 = .ok (.iconst 5, 1) := dk_8 (dk_at dksX5_init_3 5 rfl rfl)
theorem dX5_init_77 : decode cX5_init 77 = .ok (.ldc2_w 44, 3) := dk_20 0 44 (dk_at dksX5_init_3 6 rfl rfl)
theorem dX5_init_80 : decode cX5_init 80 = .ok (.lastore, 1) := dk_80 (dk_at dksX5_init_3 9 rfl rfl)
theorem dX5_init_81 : decode cX5_init 81 = .ok (.dup, 1) := dk_89 (dk_at dksX5_init_3 10 rfl rfl)
theorem dX5_init_82 : decode cX5_init 82 = .ok (.bipush 6, 2) := dk_16 6 (dk_at dksX5_init_3 11 rfl rfl)
theorem dX5_init_84 : decode cX5_init 84 = .ok (.ldc2_w 46, 3) := dk_20 0 46 (dk_at dksX5_init_3 13 rfl rfl)
theorem dX5_init_87 : decode cX5_init 87 = .ok (.lastore, 1) := dk_80 (dk_at dksX5_init_3 16 rfl rfl)
theorem dX5_init_88 : decode cX5_init 88 = .ok (.dup, 1) := dk_89 (dk_at dksX5_init_3 17 rfl rfl)
theorem dX5_init_89 : decode cX5_init 89 = .ok (.bipush 7, 2) := dk_16 7 (dk_at dksX5_init_3 18 rfl rfl)
theorem dX5_init_91 : decode cX5_init 91 = .ok (.ldc2_w 48, 3) := dk_20 0 48 (dk_at dksX5_init_3 20 rfl rfl)
theorem dX5_init_94 : decode cX5_init 94 = .ok (.lastore, 1) := dk_80 (dk_at dksX5_init_3 23 rfl rfl)
theorem dX5_init_95 : decode cX5_init 95 = .ok (.dup, 1) := dk_89 (dk_at dksX5_init_4 0 rfl rfl)
theorem dX5_init_96 : decode cX5_init 96 = .ok (.bipush 8, 2) := dk_16 8 (dk_at dksX5_init_4 1 rfl rfl)
theorem dX5_init_98 : decode cX5_init 98 = .ok (.ldc2_w 50, 3) := dk_20 0 50 (dk_at dksX5_init_4 3 rfl rfl)
theorem dX5_init_101 : decode cX5_init 101 = .ok (.lastore, 1) := dk_80 (dk_at dksX5_init_4 6 rfl rfl)
theorem dX5_init_102 : decode cX5_init 102 = .ok (.dup, 1) := dk_89 (dk_at dksX5_init_4 7 rfl rfl)
theorem dX5_init_103 : decode cX5_init 103 = .ok (.bipush 9, 2) := dk_16 9 (dk_at dksX5_init_4 8 rfl rfl)
theorem dX5_init_105 : decode cX5_init 105 = .ok (.ldc2_w 52, 3) := dk_20 0 52 (dk_at dksX5_init_4 10 rfl rfl)
theorem dX5_init_108 : decode cX5_init 108 = .ok (.lastore, 1) := dk_80 (dk_at dksX5_init_4 13 rfl rfl)
theorem dX5_init_109 : decode cX5_init 109 = .ok (.dup, 1) := dk_89 (dk_at dksX5_init_4 14 rfl rfl)
theorem dX5_init_110 : decode cX5_init 110 = .ok (.bipush 10, 2) := dk_16 10 (dk_at dksX5_init_4 15 rfl rfl)
theorem dX5_init_112 : decode cX5_init 112 = .ok (.ldc2_w 54, 3) := dk_20 0 54 (dk_at dksX5_init_4 17 rfl rfl)
theorem dX5_init_115 : decode cX5_init 115 = .ok (.lastore, 1) := dk_80 (dk_at dksX5_init_4 20 rfl rfl)
theorem dX5_init_116 : decode cX5_init 116 = .ok (.dup, 1) := dk_89 (dk_at dksX5_init_4 21 rfl rfl)
theorem dX5_init_117 : decode cX5_init 117 = .ok (.bipush 11, 2) := dk_16 11 (dk_at dksX5_init_4 22 rfl rfl)
theorem dX5_init_119 : decode cX5_init 119 = .ok (.ldc2_w 56, 3) := dk_20 0 56 (dk_at dksX5_init_5 0 rfl rfl)
theorem dX5_init_122 : decode cX5_init 122 = .ok (.lastore, 1) := dk_80 (dk_at dksX5_init_5 3 rfl rfl)
theorem dX5_init_123 : decode cX5_init 123 = .ok (.dup, 1) := dk_89 (dk_at dksX5_init_5 4 rfl rfl)
theorem dX5_init_124 : decode cX5_init 124 = .ok (.bipush 12, 2) := dk_16 12 (dk_at dksX5_init_5 5 rfl rfl)
theorem dX5_init_126 : decode cX5_init 126 = .ok (.ldc2_w 58, 3) := dk_20 0 58 (dk_at dksX5_init_5 7 rfl rfl)
theorem dX5_init_129 : decode cX5_init 129 = .ok (.lastore, 1) := dk_80 (dk_at dksX5_init_5 10 rfl rfl)
theorem dX5_init_130 : decode cX5_init 130 = .ok (.dup, 1) := dk_89 (dk_at dksX5_init_5 11 rfl rfl)
theorem dX5_init_131 : decode cX5_init 131 = .ok (.bipush 13, 2) := dk_16 13 (dk_at dksX5_init_5 12 rfl rfl)
theorem dX5_init_133 : decode cX5_init 133 = .ok (.ldc2_w 60, 3) := dk_20 0 60 (dk_at dksX5_init_5 14 rfl rfl)
theorem dX5_init_136 : decode cX5_init 136 = .ok (.lastore, 1) := dk_80 (dk_at dksX5_init_5 17 rfl rfl)
theorem dX5_init_137 : decode cX5_init 137 = .ok (.dup, 1) := dk_89 (dk_at dksX5_init_5 18 rfl rfl)
theorem dX5_init_138 : decode cX5_init 138 = .ok (.bipush 14, 2) := dk_16 14 (dk_at dksX5_init_5 19 rfl rfl)
theorem dX5_init_140 : decode cX5_init 140 = .ok (.ldc2_w 62, 3) := dk_20 0 62 (dk_at dksX5_init_5 21 rfl rfl)
theorem dX5_init_143 : decode cX5_init 143 = .ok (.lastore, 1) := dk_80 (dk_at dksX5_init_6 0 rfl rfl)
theorem dX5_init_144 : decode cX5_init 144 = .ok (.dup, 1) := dk_89 (dk_at dksX5_init_6 1 rfl rfl)
theorem dX5_init_145 : decode cX5_init 145 = .ok (.bipush 15, 2) := dk_16 15 (dk_at dksX5_init_6 2 rfl rfl)
theorem dX5_init_147 : decode cX5_init 147 = .ok (.ldc2_w 64, 3) := dk_20 0 64 (dk_at dksX5_init_6 4 rfl rfl)
theorem dX5_init_150 : decode cX5_init 150 = .ok (.lastore, 1) := dk_80 (dk_at dksX5_init_6 7 rfl rfl)
theorem dX5_init_151 : decode cX5_init 151 = .ok (.dup, 1) := dk_89 (dk_at dksX5_init_6 8 rfl rfl)
theorem dX5_init_152 : decode cX5_init 152 = .ok (.bipush 16, 2) := dk_16 16 (dk_at dksX5_init_6 9 rfl rfl)
theorem dX5_init_154 : decode cX5_init 154 = .ok (.ldc2_w 66, 3) := dk_20 0 66 (dk_at dksX5_init_6 11 rfl rfl)
theorem dX5_init_157 : decode cX5_init 157 = .ok (.lastore, 1) := dk_80 (dk_at dksX5_init_6 14 rfl rfl)
theorem dX5_init_158 : decode cX5_init 158 = .ok (.dup, 1) := dk_89 (dk_at dksX5_init_6 15 rfl rfl)
theorem dX5_init_159 : decode cX5_init 159 = .ok (.bipush 17, 2) := dk_16 17 (dk_at dksX5_init_6 16 rfl rfl)
theorem dX5_init_161 : decode cX5_init 161 = .ok (.ldc2_w 68, 3) := dk_20 0 68 (dk_at dksX5_init_6 18 rfl rfl)
theorem dX5_init_164 : decode cX5_init 164 = .ok (.lastore, 1) := dk_80 (dk_at dksX5_init_6 21 rfl rfl)
theorem dX5_init_165 : decode cX5_init 165 = .ok (.dup, 1) := dk_89 (dk_at dksX5_init_6 22 rfl rfl)
theorem dX5_init_166 : decode cX5_init 166 = .ok (.bipush 18, 2) := dk_16 18 (dk_at dksX5_init_7 0 rfl rfl)
theorem dX5_init_168 : decode cX5_init 168 = .ok (.ldc2_w 70, 3) := dk_20 0 70 (dk_at dksX5_init_7 2 rfl rfl)
theorem dX5_init_171 : decode cX5_init 171 = .ok (.lastore, 1) := dk_80 (dk_at dksX5_init_7 5 rfl rfl)
theorem dX5_init_172 : decode cX5_init 172 = .ok (.dup, 1) := dk_89 (dk_at dksX5_init_7 6 rfl rfl)
theorem dX5_init_173 : decode cX5_init 173 = .ok (.bipush 19, 2) := dk_16 19 (dk_at dksX5_init_7 7 rfl rfl)
theorem dX5_init_175 : decode cX5_init 175 = .ok (.ldc2_w 72, 3) := dk_20 0 72 (dk_at dksX5_init_7 9 rfl rfl)
theorem dX5_init_178 : decode cX5_init 178 = .ok (.lastore, 1) := dk_80 (dk_at dksX5_init_7 12 rfl rfl)
theorem dX5_init_179 : decode cX5_init 179 = .ok (.dup, 1) := dk_89 (dk_at dksX5_init_7 13 rfl rfl)
theorem dX5_init_180 : decode cX5_init 180 = .ok (.bipush 20, 2) := dk_16 20 (dk_at dksX5_init_7 14 rfl rfl)
theorem dX5_init_182 : decode cX5_init 182 = .ok (.ldc2_w 74, 3) := dk_20 0 74 (dk_at dksX5_init_7 16 rfl rfl)
theorem dX5_init_185 : decode cX5_init 185 = .ok (.lastore, 1) := dk_80 (dk_at dksX5_init_7 19 rfl rfl)
theorem dX5_init_186 : decode cX5_init 186 = .ok (.dup, 1) := dk_89 (dk_at dksX5_init_7 20 rfl rfl)
theorem dX5_init_187 : decode cX5_init 187 = .ok (.bipush 21, 2) := dk_16 21 (dk_at dksX5_init_7 21 rfl rfl)
theorem dX5_init_189 : decode cX5_init 189 = .ok (.ldc2_w 76, 3) := dk_20 0 76 (dk_at dksX5_init_8 0 rfl rfl)
theorem dX5_init_192 : decode cX5_init 192 = .ok (.lastore, 1) := dk_80 (dk_at dksX5_init_8 3 rfl rfl)
theorem dX5_init_193 : decode cX5_init 193 = .ok (.dup, 1) := dk_89 (dk_at dksX5_init_8 4 rfl rfl)
theorem dX5_init_194 : decode cX5_init 194 = .ok (.bipush 22, 2) := dk_16 22 (dk_at dksX5_init_8 5 rfl rfl)
theorem dX5_init_196 : decode cX5_init 196 = .ok (.ldc2_w 78, 3) := dk_20 0 78 (dk_at dksX5_init_8 7 rfl rfl)
theorem dX5_init_199 : decode cX5_init 199 = .ok (.lastore, 1) := dk_80 (dk_at dksX5_init_8 10 rfl rfl)
theorem dX5_init_200 : decode cX5_init 200 = .ok (.dup, 1) := dk_89 (dk_at dksX5_init_8 11 rfl rfl)
theorem dX5_init_201 : decode cX5_init 201 = .ok (.bipush 23, 2) := dk_16 23 (dk_at dksX5_init_8 12 rfl rfl)
theorem dX5_init_203 : decode cX5_init 203 = .ok (.ldc2_w 80, 3) := dk_20 0 80 (dk_at dksX5_init_8 14 rfl rfl)
theorem dX5_init_206 : decode cX5_init 206 = .ok (.lastore, 1) := dk_80 (dk_at dksX5_init_8 17 rfl rfl)
theorem dX5_init_207 : decode cX5_init 207 = .ok (.dup, 1) := dk_89 (dk_at dksX5_init_8 18 rfl rfl)
theorem dX5_init_208 : decode cX5_init 208 = .ok (.bipush 24, 2) := dk_16 24 (dk_at dksX5_init_8 19 rfl rfl)
theorem dX5_init_210 : decode cX5_init 210 = .ok (.ldc2_w 82, 3) := dk_20 0 82 (dk_at dksX5_init_8 21 rfl rfl)
theorem dX5_init_213 : decode cX5_init 213 = .ok (.lastore, 1) := dk_80 (dk_at dksX5_init_9 0 rfl rfl)
theorem dX5_init_214 : decode cX5_init 214 = .ok (.dup, 1) := dk_89 (dk_at dksX5_init_9 1 rfl rfl)
theorem dX5_init_215 : decode cX5_init 215 = .ok (.bipush 25, 2) := dk_16 25 (dk_at dksX5_init_9 2 rfl rfl)
theorem dX5_init_217 : decode cX5_init 217 = .ok (.ldc2_w 84, 3) := dk_20 0 84 (dk_at dksX5_init_9 4 rfl rfl)
theorem dX5_init_220 : decode cX5_init 220 = .ok (.lastore, 1) := dk_80 (dk_at dksX5_init_9 7 rfl rfl)
theorem dX5_init_221 : decode cX5_init 221 = .ok (.putfield 86, 3) := dk_181 0 86 (dk_at dksX5_init_9 8 rfl rfl)
theorem dX5_init_224 : decode cX5_init 224 = .ok (.aload_n 0, 1) := dk_42 (dk_at dksX5_init_9 11 rfl rfl)
theorem dX5_init_225 : decode cX5_init 225 = .ok (.sipush 200, 3) := dk_17 0 200 (dk_at dksX5_init_9 12 rfl rfl)
theorem dX5_init_228 : decode cX5_init 228 = .ok (.newarray .int, 2) := dk_188_10 (dk_at dksX5_init_9 15 rfl rfl)
theorem dX5_init_230 : decode cX5_init 230 = .ok (.putfield 89, 3) := dk_181 0 89 (dk_at dksX5_init_9 17 rfl rfl)
theorem dX5_init_233 : decode cX5_init 233 = .ok (.aload_n 0, 1) := dk_42 (dk_at dksX5_init_9 20 rfl rfl)
theorem dX5_init_234 : decode cX5_init 234 = .ok (.sipush 2200, 3) := dk_17 8 152 (dk_at dksX5_init_9 21 rfl rfl)
theorem dX5_init_237 : decode cX5_init 237 = .ok (.newarray .int, 2) := dk_188_10 (dk_at dksX5_init_10 0 rfl rfl)
theorem dX5_init_239 : decode cX5_init 239 = .ok (.putfield 92, 3) := dk_181 0 92 (dk_at dksX5_init_10 2 rfl rfl)
theorem dX5_init_242 : decode cX5_init 242 = .ok (.aload_n 0, 1) := dk_42 (dk_at dksX5_init_10 5 rfl rfl)
theorem dX5_init_243 : decode cX5_init 243 = .ok (.sipush 2200, 3) := dk_17 8 152 (dk_at dksX5_init_10 6 rfl rfl)
theorem dX5_init_246 : decode cX5_init 246 = .ok (.newarray .int, 2) := dk_188_10 (dk_at dksX5_init_10 9 rfl rfl)
theorem dX5_init_248 : decode cX5_init 248 = .ok (.putfield 95, 3) := dk_181 0 95 (dk_at dksX5_init_10 11 rfl rfl)
theorem dX5_init_251 : decode cX5_init 251 = .ok (.aload_n 0, 1) := dk_42 (dk_at dksX5_init_10 14 rfl rfl)
theorem dX5_init_252 : decode cX5_init 252 = .ok (.bipush 6, 2) := dk_16 6 (dk_at dksX5_init_10 15 rfl rfl)
theorem dX5_init_254 : decode cX5_init 254 = .ok (.newarray .long, 2) := dk_188_11 (dk_at dksX5_init_10 17 rfl rfl)
theorem dX5_init_256 : decode cX5_init 256 = .ok (.putfield 98, 3) := dk_181 0 98 (dk_at dksX5_init_10 19 rfl rfl)
theorem dX5_init_259 : decode cX5_init 259 = .ok (.aload_n 0, 1) := dk_42 (dk_at dksX5_init_10 22 rfl rfl)
theorem dX5_init_260 : decode cX5_init 260 = .ok (.bipush 6, 2) := dk_16 6 (dk_at dksX5_init_11 0 rfl rfl)
theorem dX5_init_262 : decode cX5_init 262 = .ok (.newarray .long, 2) := dk_188_11 (dk_at dksX5_init_11 2 rfl rfl)
theorem dX5_init_264 : decode cX5_init 264 = .ok (.putfield 101, 3) := dk_181 0 101 (dk_at dksX5_init_11 4 rfl rfl)
theorem dX5_init_267 : decode cX5_init 267 = .ok (.aload_n 0, 1) := dk_42 (dk_at dksX5_init_11 7 rfl rfl)
theorem dX5_init_268 : decode cX5_init 268 = .ok (.sipush 200, 3) := dk_17 0 200 (dk_at dksX5_init_11 8 rfl rfl)
theorem dX5_init_271 : decode cX5_init 271 = .ok (.newarray .int, 2) := dk_188_10 (dk_at dksX5_init_11 11 rfl rfl)
theorem dX5_init_273 : decode cX5_init 273 = .ok (.putfield 104, 3) := dk_181 0 104 (dk_at dksX5_init_11 13 rfl rfl)
theorem dX5_init_276 : decode cX5_init 276 = .ok (.aload_n 0, 1) := dk_42 (dk_at dksX5_init_11 16 rfl rfl)
theorem dX5_init_277 : decode cX5_init 277 = .ok (.iconst 3, 1) := dk_6 (dk_at dksX5_init_11 17 rfl rfl)
theorem dX5_init_278 : decode cX5_init 278 = .ok (.newarray .int, 2) := dk_188_10 (dk_at dksX5_init_11 18 rfl rfl)
theorem dX5_init_280 : decode cX5_init 280 = .ok (.putfield 107, 3) := dk_181 0 107 (dk_at dksX5_init_11 20 rfl rfl)
theorem dX5_init_283 : decode cX5_init 283 = .ok (.aload_n 0, 1) := dk_42 (dk_at dksX5_init_11 23 rfl rfl)
theorem dX5_init_284 : decode cX5_init 284 = .ok (.sipush 1100, 3) := dk_17 4 76 (dk_at dksX5_init_12 0 rfl rfl)
theorem dX5_init_287 : decode cX5_init 287 = .ok (.newarray .int, 2) := dk_188_10 (dk_at dksX5_init_12 3 rfl rfl)
theorem dX5_init_289 : decode cX5_init 289 = .ok (.putfield 110, 3) := dk_181 0 110 (dk_at dksX5_init_12 5 rfl rfl)
theorem dX5_init_292 : decode cX5_init 292 = .ok (.aload_n 0, 1) := dk_42 (dk_at dksX5_init_12 8 rfl rfl)
theorem dX5_init_293 : decode cX5_init 293 = .ok (.sipush 1242, 3) := dk_17 4 218 (dk_at dksX5_init_12 9 rfl rfl)
theorem dX5_init_296 : decode cX5_init 296 = .ok (.newarray .int, 2) := dk_188_10 (dk_at dksX5_init_12 12 rfl rfl)
theorem dX5_init_298 : decode cX5_init 298 = .ok (.putfield 113, 3) := dk_181 0 113 (dk_at dksX5_init_12 14 rfl rfl)
theorem dX5_init_301 : decode cX5_init 301 = .ok (.aload_n 0, 1) := dk_42 (dk_at dksX5_init_12 17 rfl rfl)
theorem dX5_init_302 : decode cX5_init 302 = .ok (.iconst 4, 1) := dk_7 (dk_at dksX5_init_12 18 rfl rfl)
theorem dX5_init_303 : decode cX5_init 303 = .ok (.newarray .boolean, 2) := dk_188_4 (dk_at dksX5_init_12 19 rfl rfl)
theorem dX5_init_305 : decode cX5_init 305 = .ok (.putfield 116, 3) := dk_181 0 116 (dk_at dksX5_init_12 21 rfl rfl)
theorem dX5_init_308 : decode cX5_init 308 = .ok (.aload_n 0, 1) := dk_42 (dk_at dksX5_init_13 0 rfl rfl)
theorem dX5_init_309 : decode cX5_init 309 = .ok (.bipush 6, 2) := dk_16 6 (dk_at dksX5_init_13 1 rfl rfl)
theorem dX5_init_311 : decode cX5_init 311 = .ok (.newarray .int, 2) := dk_188_10 (dk_at dksX5_init_13 3 rfl rfl)
theorem dX5_init_313 : decode cX5_init 313 = .ok (.putfield 120, 3) := dk_181 0 120 (dk_at dksX5_init_13 5 rfl rfl)
theorem dX5_init_316 : decode cX5_init 316 = .ok (.aload_n 0, 1) := dk_42 (dk_at dksX5_init_13 8 rfl rfl)
theorem dX5_init_317 : decode cX5_init 317 = .ok (.bipush 6, 2) := dk_16 6 (dk_at dksX5_init_13 9 rfl rfl)
theorem dX5_init_319 : decode cX5_init 319 = .ok (.newarray .int, 2) := dk_188_10 (dk_at dksX5_init_13 11 rfl rfl)
theorem dX5_init_321 : decode cX5_init 321 = .ok (.putfield 123, 3) := dk_181 0 123 (dk_at dksX5_init_13 13 rfl rfl)
theorem dX5_init_324 : decode cX5_init 324 = .ok (.aload_n 0, 1) := dk_42 (dk_at dksX5_init_13 16 rfl rfl)
theorem dX5_init_325 : decode cX5_init 325 = .ok (.bipush 6, 2) := dk_16 6 (dk_at dksX5_init_13 17 rfl rfl)
theorem dX5_init_327 : decode cX5_init 327 = .ok (.newarray .int, 2) := dk_188_10 (dk_at dksX5_init_13 19 rfl rfl)
theorem dX5_init_329 : decode cX5_init 329 = .ok (.putfield 126, 3) := dk_181 0 126 (dk_at dksX5_init_13 21 rfl rfl)
theorem dX5_init_332 : decode cX5_init 332 = .ok (.aload_n 0, 1) := dk_42 (dk_at dksX5_init_14 0 rfl rfl)
theorem dX5_init_333 : decode cX5_init 333 = .ok (.bipush 72, 2) := dk_16 72 (dk_at dksX5_init_14 1 rfl rfl)
theorem dX5_init_335 : decode cX5_init 335 = .ok (.newarray .int, 2) := dk_188_10 (dk_at dksX5_init_14 3 rfl rfl)
theorem dX5_init_337 : decode cX5_init 337 = .ok (.putfield 129, 3) := dk_181 0 129 (dk_at dksX5_init_14 5 rfl rfl)
theorem dX5_init_340 : decode cX5_init 340 = .ok (.aload_n 0, 1) := dk_42 (dk_at dksX5_init_14 8 rfl rfl)
theorem dX5_init_341 : decode cX5_init 341 = .ok (.bipush 36, 2) := dk_16 36 (dk_at dksX5_init_14 9 rfl rfl)
theorem dX5_init_343 : decode cX5_init 343 = .ok (.newarray .int, 2) := dk_188_10 (dk_at dksX5_init_14 11 rfl rfl)
theorem dX5_init_345 : decode cX5_init 345 = .ok (.putfield 132, 3) := dk_181 0 132 (dk_at dksX5_init_14 13 rfl rfl)
theorem dX5_init_348 : decode cX5_init 348 = .ok (.aload_n 0, 1) := dk_42 (dk_at dksX5_init_14 16 rfl rfl)
theorem dX5_init_349 : decode cX5_init 349 = .ok (.bipush 6, 2) := dk_16 6 (dk_at dksX5_init_14 17 rfl rfl)
theorem dX5_init_351 : decode cX5_init 351 = .ok (.newarray .int, 2) := dk_188_10 (dk_at dksX5_init_14 19 rfl rfl)
theorem dX5_init_353 : decode cX5_init 353 = .ok (.putfield 135, 3) := dk_181 0 135 (dk_at dksX5_init_14 21 rfl rfl)
theorem dX5_init_356 : decode cX5_init 356 = .ok (.aload_n 0, 1) := dk_42 (dk_at dksX5_init_15 0 rfl rfl)
theorem dX5_init_357 : decode cX5_init 357 = .ok (.bipush 6, 2) := dk_16 6 (dk_at dksX5_init_15 1 rfl rfl)
theorem dX5_init_359 : decode cX5_init 359 = .ok (.newarray .int, 2) := dk_188_10 (dk_at dksX5_init_15 3 rfl rfl)
theorem dX5_init_361 : decode cX5_init 361 = .ok (.putfield 138, 3) := dk_181 0 138 (dk_at dksX5_init_15 5 rfl rfl)
theorem dX5_init_364 : decode cX5_init 364 = .ok (.aload_n 0, 1) := dk_42 (dk_at dksX5_init_15 8 rfl rfl)
theorem dX5_init_365 : decode cX5_init 365 = .ok (.bipush 10, 2) := dk_16 10 (dk_at dksX5_init_15 9 rfl rfl)
theorem dX5_init_367 : decode cX5_init 367 = .ok (.newarray .int, 2) := dk_188_10 (dk_at dksX5_init_15 11 rfl rfl)
theorem dX5_init_369 : decode cX5_init 369 = .ok (.putfield 141, 3) := dk_181 0 141 (dk_at dksX5_init_15 13 rfl rfl)
theorem dX5_init_372 : decode cX5_init 372 = .ok (.aload_n 0, 1) := dk_42 (dk_at dksX5_init_15 16 rfl rfl)
theorem dX5_init_373 : decode cX5_init 373 = .ok (.iconst 0, 1) := dk_3 (dk_at dksX5_init_15 17 rfl rfl)
theorem dX5_init_374 : decode cX5_init 374 = .ok (.invokevirtual 144, 3) := dk_182 0 144 (dk_at dksX5_init_15 18 rfl rfl)
theorem dX5_init_377 : decode cX5_init 377 = .ok (.aload_n 0, 1) := dk_42 (dk_at dksX5_init_15 21 rfl rfl)
theorem dX5_init_378 : decode cX5_init 378 = .ok (.invokevirtual 148, 3) := dk_182 0 148 (dk_at dksX5_init_16 0 rfl rfl)
theorem dX5_init_381 : decode cX5_init 381 = .ok (.return_, 1) := dk_177 (dk_at dksX5_init_16 3 rfl rfl)
abbrev cX5_standsAsAlways : ByteArray := prog_23_method_18_code
def yX5_standsAsAlways : MethodName := ⟨RX5, "standsAsAlways", "(I)V"⟩
def dkwX5_standsAsAlways_3 : List UInt8 := [2, 79, 177]
abbrev dktX5_standsAsAlways_3 : List UInt8 := dkwX5_standsAsAlways_3 ++ []
def dkwX5_standsAsAlways_2 : List UInt8 := [96, 16, 20, 79, 42, 180, 0, 89, 27, 16, 6, 96, 2, 79, 42, 180, 0, 89, 27, 16, 6, 96, 4, 96]
abbrev dktX5_standsAsAlways_2 : List UInt8 := dkwX5_standsAsAlways_2 ++ dktX5_standsAsAlways_3
def dkwX5_standsAsAlways_1 : List UInt8 := [180, 0, 89, 27, 5, 96, 4, 79, 42, 180, 0, 89, 27, 16, 76, 96, 6, 79, 42, 180, 0, 89, 27, 6]
abbrev dktX5_standsAsAlways_1 : List UInt8 := dkwX5_standsAsAlways_1 ++ dktX5_standsAsAlways_2
def dkwX5_standsAsAlways_0 : List UInt8 := [3, 61, 28, 16, 100, 162, 0, 18, 42, 180, 0, 89, 27, 28, 96, 3, 79, 132, 2, 1, 167, 255, 238, 42]
abbrev dktX5_standsAsAlways_0 : List UInt8 := dkwX5_standsAsAlways_0 ++ dktX5_standsAsAlways_1
theorem dksX5_standsAsAlways_0 : cX5_standsAsAlways.data.toList.drop 0 = dktX5_standsAsAlways_0 := by decide +kernel
theorem dksX5_standsAsAlways_1 : cX5_standsAsAlways.data.toList.drop 24 = dktX5_standsAsAlways_1 := dk_seg dksX5_standsAsAlways_0 24 rfl rfl
theorem dksX5_standsAsAlways_2 : cX5_standsAsAlways.data.toList.drop 48 = dktX5_standsAsAlways_2 := dk_seg dksX5_standsAsAlways_1 24 rfl rfl
theorem dksX5_standsAsAlways_3 : cX5_standsAsAlways.data.toList.drop 72 = dktX5_standsAsAlways_3 := dk_seg dksX5_standsAsAlways_2 24 rfl rfl
theorem dX5_standsAsAlways_0 : decode cX5_standsAsAlways 0 = .ok (.iconst 0, 1) := dk_3 (dk_at dksX5_standsAsAlways_0 0 rfl rfl)
theorem dX5_standsAsAlways_1 : decode cX5_standsAsAlways 1 = .ok (.istore_n 2, 1) := dk_61 (dk_at dksX5_standsAsAlways_0 1 rfl rfl)
theorem dX5_standsAsAlways_2 : decode cX5_standsAsAlways 2 = .ok (.iload_n 2, 1) := dk_28 (dk_at dksX5_standsAsAlways_0 2 rfl rfl)
theorem dX5_standsAsAlways_3 : decode cX5_standsAsAlways 3 = .ok (.bipush 100, 2) := dk_16 100 (dk_at dksX5_standsAsAlways_0 3 rfl rfl)
theorem dX5_standsAsAlways_5 : decode cX5_standsAsAlways 5 = .ok (.if_icmp .ge 18, 3) := dk_162 0 18 (dk_at dksX5_standsAsAlways_0 5 rfl rfl)
theorem dX5_standsAsAlways_8 : decode cX5_standsAsAlways 8 = .ok (.aload_n 0, 1) := dk_42 (dk_at dksX5_standsAsAlways_0 8 rfl rfl)
theorem dX5_standsAsAlways_9 : decode cX5_standsAsAlways 9 = .ok (.getfield 89, 3) := dk_180 0 89 (dk_at dksX5_standsAsAlways_0 9 rfl rfl)
theorem dX5_standsAsAlways_12 : decode cX5_standsAsAlways 12 = .ok (.iload_n 1, 1) := dk_27 (dk_at dksX5_standsAsAlways_0 12 rfl rfl)
theorem dX5_standsAsAlways_13 : decode cX5_standsAsAlways 13 = .ok (.iload_n 2, 1) := dk_28 (dk_at dksX5_standsAsAlways_0 13 rfl rfl)
theorem dX5_standsAsAlways_14 : decode cX5_standsAsAlways 14 = .ok (.iadd, 1) := dk_96 (dk_at dksX5_standsAsAlways_0 14 rfl rfl)
theorem dX5_standsAsAlways_15 : decode cX5_standsAsAlways 15 = .ok (.iconst 0, 1) := dk_3 (dk_at dksX5_standsAsAlways_0 15 rfl rfl)
theorem dX5_standsAsAlways_16 : decode cX5_standsAsAlways 16 = .ok (.iastore, 1) := dk_79 (dk_at dksX5_standsAsAlways_0 16 rfl rfl)
theorem dX5_standsAsAlways_17 : decode cX5_standsAsAlways 17 = .ok (.iinc 2 1, 3) := dk_132 2 1 (dk_at dksX5_standsAsAlways_0 17 rfl rfl)
theorem dX5_standsAsAlways_20 : decode cX5_standsAsAlways 20 = .ok (.goto (-18), 3) := dk_167 255 238 (dk_at dksX5_standsAsAlways_0 20 rfl rfl)
theorem dX5_standsAsAlways_23 : decode cX5_standsAsAlways 23 = .ok (.aload_n 0, 1) := dk_42 (dk_at dksX5_standsAsAlways_0 23 rfl rfl)
theorem dX5_standsAsAlways_24 : decode cX5_standsAsAlways 24 = .ok (.getfield 89, 3) := dk_180 0 89 (dk_at dksX5_standsAsAlways_1 0 rfl rfl)
theorem dX5_standsAsAlways_27 : decode cX5_standsAsAlways 27 = .ok (.iload_n 1, 1) := dk_27 (dk_at dksX5_standsAsAlways_1 3 rfl rfl)
theorem dX5_standsAsAlways_28 : decode cX5_standsAsAlways 28 = .ok (.iconst 2, 1) := dk_5 (dk_at dksX5_standsAsAlways_1 4 rfl rfl)
theorem dX5_standsAsAlways_29 : decode cX5_standsAsAlways 29 = .ok (.iadd, 1) := dk_96 (dk_at dksX5_standsAsAlways_1 5 rfl rfl)
theorem dX5_standsAsAlways_30 : decode cX5_standsAsAlways 30 = .ok (.iconst 1, 1) := dk_4 (dk_at dksX5_standsAsAlways_1 6 rfl rfl)
theorem dX5_standsAsAlways_31 : decode cX5_standsAsAlways 31 = .ok (.iastore, 1) := dk_79 (dk_at dksX5_standsAsAlways_1 7 rfl rfl)
theorem dX5_standsAsAlways_32 : decode cX5_standsAsAlways 32 = .ok (.aload_n 0, 1) := dk_42 (dk_at dksX5_standsAsAlways_1 8 rfl rfl)
theorem dX5_standsAsAlways_33 : decode cX5_standsAsAlways 33 = .ok (.getfield 89, 3) := dk_180 0 89 (dk_at dksX5_standsAsAlways_1 9 rfl rfl)
theorem dX5_standsAsAlways_36 : decode cX5_standsAsAlways 36 = .ok (.iload_n 1, 1) := dk_27 (dk_at dksX5_standsAsAlways_1 12 rfl rfl)
theorem dX5_standsAsAlways_37 : decode cX5_standsAsAlways 37 = .ok (.bipush 76, 2) := dk_16 76 (dk_at dksX5_standsAsAlways_1 13 rfl rfl)
theorem dX5_standsAsAlways_39 : decode cX5_standsAsAlways 39 = .ok (.iadd, 1) := dk_96 (dk_at dksX5_standsAsAlways_1 15 rfl rfl)
theorem dX5_standsAsAlways_40 : decode cX5_standsAsAlways 40 = .ok (.iconst 3, 1) := dk_6 (dk_at dksX5_standsAsAlways_1 16 rfl rfl)
theorem dX5_standsAsAlways_41 : decode cX5_standsAsAlways 41 = .ok (.iastore, 1) := dk_79 (dk_at dksX5_standsAsAlways_1 17 rfl rfl)
theorem dX5_standsAsAlways_42 : decode cX5_standsAsAlways 42 = .ok (.aload_n 0, 1) := dk_42 (dk_at dksX5_standsAsAlways_1 18 rfl rfl)
theorem dX5_standsAsAlways_43 : decode cX5_standsAsAlways 43 = .ok (.getfield 89, 3) := dk_180 0 89 (dk_at dksX5_standsAsAlways_1 19 rfl rfl)
theorem dX5_standsAsAlways_46 : decode cX5_standsAsAlways 46 = .ok (.iload_n 1, 1) := dk_27 (dk_at dksX5_standsAsAlways_1 22 rfl rfl)
theorem dX5_standsAsAlways_47 : decode cX5_standsAsAlways 47 = .ok (.iconst 3, 1) := dk_6 (dk_at dksX5_standsAsAlways_1 23 rfl rfl)
theorem dX5_standsAsAlways_48 : decode cX5_standsAsAlways 48 = .ok (.iadd, 1) := dk_96 (dk_at dksX5_standsAsAlways_2 0 rfl rfl)
theorem dX5_standsAsAlways_49 : decode cX5_standsAsAlways 49 = .ok (.bipush 20, 2) := dk_16 20 (dk_at dksX5_standsAsAlways_2 1 rfl rfl)
theorem dX5_standsAsAlways_51 : decode cX5_standsAsAlways 51 = .ok (.iastore, 1) := dk_79 (dk_at dksX5_standsAsAlways_2 3 rfl rfl)
theorem dX5_standsAsAlways_52 : decode cX5_standsAsAlways 52 = .ok (.aload_n 0, 1) := dk_42 (dk_at dksX5_standsAsAlways_2 4 rfl rfl)
theorem dX5_standsAsAlways_53 : decode cX5_standsAsAlways 53 = .ok (.getfield 89, 3) := dk_180 0 89 (dk_at dksX5_standsAsAlways_2 5 rfl rfl)
theorem dX5_standsAsAlways_56 : decode cX5_standsAsAlways 56 = .ok (.iload_n 1, 1) := dk_27 (dk_at dksX5_standsAsAlways_2 8 rfl rfl)
theorem dX5_standsAsAlways_57 : decode cX5_standsAsAlways 57 = .ok (.bipush 6, 2) := dk_16 6 (dk_at dksX5_standsAsAlways_2 9 rfl rfl)
theorem dX5_standsAsAlways_59 : decode cX5_standsAsAlways 59 = .ok (.iadd, 1) := dk_96 (dk_at dksX5_standsAsAlways_2 11 rfl rfl)
theorem dX5_standsAsAlways_60 : decode cX5_standsAsAlways 60 = .ok (.iconst (-1), 1) := dk_2 (dk_at dksX5_standsAsAlways_2 12 rfl rfl)
theorem dX5_standsAsAlways_61 : decode cX5_standsAsAlways 61 = .ok (.iastore, 1) := dk_79 (dk_at dksX5_standsAsAlways_2 13 rfl rfl)
theorem dX5_standsAsAlways_62 : decode cX5_standsAsAlways 62 = .ok (.aload_n 0, 1) := dk_42 (dk_at dksX5_standsAsAlways_2 14 rfl rfl)
theorem dX5_standsAsAlways_63 : decode cX5_standsAsAlways 63 = .ok (.getfield 89, 3) := dk_180 0 89 (dk_at dksX5_standsAsAlways_2 15 rfl rfl)
theorem dX5_standsAsAlways_66 : decode cX5_standsAsAlways 66 = .ok (.iload_n 1, 1) := dk_27 (dk_at dksX5_standsAsAlways_2 18 rfl rfl)
theorem dX5_standsAsAlways_67 : decode cX5_standsAsAlways 67 = .ok (.bipush 6, 2) := dk_16 6 (dk_at dksX5_standsAsAlways_2 19 rfl rfl)
theorem dX5_standsAsAlways_69 : decode cX5_standsAsAlways 69 = .ok (.iadd, 1) := dk_96 (dk_at dksX5_standsAsAlways_2 21 rfl rfl)
theorem dX5_standsAsAlways_70 : decode cX5_standsAsAlways 70 = .ok (.iconst 1, 1) := dk_4 (dk_at dksX5_standsAsAlways_2 22 rfl rfl)
theorem dX5_standsAsAlways_71 : decode cX5_standsAsAlways 71 = .ok (.iadd, 1) := dk_96 (dk_at dksX5_standsAsAlways_2 23 rfl rfl)
theorem dX5_standsAsAlways_72 : decode cX5_standsAsAlways 72 = .ok (.iconst (-1), 1) := dk_2 (dk_at dksX5_standsAsAlways_3 0 rfl rfl)
theorem dX5_standsAsAlways_73 : decode cX5_standsAsAlways 73 = .ok (.iastore, 1) := dk_79 (dk_at dksX5_standsAsAlways_3 1 rfl rfl)
theorem dX5_standsAsAlways_74 : decode cX5_standsAsAlways 74 = .ok (.return_, 1) := dk_177 (dk_at dksX5_standsAsAlways_3 2 rfl rfl)
abbrev cX5_begins : ByteArray := prog_23_method_44_code
def yX5_begins : MethodName := ⟨RX5, "begins", "()V"⟩
def dkwX5_begins_1 : List UInt8 := [181, 1, 29, 3, 60, 27, 7, 162, 0, 16, 42, 180, 0, 116, 27, 3, 84, 132, 1, 1, 167, 255, 241, 177]
abbrev dktX5_begins_1 : List UInt8 := dkwX5_begins_1 ++ []
def dkwX5_begins_0 : List UInt8 := [42, 3, 182, 1, 26, 42, 180, 0, 113, 16, 28, 3, 79, 42, 180, 0, 104, 3, 3, 79, 42, 3]
abbrev dktX5_begins_0 : List UInt8 := dkwX5_begins_0 ++ dktX5_begins_1
theorem dksX5_begins_0 : cX5_begins.data.toList.drop 0 = dktX5_begins_0 := by decide +kernel
theorem dksX5_begins_1 : cX5_begins.data.toList.drop 22 = dktX5_begins_1 := dk_seg dksX5_begins_0 22 rfl rfl
theorem dX5_begins_0 : decode cX5_begins 0 = .ok (.aload_n 0, 1) := dk_42 (dk_at dksX5_begins_0 0 rfl rfl)
theorem dX5_begins_1 : decode cX5_begins 1 = .ok (.iconst 0, 1) := dk_3 (dk_at dksX5_begins_0 1 rfl rfl)
theorem dX5_begins_2 : decode cX5_begins 2 = .ok (.invokevirtual 282, 3) := dk_182 1 26 (dk_at dksX5_begins_0 2 rfl rfl)
theorem dX5_begins_5 : decode cX5_begins 5 = .ok (.aload_n 0, 1) := dk_42 (dk_at dksX5_begins_0 5 rfl rfl)
theorem dX5_begins_6 : decode cX5_begins 6 = .ok (.getfield 113, 3) := dk_180 0 113 (dk_at dksX5_begins_0 6 rfl rfl)
theorem dX5_begins_9 : decode cX5_begins 9 = .ok (.bipush 28, 2) := dk_16 28 (dk_at dksX5_begins_0 9 rfl rfl)
theorem dX5_begins_11 : decode cX5_begins 11 = .ok (.iconst 0, 1) := dk_3 (dk_at dksX5_begins_0 11 rfl rfl)
theorem dX5_begins_12 : decode cX5_begins 12 = .ok (.iastore, 1) := dk_79 (dk_at dksX5_begins_0 12 rfl rfl)
theorem dX5_begins_13 : decode cX5_begins 13 = .ok (.aload_n 0, 1) := dk_42 (dk_at dksX5_begins_0 13 rfl rfl)
theorem dX5_begins_14 : decode cX5_begins 14 = .ok (.getfield 104, 3) := dk_180 0 104 (dk_at dksX5_begins_0 14 rfl rfl)
theorem dX5_begins_17 : decode cX5_begins 17 = .ok (.iconst 0, 1) := dk_3 (dk_at dksX5_begins_0 17 rfl rfl)
theorem dX5_begins_18 : decode cX5_begins 18 = .ok (.iconst 0, 1) := dk_3 (dk_at dksX5_begins_0 18 rfl rfl)
theorem dX5_begins_19 : decode cX5_begins 19 = .ok (.iastore, 1) := dk_79 (dk_at dksX5_begins_0 19 rfl rfl)
theorem dX5_begins_20 : decode cX5_begins 20 = .ok (.aload_n 0, 1) := dk_42 (dk_at dksX5_begins_0 20 rfl rfl)
theorem dX5_begins_21 : decode cX5_begins 21 = .ok (.iconst 0, 1) := dk_3 (dk_at dksX5_begins_0 21 rfl rfl)
theorem dX5_begins_22 : decode cX5_begins 22 = .ok (.putfield 285, 3) := dk_181 1 29 (dk_at dksX5_begins_1 0 rfl rfl)
theorem dX5_begins_25 : decode cX5_begins 25 = .ok (.iconst 0, 1) := dk_3 (dk_at dksX5_begins_1 3 rfl rfl)
theorem dX5_begins_26 : decode cX5_begins 26 = .ok (.istore_n 1, 1) := dk_60 (dk_at dksX5_begins_1 4 rfl rfl)
theorem dX5_begins_27 : decode cX5_begins 27 = .ok (.iload_n 1, 1) := dk_27 (dk_at dksX5_begins_1 5 rfl rfl)
theorem dX5_begins_28 : decode cX5_begins 28 = .ok (.iconst 4, 1) := dk_7 (dk_at dksX5_begins_1 6 rfl rfl)
theorem dX5_begins_29 : decode cX5_begins 29 = .ok (.if_icmp .ge 16, 3) := dk_162 0 16 (dk_at dksX5_begins_1 7 rfl rfl)
theorem dX5_begins_32 : decode cX5_begins 32 = .ok (.aload_n 0, 1) := dk_42 (dk_at dksX5_begins_1 10 rfl rfl)
theorem dX5_begins_33 : decode cX5_begins 33 = .ok (.getfield 116, 3) := dk_180 0 116 (dk_at dksX5_begins_1 11 rfl rfl)
theorem dX5_begins_36 : decode cX5_begins 36 = .ok (.iload_n 1, 1) := dk_27 (dk_at dksX5_begins_1 14 rfl rfl)
theorem dX5_begins_37 : decode cX5_begins 37 = .ok (.iconst 0, 1) := dk_3 (dk_at dksX5_begins_1 15 rfl rfl)
theorem dX5_begins_38 : decode cX5_begins 38 = .ok (.bastore, 1) := dk_84 (dk_at dksX5_begins_1 16 rfl rfl)
theorem dX5_begins_39 : decode cX5_begins 39 = .ok (.iinc 1 1, 3) := dk_132 1 1 (dk_at dksX5_begins_1 17 rfl rfl)
theorem dX5_begins_42 : decode cX5_begins 42 = .ok (.goto (-15), 3) := dk_167 255 241 (dk_at dksX5_begins_1 20 rfl rfl)
theorem dX5_begins_45 : decode cX5_begins 45 = .ok (.return_, 1) := dk_177 (dk_at dksX5_begins_1 23 rfl rfl)
abbrev cX5_starts : ByteArray := prog_23_method_43_code
def yX5_starts : MethodName := ⟨RX5, "starts", "(I)V"⟩
def dkwX5_starts_3 : List UInt8 := [132, 2, 1, 167, 255, 223, 177]
abbrev dktX5_starts_3 : List UInt8 := dkwX5_starts_3 ++ []
def dkwX5_starts_2 : List UInt8 := [162, 0, 29, 42, 180, 0, 113, 27, 16, 20, 96, 28, 96, 42, 180, 0, 89, 16, 68, 28, 96, 46, 79]
abbrev dktX5_starts_2 : List UInt8 := dkwX5_starts_2 ++ dktX5_starts_3
def dkwX5_starts_1 : List UInt8 := [180, 0, 113, 27, 4, 96, 42, 180, 0, 89, 4, 46, 79, 3, 61, 28, 42, 180, 0, 89, 4, 46]
abbrev dktX5_starts_1 : List UInt8 := dkwX5_starts_1 ++ dktX5_starts_2
def dkwX5_starts_0 : List UInt8 := [3, 61, 28, 16, 28, 162, 0, 18, 42, 180, 0, 113, 27, 28, 96, 3, 79, 132, 2, 1, 167, 255, 238, 42]
abbrev dktX5_starts_0 : List UInt8 := dkwX5_starts_0 ++ dktX5_starts_1
theorem dksX5_starts_0 : cX5_starts.data.toList.drop 0 = dktX5_starts_0 := by decide +kernel
theorem dksX5_starts_1 : cX5_starts.data.toList.drop 24 = dktX5_starts_1 := dk_seg dksX5_starts_0 24 rfl rfl
theorem dksX5_starts_2 : cX5_starts.data.toList.drop 46 = dktX5_starts_2 := dk_seg dksX5_starts_1 22 rfl rfl
theorem dksX5_starts_3 : cX5_starts.data.toList.drop 69 = dktX5_starts_3 := dk_seg dksX5_starts_2 23 rfl rfl
theorem dX5_starts_0 : decode cX5_starts 0 = .ok (.iconst 0, 1) := dk_3 (dk_at dksX5_starts_0 0 rfl rfl)
theorem dX5_starts_1 : decode cX5_starts 1 = .ok (.istore_n 2, 1) := dk_61 (dk_at dksX5_starts_0 1 rfl rfl)
theorem dX5_starts_2 : decode cX5_starts 2 = .ok (.iload_n 2, 1) := dk_28 (dk_at dksX5_starts_0 2 rfl rfl)
theorem dX5_starts_3 : decode cX5_starts 3 = .ok (.bipush 28, 2) := dk_16 28 (dk_at dksX5_starts_0 3 rfl rfl)
theorem dX5_starts_5 : decode cX5_starts 5 = .ok (.if_icmp .ge 18, 3) := dk_162 0 18 (dk_at dksX5_starts_0 5 rfl rfl)
theorem dX5_starts_8 : decode cX5_starts 8 = .ok (.aload_n 0, 1) := dk_42 (dk_at dksX5_starts_0 8 rfl rfl)
theorem dX5_starts_9 : decode cX5_starts 9 = .ok (.getfield 113, 3) := dk_180 0 113 (dk_at dksX5_starts_0 9 rfl rfl)
theorem dX5_starts_12 : decode cX5_starts 12 = .ok (.iload_n 1, 1) := dk_27 (dk_at dksX5_starts_0 12 rfl rfl)
theorem dX5_starts_13 : decode cX5_starts 13 = .ok (.iload_n 2, 1) := dk_28 (dk_at dksX5_starts_0 13 rfl rfl)
theorem dX5_starts_14 : decode cX5_starts 14 = .ok (.iadd, 1) := dk_96 (dk_at dksX5_starts_0 14 rfl rfl)
theorem dX5_starts_15 : decode cX5_starts 15 = .ok (.iconst 0, 1) := dk_3 (dk_at dksX5_starts_0 15 rfl rfl)
theorem dX5_starts_16 : decode cX5_starts 16 = .ok (.iastore, 1) := dk_79 (dk_at dksX5_starts_0 16 rfl rfl)
theorem dX5_starts_17 : decode cX5_starts 17 = .ok (.iinc 2 1, 3) := dk_132 2 1 (dk_at dksX5_starts_0 17 rfl rfl)
theorem dX5_starts_20 : decode cX5_starts 20 = .ok (.goto (-18), 3) := dk_167 255 238 (dk_at dksX5_starts_0 20 rfl rfl)
theorem dX5_starts_23 : decode cX5_starts 23 = .ok (.aload_n 0, 1) := dk_42 (dk_at dksX5_starts_0 23 rfl rfl)
theorem dX5_starts_24 : decode cX5_starts 24 = .ok (.getfield 113, 3) := dk_180 0 113 (dk_at dksX5_starts_1 0 rfl rfl)
theorem dX5_starts_27 : decode cX5_starts 27 = .ok (.iload_n 1, 1) := dk_27 (dk_at dksX5_starts_1 3 rfl rfl)
theorem dX5_starts_28 : decode cX5_starts 28 = .ok (.iconst 1, 1) := dk_4 (dk_at dksX5_starts_1 4 rfl rfl)
theorem dX5_starts_29 : decode cX5_starts 29 = .ok (.iadd, 1) := dk_96 (dk_at dksX5_starts_1 5 rfl rfl)
theorem dX5_starts_30 : decode cX5_starts 30 = .ok (.aload_n 0, 1) := dk_42 (dk_at dksX5_starts_1 6 rfl rfl)
theorem dX5_starts_31 : decode cX5_starts 31 = .ok (.getfield 89, 3) := dk_180 0 89 (dk_at dksX5_starts_1 7 rfl rfl)
theorem dX5_starts_34 : decode cX5_starts 34 = .ok (.iconst 1, 1) := dk_4 (dk_at dksX5_starts_1 10 rfl rfl)
theorem dX5_starts_35 : decode cX5_starts 35 = .ok (.iaload, 1) := dk_46 (dk_at dksX5_starts_1 11 rfl rfl)
theorem dX5_starts_36 : decode cX5_starts 36 = .ok (.iastore, 1) := dk_79 (dk_at dksX5_starts_1 12 rfl rfl)
theorem dX5_starts_37 : decode cX5_starts 37 = .ok (.iconst 0, 1) := dk_3 (dk_at dksX5_starts_1 13 rfl rfl)
theorem dX5_starts_38 : decode cX5_starts 38 = .ok (.istore_n 2, 1) := dk_61 (dk_at dksX5_starts_1 14 rfl rfl)
theorem dX5_starts_39 : decode cX5_starts 39 = .ok (.iload_n 2, 1) := dk_28 (dk_at dksX5_starts_1 15 rfl rfl)
theorem dX5_starts_40 : decode cX5_starts 40 = .ok (.aload_n 0, 1) := dk_42 (dk_at dksX5_starts_1 16 rfl rfl)
theorem dX5_starts_41 : decode cX5_starts 41 = .ok (.getfield 89, 3) := dk_180 0 89 (dk_at dksX5_starts_1 17 rfl rfl)
theorem dX5_starts_44 : decode cX5_starts 44 = .ok (.iconst 1, 1) := dk_4 (dk_at dksX5_starts_1 20 rfl rfl)
theorem dX5_starts_45 : decode cX5_starts 45 = .ok (.iaload, 1) := dk_46 (dk_at dksX5_starts_1 21 rfl rfl)
theorem dX5_starts_46 : decode cX5_starts 46 = .ok (.if_icmp .ge 29, 3) := dk_162 0 29 (dk_at dksX5_starts_2 0 rfl rfl)
theorem dX5_starts_49 : decode cX5_starts 49 = .ok (.aload_n 0, 1) := dk_42 (dk_at dksX5_starts_2 3 rfl rfl)
theorem dX5_starts_50 : decode cX5_starts 50 = .ok (.getfield 113, 3) := dk_180 0 113 (dk_at dksX5_starts_2 4 rfl rfl)
theorem dX5_starts_53 : decode cX5_starts 53 = .ok (.iload_n 1, 1) := dk_27 (dk_at dksX5_starts_2 7 rfl rfl)
theorem dX5_starts_54 : decode cX5_starts 54 = .ok (.bipush 20, 2) := dk_16 20 (dk_at dksX5_starts_2 8 rfl rfl)
theorem dX5_starts_56 : decode cX5_starts 56 = .ok (.iadd, 1) := dk_96 (dk_at dksX5_starts_2 10 rfl rfl)
theorem dX5_starts_57 : decode cX5_starts 57 = .ok (.iload_n 2, 1) := dk_28 (dk_at dksX5_starts_2 11 rfl rfl)
theorem dX5_starts_58 : decode cX5_starts 58 = .ok (.iadd, 1) := dk_96 (dk_at dksX5_starts_2 12 rfl rfl)
theorem dX5_starts_59 : decode cX5_starts 59 = .ok (.aload_n 0, 1) := dk_42 (dk_at dksX5_starts_2 13 rfl rfl)
theorem dX5_starts_60 : decode cX5_starts 60 = .ok (.getfield 89, 3) := dk_180 0 89 (dk_at dksX5_starts_2 14 rfl rfl)
theorem dX5_starts_63 : decode cX5_starts 63 = .ok (.bipush 68, 2) := dk_16 68 (dk_at dksX5_starts_2 17 rfl rfl)
theorem dX5_starts_65 : decode cX5_starts 65 = .ok (.iload_n 2, 1) := dk_28 (dk_at dksX5_starts_2 19 rfl rfl)
theorem dX5_starts_66 : decode cX5_starts 66 = .ok (.iadd, 1) := dk_96 (dk_at dksX5_starts_2 20 rfl rfl)
theorem dX5_starts_67 : decode cX5_starts 67 = .ok (.iaload, 1) := dk_46 (dk_at dksX5_starts_2 21 rfl rfl)
theorem dX5_starts_68 : decode cX5_starts 68 = .ok (.iastore, 1) := dk_79 (dk_at dksX5_starts_2 22 rfl rfl)
theorem dX5_starts_69 : decode cX5_starts 69 = .ok (.iinc 2 1, 3) := dk_132 2 1 (dk_at dksX5_starts_3 0 rfl rfl)
theorem dX5_starts_72 : decode cX5_starts 72 = .ok (.goto (-33), 3) := dk_167 255 223 (dk_at dksX5_starts_3 3 rfl rfl)
theorem dX5_starts_75 : decode cX5_starts 75 = .ok (.return_, 1) := dk_177 (dk_at dksX5_starts_3 6 rfl rfl)
abbrev cX5_line : ByteArray := prog_23_method_27_code
def yX5_line : MethodName := ⟨RX5, "line", "()I"⟩
def dkwX5_line_9 : List UInt8 := [180, 0, 202, 181, 0, 205, 42, 182, 0, 148, 3, 172]
abbrev dktX5_line_9 : List UInt8 := dkwX5_line_9 ++ []
def dkwX5_line_8 : List UInt8 := [162, 0, 21, 42, 180, 0, 98, 27, 42, 180, 0, 101, 27, 47, 80, 132, 1, 1, 167, 255, 233, 42, 42]
abbrev dktX5_line_8 : List UInt8 := dkwX5_line_8 ++ dktX5_line_9
def dkwX5_line_7 : List UInt8 := [42, 180, 0, 95, 17, 4, 76, 27, 96, 46, 79, 132, 1, 1, 167, 255, 213, 3, 60, 27, 42, 180, 0, 202]
abbrev dktX5_line_7 : List UInt8 := dkwX5_line_7 ++ dktX5_line_8
def dkwX5_line_6 : List UInt8 := [162, 0, 41, 42, 180, 0, 92, 27, 42, 180, 0, 92, 17, 4, 76, 27, 96, 46, 79, 42, 180, 0, 95, 27]
abbrev dktX5_line_6 : List UInt8 := dkwX5_line_6 ++ dktX5_line_7
def dkwX5_line_5 : List UInt8 := [42, 180, 0, 89, 16, 100, 27, 96, 46, 79, 132, 1, 1, 167, 255, 232, 3, 60, 27, 42, 180, 0, 222]
abbrev dktX5_line_5 : List UInt8 := dkwX5_line_5 ++ dktX5_line_6
def dkwX5_line_4 : List UInt8 := [180, 0, 177, 158, 0, 8, 42, 180, 0, 177, 172, 3, 60, 27, 16, 100, 162, 0, 24, 42, 180, 0, 89, 27]
abbrev dktX5_line_4 : List UInt8 := dkwX5_line_4 ++ dktX5_line_5
def dkwX5_line_3 : List UInt8 := [153, 0, 10, 42, 182, 0, 231, 167, 0, 7, 42, 182, 0, 234, 42, 16, 59, 182, 0, 237, 167, 255, 196, 42]
abbrev dktX5_line_3 : List UInt8 := dkwX5_line_3 ++ dktX5_line_4
def dkwX5_line_2 : List UInt8 := [153, 0, 47, 42, 3, 182, 0, 186, 153, 0, 10, 42, 182, 0, 228, 167, 0, 23, 42, 16, 8, 182, 0, 186]
abbrev dktX5_line_2 : List UInt8 := dkwX5_line_2 ++ dktX5_line_3
def dkwX5_line_1 : List UInt8 := [42, 16, 100, 182, 0, 144, 42, 180, 0, 177, 154, 0, 59, 42, 180, 0, 24, 42, 180, 0, 174, 46]
abbrev dktX5_line_1 : List UInt8 := dkwX5_line_1 ++ dktX5_line_2
def dkwX5_line_0 : List UInt8 := [42, 3, 181, 0, 1, 42, 182, 0, 219, 42, 3, 181, 0, 222, 42, 3, 181, 0, 202, 42, 3, 181, 0, 225]
abbrev dktX5_line_0 : List UInt8 := dkwX5_line_0 ++ dktX5_line_1
theorem dksX5_line_0 : cX5_line.data.toList.drop 0 = dktX5_line_0 := by decide +kernel
theorem dksX5_line_1 : cX5_line.data.toList.drop 24 = dktX5_line_1 := dk_seg dksX5_line_0 24 rfl rfl
theorem dksX5_line_2 : cX5_line.data.toList.drop 46 = dktX5_line_2 := dk_seg dksX5_line_1 22 rfl rfl
theorem dksX5_line_3 : cX5_line.data.toList.drop 70 = dktX5_line_3 := dk_seg dksX5_line_2 24 rfl rfl
theorem dksX5_line_4 : cX5_line.data.toList.drop 94 = dktX5_line_4 := dk_seg dksX5_line_3 24 rfl rfl
theorem dksX5_line_5 : cX5_line.data.toList.drop 118 = dktX5_line_5 := dk_seg dksX5_line_4 24 rfl rfl
theorem dksX5_line_6 : cX5_line.data.toList.drop 141 = dktX5_line_6 := dk_seg dksX5_line_5 23 rfl rfl
theorem dksX5_line_7 : cX5_line.data.toList.drop 165 = dktX5_line_7 := dk_seg dksX5_line_6 24 rfl rfl
theorem dksX5_line_8 : cX5_line.data.toList.drop 189 = dktX5_line_8 := dk_seg dksX5_line_7 24 rfl rfl
theorem dksX5_line_9 : cX5_line.data.toList.drop 212 = dktX5_line_9 := dk_seg dksX5_line_8 23 rfl rfl
theorem dX5_line_0 : decode cX5_line 0 = .ok (.aload_n 0, 1) := dk_42 (dk_at dksX5_line_0 0 rfl rfl)
theorem dX5_line_1 : decode cX5_line 1 = .ok (.iconst 0, 1) := dk_3 (dk_at dksX5_line_0 1 rfl rfl)
theorem dX5_line_2 : decode cX5_line 2 = .ok (.putfield 1, 3) := dk_181 0 1 (dk_at dksX5_line_0 2 rfl rfl)
theorem dX5_line_5 : decode cX5_line 5 = .ok (.aload_n 0, 1) := dk_42 (dk_at dksX5_line_0 5 rfl rfl)
theorem dX5_line_6 : decode cX5_line 6 = .ok (.invokevirtual 219, 3) := dk_182 0 219 (dk_at dksX5_line_0 6 rfl rfl)
theorem dX5_line_9 : decode cX5_line 9 = .ok (.aload_n 0, 1) := dk_42 (dk_at dksX5_line_0 9 rfl rfl)
theorem dX5_line_10 : decode cX5_line 10 = .ok (.iconst 0, 1) := dk_3 (dk_at dksX5_line_0 10 rfl rfl)
theorem dX5_line_11 : decode cX5_line 11 = .ok (.putfield 222, 3) := dk_181 0 222 (dk_at dksX5_line_0 11 rfl rfl)
theorem dX5_line_14 : decode cX5_line 14 = .ok (.aload_n 0, 1) := dk_42 (dk_at dksX5_line_0 14 rfl rfl)
theorem dX5_line_15 : decode cX5_line 15 = .ok (.iconst 0, 1) := dk_3 (dk_at dksX5_line_0 15 rfl rfl)
theorem dX5_line_16 : decode cX5_line 16 = .ok (.putfield 202, 3) := dk_181 0 202 (dk_at dksX5_line_0 16 rfl rfl)
theorem dX5_line_19 : decode cX5_line 19 = .ok (.aload_n 0, 1) := dk_42 (dk_at dksX5_line_0 19 rfl rfl)
theorem dX5_line_20 : decode cX5_line 20 = .ok (.iconst 0, 1) := dk_3 (dk_at dksX5_line_0 20 rfl rfl)
theorem dX5_line_21 : decode cX5_line 21 = .ok (.putfield 225, 3) := dk_181 0 225 (dk_at dksX5_line_0 21 rfl rfl)
theorem dX5_line_24 : decode cX5_line 24 = .ok (.aload_n 0, 1) := dk_42 (dk_at dksX5_line_1 0 rfl rfl)
theorem dX5_line_25 : decode cX5_line 25 = .ok (.bipush 100, 2) := dk_16 100 (dk_at dksX5_line_1 1 rfl rfl)
theorem dX5_line_27 : decode cX5_line 27 = .ok (.invokevirtual 144, 3) := dk_182 0 144 (dk_at dksX5_line_1 3 rfl rfl)
theorem dX5_line_30 : decode cX5_line 30 = .ok (.aload_n 0, 1) := dk_42 (dk_at dksX5_line_1 6 rfl rfl)
theorem dX5_line_31 : decode cX5_line 31 = .ok (.getfield 177, 3) := dk_180 0 177 (dk_at dksX5_line_1 7 rfl rfl)
theorem dX5_line_34 : decode cX5_line 34 = .ok (.ifCond .ne 59, 3) := dk_154 0 59 (dk_at dksX5_line_1 10 rfl rfl)
theorem dX5_line_37 : decode cX5_line 37 = .ok (.aload_n 0, 1) := dk_42 (dk_at dksX5_line_1 13 rfl rfl)
theorem dX5_line_38 : decode cX5_line 38 = .ok (.getfield 24, 3) := dk_180 0 24 (dk_at dksX5_line_1 14 rfl rfl)
theorem dX5_line_41 : decode cX5_line 41 = .ok (.aload_n 0, 1) := dk_42 (dk_at dksX5_line_1 17 rfl rfl)
theorem dX5_line_42 : decode cX5_line 42 = .ok (.getfield 174, 3) := dk_180 0 174 (dk_at dksX5_line_1 18 rfl rfl)
theorem dX5_line_45 : decode cX5_line 45 = .ok (.iaload, 1) := dk_46 (dk_at dksX5_line_1 21 rfl rfl)
theorem dX5_line_46 : decode cX5_line 46 = .ok (.ifCond .eq 47, 3) := dk_153 0 47 (dk_at dksX5_line_2 0 rfl rfl)
theorem dX5_line_49 : decode cX5_line 49 = .ok (.aload_n 0, 1) := dk_42 (dk_at dksX5_line_2 3 rfl rfl)
theorem dX5_line_50 : decode cX5_line 50 = .ok (.iconst 0, 1) := dk_3 (dk_at dksX5_line_2 4 rfl rfl)
theorem dX5_line_51 : decode cX5_line 51 = .ok (.invokevirtual 186, 3) := dk_182 0 186 (dk_at dksX5_line_2 5 rfl rfl)
theorem dX5_line_54 : decode cX5_line 54 = .ok (.ifCond .eq 10, 3) := dk_153 0 10 (dk_at dksX5_line_2 8 rfl rfl)
theorem dX5_line_57 : decode cX5_line 57 = .ok (.aload_n 0, 1) := dk_42 (dk_at dksX5_line_2 11 rfl rfl)
theorem dX5_line_58 : decode cX5_line 58 = .ok (.invokevirtual 228, 3) := dk_182 0 228 (dk_at dksX5_line_2 12 rfl rfl)
theorem dX5_line_61 : decode cX5_line 61 = .ok (.goto 23, 3) := dk_167 0 23 (dk_at dksX5_line_2 15 rfl rfl)
theorem dX5_line_64 : decode cX5_line 64 = .ok (.aload_n 0, 1) := dk_42 (dk_at dksX5_line_2 18 rfl rfl)
theorem dX5_line_65 : decode cX5_line 65 = .ok (.bipush 8, 2) := dk_16 8 (dk_at dksX5_line_2 19 rfl rfl)
theorem dX5_line_67 : decode cX5_line 67 = .ok (.invokevirtual 186, 3) := dk_182 0 186 (dk_at dksX5_line_2 21 rfl rfl)
theorem dX5_line_70 : decode cX5_line 70 = .ok (.ifCond .eq 10, 3) := dk_153 0 10 (dk_at dksX5_line_3 0 rfl rfl)
theorem dX5_line_73 : decode cX5_line 73 = .ok (.aload_n 0, 1) := dk_42 (dk_at dksX5_line_3 3 rfl rfl)
theorem dX5_line_74 : decode cX5_line 74 = .ok (.invokevirtual 231, 3) := dk_182 0 231 (dk_at dksX5_line_3 4 rfl rfl)
theorem dX5_line_77 : decode cX5_line 77 = .ok (.goto 7, 3) := dk_167 0 7 (dk_at dksX5_line_3 7 rfl rfl)
theorem dX5_line_80 : decode cX5_line 80 = .ok (.aload_n 0, 1) := dk_42 (dk_at dksX5_line_3 10 rfl rfl)
theorem dX5_line_81 : decode cX5_line 81 = .ok (.invokevirtual 234, 3) := dk_182 0 234 (dk_at dksX5_line_3 11 rfl rfl)
theorem dX5_line_84 : decode cX5_line 84 = .ok (.aload_n 0, 1) := dk_42 (dk_at dksX5_line_3 14 rfl rfl)
theorem dX5_line_85 : decode cX5_line 85 = .ok (.bipush 59, 2) := dk_16 59 (dk_at dksX5_line_3 15 rfl rfl)
theorem dX5_line_87 : decode cX5_line 87 = .ok (.invokevirtual 237, 3) := dk_182 0 237 (dk_at dksX5_line_3 17 rfl rfl)
theorem dX5_line_90 : decode cX5_line 90 = .ok (.goto (-60), 3) := dk_167 255 196 (dk_at dksX5_line_3 20 rfl rfl)
theorem dX5_line_93 : decode cX5_line 93 = .ok (.aload_n 0, 1) := dk_42 (dk_at dksX5_line_3 23 rfl rfl)
theorem dX5_line_94 : decode cX5_line 94 = .ok (.getfield 177, 3) := dk_180 0 177 (dk_at dksX5_line_4 0 rfl rfl)
theorem dX5_line_97 : decode cX5_line 97 = .ok (.ifCond .le 8, 3) := dk_158 0 8 (dk_at dksX5_line_4 3 rfl rfl)
theorem dX5_line_100 : decode cX5_line 100 = .ok (.aload_n 0, 1) := dk_42 (dk_at dksX5_line_4 6 rfl rfl)
theorem dX5_line_101 : decode cX5_line 101 = .ok (.getfield 177, 3) := dk_180 0 177 (dk_at dksX5_line_4 7 rfl rfl)
theorem dX5_line_104 : decode cX5_line 104 = .ok (.ireturn, 1) := dk_172 (dk_at dksX5_line_4 10 rfl rfl)
theorem dX5_line_105 : decode cX5_line 105 = .ok (.iconst 0, 1) := dk_3 (dk_at dksX5_line_4 11 rfl rfl)
theorem dX5_line_106 : decode cX5_line 106 = .ok (.istore_n 1, 1) := dk_60 (dk_at dksX5_line_4 12 rfl rfl)
theorem dX5_line_107 : decode cX5_line 107 = .ok (.iload_n 1, 1) := dk_27 (dk_at dksX5_line_4 13 rfl rfl)
theorem dX5_line_108 : decode cX5_line 108 = .ok (.bipush 100, 2) := dk_16 100 (dk_at dksX5_line_4 14 rfl rfl)
theorem dX5_line_110 : decode cX5_line 110 = .ok (.if_icmp .ge 24, 3) := dk_162 0 24 (dk_at dksX5_line_4 16 rfl rfl)
theorem dX5_line_113 : decode cX5_line 113 = .ok (.aload_n 0, 1) := dk_42 (dk_at dksX5_line_4 19 rfl rfl)
theorem dX5_line_114 : decode cX5_line 114 = .ok (.getfield 89, 3) := dk_180 0 89 (dk_at dksX5_line_4 20 rfl rfl)
theorem dX5_line_117 : decode cX5_line 117 = .ok (.iload_n 1, 1) := dk_27 (dk_at dksX5_line_4 23 rfl rfl)
theorem dX5_line_118 : decode cX5_line 118 = .ok (.aload_n 0, 1) := dk_42 (dk_at dksX5_line_5 0 rfl rfl)
theorem dX5_line_119 : decode cX5_line 119 = .ok (.getfield 89, 3) := dk_180 0 89 (dk_at dksX5_line_5 1 rfl rfl)
theorem dX5_line_122 : decode cX5_line 122 = .ok (.bipush 100, 2) := dk_16 100 (dk_at dksX5_line_5 4 rfl rfl)
theorem dX5_line_124 : decode cX5_line 124 = .ok (.iload_n 1, 1) := dk_27 (dk_at dksX5_line_5 6 rfl rfl)
theorem dX5_line_125 : decode cX5_line 125 = .ok (.iadd, 1) := dk_96 (dk_at dksX5_line_5 7 rfl rfl)
theorem dX5_line_126 : decode cX5_line 126 = .ok (.iaload, 1) := dk_46 (dk_at dksX5_line_5 8 rfl rfl)
theorem dX5_line_127 : decode cX5_line 127 = .ok (.iastore, 1) := dk_79 (dk_at dksX5_line_5 9 rfl rfl)
theorem dX5_line_128 : decode cX5_line 128 = .ok (.iinc 1 1, 3) := dk_132 1 1 (dk_at dksX5_line_5 10 rfl rfl)
theorem dX5_line_131 : decode cX5_line 131 = .ok (.goto (-24), 3) := dk_167 255 232 (dk_at dksX5_line_5 13 rfl rfl)
theorem dX5_line_134 : decode cX5_line 134 = .ok (.iconst 0, 1) := dk_3 (dk_at dksX5_line_5 16 rfl rfl)
theorem dX5_line_135 : decode cX5_line 135 = .ok (.istore_n 1, 1) := dk_60 (dk_at dksX5_line_5 17 rfl rfl)
theorem dX5_line_136 : decode cX5_line 136 = .ok (.iload_n 1, 1) := dk_27 (dk_at dksX5_line_5 18 rfl rfl)
theorem dX5_line_137 : decode cX5_line 137 = .ok (.aload_n 0, 1) := dk_42 (dk_at dksX5_line_5 19 rfl rfl)
theorem dX5_line_138 : decode cX5_line 138 = .ok (.getfield 222, 3) := dk_180 0 222 (dk_at dksX5_line_5 20 rfl rfl)
theorem dX5_line_141 : decode cX5_line 141 = .ok (.if_icmp .ge 41, 3) := dk_162 0 41 (dk_at dksX5_line_6 0 rfl rfl)
theorem dX5_line_144 : decode cX5_line 144 = .ok (.aload_n 0, 1) := dk_42 (dk_at dksX5_line_6 3 rfl rfl)
theorem dX5_line_145 : decode cX5_line 145 = .ok (.getfield 92, 3) := dk_180 0 92 (dk_at dksX5_line_6 4 rfl rfl)
theorem dX5_line_148 : decode cX5_line 148 = .ok (.iload_n 1, 1) := dk_27 (dk_at dksX5_line_6 7 rfl rfl)
theorem dX5_line_149 : decode cX5_line 149 = .ok (.aload_n 0, 1) := dk_42 (dk_at dksX5_line_6 8 rfl rfl)
theorem dX5_line_150 : decode cX5_line 150 = .ok (.getfield 92, 3) := dk_180 0 92 (dk_at dksX5_line_6 9 rfl rfl)
theorem dX5_line_153 : decode cX5_line 153 = .ok (.sipush 1100, 3) := dk_17 4 76 (dk_at dksX5_line_6 12 rfl rfl)
theorem dX5_line_156 : decode cX5_line 156 = .ok (.iload_n 1, 1) := dk_27 (dk_at dksX5_line_6 15 rfl rfl)
theorem dX5_line_157 : decode cX5_line 157 = .ok (.iadd, 1) := dk_96 (dk_at dksX5_line_6 16 rfl rfl)
theorem dX5_line_158 : decode cX5_line 158 = .ok (.iaload, 1) := dk_46 (dk_at dksX5_line_6 17 rfl rfl)
theorem dX5_line_159 : decode cX5_line 159 = .ok (.iastore, 1) := dk_79 (dk_at dksX5_line_6 18 rfl rfl)
theorem dX5_line_160 : decode cX5_line 160 = .ok (.aload_n 0, 1) := dk_42 (dk_at dksX5_line_6 19 rfl rfl)
theorem dX5_line_161 : decode cX5_line 161 = .ok (.getfield 95, 3) := dk_180 0 95 (dk_at dksX5_line_6 20 rfl rfl)
theorem dX5_line_164 : decode cX5_line 164 = .ok (.iload_n 1, 1) := dk_27 (dk_at dksX5_line_6 23 rfl rfl)
theorem dX5_line_165 : decode cX5_line 165 = .ok (.aload_n 0, 1) := dk_42 (dk_at dksX5_line_7 0 rfl rfl)
theorem dX5_line_166 : decode cX5_line 166 = .ok (.getfield 95, 3) := dk_180 0 95 (dk_at dksX5_line_7 1 rfl rfl)
theorem dX5_line_169 : decode cX5_line 169 = .ok (.sipush 1100, 3) := dk_17 4 76 (dk_at dksX5_line_7 4 rfl rfl)
theorem dX5_line_172 : decode cX5_line 172 = .ok (.iload_n 1, 1) := dk_27 (dk_at dksX5_line_7 7 rfl rfl)
theorem dX5_line_173 : decode cX5_line 173 = .ok (.iadd, 1) := dk_96 (dk_at dksX5_line_7 8 rfl rfl)
theorem dX5_line_174 : decode cX5_line 174 = .ok (.iaload, 1) := dk_46 (dk_at dksX5_line_7 9 rfl rfl)
theorem dX5_line_175 : decode cX5_line 175 = .ok (.iastore, 1) := dk_79 (dk_at dksX5_line_7 10 rfl rfl)
theorem dX5_line_176 : decode cX5_line 176 = .ok (.iinc 1 1, 3) := dk_132 1 1 (dk_at dksX5_line_7 11 rfl rfl)
theorem dX5_line_179 : decode cX5_line 179 = .ok (.goto (-43), 3) := dk_167 255 213 (dk_at dksX5_line_7 14 rfl rfl)
theorem dX5_line_182 : decode cX5_line 182 = .ok (.iconst 0, 1) := dk_3 (dk_at dksX5_line_7 17 rfl rfl)
theorem dX5_line_183 : decode cX5_line 183 = .ok (.istore_n 1, 1) := dk_60 (dk_at dksX5_line_7 18 rfl rfl)
theorem dX5_line_184 : decode cX5_line 184 = .ok (.iload_n 1, 1) := dk_27 (dk_at dksX5_line_7 19 rfl rfl)
theorem dX5_line_185 : decode cX5_line 185 = .ok (.aload_n 0, 1) := dk_42 (dk_at dksX5_line_7 20 rfl rfl)
theorem dX5_line_186 : decode cX5_line 186 = .ok (.getfield 202, 3) := dk_180 0 202 (dk_at dksX5_line_7 21 rfl rfl)
theorem dX5_line_189 : decode cX5_line 189 = .ok (.if_icmp .ge 21, 3) := dk_162 0 21 (dk_at dksX5_line_8 0 rfl rfl)
theorem dX5_line_192 : decode cX5_line 192 = .ok (.aload_n 0, 1) := dk_42 (dk_at dksX5_line_8 3 rfl rfl)
theorem dX5_line_193 : decode cX5_line 193 = .ok (.getfield 98, 3) := dk_180 0 98 (dk_at dksX5_line_8 4 rfl rfl)
theorem dX5_line_196 : decode cX5_line 196 = .ok (.iload_n 1, 1) := dk_27 (dk_at dksX5_line_8 7 rfl rfl)
theorem dX5_line_197 : decode cX5_line 197 = .ok (.aload_n 0, 1) := dk_42 (dk_at dksX5_line_8 8 rfl rfl)
theorem dX5_line_198 : decode cX5_line 198 = .ok (.getfield 101, 3) := dk_180 0 101 (dk_at dksX5_line_8 9 rfl rfl)
theorem dX5_line_201 : decode cX5_line 201 = .ok (.iload_n 1, 1) := dk_27 (dk_at dksX5_line_8 12 rfl rfl)
theorem dX5_line_202 : decode cX5_line 202 = .ok (.laload, 1) := dk_47 (dk_at dksX5_line_8 13 rfl rfl)
theorem dX5_line_203 : decode cX5_line 203 = .ok (.lastore, 1) := dk_80 (dk_at dksX5_line_8 14 rfl rfl)
theorem dX5_line_204 : decode cX5_line 204 = .ok (.iinc 1 1, 3) := dk_132 1 1 (dk_at dksX5_line_8 15 rfl rfl)
theorem dX5_line_207 : decode cX5_line 207 = .ok (.goto (-23), 3) := dk_167 255 233 (dk_at dksX5_line_8 18 rfl rfl)
theorem dX5_line_210 : decode cX5_line 210 = .ok (.aload_n 0, 1) := dk_42 (dk_at dksX5_line_8 21 rfl rfl)
theorem dX5_line_211 : decode cX5_line 211 = .ok (.aload_n 0, 1) := dk_42 (dk_at dksX5_line_8 22 rfl rfl)
theorem dX5_line_212 : decode cX5_line 212 = .ok (.getfield 202, 3) := dk_180 0 202 (dk_at dksX5_line_9 0 rfl rfl)
theorem dX5_line_215 : decode cX5_line 215 = .ok (.putfield 205, 3) := dk_181 0 205 (dk_at dksX5_line_9 3 rfl rfl)
theorem dX5_line_218 : decode cX5_line 218 = .ok (.aload_n 0, 1) := dk_42 (dk_at dksX5_line_9 6 rfl rfl)
theorem dX5_line_219 : decode cX5_line 219 = .ok (.invokevirtual 148, 3) := dk_182 0 148 (dk_at dksX5_line_9 7 rfl rfl)
theorem dX5_line_222 : decode cX5_line 222 = .ok (.iconst 0, 1) := dk_3 (dk_at dksX5_line_9 10 rfl rfl)
theorem dX5_line_223 : decode cX5_line 223 = .ok (.ireturn, 1) := dk_172 (dk_at dksX5_line_9 11 rfl rfl)
abbrev cX5_cutAll : ByteArray := prog_23_method_9_code
def yX5_cutAll : MethodName := ⟨RX5, "cutAll", "()V"⟩
def dkwX5_cutAll_13 : List UInt8 := [181, 0, 177, 177]
abbrev dktX5_cutAll_13 : List UInt8 := dkwX5_cutAll_13 ++ []
def dkwX5_cutAll_12 : List UInt8 := [180, 0, 24, 27, 3, 79, 42, 180, 0, 27, 27, 42, 180, 0, 155, 79, 42, 3, 181, 0, 174, 42, 3]
abbrev dktX5_cutAll_12 : List UInt8 := dkwX5_cutAll_12 ++ dktX5_cutAll_13
def dkwX5_cutAll_11 : List UInt8 := [6, 167, 0, 4, 7, 79, 132, 2, 1, 42, 180, 0, 30, 27, 22, 5, 80, 132, 1, 1, 167, 254, 253, 42]
abbrev dktX5_cutAll_11 : List UInt8 := dkwX5_cutAll_11 ++ dktX5_cutAll_12
def dkwX5_cutAll_10 : List UInt8 := [167, 0, 4, 5, 79, 167, 0, 28, 29, 133, 55, 5, 42, 180, 0, 24, 27, 29, 184, 0, 171, 153, 0, 7]
abbrev dktX5_cutAll_10 : List UInt8 := dkwX5_cutAll_10 ++ dktX5_cutAll_11
def dkwX5_cutAll_9 : List UInt8 := [22, 5, 55, 5, 132, 2, 1, 167, 255, 200, 42, 180, 0, 24, 27, 28, 21, 4, 100, 7, 164, 0, 7, 7]
abbrev dktX5_cutAll_9 : List UInt8 := dkwX5_cutAll_9 ++ dktX5_cutAll_10
def dkwX5_cutAll_8 : List UInt8 := [162, 0, 24, 20, 0, 167, 22, 5, 105, 42, 180, 0, 14, 28, 46, 133, 97, 20, 0, 169, 101, 167, 0, 5]
abbrev dktX5_cutAll_8 : List UInt8 := dkwX5_cutAll_8 ++ dktX5_cutAll_9
def dkwX5_cutAll_7 : List UInt8 := [180, 0, 155, 162, 0, 54, 42, 180, 0, 14, 28, 46, 184, 0, 164, 153, 0, 42, 28, 21, 4, 100, 7]
abbrev dktX5_cutAll_7 : List UInt8 := dkwX5_cutAll_7 ++ dktX5_cutAll_8
def dkwX5_cutAll_6 : List UInt8 := [16, 8, 164, 0, 7, 7, 167, 0, 4, 4, 79, 167, 0, 116, 29, 184, 0, 164, 153, 0, 84, 28, 42]
abbrev dktX5_cutAll_6 : List UInt8 := dkwX5_cutAll_6 ++ dktX5_cutAll_7
def dkwX5_cutAll_5 : List UInt8 := [97, 167, 0, 5, 22, 5, 55, 5, 132, 2, 1, 167, 255, 200, 42, 180, 0, 24, 27, 28, 21, 4, 100]
abbrev dktX5_cutAll_5 : List UInt8 := dkwX5_cutAll_5 ++ dktX5_cutAll_6
def dkwX5_cutAll_4 : List UInt8 := [21, 4, 100, 16, 8, 162, 0, 23, 20, 0, 158, 22, 5, 105, 42, 180, 0, 14, 28, 46, 184, 0, 160, 133]
abbrev dktX5_cutAll_4 : List UInt8 := dkwX5_cutAll_4 ++ dktX5_cutAll_5
def dkwX5_cutAll_3 : List UInt8 := [153, 0, 85, 28, 42, 180, 0, 155, 162, 0, 54, 42, 180, 0, 14, 28, 46, 184, 0, 151, 153, 0, 42, 28]
abbrev dktX5_cutAll_3 : List UInt8 := dkwX5_cutAll_3 ++ dktX5_cutAll_4
def dkwX5_cutAll_2 : List UInt8 := [132, 2, 1, 167, 255, 226, 28, 54, 4, 9, 55, 5, 42, 180, 0, 27, 27, 28, 79, 29, 184, 0, 151]
abbrev dktX5_cutAll_2 : List UInt8 := dkwX5_cutAll_2 ++ dktX5_cutAll_3
def dkwX5_cutAll_1 : List UInt8 := [162, 1, 1, 42, 180, 0, 14, 28, 46, 62, 29, 16, 10, 159, 0, 9, 29, 16, 32, 160, 0, 9]
abbrev dktX5_cutAll_1 : List UInt8 := dkwX5_cutAll_1 ++ dktX5_cutAll_2
def dkwX5_cutAll_0 : List UInt8 := [42, 42, 180, 0, 11, 181, 0, 155, 42, 3, 181, 0, 11, 3, 60, 3, 61, 28, 42, 180, 0, 155]
abbrev dktX5_cutAll_0 : List UInt8 := dkwX5_cutAll_0 ++ dktX5_cutAll_1
theorem dksX5_cutAll_0 : cX5_cutAll.data.toList.drop 0 = dktX5_cutAll_0 := by decide +kernel
theorem dksX5_cutAll_1 : cX5_cutAll.data.toList.drop 22 = dktX5_cutAll_1 := dk_seg dksX5_cutAll_0 22 rfl rfl
theorem dksX5_cutAll_2 : cX5_cutAll.data.toList.drop 44 = dktX5_cutAll_2 := dk_seg dksX5_cutAll_1 22 rfl rfl
theorem dksX5_cutAll_3 : cX5_cutAll.data.toList.drop 67 = dktX5_cutAll_3 := dk_seg dksX5_cutAll_2 23 rfl rfl
theorem dksX5_cutAll_4 : cX5_cutAll.data.toList.drop 91 = dktX5_cutAll_4 := dk_seg dksX5_cutAll_3 24 rfl rfl
theorem dksX5_cutAll_5 : cX5_cutAll.data.toList.drop 115 = dktX5_cutAll_5 := dk_seg dksX5_cutAll_4 24 rfl rfl
theorem dksX5_cutAll_6 : cX5_cutAll.data.toList.drop 138 = dktX5_cutAll_6 := dk_seg dksX5_cutAll_5 23 rfl rfl
theorem dksX5_cutAll_7 : cX5_cutAll.data.toList.drop 161 = dktX5_cutAll_7 := dk_seg dksX5_cutAll_6 23 rfl rfl
theorem dksX5_cutAll_8 : cX5_cutAll.data.toList.drop 184 = dktX5_cutAll_8 := dk_seg dksX5_cutAll_7 23 rfl rfl
theorem dksX5_cutAll_9 : cX5_cutAll.data.toList.drop 208 = dktX5_cutAll_9 := dk_seg dksX5_cutAll_8 24 rfl rfl
theorem dksX5_cutAll_10 : cX5_cutAll.data.toList.drop 232 = dktX5_cutAll_10 := dk_seg dksX5_cutAll_9 24 rfl rfl
theorem dksX5_cutAll_11 : cX5_cutAll.data.toList.drop 256 = dktX5_cutAll_11 := dk_seg dksX5_cutAll_10 24 rfl rfl
theorem dksX5_cutAll_12 : cX5_cutAll.data.toList.drop 280 = dktX5_cutAll_12 := dk_seg dksX5_cutAll_11 24 rfl rfl
theorem dksX5_cutAll_13 : cX5_cutAll.data.toList.drop 303 = dktX5_cutAll_13 := dk_seg dksX5_cutAll_12 23 rfl rfl
theorem dX5_cutAll_0 : decode cX5_cutAll 0 = .ok (.aload_n 0, 1) := dk_42 (dk_at dksX5_cutAll_0 0 rfl rfl)
theorem dX5_cutAll_1 : decode cX5_cutAll 1 = .ok (.aload_n 0, 1) := dk_42 (dk_at dksX5_cutAll_0 1 rfl rfl)
theorem dX5_cutAll_2 : decode cX5_cutAll 2 = .ok (.getfield 11, 3) := dk_180 0 11 (dk_at dksX5_cutAll_0 2 rfl rfl)
theorem dX5_cutAll_5 : decode cX5_cutAll 5 = .ok (.putfield 155, 3) := dk_181 0 155 (dk_at dksX5_cutAll_0 5 rfl rfl)
theorem dX5_cutAll_8 : decode cX5_cutAll 8 = .ok (.aload_n 0, 1) := dk_42 (dk_at dksX5_cutAll_0 8 rfl rfl)
theorem dX5_cutAll_9 : decode cX5_cutAll 9 = .ok (.iconst 0, 1) := dk_3 (dk_at dksX5_cutAll_0 9 rfl rfl)
theorem dX5_cutAll_10 : decode cX5_cutAll 10 = .ok (.putfield 11, 3) := dk_181 0 11 (dk_at dksX5_cutAll_0 10 rfl rfl)
theorem dX5_cutAll_13 : decode cX5_cutAll 13 = .ok (.iconst 0, 1) := dk_3 (dk_at dksX5_cutAll_0 13 rfl rfl)
theorem dX5_cutAll_14 : decode cX5_cutAll 14 = .ok (.istore_n 1, 1) := dk_60 (dk_at dksX5_cutAll_0 14 rfl rfl)
theorem dX5_cutAll_15 : decode cX5_cutAll 15 = .ok (.iconst 0, 1) := dk_3 (dk_at dksX5_cutAll_0 15 rfl rfl)
theorem dX5_cutAll_16 : decode cX5_cutAll 16 = .ok (.istore_n 2, 1) := dk_61 (dk_at dksX5_cutAll_0 16 rfl rfl)
theorem dX5_cutAll_17 : decode cX5_cutAll 17 = .ok (.iload_n 2, 1) := dk_28 (dk_at dksX5_cutAll_0 17 rfl rfl)
theorem dX5_cutAll_18 : decode cX5_cutAll 18 = .ok (.aload_n 0, 1) := dk_42 (dk_at dksX5_cutAll_0 18 rfl rfl)
theorem dX5_cutAll_19 : decode cX5_cutAll 19 = .ok (.getfield 155, 3) := dk_180 0 155 (dk_at dksX5_cutAll_0 19 rfl rfl)
theorem dX5_cutAll_22 : decode cX5_cutAll 22 = .ok (.if_icmp .ge 257, 3) := dk_162 1 1 (dk_at dksX5_cutAll_1 0 rfl rfl)
theorem dX5_cutAll_25 : decode cX5_cutAll 25 = .ok (.aload_n 0, 1) := dk_42 (dk_at dksX5_cutAll_1 3 rfl rfl)
theorem dX5_cutAll_26 : decode cX5_cutAll 26 = .ok (.getfield 14, 3) := dk_180 0 14 (dk_at dksX5_cutAll_1 4 rfl rfl)
theorem dX5_cutAll_29 : decode cX5_cutAll 29 = .ok (.iload_n 2, 1) := dk_28 (dk_at dksX5_cutAll_1 7 rfl rfl)
theorem dX5_cutAll_30 : decode cX5_cutAll 30 = .ok (.iaload, 1) := dk_46 (dk_at dksX5_cutAll_1 8 rfl rfl)
theorem dX5_cutAll_31 : decode cX5_cutAll 31 = .ok (.istore_n 3, 1) := dk_62 (dk_at dksX5_cutAll_1 9 rfl rfl)
theorem dX5_cutAll_32 : decode cX5_cutAll 32 = .ok (.iload_n 3, 1) := dk_29 (dk_at dksX5_cutAll_1 10 rfl rfl)
theorem dX5_cutAll_33 : decode cX5_cutAll 33 = .ok (.bipush 10, 2) := dk_16 10 (dk_at dksX5_cutAll_1 11 rfl rfl)
theorem dX5_cutAll_35 : decode cX5_cutAll 35 = .ok (.if_icmp .eq 9, 3) := dk_159 0 9 (dk_at dksX5_cutAll_1 13 rfl rfl)
theorem dX5_cutAll_38 : decode cX5_cutAll 38 = .ok (.iload_n 3, 1) := dk_29 (dk_at dksX5_cutAll_1 16 rfl rfl)
theorem dX5_cutAll_39 : decode cX5_cutAll 39 = .ok (.bipush 32, 2) := dk_16 32 (dk_at dksX5_cutAll_1 17 rfl rfl)
theorem dX5_cutAll_41 : decode cX5_cutAll 41 = .ok (.if_icmp .ne 9, 3) := dk_160 0 9 (dk_at dksX5_cutAll_1 19 rfl rfl)
theorem dX5_cutAll_44 : decode cX5_cutAll 44 = .ok (.iinc 2 1, 3) := dk_132 2 1 (dk_at dksX5_cutAll_2 0 rfl rfl)
theorem dX5_cutAll_47 : decode cX5_cutAll 47 = .ok (.goto (-30), 3) := dk_167 255 226 (dk_at dksX5_cutAll_2 3 rfl rfl)
theorem dX5_cutAll_50 : decode cX5_cutAll 50 = .ok (.iload_n 2, 1) := dk_28 (dk_at dksX5_cutAll_2 6 rfl rfl)
theorem dX5_cutAll_51 : decode cX5_cutAll 51 = .ok (.istore 4, 2) := dk_54 4 (dk_at dksX5_cutAll_2 7 rfl rfl)
theorem dX5_cutAll_53 : decode cX5_cutAll 53 = .ok (.lconst 0, 1) := dk_9 (dk_at dksX5_cutAll_2 9 rfl rfl)
theorem dX5_cutAll_54 : decode cX5_cutAll 54 = .ok (.lstore 5, 2) := dk_55 5 (dk_at dksX5_cutAll_2 10 rfl rfl)
theorem dX5_cutAll_56 : decode cX5_cutAll 56 = .ok (.aload_n 0, 1) := dk_42 (dk_at dksX5_cutAll_2 12 rfl rfl)
theorem dX5_cutAll_57 : decode cX5_cutAll 57 = .ok (.getfield 27, 3) := dk_180 0 27 (dk_at dksX5_cutAll_2 13 rfl rfl)
theorem dX5_cutAll_60 : decode cX5_cutAll 60 = .ok (.iload_n 1, 1) := dk_27 (dk_at dksX5_cutAll_2 16 rfl rfl)
theorem dX5_cutAll_61 : decode cX5_cutAll 61 = .ok (.iload_n 2, 1) := dk_28 (dk_at dksX5_cutAll_2 17 rfl rfl)
theorem dX5_cutAll_62 : decode cX5_cutAll 62 = .ok (.iastore, 1) := dk_79 (dk_at dksX5_cutAll_2 18 rfl rfl)
theorem dX5_cutAll_63 : decode cX5_cutAll 63 = .ok (.iload_n 3, 1) := dk_29 (dk_at dksX5_cutAll_2 19 rfl rfl)
theorem dX5_cutAll_64 : decode cX5_cutAll 64 = .ok (.invokestatic 151, 3) := dk_184 0 151 (dk_at dksX5_cutAll_2 20 rfl rfl)
theorem dX5_cutAll_67 : decode cX5_cutAll 67 = .ok (.ifCond .eq 85, 3) := dk_153 0 85 (dk_at dksX5_cutAll_3 0 rfl rfl)
theorem dX5_cutAll_70 : decode cX5_cutAll 70 = .ok (.iload_n 2, 1) := dk_28 (dk_at dksX5_cutAll_3 3 rfl rfl)
theorem dX5_cutAll_71 : decode cX5_cutAll 71 = .ok (.aload_n 0, 1) := dk_42 (dk_at dksX5_cutAll_3 4 rfl rfl)
theorem dX5_cutAll_72 : decode cX5_cutAll 72 = .ok (.getfield 155, 3) := dk_180 0 155 (dk_at dksX5_cutAll_3 5 rfl rfl)
theorem dX5_cutAll_75 : decode cX5_cutAll 75 = .ok (.if_icmp .ge 54, 3) := dk_162 0 54 (dk_at dksX5_cutAll_3 8 rfl rfl)
theorem dX5_cutAll_78 : decode cX5_cutAll 78 = .ok (.aload_n 0, 1) := dk_42 (dk_at dksX5_cutAll_3 11 rfl rfl)
theorem dX5_cutAll_79 : decode cX5_cutAll 79 = .ok (.getfield 14, 3) := dk_180 0 14 (dk_at dksX5_cutAll_3 12 rfl rfl)
theorem dX5_cutAll_82 : decode cX5_cutAll 82 = .ok (.iload_n 2, 1) := dk_28 (dk_at dksX5_cutAll_3 15 rfl rfl)
theorem dX5_cutAll_83 : decode cX5_cutAll 83 = .ok (.iaload, 1) := dk_46 (dk_at dksX5_cutAll_3 16 rfl rfl)
theorem dX5_cutAll_84 : decode cX5_cutAll 84 = .ok (.invokestatic 151, 3) := dk_184 0 151 (dk_at dksX5_cutAll_3 17 rfl rfl)
theorem dX5_cutAll_87 : decode cX5_cutAll 87 = .ok (.ifCond .eq 42, 3) := dk_153 0 42 (dk_at dksX5_cutAll_3 20 rfl rfl)
theorem dX5_cutAll_90 : decode cX5_cutAll 90 = .ok (.iload_n 2, 1) := dk_28 (dk_at dksX5_cutAll_3 23 rfl rfl)
theorem dX5_cutAll_91 : decode cX5_cutAll 91 = .ok (.iload 4, 2) := dk_21 4 (dk_at dksX5_cutAll_4 0 rfl rfl)
theorem dX5_cutAll_93 : decode cX5_cutAll 93 = .ok (.isub, 1) := dk_100 (dk_at dksX5_cutAll_4 2 rfl rfl)
theorem dX5_cutAll_94 : decode cX5_cutAll 94 = .ok (.bipush 8, 2) := dk_16 8 (dk_at dksX5_cutAll_4 3 rfl rfl)
theorem dX5_cutAll_96 : decode cX5_cutAll 96 = .ok (.if_icmp .ge 23, 3) := dk_162 0 23 (dk_at dksX5_cutAll_4 5 rfl rfl)
theorem dX5_cutAll_99 : decode cX5_cutAll 99 = .ok (.ldc2_w 158, 3) := dk_20 0 158 (dk_at dksX5_cutAll_4 8 rfl rfl)
theorem dX5_cutAll_102 : decode cX5_cutAll 102 = .ok (.lload 5, 2) := dk_22 5 (dk_at dksX5_cutAll_4 11 rfl rfl)
theorem dX5_cutAll_104 : decode cX5_cutAll 104 = .ok (.lmul, 1) := dk_105 (dk_at dksX5_cutAll_4 13 rfl rfl)
theorem dX5_cutAll_105 : decode cX5_cutAll 105 = .ok (.aload_n 0, 1) := dk_42 (dk_at dksX5_cutAll_4 14 rfl rfl)
theorem dX5_cutAll_106 : decode cX5_cutAll 106 = .ok (.getfield 14, 3) := dk_180 0 14 (dk_at dksX5_cutAll_4 15 rfl rfl)
theorem dX5_cutAll_109 : decode cX5_cutAll 109 = .ok (.iload_n 2, 1) := dk_28 (dk_at dksX5_cutAll_4 18 rfl rfl)
theorem dX5_cutAll_110 : decode cX5_cutAll 110 = .ok (.iaload, 1) := dk_46 (dk_at dksX5_cutAll_4 19 rfl rfl)
theorem dX5_cutAll_111 : decode cX5_cutAll 111 = .ok (.invokestatic 160, 3) := dk_184 0 160 (dk_at dksX5_cutAll_4 20 rfl rfl)
theorem dX5_cutAll_114 : decode cX5_cutAll 114 = .ok (.i2l, 1) := dk_133 (dk_at dksX5_cutAll_4 23 rfl rfl)
theorem dX5_cutAll_115 : decode cX5_cutAll 115 = .ok (.ladd, 1) := dk_97 (dk_at dksX5_cutAll_5 0 rfl rfl)
theorem dX5_cutAll_116 : decode cX5_cutAll 116 = .ok (.goto 5, 3) := dk_167 0 5 (dk_at dksX5_cutAll_5 1 rfl rfl)
theorem dX5_cutAll_119 : decode cX5_cutAll 119 = .ok (.lload 5, 2) := dk_22 5 (dk_at dksX5_cutAll_5 4 rfl rfl)
theorem dX5_cutAll_121 : decode cX5_cutAll 121 = .ok (.lstore 5, 2) := dk_55 5 (dk_at dksX5_cutAll_5 6 rfl rfl)
theorem dX5_cutAll_123 : decode cX5_cutAll 123 = .ok (.iinc 2 1, 3) := dk_132 2 1 (dk_at dksX5_cutAll_5 8 rfl rfl)
theorem dX5_cutAll_126 : decode cX5_cutAll 126 = .ok (.goto (-56), 3) := dk_167 255 200 (dk_at dksX5_cutAll_5 11 rfl rfl)
theorem dX5_cutAll_129 : decode cX5_cutAll 129 = .ok (.aload_n 0, 1) := dk_42 (dk_at dksX5_cutAll_5 14 rfl rfl)
theorem dX5_cutAll_130 : decode cX5_cutAll 130 = .ok (.getfield 24, 3) := dk_180 0 24 (dk_at dksX5_cutAll_5 15 rfl rfl)
theorem dX5_cutAll_133 : decode cX5_cutAll 133 = .ok (.iload_n 1, 1) := dk_27 (dk_at dksX5_cutAll_5 18 rfl rfl)
theorem dX5_cutAll_134 : decode cX5_cutAll 134 = .ok (.iload_n 2, 1) := dk_28 (dk_at dksX5_cutAll_5 19 rfl rfl)
theorem dX5_cutAll_135 : decode cX5_cutAll 135 = .ok (.iload 4, 2) := dk_21 4 (dk_at dksX5_cutAll_5 20 rfl rfl)
theorem dX5_cutAll_137 : decode cX5_cutAll 137 = .ok (.isub, 1) := dk_100 (dk_at dksX5_cutAll_5 22 rfl rfl)
theorem dX5_cutAll_138 : decode cX5_cutAll 138 = .ok (.bipush 8, 2) := dk_16 8 (dk_at dksX5_cutAll_6 0 rfl rfl)
theorem dX5_cutAll_140 : decode cX5_cutAll 140 = .ok (.if_icmp .le 7, 3) := dk_164 0 7 (dk_at dksX5_cutAll_6 2 rfl rfl)
theorem dX5_cutAll_143 : decode cX5_cutAll 143 = .ok (.iconst 4, 1) := dk_7 (dk_at dksX5_cutAll_6 5 rfl rfl)
theorem dX5_cutAll_144 : decode cX5_cutAll 144 = .ok (.goto 4, 3) := dk_167 0 4 (dk_at dksX5_cutAll_6 6 rfl rfl)
theorem dX5_cutAll_147 : decode cX5_cutAll 147 = .ok (.iconst 1, 1) := dk_4 (dk_at dksX5_cutAll_6 9 rfl rfl)
theorem dX5_cutAll_148 : decode cX5_cutAll 148 = .ok (.iastore, 1) := dk_79 (dk_at dksX5_cutAll_6 10 rfl rfl)
theorem dX5_cutAll_149 : decode cX5_cutAll 149 = .ok (.goto 116, 3) := dk_167 0 116 (dk_at dksX5_cutAll_6 11 rfl rfl)
theorem dX5_cutAll_152 : decode cX5_cutAll 152 = .ok (.iload_n 3, 1) := dk_29 (dk_at dksX5_cutAll_6 14 rfl rfl)
theorem dX5_cutAll_153 : decode cX5_cutAll 153 = .ok (.invokestatic 164, 3) := dk_184 0 164 (dk_at dksX5_cutAll_6 15 rfl rfl)
theorem dX5_cutAll_156 : decode cX5_cutAll 156 = .ok (.ifCond .eq 84, 3) := dk_153 0 84 (dk_at dksX5_cutAll_6 18 rfl rfl)
theorem dX5_cutAll_159 : decode cX5_cutAll 159 = .ok (.iload_n 2, 1) := dk_28 (dk_at dksX5_cutAll_6 21 rfl rfl)
theorem dX5_cutAll_160 : decode cX5_cutAll 160 = .ok (.aload_n 0, 1) := dk_42 (dk_at dksX5_cutAll_6 22 rfl rfl)
theorem dX5_cutAll_161 : decode cX5_cutAll 161 = .ok (.getfield 155, 3) := dk_180 0 155 (dk_at dksX5_cutAll_7 0 rfl rfl)
theorem dX5_cutAll_164 : decode cX5_cutAll 164 = .ok (.if_icmp .ge 54, 3) := dk_162 0 54 (dk_at dksX5_cutAll_7 3 rfl rfl)
theorem dX5_cutAll_167 : decode cX5_cutAll 167 = .ok (.aload_n 0, 1) := dk_42 (dk_at dksX5_cutAll_7 6 rfl rfl)
theorem dX5_cutAll_168 : decode cX5_cutAll 168 = .ok (.getfield 14, 3) := dk_180 0 14 (dk_at dksX5_cutAll_7 7 rfl rfl)
theorem dX5_cutAll_171 : decode cX5_cutAll 171 = .ok (.iload_n 2, 1) := dk_28 (dk_at dksX5_cutAll_7 10 rfl rfl)
theorem dX5_cutAll_172 : decode cX5_cutAll 172 = .ok (.iaload, 1) := dk_46 (dk_at dksX5_cutAll_7 11 rfl rfl)
theorem dX5_cutAll_173 : decode cX5_cutAll 173 = .ok (.invokestatic 164, 3) := dk_184 0 164 (dk_at dksX5_cutAll_7 12 rfl rfl)
theorem dX5_cutAll_176 : decode cX5_cutAll 176 = .ok (.ifCond .eq 42, 3) := dk_153 0 42 (dk_at dksX5_cutAll_7 15 rfl rfl)
theorem dX5_cutAll_179 : decode cX5_cutAll 179 = .ok (.iload_n 2, 1) := dk_28 (dk_at dksX5_cutAll_7 18 rfl rfl)
theorem dX5_cutAll_180 : decode cX5_cutAll 180 = .ok (.iload 4, 2) := dk_21 4 (dk_at dksX5_cutAll_7 19 rfl rfl)
theorem dX5_cutAll_182 : decode cX5_cutAll 182 = .ok (.isub, 1) := dk_100 (dk_at dksX5_cutAll_7 21 rfl rfl)
theorem dX5_cutAll_183 : decode cX5_cutAll 183 = .ok (.iconst 4, 1) := dk_7 (dk_at dksX5_cutAll_7 22 rfl rfl)
theorem dX5_cutAll_184 : decode cX5_cutAll 184 = .ok (.if_icmp .ge 24, 3) := dk_162 0 24 (dk_at dksX5_cutAll_8 0 rfl rfl)
theorem dX5_cutAll_187 : decode cX5_cutAll 187 = .ok (.ldc2_w 167, 3) := dk_20 0 167 (dk_at dksX5_cutAll_8 3 rfl rfl)
theorem dX5_cutAll_190 : decode cX5_cutAll 190 = .ok (.lload 5, 2) := dk_22 5 (dk_at dksX5_cutAll_8 6 rfl rfl)
theorem dX5_cutAll_192 : decode cX5_cutAll 192 = .ok (.lmul, 1) := dk_105 (dk_at dksX5_cutAll_8 8 rfl rfl)
theorem dX5_cutAll_193 : decode cX5_cutAll 193 = .ok (.aload_n 0, 1) := dk_42 (dk_at dksX5_cutAll_8 9 rfl rfl)
theorem dX5_cutAll_194 : decode cX5_cutAll 194 = .ok (.getfield 14, 3) := dk_180 0 14 (dk_at dksX5_cutAll_8 10 rfl rfl)
theorem dX5_cutAll_197 : decode cX5_cutAll 197 = .ok (.iload_n 2, 1) := dk_28 (dk_at dksX5_cutAll_8 13 rfl rfl)
theorem dX5_cutAll_198 : decode cX5_cutAll 198 = .ok (.iaload, 1) := dk_46 (dk_at dksX5_cutAll_8 14 rfl rfl)
theorem dX5_cutAll_199 : decode cX5_cutAll 199 = .ok (.i2l, 1) := dk_133 (dk_at dksX5_cutAll_8 15 rfl rfl)
theorem dX5_cutAll_200 : decode cX5_cutAll 200 = .ok (.ladd, 1) := dk_97 (dk_at dksX5_cutAll_8 16 rfl rfl)
theorem dX5_cutAll_201 : decode cX5_cutAll 201 = .ok (.ldc2_w 169, 3) := dk_20 0 169 (dk_at dksX5_cutAll_8 17 rfl rfl)
theorem dX5_cutAll_204 : decode cX5_cutAll 204 = .ok (.lsub, 1) := dk_101 (dk_at dksX5_cutAll_8 20 rfl rfl)
theorem dX5_cutAll_205 : decode cX5_cutAll 205 = .ok (.goto 5, 3) := dk_167 0 5 (dk_at dksX5_cutAll_8 21 rfl rfl)
theorem dX5_cutAll_208 : decode cX5_cutAll 208 = .ok (.lload 5, 2) := dk_22 5 (dk_at dksX5_cutAll_9 0 rfl rfl)
theorem dX5_cutAll_210 : decode cX5_cutAll 210 = .ok (.lstore 5, 2) := dk_55 5 (dk_at dksX5_cutAll_9 2 rfl rfl)
theorem dX5_cutAll_212 : decode cX5_cutAll 212 = .ok (.iinc 2 1, 3) := dk_132 2 1 (dk_at dksX5_cutAll_9 4 rfl rfl)
theorem dX5_cutAll_215 : decode cX5_cutAll 215 = .ok (.goto (-56), 3) := dk_167 255 200 (dk_at dksX5_cutAll_9 7 rfl rfl)
theorem dX5_cutAll_218 : decode cX5_cutAll 218 = .ok (.aload_n 0, 1) := dk_42 (dk_at dksX5_cutAll_9 10 rfl rfl)
theorem dX5_cutAll_219 : decode cX5_cutAll 219 = .ok (.getfield 24, 3) := dk_180 0 24 (dk_at dksX5_cutAll_9 11 rfl rfl)
theorem dX5_cutAll_222 : decode cX5_cutAll 222 = .ok (.iload_n 1, 1) := dk_27 (dk_at dksX5_cutAll_9 14 rfl rfl)
theorem dX5_cutAll_223 : decode cX5_cutAll 223 = .ok (.iload_n 2, 1) := dk_28 (dk_at dksX5_cutAll_9 15 rfl rfl)
theorem dX5_cutAll_224 : decode cX5_cutAll 224 = .ok (.iload 4, 2) := dk_21 4 (dk_at dksX5_cutAll_9 16 rfl rfl)
theorem dX5_cutAll_226 : decode cX5_cutAll 226 = .ok (.isub, 1) := dk_100 (dk_at dksX5_cutAll_9 18 rfl rfl)
theorem dX5_cutAll_227 : decode cX5_cutAll 227 = .ok (.iconst 4, 1) := dk_7 (dk_at dksX5_cutAll_9 19 rfl rfl)
theorem dX5_cutAll_228 : decode cX5_cutAll 228 = .ok (.if_icmp .le 7, 3) := dk_164 0 7 (dk_at dksX5_cutAll_9 20 rfl rfl)
theorem dX5_cutAll_231 : decode cX5_cutAll 231 = .ok (.iconst 4, 1) := dk_7 (dk_at dksX5_cutAll_9 23 rfl rfl)
theorem dX5_cutAll_232 : decode cX5_cutAll 232 = .ok (.goto 4, 3) := dk_167 0 4 (dk_at dksX5_cutAll_10 0 rfl rfl)
theorem dX5_cutAll_235 : decode cX5_cutAll 235 = .ok (.iconst 2, 1) := dk_5 (dk_at dksX5_cutAll_10 3 rfl rfl)
theorem dX5_cutAll_236 : decode cX5_cutAll 236 = .ok (.iastore, 1) := dk_79 (dk_at dksX5_cutAll_10 4 rfl rfl)
theorem dX5_cutAll_237 : decode cX5_cutAll 237 = .ok (.goto 28, 3) := dk_167 0 28 (dk_at dksX5_cutAll_10 5 rfl rfl)
theorem dX5_cutAll_240 : decode cX5_cutAll 240 = .ok (.iload_n 3, 1) := dk_29 (dk_at dksX5_cutAll_10 8 rfl rfl)
theorem dX5_cutAll_241 : decode cX5_cutAll 241 = .ok (.i2l, 1) := dk_133 (dk_at dksX5_cutAll_10 9 rfl rfl)
theorem dX5_cutAll_242 : decode cX5_cutAll 242 = .ok (.lstore 5, 2) := dk_55 5 (dk_at dksX5_cutAll_10 10 rfl rfl)
theorem dX5_cutAll_244 : decode cX5_cutAll 244 = .ok (.aload_n 0, 1) := dk_42 (dk_at dksX5_cutAll_10 12 rfl rfl)
theorem dX5_cutAll_245 : decode cX5_cutAll 245 = .ok (.getfield 24, 3) := dk_180 0 24 (dk_at dksX5_cutAll_10 13 rfl rfl)
theorem dX5_cutAll_248 : decode cX5_cutAll 248 = .ok (.iload_n 1, 1) := dk_27 (dk_at dksX5_cutAll_10 16 rfl rfl)
theorem dX5_cutAll_249 : decode cX5_cutAll 249 = .ok (.iload_n 3, 1) := dk_29 (dk_at dksX5_cutAll_10 17 rfl rfl)
theorem dX5_cutAll_250 : decode cX5_cutAll 250 = .ok (.invokestatic 171, 3) := dk_184 0 171 (dk_at dksX5_cutAll_10 18 rfl rfl)
theorem dX5_cutAll_253 : decode cX5_cutAll 253 = .ok (.ifCond .eq 7, 3) := dk_153 0 7 (dk_at dksX5_cutAll_10 21 rfl rfl)
theorem dX5_cutAll_256 : decode cX5_cutAll 256 = .ok (.iconst 3, 1) := dk_6 (dk_at dksX5_cutAll_11 0 rfl rfl)
theorem dX5_cutAll_257 : decode cX5_cutAll 257 = .ok (.goto 4, 3) := dk_167 0 4 (dk_at dksX5_cutAll_11 1 rfl rfl)
theorem dX5_cutAll_260 : decode cX5_cutAll 260 = .ok (.iconst 4, 1) := dk_7 (dk_at dksX5_cutAll_11 4 rfl rfl)
theorem dX5_cutAll_261 : decode cX5_cutAll 261 = .ok (.iastore, 1) := dk_79 (dk_at dksX5_cutAll_11 5 rfl rfl)
theorem dX5_cutAll_262 : decode cX5_cutAll 262 = .ok (.iinc 2 1, 3) := dk_132 2 1 (dk_at dksX5_cutAll_11 6 rfl rfl)
theorem dX5_cutAll_265 : decode cX5_cutAll 265 = .ok (.aload_n 0, 1) := dk_42 (dk_at dksX5_cutAll_11 9 rfl rfl)
theorem dX5_cutAll_266 : decode cX5_cutAll 266 = .ok (.getfield 30, 3) := dk_180 0 30 (dk_at dksX5_cutAll_11 10 rfl rfl)
theorem dX5_cutAll_269 : decode cX5_cutAll 269 = .ok (.iload_n 1, 1) := dk_27 (dk_at dksX5_cutAll_11 13 rfl rfl)
theorem dX5_cutAll_270 : decode cX5_cutAll 270 = .ok (.lload 5, 2) := dk_22 5 (dk_at dksX5_cutAll_11 14 rfl rfl)
theorem dX5_cutAll_272 : decode cX5_cutAll 272 = .ok (.lastore, 1) := dk_80 (dk_at dksX5_cutAll_11 16 rfl rfl)
theorem dX5_cutAll_273 : decode cX5_cutAll 273 = .ok (.iinc 1 1, 3) := dk_132 1 1 (dk_at dksX5_cutAll_11 17 rfl rfl)
theorem dX5_cutAll_276 : decode cX5_cutAll 276 = .ok (.goto (-259), 3) := dk_167 254 253 (dk_at dksX5_cutAll_11 20 rfl rfl)
theorem dX5_cutAll_279 : decode cX5_cutAll 279 = .ok (.aload_n 0, 1) := dk_42 (dk_at dksX5_cutAll_11 23 rfl rfl)
theorem dX5_cutAll_280 : decode cX5_cutAll 280 = .ok (.getfield 24, 3) := dk_180 0 24 (dk_at dksX5_cutAll_12 0 rfl rfl)
theorem dX5_cutAll_283 : decode cX5_cutAll 283 = .ok (.iload_n 1, 1) := dk_27 (dk_at dksX5_cutAll_12 3 rfl rfl)
theorem dX5_cutAll_284 : decode cX5_cutAll 284 = .ok (.iconst 0, 1) := dk_3 (dk_at dksX5_cutAll_12 4 rfl rfl)
theorem dX5_cutAll_285 : decode cX5_cutAll 285 = .ok (.iastore, 1) := dk_79 (dk_at dksX5_cutAll_12 5 rfl rfl)
theorem dX5_cutAll_286 : decode cX5_cutAll 286 = .ok (.aload_n 0, 1) := dk_42 (dk_at dksX5_cutAll_12 6 rfl rfl)
theorem dX5_cutAll_287 : decode cX5_cutAll 287 = .ok (.getfield 27, 3) := dk_180 0 27 (dk_at dksX5_cutAll_12 7 rfl rfl)
theorem dX5_cutAll_290 : decode cX5_cutAll 290 = .ok (.iload_n 1, 1) := dk_27 (dk_at dksX5_cutAll_12 10 rfl rfl)
theorem dX5_cutAll_291 : decode cX5_cutAll 291 = .ok (.aload_n 0, 1) := dk_42 (dk_at dksX5_cutAll_12 11 rfl rfl)
theorem dX5_cutAll_292 : decode cX5_cutAll 292 = .ok (.getfield 155, 3) := dk_180 0 155 (dk_at dksX5_cutAll_12 12 rfl rfl)
theorem dX5_cutAll_295 : decode cX5_cutAll 295 = .ok (.iastore, 1) := dk_79 (dk_at dksX5_cutAll_12 15 rfl rfl)
theorem dX5_cutAll_296 : decode cX5_cutAll 296 = .ok (.aload_n 0, 1) := dk_42 (dk_at dksX5_cutAll_12 16 rfl rfl)
theorem dX5_cutAll_297 : decode cX5_cutAll 297 = .ok (.iconst 0, 1) := dk_3 (dk_at dksX5_cutAll_12 17 rfl rfl)
theorem dX5_cutAll_298 : decode cX5_cutAll 298 = .ok (.putfield 174, 3) := dk_181 0 174 (dk_at dksX5_cutAll_12 18 rfl rfl)
theorem dX5_cutAll_301 : decode cX5_cutAll 301 = .ok (.aload_n 0, 1) := dk_42 (dk_at dksX5_cutAll_12 21 rfl rfl)
theorem dX5_cutAll_302 : decode cX5_cutAll 302 = .ok (.iconst 0, 1) := dk_3 (dk_at dksX5_cutAll_12 22 rfl rfl)
theorem dX5_cutAll_303 : decode cX5_cutAll 303 = .ok (.putfield 177, 3) := dk_181 0 177 (dk_at dksX5_cutAll_13 0 rfl rfl)
theorem dX5_cutAll_306 : decode cX5_cutAll 306 = .ok (.return_, 1) := dk_177 (dk_at dksX5_cutAll_13 3 rfl rfl)
abbrev cX5_isLetter : ByteArray := prog_23_method_5_code
def yX5_isLetter : MethodName := ⟨RX5, "isLetter", "(I)Z"⟩
def dkwX5_isLetter_0 : List UInt8 := [26, 16, 97, 161, 0, 13, 26, 16, 122, 163, 0, 7, 4, 167, 0, 4, 3, 172]
abbrev dktX5_isLetter_0 : List UInt8 := dkwX5_isLetter_0 ++ []
theorem dksX5_isLetter_0 : cX5_isLetter.data.toList.drop 0 = dktX5_isLetter_0 := by decide +kernel
theorem dX5_isLetter_0 : decode cX5_isLetter 0 = .ok (.iload_n 0, 1) := dk_26 (dk_at dksX5_isLetter_0 0 rfl rfl)
theorem dX5_isLetter_1 : decode cX5_isLetter 1 = .ok (.bipush 97, 2) := dk_16 97 (dk_at dksX5_isLetter_0 1 rfl rfl)
theorem dX5_isLetter_3 : decode cX5_isLetter 3 = .ok (.if_icmp .lt 13, 3) := dk_161 0 13 (dk_at dksX5_isLetter_0 3 rfl rfl)
theorem dX5_isLetter_6 : decode cX5_isLetter 6 = .ok (.iload_n 0, 1) := dk_26 (dk_at dksX5_isLetter_0 6 rfl rfl)
theorem dX5_isLetter_7 : decode cX5_isLetter 7 = .ok (.bipush 122, 2) := dk_16 122 (dk_at dksX5_isLetter_0 7 rfl rfl)
theorem dX5_isLetter_9 : decode cX5_isLetter 9 = .ok (.if_icmp .gt 7, 3) := dk_163 0 7 (dk_at dksX5_isLetter_0 9 rfl rfl)
theorem dX5_isLetter_12 : decode cX5_isLetter 12 = .ok (.iconst 1, 1) := dk_4 (dk_at dksX5_isLetter_0 12 rfl rfl)
theorem dX5_isLetter_13 : decode cX5_isLetter 13 = .ok (.goto 4, 3) := dk_167 0 4 (dk_at dksX5_isLetter_0 13 rfl rfl)
theorem dX5_isLetter_16 : decode cX5_isLetter 16 = .ok (.iconst 0, 1) := dk_3 (dk_at dksX5_isLetter_0 16 rfl rfl)
theorem dX5_isLetter_17 : decode cX5_isLetter 17 = .ok (.ireturn, 1) := dk_172 (dk_at dksX5_isLetter_0 17 rfl rfl)
abbrev cX5_rank : ByteArray := prog_23_method_7_code
def yX5_rank : MethodName := ⟨RX5, "rank", "(I)I"⟩
def dkwX5_rank_0 : List UInt8 := [26, 184, 0, 151, 153, 0, 10, 26, 16, 96, 100, 167, 0, 7, 26, 16, 21, 100, 172]
abbrev dktX5_rank_0 : List UInt8 := dkwX5_rank_0 ++ []
theorem dksX5_rank_0 : cX5_rank.data.toList.drop 0 = dktX5_rank_0 := by decide +kernel
theorem dX5_rank_0 : decode cX5_rank 0 = .ok (.iload_n 0, 1) := dk_26 (dk_at dksX5_rank_0 0 rfl rfl)
theorem dX5_rank_1 : decode cX5_rank 1 = .ok (.invokestatic 151, 3) := dk_184 0 151 (dk_at dksX5_rank_0 1 rfl rfl)
theorem dX5_rank_4 : decode cX5_rank 4 = .ok (.ifCond .eq 10, 3) := dk_153 0 10 (dk_at dksX5_rank_0 4 rfl rfl)
theorem dX5_rank_7 : decode cX5_rank 7 = .ok (.iload_n 0, 1) := dk_26 (dk_at dksX5_rank_0 7 rfl rfl)
theorem dX5_rank_8 : decode cX5_rank 8 = .ok (.bipush 96, 2) := dk_16 96 (dk_at dksX5_rank_0 8 rfl rfl)
theorem dX5_rank_10 : decode cX5_rank 10 = .ok (.isub, 1) := dk_100 (dk_at dksX5_rank_0 10 rfl rfl)
theorem dX5_rank_11 : decode cX5_rank 11 = .ok (.goto 7, 3) := dk_167 0 7 (dk_at dksX5_rank_0 11 rfl rfl)
theorem dX5_rank_14 : decode cX5_rank 14 = .ok (.iload_n 0, 1) := dk_26 (dk_at dksX5_rank_0 14 rfl rfl)
theorem dX5_rank_15 : decode cX5_rank 15 = .ok (.bipush 21, 2) := dk_16 21 (dk_at dksX5_rank_0 15 rfl rfl)
theorem dX5_rank_17 : decode cX5_rank 17 = .ok (.isub, 1) := dk_100 (dk_at dksX5_rank_0 17 rfl rfl)
theorem dX5_rank_18 : decode cX5_rank 18 = .ok (.ireturn, 1) := dk_172 (dk_at dksX5_rank_0 18 rfl rfl)
abbrev cX5_isDigit : ByteArray := prog_23_method_6_code
def yX5_isDigit : MethodName := ⟨RX5, "isDigit", "(I)Z"⟩
def dkwX5_isDigit_0 : List UInt8 := [26, 16, 48, 161, 0, 13, 26, 16, 57, 163, 0, 7, 4, 167, 0, 4, 3, 172]
abbrev dktX5_isDigit_0 : List UInt8 := dkwX5_isDigit_0 ++ []
theorem dksX5_isDigit_0 : cX5_isDigit.data.toList.drop 0 = dktX5_isDigit_0 := by decide +kernel
theorem dX5_isDigit_0 : decode cX5_isDigit 0 = .ok (.iload_n 0, 1) := dk_26 (dk_at dksX5_isDigit_0 0 rfl rfl)
theorem dX5_isDigit_1 : decode cX5_isDigit 1 = .ok (.bipush 48, 2) := dk_16 48 (dk_at dksX5_isDigit_0 1 rfl rfl)
theorem dX5_isDigit_3 : decode cX5_isDigit 3 = .ok (.if_icmp .lt 13, 3) := dk_161 0 13 (dk_at dksX5_isDigit_0 3 rfl rfl)
theorem dX5_isDigit_6 : decode cX5_isDigit 6 = .ok (.iload_n 0, 1) := dk_26 (dk_at dksX5_isDigit_0 6 rfl rfl)
theorem dX5_isDigit_7 : decode cX5_isDigit 7 = .ok (.bipush 57, 2) := dk_16 57 (dk_at dksX5_isDigit_0 7 rfl rfl)
theorem dX5_isDigit_9 : decode cX5_isDigit 9 = .ok (.if_icmp .gt 7, 3) := dk_163 0 7 (dk_at dksX5_isDigit_0 9 rfl rfl)
theorem dX5_isDigit_12 : decode cX5_isDigit 12 = .ok (.iconst 1, 1) := dk_4 (dk_at dksX5_isDigit_0 12 rfl rfl)
theorem dX5_isDigit_13 : decode cX5_isDigit 13 = .ok (.goto 4, 3) := dk_167 0 4 (dk_at dksX5_isDigit_0 13 rfl rfl)
theorem dX5_isDigit_16 : decode cX5_isDigit 16 = .ok (.iconst 0, 1) := dk_3 (dk_at dksX5_isDigit_0 16 rfl rfl)
theorem dX5_isDigit_17 : decode cX5_isDigit 17 = .ok (.ireturn, 1) := dk_172 (dk_at dksX5_isDigit_0 17 rfl rfl)
abbrev cX5_isSignOf : ByteArray := prog_23_method_8_code
def yX5_isSignOf : MethodName := ⟨RX5, "isSignOf", "(I)Z"⟩
def dkwX5_isSignOf_2 : List UInt8 := [4, 167, 0, 4, 3, 172]
abbrev dktX5_isSignOf_2 : List UInt8 := dkwX5_isSignOf_2 ++ []
def dkwX5_isSignOf_1 : List UInt8 := [26, 16, 60, 159, 0, 21, 26, 16, 43, 159, 0, 15, 26, 16, 45, 159, 0, 9, 26, 16, 42, 160, 0, 7]
abbrev dktX5_isSignOf_1 : List UInt8 := dkwX5_isSignOf_1 ++ dktX5_isSignOf_2
def dkwX5_isSignOf_0 : List UInt8 := [26, 16, 40, 159, 0, 45, 26, 16, 41, 159, 0, 39, 26, 16, 59, 159, 0, 33, 26, 16, 61, 159, 0, 27]
abbrev dktX5_isSignOf_0 : List UInt8 := dkwX5_isSignOf_0 ++ dktX5_isSignOf_1
theorem dksX5_isSignOf_0 : cX5_isSignOf.data.toList.drop 0 = dktX5_isSignOf_0 := by decide +kernel
theorem dksX5_isSignOf_1 : cX5_isSignOf.data.toList.drop 24 = dktX5_isSignOf_1 := dk_seg dksX5_isSignOf_0 24 rfl rfl
theorem dksX5_isSignOf_2 : cX5_isSignOf.data.toList.drop 48 = dktX5_isSignOf_2 := dk_seg dksX5_isSignOf_1 24 rfl rfl
theorem dX5_isSignOf_0 : decode cX5_isSignOf 0 = .ok (.iload_n 0, 1) := dk_26 (dk_at dksX5_isSignOf_0 0 rfl rfl)
theorem dX5_isSignOf_1 : decode cX5_isSignOf 1 = .ok (.bipush 40, 2) := dk_16 40 (dk_at dksX5_isSignOf_0 1 rfl rfl)
theorem dX5_isSignOf_3 : decode cX5_isSignOf 3 = .ok (.if_icmp .eq 45, 3) := dk_159 0 45 (dk_at dksX5_isSignOf_0 3 rfl rfl)
theorem dX5_isSignOf_6 : decode cX5_isSignOf 6 = .ok (.iload_n 0, 1) := dk_26 (dk_at dksX5_isSignOf_0 6 rfl rfl)
theorem dX5_isSignOf_7 : decode cX5_isSignOf 7 = .ok (.bipush 41, 2) := dk_16 41 (dk_at dksX5_isSignOf_0 7 rfl rfl)
theorem dX5_isSignOf_9 : decode cX5_isSignOf 9 = .ok (.if_icmp .eq 39, 3) := dk_159 0 39 (dk_at dksX5_isSignOf_0 9 rfl rfl)
theorem dX5_isSignOf_12 : decode cX5_isSignOf 12 = .ok (.iload_n 0, 1) := dk_26 (dk_at dksX5_isSignOf_0 12 rfl rfl)
theorem dX5_isSignOf_13 : decode cX5_isSignOf 13 = .ok (.bipush 59, 2) := dk_16 59 (dk_at dksX5_isSignOf_0 13 rfl rfl)
theorem dX5_isSignOf_15 : decode cX5_isSignOf 15 = .ok (.if_icmp .eq 33, 3) := dk_159 0 33 (dk_at dksX5_isSignOf_0 15 rfl rfl)
theorem dX5_isSignOf_18 : decode cX5_isSignOf 18 = .ok (.iload_n 0, 1) := dk_26 (dk_at dksX5_isSignOf_0 18 rfl rfl)
theorem dX5_isSignOf_19 : decode cX5_isSignOf 19 = .ok (.bipush 61, 2) := dk_16 61 (dk_at dksX5_isSignOf_0 19 rfl rfl)
theorem dX5_isSignOf_21 : decode cX5_isSignOf 21 = .ok (.if_icmp .eq 27, 3) := dk_159 0 27 (dk_at dksX5_isSignOf_0 21 rfl rfl)
theorem dX5_isSignOf_24 : decode cX5_isSignOf 24 = .ok (.iload_n 0, 1) := dk_26 (dk_at dksX5_isSignOf_1 0 rfl rfl)
theorem dX5_isSignOf_25 : decode cX5_isSignOf 25 = .ok (.bipush 60, 2) := dk_16 60 (dk_at dksX5_isSignOf_1 1 rfl rfl)
theorem dX5_isSignOf_27 : decode cX5_isSignOf 27 = .ok (.if_icmp .eq 21, 3) := dk_159 0 21 (dk_at dksX5_isSignOf_1 3 rfl rfl)
theorem dX5_isSignOf_30 : decode cX5_isSignOf 30 = .ok (.iload_n 0, 1) := dk_26 (dk_at dksX5_isSignOf_1 6 rfl rfl)
theorem dX5_isSignOf_31 : decode cX5_isSignOf 31 = .ok (.bipush 43, 2) := dk_16 43 (dk_at dksX5_isSignOf_1 7 rfl rfl)
theorem dX5_isSignOf_33 : decode cX5_isSignOf 33 = .ok (.if_icmp .eq 15, 3) := dk_159 0 15 (dk_at dksX5_isSignOf_1 9 rfl rfl)
theorem dX5_isSignOf_36 : decode cX5_isSignOf 36 = .ok (.iload_n 0, 1) := dk_26 (dk_at dksX5_isSignOf_1 12 rfl rfl)
theorem dX5_isSignOf_37 : decode cX5_isSignOf 37 = .ok (.bipush 45, 2) := dk_16 45 (dk_at dksX5_isSignOf_1 13 rfl rfl)
theorem dX5_isSignOf_39 : decode cX5_isSignOf 39 = .ok (.if_icmp .eq 9, 3) := dk_159 0 9 (dk_at dksX5_isSignOf_1 15 rfl rfl)
theorem dX5_isSignOf_42 : decode cX5_isSignOf 42 = .ok (.iload_n 0, 1) := dk_26 (dk_at dksX5_isSignOf_1 18 rfl rfl)
theorem dX5_isSignOf_43 : decode cX5_isSignOf 43 = .ok (.bipush 42, 2) := dk_16 42 (dk_at dksX5_isSignOf_1 19 rfl rfl)
theorem dX5_isSignOf_45 : decode cX5_isSignOf 45 = .ok (.if_icmp .ne 7, 3) := dk_160 0 7 (dk_at dksX5_isSignOf_1 21 rfl rfl)
theorem dX5_isSignOf_48 : decode cX5_isSignOf 48 = .ok (.iconst 1, 1) := dk_4 (dk_at dksX5_isSignOf_2 0 rfl rfl)
theorem dX5_isSignOf_49 : decode cX5_isSignOf 49 = .ok (.goto 4, 3) := dk_167 0 4 (dk_at dksX5_isSignOf_2 1 rfl rfl)
theorem dX5_isSignOf_52 : decode cX5_isSignOf 52 = .ok (.iconst 0, 1) := dk_3 (dk_at dksX5_isSignOf_2 4 rfl rfl)
theorem dX5_isSignOf_53 : decode cX5_isSignOf 53 = .ok (.ireturn, 1) := dk_172 (dk_at dksX5_isSignOf_2 5 rfl rfl)
abbrev cX5_isWord : ByteArray := prog_23_method_12_code
def yX5_isWord : MethodName := ⟨RX5, "isWord", "(I)Z"⟩
def dkwX5_isWord_1 : List UInt8 := [42, 180, 0, 174, 47, 42, 180, 0, 86, 27, 47, 148, 154, 0, 7, 4, 167, 0, 4, 3, 172]
abbrev dktX5_isWord_1 : List UInt8 := dkwX5_isWord_1 ++ []
def dkwX5_isWord_0 : List UInt8 := [42, 180, 0, 177, 154, 0, 39, 42, 180, 0, 24, 42, 180, 0, 174, 46, 4, 160, 0, 26, 42, 180, 0, 30]
abbrev dktX5_isWord_0 : List UInt8 := dkwX5_isWord_0 ++ dktX5_isWord_1
theorem dksX5_isWord_0 : cX5_isWord.data.toList.drop 0 = dktX5_isWord_0 := by decide +kernel
theorem dksX5_isWord_1 : cX5_isWord.data.toList.drop 24 = dktX5_isWord_1 := dk_seg dksX5_isWord_0 24 rfl rfl
theorem dX5_isWord_0 : decode cX5_isWord 0 = .ok (.aload_n 0, 1) := dk_42 (dk_at dksX5_isWord_0 0 rfl rfl)
theorem dX5_isWord_1 : decode cX5_isWord 1 = .ok (.getfield 177, 3) := dk_180 0 177 (dk_at dksX5_isWord_0 1 rfl rfl)
theorem dX5_isWord_4 : decode cX5_isWord 4 = .ok (.ifCond .ne 39, 3) := dk_154 0 39 (dk_at dksX5_isWord_0 4 rfl rfl)
theorem dX5_isWord_7 : decode cX5_isWord 7 = .ok (.aload_n 0, 1) := dk_42 (dk_at dksX5_isWord_0 7 rfl rfl)
theorem dX5_isWord_8 : decode cX5_isWord 8 = .ok (.getfield 24, 3) := dk_180 0 24 (dk_at dksX5_isWord_0 8 rfl rfl)
theorem dX5_isWord_11 : decode cX5_isWord 11 = .ok (.aload_n 0, 1) := dk_42 (dk_at dksX5_isWord_0 11 rfl rfl)
theorem dX5_isWord_12 : decode cX5_isWord 12 = .ok (.getfield 174, 3) := dk_180 0 174 (dk_at dksX5_isWord_0 12 rfl rfl)
theorem dX5_isWord_15 : decode cX5_isWord 15 = .ok (.iaload, 1) := dk_46 (dk_at dksX5_isWord_0 15 rfl rfl)
theorem dX5_isWord_16 : decode cX5_isWord 16 = .ok (.iconst 1, 1) := dk_4 (dk_at dksX5_isWord_0 16 rfl rfl)
theorem dX5_isWord_17 : decode cX5_isWord 17 = .ok (.if_icmp .ne 26, 3) := dk_160 0 26 (dk_at dksX5_isWord_0 17 rfl rfl)
theorem dX5_isWord_20 : decode cX5_isWord 20 = .ok (.aload_n 0, 1) := dk_42 (dk_at dksX5_isWord_0 20 rfl rfl)
theorem dX5_isWord_21 : decode cX5_isWord 21 = .ok (.getfield 30, 3) := dk_180 0 30 (dk_at dksX5_isWord_0 21 rfl rfl)
theorem dX5_isWord_24 : decode cX5_isWord 24 = .ok (.aload_n 0, 1) := dk_42 (dk_at dksX5_isWord_1 0 rfl rfl)
theorem dX5_isWord_25 : decode cX5_isWord 25 = .ok (.getfield 174, 3) := dk_180 0 174 (dk_at dksX5_isWord_1 1 rfl rfl)
theorem dX5_isWord_28 : decode cX5_isWord 28 = .ok (.laload, 1) := dk_47 (dk_at dksX5_isWord_1 4 rfl rfl)
theorem dX5_isWord_29 : decode cX5_isWord 29 = .ok (.aload_n 0, 1) := dk_42 (dk_at dksX5_isWord_1 5 rfl rfl)
theorem dX5_isWord_30 : decode cX5_isWord 30 = .ok (.getfield 86, 3) := dk_180 0 86 (dk_at dksX5_isWord_1 6 rfl rfl)
theorem dX5_isWord_33 : decode cX5_isWord 33 = .ok (.iload_n 1, 1) := dk_27 (dk_at dksX5_isWord_1 9 rfl rfl)
theorem dX5_isWord_34 : decode cX5_isWord 34 = .ok (.laload, 1) := dk_47 (dk_at dksX5_isWord_1 10 rfl rfl)
theorem dX5_isWord_35 : decode cX5_isWord 35 = .ok (.lcmp, 1) := dk_148 (dk_at dksX5_isWord_1 11 rfl rfl)
theorem dX5_isWord_36 : decode cX5_isWord 36 = .ok (.ifCond .ne 7, 3) := dk_154 0 7 (dk_at dksX5_isWord_1 12 rfl rfl)
theorem dX5_isWord_39 : decode cX5_isWord 39 = .ok (.iconst 1, 1) := dk_4 (dk_at dksX5_isWord_1 15 rfl rfl)
theorem dX5_isWord_40 : decode cX5_isWord 40 = .ok (.goto 4, 3) := dk_167 0 4 (dk_at dksX5_isWord_1 16 rfl rfl)
theorem dX5_isWord_43 : decode cX5_isWord 43 = .ok (.iconst 0, 1) := dk_3 (dk_at dksX5_isWord_1 19 rfl rfl)
theorem dX5_isWord_44 : decode cX5_isWord 44 = .ok (.ireturn, 1) := dk_172 (dk_at dksX5_isWord_1 20 rfl rfl)
abbrev cX5_readCloth : ByteArray := prog_23_method_28_code
def yX5_readCloth : MethodName := ⟨RX5, "readCloth", "()V"⟩
def dkwX5_readCloth_7 : List UInt8 := [3, 16, 99, 182, 0, 243, 79, 42, 180, 0, 89, 16, 100, 92, 46, 4, 96, 79, 177]
abbrev dktX5_readCloth_7 : List UInt8 := dkwX5_readCloth_7 ++ []
def dkwX5_readCloth_6 : List UInt8 := [180, 0, 89, 28, 5, 96, 42, 5, 3, 16, 20, 182, 0, 243, 79, 42, 180, 0, 89, 28, 6, 96, 42, 6]
abbrev dktX5_readCloth_6 : List UInt8 := dkwX5_readCloth_6 ++ dktX5_readCloth_7
def dkwX5_readCloth_5 : List UInt8 := [16, 16, 7, 182, 0, 240, 79, 42, 180, 0, 89, 28, 4, 96, 42, 4, 4, 16, 20, 182, 0, 243, 79, 42]
abbrev dktX5_readCloth_5 : List UInt8 := dkwX5_readCloth_5 ++ dktX5_readCloth_6
def dkwX5_readCloth_4 : List UInt8 := [42, 89, 180, 0, 174, 4, 96, 181, 0, 174, 16, 108, 7, 27, 104, 96, 61, 42, 180, 0, 89, 28, 42]
abbrev dktX5_readCloth_4 : List UInt8 := dkwX5_readCloth_4 ++ dktX5_readCloth_5
def dkwX5_readCloth_3 : List UInt8 := [42, 180, 0, 202, 42, 180, 0, 30, 42, 180, 0, 174, 47, 80, 42, 89, 180, 0, 202, 4, 96, 181, 0, 202]
abbrev dktX5_readCloth_3 : List UInt8 := dkwX5_readCloth_3 ++ dktX5_readCloth_4
def dkwX5_readCloth_2 : List UInt8 := [4, 182, 0, 212, 155, 0, 8, 42, 6, 182, 0, 183, 42, 180, 0, 177, 158, 0, 4, 177, 42, 180, 0, 101]
abbrev dktX5_readCloth_2 : List UInt8 := dkwX5_readCloth_2 ++ dktX5_readCloth_3
def dkwX5_readCloth_1 : List UInt8 := [180, 0, 174, 4, 96, 181, 0, 174, 42, 182, 0, 208, 154, 0, 11, 42, 4, 182, 0, 183, 167, 0, 16, 42]
abbrev dktX5_readCloth_1 : List UInt8 := dkwX5_readCloth_1 ++ dktX5_readCloth_2
def dkwX5_readCloth_0 : List UInt8 := [42, 180, 0, 89, 16, 100, 46, 60, 27, 16, 6, 160, 0, 9, 42, 8, 182, 0, 183, 177, 42, 89]
abbrev dktX5_readCloth_0 : List UInt8 := dkwX5_readCloth_0 ++ dktX5_readCloth_1
theorem dksX5_readCloth_0 : cX5_readCloth.data.toList.drop 0 = dktX5_readCloth_0 := by decide +kernel
theorem dksX5_readCloth_1 : cX5_readCloth.data.toList.drop 22 = dktX5_readCloth_1 := dk_seg dksX5_readCloth_0 22 rfl rfl
theorem dksX5_readCloth_2 : cX5_readCloth.data.toList.drop 46 = dktX5_readCloth_2 := dk_seg dksX5_readCloth_1 24 rfl rfl
theorem dksX5_readCloth_3 : cX5_readCloth.data.toList.drop 70 = dktX5_readCloth_3 := dk_seg dksX5_readCloth_2 24 rfl rfl
theorem dksX5_readCloth_4 : cX5_readCloth.data.toList.drop 94 = dktX5_readCloth_4 := dk_seg dksX5_readCloth_3 24 rfl rfl
theorem dksX5_readCloth_5 : cX5_readCloth.data.toList.drop 117 = dktX5_readCloth_5 := dk_seg dksX5_readCloth_4 23 rfl rfl
theorem dksX5_readCloth_6 : cX5_readCloth.data.toList.drop 141 = dktX5_readCloth_6 := dk_seg dksX5_readCloth_5 24 rfl rfl
theorem dksX5_readCloth_7 : cX5_readCloth.data.toList.drop 165 = dktX5_readCloth_7 := dk_seg dksX5_readCloth_6 24 rfl rfl
theorem dX5_readCloth_0 : decode cX5_readCloth 0 = .ok (.aload_n 0, 1) := dk_42 (dk_at dksX5_readCloth_0 0 rfl rfl)
theorem dX5_readCloth_1 : decode cX5_readCloth 1 = .ok (.getfield 89, 3) := dk_180 0 89 (dk_at dksX5_readCloth_0 1 rfl rfl)
theorem dX5_readCloth_4 : decode cX5_readCloth 4 = .ok (.bipush 100, 2) := dk_16 100 (dk_at dksX5_readCloth_0 4 rfl rfl)
theorem dX5_readCloth_6 : decode cX5_readCloth 6 = .ok (.iaload, 1) := dk_46 (dk_at dksX5_readCloth_0 6 rfl rfl)
theorem dX5_readCloth_7 : decode cX5_readCloth 7 = .ok (.istore_n 1, 1) := dk_60 (dk_at dksX5_readCloth_0 7 rfl rfl)
theorem dX5_readCloth_8 : decode cX5_readCloth 8 = .ok (.iload_n 1, 1) := dk_27 (dk_at dksX5_readCloth_0 8 rfl rfl)
theorem dX5_readCloth_9 : decode cX5_readCloth 9 = .ok (.bipush 6, 2) := dk_16 6 (dk_at dksX5_readCloth_0 9 rfl rfl)
theorem dX5_readCloth_11 : decode cX5_readCloth 11 = .ok (.if_icmp .ne 9, 3) := dk_160 0 9 (dk_at dksX5_readCloth_0 11 rfl rfl)
theorem dX5_readCloth_14 : decode cX5_readCloth 14 = .ok (.aload_n 0, 1) := dk_42 (dk_at dksX5_readCloth_0 14 rfl rfl)
theorem dX5_readCloth_15 : decode cX5_readCloth 15 = .ok (.iconst 5, 1) := dk_8 (dk_at dksX5_readCloth_0 15 rfl rfl)
theorem dX5_readCloth_16 : decode cX5_readCloth 16 = .ok (.invokevirtual 183, 3) := dk_182 0 183 (dk_at dksX5_readCloth_0 16 rfl rfl)
theorem dX5_readCloth_19 : decode cX5_readCloth 19 = .ok (.return_, 1) := dk_177 (dk_at dksX5_readCloth_0 19 rfl rfl)
theorem dX5_readCloth_20 : decode cX5_readCloth 20 = .ok (.aload_n 0, 1) := dk_42 (dk_at dksX5_readCloth_0 20 rfl rfl)
theorem dX5_readCloth_21 : decode cX5_readCloth 21 = .ok (.dup, 1) := dk_89 (dk_at dksX5_readCloth_0 21 rfl rfl)
theorem dX5_readCloth_22 : decode cX5_readCloth 22 = .ok (.getfield 174, 3) := dk_180 0 174 (dk_at dksX5_readCloth_1 0 rfl rfl)
theorem dX5_readCloth_25 : decode cX5_readCloth 25 = .ok (.iconst 1, 1) := dk_4 (dk_at dksX5_readCloth_1 3 rfl rfl)
theorem dX5_readCloth_26 : decode cX5_readCloth 26 = .ok (.iadd, 1) := dk_96 (dk_at dksX5_readCloth_1 4 rfl rfl)
theorem dX5_readCloth_27 : decode cX5_readCloth 27 = .ok (.putfield 174, 3) := dk_181 0 174 (dk_at dksX5_readCloth_1 5 rfl rfl)
theorem dX5_readCloth_30 : decode cX5_readCloth 30 = .ok (.aload_n 0, 1) := dk_42 (dk_at dksX5_readCloth_1 8 rfl rfl)
theorem dX5_readCloth_31 : decode cX5_readCloth 31 = .ok (.invokevirtual 208, 3) := dk_182 0 208 (dk_at dksX5_readCloth_1 9 rfl rfl)
theorem dX5_readCloth_34 : decode cX5_readCloth 34 = .ok (.ifCond .ne 11, 3) := dk_154 0 11 (dk_at dksX5_readCloth_1 12 rfl rfl)
theorem dX5_readCloth_37 : decode cX5_readCloth 37 = .ok (.aload_n 0, 1) := dk_42 (dk_at dksX5_readCloth_1 15 rfl rfl)
theorem dX5_readCloth_38 : decode cX5_readCloth 38 = .ok (.iconst 1, 1) := dk_4 (dk_at dksX5_readCloth_1 16 rfl rfl)
theorem dX5_readCloth_39 : decode cX5_readCloth 39 = .ok (.invokevirtual 183, 3) := dk_182 0 183 (dk_at dksX5_readCloth_1 17 rfl rfl)
theorem dX5_readCloth_42 : decode cX5_readCloth 42 = .ok (.goto 16, 3) := dk_167 0 16 (dk_at dksX5_readCloth_1 20 rfl rfl)
theorem dX5_readCloth_45 : decode cX5_readCloth 45 = .ok (.aload_n 0, 1) := dk_42 (dk_at dksX5_readCloth_1 23 rfl rfl)
theorem dX5_readCloth_46 : decode cX5_readCloth 46 = .ok (.iconst 1, 1) := dk_4 (dk_at dksX5_readCloth_2 0 rfl rfl)
theorem dX5_readCloth_47 : decode cX5_readCloth 47 = .ok (.invokevirtual 212, 3) := dk_182 0 212 (dk_at dksX5_readCloth_2 1 rfl rfl)
theorem dX5_readCloth_50 : decode cX5_readCloth 50 = .ok (.ifCond .lt 8, 3) := dk_155 0 8 (dk_at dksX5_readCloth_2 4 rfl rfl)
theorem dX5_readCloth_53 : decode cX5_readCloth 53 = .ok (.aload_n 0, 1) := dk_42 (dk_at dksX5_readCloth_2 7 rfl rfl)
theorem dX5_readCloth_54 : decode cX5_readCloth 54 = .ok (.iconst 3, 1) := dk_6 (dk_at dksX5_readCloth_2 8 rfl rfl)
theorem dX5_readCloth_55 : decode cX5_readCloth 55 = .ok (.invokevirtual 183, 3) := dk_182 0 183 (dk_at dksX5_readCloth_2 9 rfl rfl)
theorem dX5_readCloth_58 : decode cX5_readCloth 58 = .ok (.aload_n 0, 1) := dk_42 (dk_at dksX5_readCloth_2 12 rfl rfl)
theorem dX5_readCloth_59 : decode cX5_readCloth 59 = .ok (.getfield 177, 3) := dk_180 0 177 (dk_at dksX5_readCloth_2 13 rfl rfl)
theorem dX5_readCloth_62 : decode cX5_readCloth 62 = .ok (.ifCond .le 4, 3) := dk_158 0 4 (dk_at dksX5_readCloth_2 16 rfl rfl)
theorem dX5_readCloth_65 : decode cX5_readCloth 65 = .ok (.return_, 1) := dk_177 (dk_at dksX5_readCloth_2 19 rfl rfl)
theorem dX5_readCloth_66 : decode cX5_readCloth 66 = .ok (.aload_n 0, 1) := dk_42 (dk_at dksX5_readCloth_2 20 rfl rfl)
theorem dX5_readCloth_67 : decode cX5_readCloth 67 = .ok (.getfield 101, 3) := dk_180 0 101 (dk_at dksX5_readCloth_2 21 rfl rfl)
theorem dX5_readCloth_70 : decode cX5_readCloth 70 = .ok (.aload_n 0, 1) := dk_42 (dk_at dksX5_readCloth_3 0 rfl rfl)
theorem dX5_readCloth_71 : decode cX5_readCloth 71 = .ok (.getfield 202, 3) := dk_180 0 202 (dk_at dksX5_readCloth_3 1 rfl rfl)
theorem dX5_readCloth_74 : decode cX5_readCloth 74 = .ok (.aload_n 0, 1) := dk_42 (dk_at dksX5_readCloth_3 4 rfl rfl)
theorem dX5_readCloth_75 : decode cX5_readCloth 75 = .ok (.getfield 30, 3) := dk_180 0 30 (dk_at dksX5_readCloth_3 5 rfl rfl)
theorem dX5_readCloth_78 : decode cX5_readCloth 78 = .ok (.aload_n 0, 1) := dk_42 (dk_at dksX5_readCloth_3 8 rfl rfl)
theorem dX5_readCloth_79 : decode cX5_readCloth 79 = .ok (.getfield 174, 3) := dk_180 0 174 (dk_at dksX5_readCloth_3 9 rfl rfl)
theorem dX5_readCloth_82 : decode cX5_readCloth 82 = .ok (.laload, 1) := dk_47 (dk_at dksX5_readCloth_3 12 rfl rfl)
theorem dX5_readCloth_83 : decode cX5_readCloth 83 = .ok (.lastore, 1) := dk_80 (dk_at dksX5_readCloth_3 13 rfl rfl)
theorem dX5_readCloth_84 : decode cX5_readCloth 84 = .ok (.aload_n 0, 1) := dk_42 (dk_at dksX5_readCloth_3 14 rfl rfl)
theorem dX5_readCloth_85 : decode cX5_readCloth 85 = .ok (.dup, 1) := dk_89 (dk_at dksX5_readCloth_3 15 rfl rfl)
theorem dX5_readCloth_86 : decode cX5_readCloth 86 = .ok (.getfield 202, 3) := dk_180 0 202 (dk_at dksX5_readCloth_3 16 rfl rfl)
theorem dX5_readCloth_89 : decode cX5_readCloth 89 = .ok (.iconst 1, 1) := dk_4 (dk_at dksX5_readCloth_3 19 rfl rfl)
theorem dX5_readCloth_90 : decode cX5_readCloth 90 = .ok (.iadd, 1) := dk_96 (dk_at dksX5_readCloth_3 20 rfl rfl)
theorem dX5_readCloth_91 : decode cX5_readCloth 91 = .ok (.putfield 202, 3) := dk_181 0 202 (dk_at dksX5_readCloth_3 21 rfl rfl)
theorem dX5_readCloth_94 : decode cX5_readCloth 94 = .ok (.aload_n 0, 1) := dk_42 (dk_at dksX5_readCloth_4 0 rfl rfl)
theorem dX5_readCloth_95 : decode cX5_readCloth 95 = .ok (.dup, 1) := dk_89 (dk_at dksX5_readCloth_4 1 rfl rfl)
theorem dX5_readCloth_96 : decode cX5_readCloth 96 = .ok (.getfield 174, 3) := dk_180 0 174 (dk_at dksX5_readCloth_4 2 rfl rfl)
theorem dX5_readCloth_99 : decode cX5_readCloth 99 = .ok (.iconst 1, 1) := dk_4 (dk_at dksX5_readCloth_4 5 rfl rfl)
theorem dX5_readCloth_100 : decode cX5_readCloth 100 = .ok (.iadd, 1) := dk_96 (dk_at dksX5_readCloth_4 6 rfl rfl)
theorem dX5_readCloth_101 : decode cX5_readCloth 101 = .ok (.putfield 174, 3) := dk_181 0 174 (dk_at dksX5_readCloth_4 7 rfl rfl)
theorem dX5_readCloth_104 : decode cX5_readCloth 104 = .ok (.bipush 108, 2) := dk_16 108 (dk_at dksX5_readCloth_4 10 rfl rfl)
theorem dX5_readCloth_106 : decode cX5_readCloth 106 = .ok (.iconst 4, 1) := dk_7 (dk_at dksX5_readCloth_4 12 rfl rfl)
theorem dX5_readCloth_107 : decode cX5_readCloth 107 = .ok (.iload_n 1, 1) := dk_27 (dk_at dksX5_readCloth_4 13 rfl rfl)
theorem dX5_readCloth_108 : decode cX5_readCloth 108 = .ok (.imul, 1) := dk_104 (dk_at dksX5_readCloth_4 14 rfl rfl)
theorem dX5_readCloth_109 : decode cX5_readCloth 109 = .ok (.iadd, 1) := dk_96 (dk_at dksX5_readCloth_4 15 rfl rfl)
theorem dX5_readCloth_110 : decode cX5_readCloth 110 = .ok (.istore_n 2, 1) := dk_61 (dk_at dksX5_readCloth_4 16 rfl rfl)
theorem dX5_readCloth_111 : decode cX5_readCloth 111 = .ok (.aload_n 0, 1) := dk_42 (dk_at dksX5_readCloth_4 17 rfl rfl)
theorem dX5_readCloth_112 : decode cX5_readCloth 112 = .ok (.getfield 89, 3) := dk_180 0 89 (dk_at dksX5_readCloth_4 18 rfl rfl)
theorem dX5_readCloth_115 : decode cX5_readCloth 115 = .ok (.iload_n 2, 1) := dk_28 (dk_at dksX5_readCloth_4 21 rfl rfl)
theorem dX5_readCloth_116 : decode cX5_readCloth 116 = .ok (.aload_n 0, 1) := dk_42 (dk_at dksX5_readCloth_4 22 rfl rfl)
theorem dX5_readCloth_117 : decode cX5_readCloth 117 = .ok (.bipush 16, 2) := dk_16 16 (dk_at dksX5_readCloth_5 0 rfl rfl)
theorem dX5_readCloth_119 : decode cX5_readCloth 119 = .ok (.iconst 4, 1) := dk_7 (dk_at dksX5_readCloth_5 2 rfl rfl)
theorem dX5_readCloth_120 : decode cX5_readCloth 120 = .ok (.invokevirtual 240, 3) := dk_182 0 240 (dk_at dksX5_readCloth_5 3 rfl rfl)
theorem dX5_readCloth_123 : decode cX5_readCloth 123 = .ok (.iastore, 1) := dk_79 (dk_at dksX5_readCloth_5 6 rfl rfl)
theorem dX5_readCloth_124 : decode cX5_readCloth 124 = .ok (.aload_n 0, 1) := dk_42 (dk_at dksX5_readCloth_5 7 rfl rfl)
theorem dX5_readCloth_125 : decode cX5_readCloth 125 = .ok (.getfield 89, 3) := dk_180 0 89 (dk_at dksX5_readCloth_5 8 rfl rfl)
theorem dX5_readCloth_128 : decode cX5_readCloth 128 = .ok (.iload_n 2, 1) := dk_28 (dk_at dksX5_readCloth_5 11 rfl rfl)
theorem dX5_readCloth_129 : decode cX5_readCloth 129 = .ok (.iconst 1, 1) := dk_4 (dk_at dksX5_readCloth_5 12 rfl rfl)
theorem dX5_readCloth_130 : decode cX5_readCloth 130 = .ok (.iadd, 1) := dk_96 (dk_at dksX5_readCloth_5 13 rfl rfl)
theorem dX5_readCloth_131 : decode cX5_readCloth 131 = .ok (.aload_n 0, 1) := dk_42 (dk_at dksX5_readCloth_5 14 rfl rfl)
theorem dX5_readCloth_132 : decode cX5_readCloth 132 = .ok (.iconst 1, 1) := dk_4 (dk_at dksX5_readCloth_5 15 rfl rfl)
theorem dX5_readCloth_133 : decode cX5_readCloth 133 = .ok (.iconst 1, 1) := dk_4 (dk_at dksX5_readCloth_5 16 rfl rfl)
theorem dX5_readCloth_134 : decode cX5_readCloth 134 = .ok (.bipush 20, 2) := dk_16 20 (dk_at dksX5_readCloth_5 17 rfl rfl)
theorem dX5_readCloth_136 : decode cX5_readCloth 136 = .ok (.invokevirtual 243, 3) := dk_182 0 243 (dk_at dksX5_readCloth_5 19 rfl rfl)
theorem dX5_readCloth_139 : decode cX5_readCloth 139 = .ok (.iastore, 1) := dk_79 (dk_at dksX5_readCloth_5 22 rfl rfl)
theorem dX5_readCloth_140 : decode cX5_readCloth 140 = .ok (.aload_n 0, 1) := dk_42 (dk_at dksX5_readCloth_5 23 rfl rfl)
theorem dX5_readCloth_141 : decode cX5_readCloth 141 = .ok (.getfield 89, 3) := dk_180 0 89 (dk_at dksX5_readCloth_6 0 rfl rfl)
theorem dX5_readCloth_144 : decode cX5_readCloth 144 = .ok (.iload_n 2, 1) := dk_28 (dk_at dksX5_readCloth_6 3 rfl rfl)
theorem dX5_readCloth_145 : decode cX5_readCloth 145 = .ok (.iconst 2, 1) := dk_5 (dk_at dksX5_readCloth_6 4 rfl rfl)
theorem dX5_readCloth_146 : decode cX5_readCloth 146 = .ok (.iadd, 1) := dk_96 (dk_at dksX5_readCloth_6 5 rfl rfl)
theorem dX5_readCloth_147 : decode cX5_readCloth 147 = .ok (.aload_n 0, 1) := dk_42 (dk_at dksX5_readCloth_6 6 rfl rfl)
theorem dX5_readCloth_148 : decode cX5_readCloth 148 = .ok (.iconst 2, 1) := dk_5 (dk_at dksX5_readCloth_6 7 rfl rfl)
theorem dX5_readCloth_149 : decode cX5_readCloth 149 = .ok (.iconst 0, 1) := dk_3 (dk_at dksX5_readCloth_6 8 rfl rfl)
theorem dX5_readCloth_150 : decode cX5_readCloth 150 = .ok (.bipush 20, 2) := dk_16 20 (dk_at dksX5_readCloth_6 9 rfl rfl)
theorem dX5_readCloth_152 : decode cX5_readCloth 152 = .ok (.invokevirtual 243, 3) := dk_182 0 243 (dk_at dksX5_readCloth_6 11 rfl rfl)
theorem dX5_readCloth_155 : decode cX5_readCloth 155 = .ok (.iastore, 1) := dk_79 (dk_at dksX5_readCloth_6 14 rfl rfl)
theorem dX5_readCloth_156 : decode cX5_readCloth 156 = .ok (.aload_n 0, 1) := dk_42 (dk_at dksX5_readCloth_6 15 rfl rfl)
theorem dX5_readCloth_157 : decode cX5_readCloth 157 = .ok (.getfield 89, 3) := dk_180 0 89 (dk_at dksX5_readCloth_6 16 rfl rfl)
theorem dX5_readCloth_160 : decode cX5_readCloth 160 = .ok (.iload_n 2, 1) := dk_28 (dk_at dksX5_readCloth_6 19 rfl rfl)
theorem dX5_readCloth_161 : decode cX5_readCloth 161 = .ok (.iconst 3, 1) := dk_6 (dk_at dksX5_readCloth_6 20 rfl rfl)
theorem dX5_readCloth_162 : decode cX5_readCloth 162 = .ok (.iadd, 1) := dk_96 (dk_at dksX5_readCloth_6 21 rfl rfl)
theorem dX5_readCloth_163 : decode cX5_readCloth 163 = .ok (.aload_n 0, 1) := dk_42 (dk_at dksX5_readCloth_6 22 rfl rfl)
theorem dX5_readCloth_164 : decode cX5_readCloth 164 = .ok (.iconst 3, 1) := dk_6 (dk_at dksX5_readCloth_6 23 rfl rfl)
theorem dX5_readCloth_165 : decode cX5_readCloth 165 = .ok (.iconst 0, 1) := dk_3 (dk_at dksX5_readCloth_7 0 rfl rfl)
theorem dX5_readCloth_166 : decode cX5_readCloth 166 = .ok (.bipush 99, 2) := dk_16 99 (dk_at dksX5_readCloth_7 1 rfl rfl)
theorem dX5_readCloth_168 : decode cX5_readCloth 168 = .ok (.invokevirtual 243, 3) := dk_182 0 243 (dk_at dksX5_readCloth_7 3 rfl rfl)
theorem dX5_readCloth_171 : decode cX5_readCloth 171 = .ok (.iastore, 1) := dk_79 (dk_at dksX5_readCloth_7 6 rfl rfl)
theorem dX5_readCloth_172 : decode cX5_readCloth 172 = .ok (.aload_n 0, 1) := dk_42 (dk_at dksX5_readCloth_7 7 rfl rfl)
theorem dX5_readCloth_173 : decode cX5_readCloth 173 = .ok (.getfield 89, 3) := dk_180 0 89 (dk_at dksX5_readCloth_7 8 rfl rfl)
theorem dX5_readCloth_176 : decode cX5_readCloth 176 = .ok (.bipush 100, 2) := dk_16 100 (dk_at dksX5_readCloth_7 11 rfl rfl)
theorem dX5_readCloth_178 : decode cX5_readCloth 178 = .ok (.dup2, 1) := dk_92 (dk_at dksX5_readCloth_7 13 rfl rfl)
theorem dX5_readCloth_179 : decode cX5_readCloth 179 = .ok (.iaload, 1) := dk_46 (dk_at dksX5_readCloth_7 14 rfl rfl)
theorem dX5_readCloth_180 : decode cX5_readCloth 180 = .ok (.iconst 1, 1) := dk_4 (dk_at dksX5_readCloth_7 15 rfl rfl)
theorem dX5_readCloth_181 : decode cX5_readCloth 181 = .ok (.iadd, 1) := dk_96 (dk_at dksX5_readCloth_7 16 rfl rfl)
theorem dX5_readCloth_182 : decode cX5_readCloth 182 = .ok (.iastore, 1) := dk_79 (dk_at dksX5_readCloth_7 17 rfl rfl)
theorem dX5_readCloth_183 : decode cX5_readCloth 183 = .ok (.return_, 1) := dk_177 (dk_at dksX5_readCloth_7 18 rfl rfl)
abbrev cX5_wrong : ByteArray := prog_23_method_10_code
def yX5_wrong : MethodName := ⟨RX5, "wrong", "(I)V"⟩
def dkwX5_wrong_1 : List UInt8 := [181, 0, 177, 177]
abbrev dktX5_wrong_1 : List UInt8 := dkwX5_wrong_1 ++ []
def dkwX5_wrong_0 : List UInt8 := [42, 180, 0, 177, 154, 0, 21, 42, 27, 16, 16, 42, 180, 0, 27, 42, 180, 0, 174, 46, 104, 96]
abbrev dktX5_wrong_0 : List UInt8 := dkwX5_wrong_0 ++ dktX5_wrong_1
theorem dksX5_wrong_0 : cX5_wrong.data.toList.drop 0 = dktX5_wrong_0 := by decide +kernel
theorem dksX5_wrong_1 : cX5_wrong.data.toList.drop 22 = dktX5_wrong_1 := dk_seg dksX5_wrong_0 22 rfl rfl
theorem dX5_wrong_0 : decode cX5_wrong 0 = .ok (.aload_n 0, 1) := dk_42 (dk_at dksX5_wrong_0 0 rfl rfl)
theorem dX5_wrong_1 : decode cX5_wrong 1 = .ok (.getfield 177, 3) := dk_180 0 177 (dk_at dksX5_wrong_0 1 rfl rfl)
theorem dX5_wrong_4 : decode cX5_wrong 4 = .ok (.ifCond .ne 21, 3) := dk_154 0 21 (dk_at dksX5_wrong_0 4 rfl rfl)
theorem dX5_wrong_7 : decode cX5_wrong 7 = .ok (.aload_n 0, 1) := dk_42 (dk_at dksX5_wrong_0 7 rfl rfl)
theorem dX5_wrong_8 : decode cX5_wrong 8 = .ok (.iload_n 1, 1) := dk_27 (dk_at dksX5_wrong_0 8 rfl rfl)
theorem dX5_wrong_9 : decode cX5_wrong 9 = .ok (.bipush 16, 2) := dk_16 16 (dk_at dksX5_wrong_0 9 rfl rfl)
theorem dX5_wrong_11 : decode cX5_wrong 11 = .ok (.aload_n 0, 1) := dk_42 (dk_at dksX5_wrong_0 11 rfl rfl)
theorem dX5_wrong_12 : decode cX5_wrong 12 = .ok (.getfield 27, 3) := dk_180 0 27 (dk_at dksX5_wrong_0 12 rfl rfl)
theorem dX5_wrong_15 : decode cX5_wrong 15 = .ok (.aload_n 0, 1) := dk_42 (dk_at dksX5_wrong_0 15 rfl rfl)
theorem dX5_wrong_16 : decode cX5_wrong 16 = .ok (.getfield 174, 3) := dk_180 0 174 (dk_at dksX5_wrong_0 16 rfl rfl)
theorem dX5_wrong_19 : decode cX5_wrong 19 = .ok (.iaload, 1) := dk_46 (dk_at dksX5_wrong_0 19 rfl rfl)
theorem dX5_wrong_20 : decode cX5_wrong 20 = .ok (.imul, 1) := dk_104 (dk_at dksX5_wrong_0 20 rfl rfl)
theorem dX5_wrong_21 : decode cX5_wrong 21 = .ok (.iadd, 1) := dk_96 (dk_at dksX5_wrong_0 21 rfl rfl)
theorem dX5_wrong_22 : decode cX5_wrong 22 = .ok (.putfield 177, 3) := dk_181 0 177 (dk_at dksX5_wrong_1 0 rfl rfl)
theorem dX5_wrong_25 : decode cX5_wrong 25 = .ok (.return_, 1) := dk_177 (dk_at dksX5_wrong_1 3 rfl rfl)
abbrev cX5_isName : ByteArray := prog_23_method_23_code
def yX5_isName : MethodName := ⟨RX5, "isName", "()Z"⟩
def dkwX5_isName_1 : List UInt8 := [182, 0, 199, 156, 0, 7, 4, 167, 0, 4, 3, 172]
abbrev dktX5_isName_1 : List UInt8 := dkwX5_isName_1 ++ []
def dkwX5_isName_0 : List UInt8 := [42, 180, 0, 177, 154, 0, 30, 42, 180, 0, 24, 42, 180, 0, 174, 46, 4, 160, 0, 17, 42, 3, 16, 23]
abbrev dktX5_isName_0 : List UInt8 := dkwX5_isName_0 ++ dktX5_isName_1
theorem dksX5_isName_0 : cX5_isName.data.toList.drop 0 = dktX5_isName_0 := by decide +kernel
theorem dksX5_isName_1 : cX5_isName.data.toList.drop 24 = dktX5_isName_1 := dk_seg dksX5_isName_0 24 rfl rfl
theorem dX5_isName_0 : decode cX5_isName 0 = .ok (.aload_n 0, 1) := dk_42 (dk_at dksX5_isName_0 0 rfl rfl)
theorem dX5_isName_1 : decode cX5_isName 1 = .ok (.getfield 177, 3) := dk_180 0 177 (dk_at dksX5_isName_0 1 rfl rfl)
theorem dX5_isName_4 : decode cX5_isName 4 = .ok (.ifCond .ne 30, 3) := dk_154 0 30 (dk_at dksX5_isName_0 4 rfl rfl)
theorem dX5_isName_7 : decode cX5_isName 7 = .ok (.aload_n 0, 1) := dk_42 (dk_at dksX5_isName_0 7 rfl rfl)
theorem dX5_isName_8 : decode cX5_isName 8 = .ok (.getfield 24, 3) := dk_180 0 24 (dk_at dksX5_isName_0 8 rfl rfl)
theorem dX5_isName_11 : decode cX5_isName 11 = .ok (.aload_n 0, 1) := dk_42 (dk_at dksX5_isName_0 11 rfl rfl)
theorem dX5_isName_12 : decode cX5_isName 12 = .ok (.getfield 174, 3) := dk_180 0 174 (dk_at dksX5_isName_0 12 rfl rfl)
theorem dX5_isName_15 : decode cX5_isName 15 = .ok (.iaload, 1) := dk_46 (dk_at dksX5_isName_0 15 rfl rfl)
theorem dX5_isName_16 : decode cX5_isName 16 = .ok (.iconst 1, 1) := dk_4 (dk_at dksX5_isName_0 16 rfl rfl)
theorem dX5_isName_17 : decode cX5_isName 17 = .ok (.if_icmp .ne 17, 3) := dk_160 0 17 (dk_at dksX5_isName_0 17 rfl rfl)
theorem dX5_isName_20 : decode cX5_isName 20 = .ok (.aload_n 0, 1) := dk_42 (dk_at dksX5_isName_0 20 rfl rfl)
theorem dX5_isName_21 : decode cX5_isName 21 = .ok (.iconst 0, 1) := dk_3 (dk_at dksX5_isName_0 21 rfl rfl)
theorem dX5_isName_22 : decode cX5_isName 22 = .ok (.bipush 23, 2) := dk_16 23 (dk_at dksX5_isName_0 22 rfl rfl)
theorem dX5_isName_24 : decode cX5_isName 24 = .ok (.invokevirtual 199, 3) := dk_182 0 199 (dk_at dksX5_isName_1 0 rfl rfl)
theorem dX5_isName_27 : decode cX5_isName 27 = .ok (.ifCond .ge 7, 3) := dk_156 0 7 (dk_at dksX5_isName_1 3 rfl rfl)
theorem dX5_isName_30 : decode cX5_isName 30 = .ok (.iconst 1, 1) := dk_4 (dk_at dksX5_isName_1 6 rfl rfl)
theorem dX5_isName_31 : decode cX5_isName 31 = .ok (.goto 4, 3) := dk_167 0 4 (dk_at dksX5_isName_1 7 rfl rfl)
theorem dX5_isName_34 : decode cX5_isName 34 = .ok (.iconst 0, 1) := dk_3 (dk_at dksX5_isName_1 10 rfl rfl)
theorem dX5_isName_35 : decode cX5_isName 35 = .ok (.ireturn, 1) := dk_172 (dk_at dksX5_isName_1 11 rfl rfl)
abbrev cX5_wordHere : ByteArray := prog_23_method_21_code
def yX5_wordHere : MethodName := ⟨RX5, "wordHere", "(II)I"⟩
def dkwX5_wordHere_1 : List UInt8 := [167, 0, 4, 29, 62, 132, 4, 1, 167, 255, 229, 29, 172]
abbrev dktX5_wordHere_1 : List UInt8 := dkwX5_wordHere_1 ++ []
def dkwX5_wordHere_0 : List UInt8 := [2, 62, 3, 54, 4, 21, 4, 28, 162, 0, 27, 42, 27, 21, 4, 96, 182, 0, 186, 153, 0, 8, 21, 4]
abbrev dktX5_wordHere_0 : List UInt8 := dkwX5_wordHere_0 ++ dktX5_wordHere_1
theorem dksX5_wordHere_0 : cX5_wordHere.data.toList.drop 0 = dktX5_wordHere_0 := by decide +kernel
theorem dksX5_wordHere_1 : cX5_wordHere.data.toList.drop 24 = dktX5_wordHere_1 := dk_seg dksX5_wordHere_0 24 rfl rfl
theorem dX5_wordHere_0 : decode cX5_wordHere 0 = .ok (.iconst (-1), 1) := dk_2 (dk_at dksX5_wordHere_0 0 rfl rfl)
theorem dX5_wordHere_1 : decode cX5_wordHere 1 = .ok (.istore_n 3, 1) := dk_62 (dk_at dksX5_wordHere_0 1 rfl rfl)
theorem dX5_wordHere_2 : decode cX5_wordHere 2 = .ok (.iconst 0, 1) := dk_3 (dk_at dksX5_wordHere_0 2 rfl rfl)
theorem dX5_wordHere_3 : decode cX5_wordHere 3 = .ok (.istore 4, 2) := dk_54 4 (dk_at dksX5_wordHere_0 3 rfl rfl)
theorem dX5_wordHere_5 : decode cX5_wordHere 5 = .ok (.iload 4, 2) := dk_21 4 (dk_at dksX5_wordHere_0 5 rfl rfl)
theorem dX5_wordHere_7 : decode cX5_wordHere 7 = .ok (.iload_n 2, 1) := dk_28 (dk_at dksX5_wordHere_0 7 rfl rfl)
theorem dX5_wordHere_8 : decode cX5_wordHere 8 = .ok (.if_icmp .ge 27, 3) := dk_162 0 27 (dk_at dksX5_wordHere_0 8 rfl rfl)
theorem dX5_wordHere_11 : decode cX5_wordHere 11 = .ok (.aload_n 0, 1) := dk_42 (dk_at dksX5_wordHere_0 11 rfl rfl)
theorem dX5_wordHere_12 : decode cX5_wordHere 12 = .ok (.iload_n 1, 1) := dk_27 (dk_at dksX5_wordHere_0 12 rfl rfl)
theorem dX5_wordHere_13 : decode cX5_wordHere 13 = .ok (.iload 4, 2) := dk_21 4 (dk_at dksX5_wordHere_0 13 rfl rfl)
theorem dX5_wordHere_15 : decode cX5_wordHere 15 = .ok (.iadd, 1) := dk_96 (dk_at dksX5_wordHere_0 15 rfl rfl)
theorem dX5_wordHere_16 : decode cX5_wordHere 16 = .ok (.invokevirtual 186, 3) := dk_182 0 186 (dk_at dksX5_wordHere_0 16 rfl rfl)
theorem dX5_wordHere_19 : decode cX5_wordHere 19 = .ok (.ifCond .eq 8, 3) := dk_153 0 8 (dk_at dksX5_wordHere_0 19 rfl rfl)
theorem dX5_wordHere_22 : decode cX5_wordHere 22 = .ok (.iload 4, 2) := dk_21 4 (dk_at dksX5_wordHere_0 22 rfl rfl)
theorem dX5_wordHere_24 : decode cX5_wordHere 24 = .ok (.goto 4, 3) := dk_167 0 4 (dk_at dksX5_wordHere_1 0 rfl rfl)
theorem dX5_wordHere_27 : decode cX5_wordHere 27 = .ok (.iload_n 3, 1) := dk_29 (dk_at dksX5_wordHere_1 3 rfl rfl)
theorem dX5_wordHere_28 : decode cX5_wordHere 28 = .ok (.istore_n 3, 1) := dk_62 (dk_at dksX5_wordHere_1 4 rfl rfl)
theorem dX5_wordHere_29 : decode cX5_wordHere 29 = .ok (.iinc 4 1, 3) := dk_132 4 1 (dk_at dksX5_wordHere_1 5 rfl rfl)
theorem dX5_wordHere_32 : decode cX5_wordHere 32 = .ok (.goto (-27), 3) := dk_167 255 229 (dk_at dksX5_wordHere_1 8 rfl rfl)
theorem dX5_wordHere_35 : decode cX5_wordHere 35 = .ok (.iload_n 3, 1) := dk_29 (dk_at dksX5_wordHere_1 11 rfl rfl)
theorem dX5_wordHere_36 : decode cX5_wordHere 36 = .ok (.ireturn, 1) := dk_172 (dk_at dksX5_wordHere_1 12 rfl rfl)
abbrev cX5_find : ByteArray := prog_23_method_24_code
def yX5_find : MethodName := ⟨RX5, "find", "(Z)I"⟩
def dkwX5_find_2 : List UInt8 := [180, 0, 174, 47, 148, 154, 0, 7, 29, 167, 0, 4, 28, 61, 132, 3, 1, 167, 255, 196, 28, 172]
abbrev dktX5_find_2 : List UInt8 := dkwX5_find_2 ++ []
def dkwX5_find_1 : List UInt8 := [153, 0, 12, 42, 180, 0, 101, 29, 47, 167, 0, 9, 42, 180, 0, 98, 29, 47, 42, 180, 0, 30, 42]
abbrev dktX5_find_1 : List UInt8 := dkwX5_find_1 ++ dktX5_find_2
def dkwX5_find_0 : List UInt8 := [2, 61, 3, 62, 29, 27, 153, 0, 10, 42, 180, 0, 202, 167, 0, 7, 42, 180, 0, 205, 162, 0, 47, 27]
abbrev dktX5_find_0 : List UInt8 := dkwX5_find_0 ++ dktX5_find_1
theorem dksX5_find_0 : cX5_find.data.toList.drop 0 = dktX5_find_0 := by decide +kernel
theorem dksX5_find_1 : cX5_find.data.toList.drop 24 = dktX5_find_1 := dk_seg dksX5_find_0 24 rfl rfl
theorem dksX5_find_2 : cX5_find.data.toList.drop 47 = dktX5_find_2 := dk_seg dksX5_find_1 23 rfl rfl
theorem dX5_find_0 : decode cX5_find 0 = .ok (.iconst (-1), 1) := dk_2 (dk_at dksX5_find_0 0 rfl rfl)
theorem dX5_find_1 : decode cX5_find 1 = .ok (.istore_n 2, 1) := dk_61 (dk_at dksX5_find_0 1 rfl rfl)
theorem dX5_find_2 : decode cX5_find 2 = .ok (.iconst 0, 1) := dk_3 (dk_at dksX5_find_0 2 rfl rfl)
theorem dX5_find_3 : decode cX5_find 3 = .ok (.istore_n 3, 1) := dk_62 (dk_at dksX5_find_0 3 rfl rfl)
theorem dX5_find_4 : decode cX5_find 4 = .ok (.iload_n 3, 1) := dk_29 (dk_at dksX5_find_0 4 rfl rfl)
theorem dX5_find_5 : decode cX5_find 5 = .ok (.iload_n 1, 1) := dk_27 (dk_at dksX5_find_0 5 rfl rfl)
theorem dX5_find_6 : decode cX5_find 6 = .ok (.ifCond .eq 10, 3) := dk_153 0 10 (dk_at dksX5_find_0 6 rfl rfl)
theorem dX5_find_9 : decode cX5_find 9 = .ok (.aload_n 0, 1) := dk_42 (dk_at dksX5_find_0 9 rfl rfl)
theorem dX5_find_10 : decode cX5_find 10 = .ok (.getfield 202, 3) := dk_180 0 202 (dk_at dksX5_find_0 10 rfl rfl)
theorem dX5_find_13 : decode cX5_find 13 = .ok (.goto 7, 3) := dk_167 0 7 (dk_at dksX5_find_0 13 rfl rfl)
theorem dX5_find_16 : decode cX5_find 16 = .ok (.aload_n 0, 1) := dk_42 (dk_at dksX5_find_0 16 rfl rfl)
theorem dX5_find_17 : decode cX5_find 17 = .ok (.getfield 205, 3) := dk_180 0 205 (dk_at dksX5_find_0 17 rfl rfl)
theorem dX5_find_20 : decode cX5_find 20 = .ok (.if_icmp .ge 47, 3) := dk_162 0 47 (dk_at dksX5_find_0 20 rfl rfl)
theorem dX5_find_23 : decode cX5_find 23 = .ok (.iload_n 1, 1) := dk_27 (dk_at dksX5_find_0 23 rfl rfl)
theorem dX5_find_24 : decode cX5_find 24 = .ok (.ifCond .eq 12, 3) := dk_153 0 12 (dk_at dksX5_find_1 0 rfl rfl)
theorem dX5_find_27 : decode cX5_find 27 = .ok (.aload_n 0, 1) := dk_42 (dk_at dksX5_find_1 3 rfl rfl)
theorem dX5_find_28 : decode cX5_find 28 = .ok (.getfield 101, 3) := dk_180 0 101 (dk_at dksX5_find_1 4 rfl rfl)
theorem dX5_find_31 : decode cX5_find 31 = .ok (.iload_n 3, 1) := dk_29 (dk_at dksX5_find_1 7 rfl rfl)
theorem dX5_find_32 : decode cX5_find 32 = .ok (.laload, 1) := dk_47 (dk_at dksX5_find_1 8 rfl rfl)
theorem dX5_find_33 : decode cX5_find 33 = .ok (.goto 9, 3) := dk_167 0 9 (dk_at dksX5_find_1 9 rfl rfl)
theorem dX5_find_36 : decode cX5_find 36 = .ok (.aload_n 0, 1) := dk_42 (dk_at dksX5_find_1 12 rfl rfl)
theorem dX5_find_37 : decode cX5_find 37 = .ok (.getfield 98, 3) := dk_180 0 98 (dk_at dksX5_find_1 13 rfl rfl)
theorem dX5_find_40 : decode cX5_find 40 = .ok (.iload_n 3, 1) := dk_29 (dk_at dksX5_find_1 16 rfl rfl)
theorem dX5_find_41 : decode cX5_find 41 = .ok (.laload, 1) := dk_47 (dk_at dksX5_find_1 17 rfl rfl)
theorem dX5_find_42 : decode cX5_find 42 = .ok (.aload_n 0, 1) := dk_42 (dk_at dksX5_find_1 18 rfl rfl)
theorem dX5_find_43 : decode cX5_find 43 = .ok (.getfield 30, 3) := dk_180 0 30 (dk_at dksX5_find_1 19 rfl rfl)
theorem dX5_find_46 : decode cX5_find 46 = .ok (.aload_n 0, 1) := dk_42 (dk_at dksX5_find_1 22 rfl rfl)
theorem dX5_find_47 : decode cX5_find 47 = .ok (.getfield 174, 3) := dk_180 0 174 (dk_at dksX5_find_2 0 rfl rfl)
theorem dX5_find_50 : decode cX5_find 50 = .ok (.laload, 1) := dk_47 (dk_at dksX5_find_2 3 rfl rfl)
theorem dX5_find_51 : decode cX5_find 51 = .ok (.lcmp, 1) := dk_148 (dk_at dksX5_find_2 4 rfl rfl)
theorem dX5_find_52 : decode cX5_find 52 = .ok (.ifCond .ne 7, 3) := dk_154 0 7 (dk_at dksX5_find_2 5 rfl rfl)
theorem dX5_find_55 : decode cX5_find 55 = .ok (.iload_n 3, 1) := dk_29 (dk_at dksX5_find_2 8 rfl rfl)
theorem dX5_find_56 : decode cX5_find 56 = .ok (.goto 4, 3) := dk_167 0 4 (dk_at dksX5_find_2 9 rfl rfl)
theorem dX5_find_59 : decode cX5_find 59 = .ok (.iload_n 2, 1) := dk_28 (dk_at dksX5_find_2 12 rfl rfl)
theorem dX5_find_60 : decode cX5_find 60 = .ok (.istore_n 2, 1) := dk_61 (dk_at dksX5_find_2 13 rfl rfl)
theorem dX5_find_61 : decode cX5_find 61 = .ok (.iinc 3 1, 3) := dk_132 3 1 (dk_at dksX5_find_2 14 rfl rfl)
theorem dX5_find_64 : decode cX5_find 64 = .ok (.goto (-60), 3) := dk_167 255 196 (dk_at dksX5_find_2 17 rfl rfl)
theorem dX5_find_67 : decode cX5_find 67 = .ok (.iload_n 2, 1) := dk_28 (dk_at dksX5_find_2 20 rfl rfl)
theorem dX5_find_68 : decode cX5_find 68 = .ok (.ireturn, 1) := dk_172 (dk_at dksX5_find_2 21 rfl rfl)
abbrev cX5_takeOne : ByteArray := prog_23_method_22_code
def yX5_takeOne : MethodName := ⟨RX5, "takeOne", "(II)I"⟩
def dkwX5_takeOne_2 : List UInt8 := [3, 167, 0, 4, 4, 96, 181, 0, 174, 42, 180, 0, 177, 158, 0, 7, 3, 167, 0, 4, 29, 172]
abbrev dktX5_takeOne_2 : List UInt8 := dkwX5_takeOne_2 ++ []
def dkwX5_takeOne_1 : List UInt8 := [154, 0, 12, 29, 156, 0, 8, 42, 4, 182, 0, 183, 42, 89, 180, 0, 174, 42, 180, 0, 177, 158, 0, 7]
abbrev dktX5_takeOne_1 : List UInt8 := dkwX5_takeOne_1 ++ dktX5_takeOne_2
def dkwX5_takeOne_0 : List UInt8 := [42, 180, 0, 177, 158, 0, 7, 2, 167, 0, 9, 42, 27, 28, 182, 0, 199, 62, 42, 180, 0, 177]
abbrev dktX5_takeOne_0 : List UInt8 := dkwX5_takeOne_0 ++ dktX5_takeOne_1
theorem dksX5_takeOne_0 : cX5_takeOne.data.toList.drop 0 = dktX5_takeOne_0 := by decide +kernel
theorem dksX5_takeOne_1 : cX5_takeOne.data.toList.drop 22 = dktX5_takeOne_1 := dk_seg dksX5_takeOne_0 22 rfl rfl
theorem dksX5_takeOne_2 : cX5_takeOne.data.toList.drop 46 = dktX5_takeOne_2 := dk_seg dksX5_takeOne_1 24 rfl rfl
theorem dX5_takeOne_0 : decode cX5_takeOne 0 = .ok (.aload_n 0, 1) := dk_42 (dk_at dksX5_takeOne_0 0 rfl rfl)
theorem dX5_takeOne_1 : decode cX5_takeOne 1 = .ok (.getfield 177, 3) := dk_180 0 177 (dk_at dksX5_takeOne_0 1 rfl rfl)
theorem dX5_takeOne_4 : decode cX5_takeOne 4 = .ok (.ifCond .le 7, 3) := dk_158 0 7 (dk_at dksX5_takeOne_0 4 rfl rfl)
theorem dX5_takeOne_7 : decode cX5_takeOne 7 = .ok (.iconst (-1), 1) := dk_2 (dk_at dksX5_takeOne_0 7 rfl rfl)
theorem dX5_takeOne_8 : decode cX5_takeOne 8 = .ok (.goto 9, 3) := dk_167 0 9 (dk_at dksX5_takeOne_0 8 rfl rfl)
theorem dX5_takeOne_11 : decode cX5_takeOne 11 = .ok (.aload_n 0, 1) := dk_42 (dk_at dksX5_takeOne_0 11 rfl rfl)
theorem dX5_takeOne_12 : decode cX5_takeOne 12 = .ok (.iload_n 1, 1) := dk_27 (dk_at dksX5_takeOne_0 12 rfl rfl)
theorem dX5_takeOne_13 : decode cX5_takeOne 13 = .ok (.iload_n 2, 1) := dk_28 (dk_at dksX5_takeOne_0 13 rfl rfl)
theorem dX5_takeOne_14 : decode cX5_takeOne 14 = .ok (.invokevirtual 199, 3) := dk_182 0 199 (dk_at dksX5_takeOne_0 14 rfl rfl)
theorem dX5_takeOne_17 : decode cX5_takeOne 17 = .ok (.istore_n 3, 1) := dk_62 (dk_at dksX5_takeOne_0 17 rfl rfl)
theorem dX5_takeOne_18 : decode cX5_takeOne 18 = .ok (.aload_n 0, 1) := dk_42 (dk_at dksX5_takeOne_0 18 rfl rfl)
theorem dX5_takeOne_19 : decode cX5_takeOne 19 = .ok (.getfield 177, 3) := dk_180 0 177 (dk_at dksX5_takeOne_0 19 rfl rfl)
theorem dX5_takeOne_22 : decode cX5_takeOne 22 = .ok (.ifCond .ne 12, 3) := dk_154 0 12 (dk_at dksX5_takeOne_1 0 rfl rfl)
theorem dX5_takeOne_25 : decode cX5_takeOne 25 = .ok (.iload_n 3, 1) := dk_29 (dk_at dksX5_takeOne_1 3 rfl rfl)
theorem dX5_takeOne_26 : decode cX5_takeOne 26 = .ok (.ifCond .ge 8, 3) := dk_156 0 8 (dk_at dksX5_takeOne_1 4 rfl rfl)
theorem dX5_takeOne_29 : decode cX5_takeOne 29 = .ok (.aload_n 0, 1) := dk_42 (dk_at dksX5_takeOne_1 7 rfl rfl)
theorem dX5_takeOne_30 : decode cX5_takeOne 30 = .ok (.iconst 1, 1) := dk_4 (dk_at dksX5_takeOne_1 8 rfl rfl)
theorem dX5_takeOne_31 : decode cX5_takeOne 31 = .ok (.invokevirtual 183, 3) := dk_182 0 183 (dk_at dksX5_takeOne_1 9 rfl rfl)
theorem dX5_takeOne_34 : decode cX5_takeOne 34 = .ok (.aload_n 0, 1) := dk_42 (dk_at dksX5_takeOne_1 12 rfl rfl)
theorem dX5_takeOne_35 : decode cX5_takeOne 35 = .ok (.dup, 1) := dk_89 (dk_at dksX5_takeOne_1 13 rfl rfl)
theorem dX5_takeOne_36 : decode cX5_takeOne 36 = .ok (.getfield 174, 3) := dk_180 0 174 (dk_at dksX5_takeOne_1 14 rfl rfl)
theorem dX5_takeOne_39 : decode cX5_takeOne 39 = .ok (.aload_n 0, 1) := dk_42 (dk_at dksX5_takeOne_1 17 rfl rfl)
theorem dX5_takeOne_40 : decode cX5_takeOne 40 = .ok (.getfield 177, 3) := dk_180 0 177 (dk_at dksX5_takeOne_1 18 rfl rfl)
theorem dX5_takeOne_43 : decode cX5_takeOne 43 = .ok (.ifCond .le 7, 3) := dk_158 0 7 (dk_at dksX5_takeOne_1 21 rfl rfl)
theorem dX5_takeOne_46 : decode cX5_takeOne 46 = .ok (.iconst 0, 1) := dk_3 (dk_at dksX5_takeOne_2 0 rfl rfl)
theorem dX5_takeOne_47 : decode cX5_takeOne 47 = .ok (.goto 4, 3) := dk_167 0 4 (dk_at dksX5_takeOne_2 1 rfl rfl)
theorem dX5_takeOne_50 : decode cX5_takeOne 50 = .ok (.iconst 1, 1) := dk_4 (dk_at dksX5_takeOne_2 4 rfl rfl)
theorem dX5_takeOne_51 : decode cX5_takeOne 51 = .ok (.iadd, 1) := dk_96 (dk_at dksX5_takeOne_2 5 rfl rfl)
theorem dX5_takeOne_52 : decode cX5_takeOne 52 = .ok (.putfield 174, 3) := dk_181 0 174 (dk_at dksX5_takeOne_2 6 rfl rfl)
theorem dX5_takeOne_55 : decode cX5_takeOne 55 = .ok (.aload_n 0, 1) := dk_42 (dk_at dksX5_takeOne_2 9 rfl rfl)
theorem dX5_takeOne_56 : decode cX5_takeOne 56 = .ok (.getfield 177, 3) := dk_180 0 177 (dk_at dksX5_takeOne_2 10 rfl rfl)
theorem dX5_takeOne_59 : decode cX5_takeOne 59 = .ok (.ifCond .le 7, 3) := dk_158 0 7 (dk_at dksX5_takeOne_2 13 rfl rfl)
theorem dX5_takeOne_62 : decode cX5_takeOne 62 = .ok (.iconst 0, 1) := dk_3 (dk_at dksX5_takeOne_2 16 rfl rfl)
theorem dX5_takeOne_63 : decode cX5_takeOne 63 = .ok (.goto 4, 3) := dk_167 0 4 (dk_at dksX5_takeOne_2 17 rfl rfl)
theorem dX5_takeOne_66 : decode cX5_takeOne 66 = .ok (.iload_n 3, 1) := dk_29 (dk_at dksX5_takeOne_2 20 rfl rfl)
theorem dX5_takeOne_67 : decode cX5_takeOne 67 = .ok (.ireturn, 1) := dk_172 (dk_at dksX5_takeOne_2 21 rfl rfl)
abbrev cX5_takeAfter : ByteArray := prog_23_method_20_code
def yX5_takeAfter : MethodName := ⟨RX5, "takeAfter", "(III)I"⟩
def dkwX5_takeAfter_0 : List UInt8 := [42, 27, 182, 0, 192, 42, 28, 29, 182, 0, 195, 172]
abbrev dktX5_takeAfter_0 : List UInt8 := dkwX5_takeAfter_0 ++ []
theorem dksX5_takeAfter_0 : cX5_takeAfter.data.toList.drop 0 = dktX5_takeAfter_0 := by decide +kernel
theorem dX5_takeAfter_0 : decode cX5_takeAfter 0 = .ok (.aload_n 0, 1) := dk_42 (dk_at dksX5_takeAfter_0 0 rfl rfl)
theorem dX5_takeAfter_1 : decode cX5_takeAfter 1 = .ok (.iload_n 1, 1) := dk_27 (dk_at dksX5_takeAfter_0 1 rfl rfl)
theorem dX5_takeAfter_2 : decode cX5_takeAfter 2 = .ok (.invokevirtual 192, 3) := dk_182 0 192 (dk_at dksX5_takeAfter_0 2 rfl rfl)
theorem dX5_takeAfter_5 : decode cX5_takeAfter 5 = .ok (.aload_n 0, 1) := dk_42 (dk_at dksX5_takeAfter_0 5 rfl rfl)
theorem dX5_takeAfter_6 : decode cX5_takeAfter 6 = .ok (.iload_n 2, 1) := dk_28 (dk_at dksX5_takeAfter_0 6 rfl rfl)
theorem dX5_takeAfter_7 : decode cX5_takeAfter 7 = .ok (.iload_n 3, 1) := dk_29 (dk_at dksX5_takeAfter_0 7 rfl rfl)
theorem dX5_takeAfter_8 : decode cX5_takeAfter 8 = .ok (.invokevirtual 195, 3) := dk_182 0 195 (dk_at dksX5_takeAfter_0 8 rfl rfl)
theorem dX5_takeAfter_11 : decode cX5_takeAfter 11 = .ok (.ireturn, 1) := dk_172 (dk_at dksX5_takeAfter_0 11 rfl rfl)
abbrev cX5_takeWord : ByteArray := prog_23_method_16_code
def yX5_takeWord : MethodName := ⟨RX5, "takeWord", "(I)V"⟩
def dkwX5_takeWord_0 : List UInt8 := [42, 27, 182, 0, 189, 154, 0, 8, 42, 4, 182, 0, 183, 177]
abbrev dktX5_takeWord_0 : List UInt8 := dkwX5_takeWord_0 ++ []
theorem dksX5_takeWord_0 : cX5_takeWord.data.toList.drop 0 = dktX5_takeWord_0 := by decide +kernel
theorem dX5_takeWord_0 : decode cX5_takeWord 0 = .ok (.aload_n 0, 1) := dk_42 (dk_at dksX5_takeWord_0 0 rfl rfl)
theorem dX5_takeWord_1 : decode cX5_takeWord 1 = .ok (.iload_n 1, 1) := dk_27 (dk_at dksX5_takeWord_0 1 rfl rfl)
theorem dX5_takeWord_2 : decode cX5_takeWord 2 = .ok (.invokevirtual 189, 3) := dk_182 0 189 (dk_at dksX5_takeWord_0 2 rfl rfl)
theorem dX5_takeWord_5 : decode cX5_takeWord 5 = .ok (.ifCond .ne 8, 3) := dk_154 0 8 (dk_at dksX5_takeWord_0 5 rfl rfl)
theorem dX5_takeWord_8 : decode cX5_takeWord 8 = .ok (.aload_n 0, 1) := dk_42 (dk_at dksX5_takeWord_0 8 rfl rfl)
theorem dX5_takeWord_9 : decode cX5_takeWord 9 = .ok (.iconst 1, 1) := dk_4 (dk_at dksX5_takeWord_0 9 rfl rfl)
theorem dX5_takeWord_10 : decode cX5_takeWord 10 = .ok (.invokevirtual 183, 3) := dk_182 0 183 (dk_at dksX5_takeWord_0 10 rfl rfl)
theorem dX5_takeWord_13 : decode cX5_takeWord 13 = .ok (.return_, 1) := dk_177 (dk_at dksX5_takeWord_0 13 rfl rfl)
abbrev cX5_hasWord : ByteArray := prog_23_method_15_code
def yX5_hasWord : MethodName := ⟨RX5, "hasWord", "(I)Z"⟩
def dkwX5_hasWord_1 : List UInt8 := [28, 172]
abbrev dktX5_hasWord_1 : List UInt8 := dkwX5_hasWord_1 ++ []
def dkwX5_hasWord_0 : List UInt8 := [42, 27, 182, 0, 186, 61, 42, 89, 180, 0, 174, 28, 153, 0, 7, 4, 167, 0, 4, 3, 96, 181, 0, 174]
abbrev dktX5_hasWord_0 : List UInt8 := dkwX5_hasWord_0 ++ dktX5_hasWord_1
theorem dksX5_hasWord_0 : cX5_hasWord.data.toList.drop 0 = dktX5_hasWord_0 := by decide +kernel
theorem dksX5_hasWord_1 : cX5_hasWord.data.toList.drop 24 = dktX5_hasWord_1 := dk_seg dksX5_hasWord_0 24 rfl rfl
theorem dX5_hasWord_0 : decode cX5_hasWord 0 = .ok (.aload_n 0, 1) := dk_42 (dk_at dksX5_hasWord_0 0 rfl rfl)
theorem dX5_hasWord_1 : decode cX5_hasWord 1 = .ok (.iload_n 1, 1) := dk_27 (dk_at dksX5_hasWord_0 1 rfl rfl)
theorem dX5_hasWord_2 : decode cX5_hasWord 2 = .ok (.invokevirtual 186, 3) := dk_182 0 186 (dk_at dksX5_hasWord_0 2 rfl rfl)
theorem dX5_hasWord_5 : decode cX5_hasWord 5 = .ok (.istore_n 2, 1) := dk_61 (dk_at dksX5_hasWord_0 5 rfl rfl)
theorem dX5_hasWord_6 : decode cX5_hasWord 6 = .ok (.aload_n 0, 1) := dk_42 (dk_at dksX5_hasWord_0 6 rfl rfl)
theorem dX5_hasWord_7 : decode cX5_hasWord 7 = .ok (.dup, 1) := dk_89 (dk_at dksX5_hasWord_0 7 rfl rfl)
theorem dX5_hasWord_8 : decode cX5_hasWord 8 = .ok (.getfield 174, 3) := dk_180 0 174 (dk_at dksX5_hasWord_0 8 rfl rfl)
theorem dX5_hasWord_11 : decode cX5_hasWord 11 = .ok (.iload_n 2, 1) := dk_28 (dk_at dksX5_hasWord_0 11 rfl rfl)
theorem dX5_hasWord_12 : decode cX5_hasWord 12 = .ok (.ifCond .eq 7, 3) := dk_153 0 7 (dk_at dksX5_hasWord_0 12 rfl rfl)
theorem dX5_hasWord_15 : decode cX5_hasWord 15 = .ok (.iconst 1, 1) := dk_4 (dk_at dksX5_hasWord_0 15 rfl rfl)
theorem dX5_hasWord_16 : decode cX5_hasWord 16 = .ok (.goto 4, 3) := dk_167 0 4 (dk_at dksX5_hasWord_0 16 rfl rfl)
theorem dX5_hasWord_19 : decode cX5_hasWord 19 = .ok (.iconst 0, 1) := dk_3 (dk_at dksX5_hasWord_0 19 rfl rfl)
theorem dX5_hasWord_20 : decode cX5_hasWord 20 = .ok (.iadd, 1) := dk_96 (dk_at dksX5_hasWord_0 20 rfl rfl)
theorem dX5_hasWord_21 : decode cX5_hasWord 21 = .ok (.putfield 174, 3) := dk_181 0 174 (dk_at dksX5_hasWord_0 21 rfl rfl)
theorem dX5_hasWord_24 : decode cX5_hasWord 24 = .ok (.iload_n 2, 1) := dk_28 (dk_at dksX5_hasWord_1 0 rfl rfl)
theorem dX5_hasWord_25 : decode cX5_hasWord 25 = .ok (.ireturn, 1) := dk_172 (dk_at dksX5_hasWord_1 1 rfl rfl)
abbrev cX5_takeNumber : ByteArray := prog_23_method_19_code
def yX5_takeNumber : MethodName := ⟨RX5, "takeNumber", "(II)I"⟩
def dkwX5_takeNumber_4 : List UInt8 := [180, 0, 174, 4, 100, 47, 136, 172]
abbrev dktX5_takeNumber_4 : List UInt8 := dkwX5_takeNumber_4 ++ []
def dkwX5_takeNumber_3 : List UInt8 := [42, 180, 0, 177, 158, 0, 5, 3, 172, 42, 89, 180, 0, 174, 4, 96, 181, 0, 174, 42, 180, 0, 30, 42]
abbrev dktX5_takeNumber_3 : List UInt8 := dkwX5_takeNumber_3 ++ dktX5_takeNumber_4
def dkwX5_takeNumber_2 : List UInt8 := [148, 155, 0, 18, 42, 180, 0, 30, 42, 180, 0, 174, 47, 28, 133, 148, 158, 0, 8, 42, 7, 182, 0, 183]
abbrev dktX5_takeNumber_2 : List UInt8 := dkwX5_takeNumber_2 ++ dktX5_takeNumber_3
def dkwX5_takeNumber_1 : List UInt8 := [182, 0, 183, 167, 0, 45, 42, 180, 0, 177, 154, 0, 38, 42, 180, 0, 30, 42, 180, 0, 174, 47, 27, 133]
abbrev dktX5_takeNumber_1 : List UInt8 := dkwX5_takeNumber_1 ++ dktX5_takeNumber_2
def dkwX5_takeNumber_0 : List UInt8 := [42, 180, 0, 177, 154, 0, 24, 42, 180, 0, 24, 42, 180, 0, 174, 46, 5, 159, 0, 11, 42, 4]
abbrev dktX5_takeNumber_0 : List UInt8 := dkwX5_takeNumber_0 ++ dktX5_takeNumber_1
theorem dksX5_takeNumber_0 : cX5_takeNumber.data.toList.drop 0 = dktX5_takeNumber_0 := by decide +kernel
theorem dksX5_takeNumber_1 : cX5_takeNumber.data.toList.drop 22 = dktX5_takeNumber_1 := dk_seg dksX5_takeNumber_0 22 rfl rfl
theorem dksX5_takeNumber_2 : cX5_takeNumber.data.toList.drop 46 = dktX5_takeNumber_2 := dk_seg dksX5_takeNumber_1 24 rfl rfl
theorem dksX5_takeNumber_3 : cX5_takeNumber.data.toList.drop 70 = dktX5_takeNumber_3 := dk_seg dksX5_takeNumber_2 24 rfl rfl
theorem dksX5_takeNumber_4 : cX5_takeNumber.data.toList.drop 94 = dktX5_takeNumber_4 := dk_seg dksX5_takeNumber_3 24 rfl rfl
theorem dX5_takeNumber_0 : decode cX5_takeNumber 0 = .ok (.aload_n 0, 1) := dk_42 (dk_at dksX5_takeNumber_0 0 rfl rfl)
theorem dX5_takeNumber_1 : decode cX5_takeNumber 1 = .ok (.getfield 177, 3) := dk_180 0 177 (dk_at dksX5_takeNumber_0 1 rfl rfl)
theorem dX5_takeNumber_4 : decode cX5_takeNumber 4 = .ok (.ifCond .ne 24, 3) := dk_154 0 24 (dk_at dksX5_takeNumber_0 4 rfl rfl)
theorem dX5_takeNumber_7 : decode cX5_takeNumber 7 = .ok (.aload_n 0, 1) := dk_42 (dk_at dksX5_takeNumber_0 7 rfl rfl)
theorem dX5_takeNumber_8 : decode cX5_takeNumber 8 = .ok (.getfield 24, 3) := dk_180 0 24 (dk_at dksX5_takeNumber_0 8 rfl rfl)
theorem dX5_takeNumber_11 : decode cX5_takeNumber 11 = .ok (.aload_n 0, 1) := dk_42 (dk_at dksX5_takeNumber_0 11 rfl rfl)
theorem dX5_takeNumber_12 : decode cX5_takeNumber 12 = .ok (.getfield 174, 3) := dk_180 0 174 (dk_at dksX5_takeNumber_0 12 rfl rfl)
theorem dX5_takeNumber_15 : decode cX5_takeNumber 15 = .ok (.iaload, 1) := dk_46 (dk_at dksX5_takeNumber_0 15 rfl rfl)
theorem dX5_takeNumber_16 : decode cX5_takeNumber 16 = .ok (.iconst 2, 1) := dk_5 (dk_at dksX5_takeNumber_0 16 rfl rfl)
theorem dX5_takeNumber_17 : decode cX5_takeNumber 17 = .ok (.if_icmp .eq 11, 3) := dk_159 0 11 (dk_at dksX5_takeNumber_0 17 rfl rfl)
theorem dX5_takeNumber_20 : decode cX5_takeNumber 20 = .ok (.aload_n 0, 1) := dk_42 (dk_at dksX5_takeNumber_0 20 rfl rfl)
theorem dX5_takeNumber_21 : decode cX5_takeNumber 21 = .ok (.iconst 1, 1) := dk_4 (dk_at dksX5_takeNumber_0 21 rfl rfl)
theorem dX5_takeNumber_22 : decode cX5_takeNumber 22 = .ok (.invokevirtual 183, 3) := dk_182 0 183 (dk_at dksX5_takeNumber_1 0 rfl rfl)
theorem dX5_takeNumber_25 : decode cX5_takeNumber 25 = .ok (.goto 45, 3) := dk_167 0 45 (dk_at dksX5_takeNumber_1 3 rfl rfl)
theorem dX5_takeNumber_28 : decode cX5_takeNumber 28 = .ok (.aload_n 0, 1) := dk_42 (dk_at dksX5_takeNumber_1 6 rfl rfl)
theorem dX5_takeNumber_29 : decode cX5_takeNumber 29 = .ok (.getfield 177, 3) := dk_180 0 177 (dk_at dksX5_takeNumber_1 7 rfl rfl)
theorem dX5_takeNumber_32 : decode cX5_takeNumber 32 = .ok (.ifCond .ne 38, 3) := dk_154 0 38 (dk_at dksX5_takeNumber_1 10 rfl rfl)
theorem dX5_takeNumber_35 : decode cX5_takeNumber 35 = .ok (.aload_n 0, 1) := dk_42 (dk_at dksX5_takeNumber_1 13 rfl rfl)
theorem dX5_takeNumber_36 : decode cX5_takeNumber 36 = .ok (.getfield 30, 3) := dk_180 0 30 (dk_at dksX5_takeNumber_1 14 rfl rfl)
theorem dX5_takeNumber_39 : decode cX5_takeNumber 39 = .ok (.aload_n 0, 1) := dk_42 (dk_at dksX5_takeNumber_1 17 rfl rfl)
theorem dX5_takeNumber_40 : decode cX5_takeNumber 40 = .ok (.getfield 174, 3) := dk_180 0 174 (dk_at dksX5_takeNumber_1 18 rfl rfl)
theorem dX5_takeNumber_43 : decode cX5_takeNumber 43 = .ok (.laload, 1) := dk_47 (dk_at dksX5_takeNumber_1 21 rfl rfl)
theorem dX5_takeNumber_44 : decode cX5_takeNumber 44 = .ok (.iload_n 1, 1) := dk_27 (dk_at dksX5_takeNumber_1 22 rfl rfl)
theorem dX5_takeNumber_45 : decode cX5_takeNumber 45 = .ok (.i2l, 1) := dk_133 (dk_at dksX5_takeNumber_1 23 rfl rfl)
theorem dX5_takeNumber_46 : decode cX5_takeNumber 46 = .ok (.lcmp, 1) := dk_148 (dk_at dksX5_takeNumber_2 0 rfl rfl)
theorem dX5_takeNumber_47 : decode cX5_takeNumber 47 = .ok (.ifCond .lt 18, 3) := dk_155 0 18 (dk_at dksX5_takeNumber_2 1 rfl rfl)
theorem dX5_takeNumber_50 : decode cX5_takeNumber 50 = .ok (.aload_n 0, 1) := dk_42 (dk_at dksX5_takeNumber_2 4 rfl rfl)
theorem dX5_takeNumber_51 : decode cX5_takeNumber 51 = .ok (.getfield 30, 3) := dk_180 0 30 (dk_at dksX5_takeNumber_2 5 rfl rfl)
theorem dX5_takeNumber_54 : decode cX5_takeNumber 54 = .ok (.aload_n 0, 1) := dk_42 (dk_at dksX5_takeNumber_2 8 rfl rfl)
theorem dX5_takeNumber_55 : decode cX5_takeNumber 55 = .ok (.getfield 174, 3) := dk_180 0 174 (dk_at dksX5_takeNumber_2 9 rfl rfl)
theorem dX5_takeNumber_58 : decode cX5_takeNumber 58 = .ok (.laload, 1) := dk_47 (dk_at dksX5_takeNumber_2 12 rfl rfl)
theorem dX5_takeNumber_59 : decode cX5_takeNumber 59 = .ok (.iload_n 2, 1) := dk_28 (dk_at dksX5_takeNumber_2 13 rfl rfl)
theorem dX5_takeNumber_60 : decode cX5_takeNumber 60 = .ok (.i2l, 1) := dk_133 (dk_at dksX5_takeNumber_2 14 rfl rfl)
theorem dX5_takeNumber_61 : decode cX5_takeNumber 61 = .ok (.lcmp, 1) := dk_148 (dk_at dksX5_takeNumber_2 15 rfl rfl)
theorem dX5_takeNumber_62 : decode cX5_takeNumber 62 = .ok (.ifCond .le 8, 3) := dk_158 0 8 (dk_at dksX5_takeNumber_2 16 rfl rfl)
theorem dX5_takeNumber_65 : decode cX5_takeNumber 65 = .ok (.aload_n 0, 1) := dk_42 (dk_at dksX5_takeNumber_2 19 rfl rfl)
theorem dX5_takeNumber_66 : decode cX5_takeNumber 66 = .ok (.iconst 4, 1) := dk_7 (dk_at dksX5_takeNumber_2 20 rfl rfl)
theorem dX5_takeNumber_67 : decode cX5_takeNumber 67 = .ok (.invokevirtual 183, 3) := dk_182 0 183 (dk_at dksX5_takeNumber_2 21 rfl rfl)
theorem dX5_takeNumber_70 : decode cX5_takeNumber 70 = .ok (.aload_n 0, 1) := dk_42 (dk_at dksX5_takeNumber_3 0 rfl rfl)
theorem dX5_takeNumber_71 : decode cX5_takeNumber 71 = .ok (.getfield 177, 3) := dk_180 0 177 (dk_at dksX5_takeNumber_3 1 rfl rfl)
theorem dX5_takeNumber_74 : decode cX5_takeNumber 74 = .ok (.ifCond .le 5, 3) := dk_158 0 5 (dk_at dksX5_takeNumber_3 4 rfl rfl)
theorem dX5_takeNumber_77 : decode cX5_takeNumber 77 = .ok (.iconst 0, 1) := dk_3 (dk_at dksX5_takeNumber_3 7 rfl rfl)
theorem dX5_takeNumber_78 : decode cX5_takeNumber 78 = .ok (.ireturn, 1) := dk_172 (dk_at dksX5_takeNumber_3 8 rfl rfl)
theorem dX5_takeNumber_79 : decode cX5_takeNumber 79 = .ok (.aload_n 0, 1) := dk_42 (dk_at dksX5_takeNumber_3 9 rfl rfl)
theorem dX5_takeNumber_80 : decode cX5_takeNumber 80 = .ok (.dup, 1) := dk_89 (dk_at dksX5_takeNumber_3 10 rfl rfl)
theorem dX5_takeNumber_81 : decode cX5_takeNumber 81 = .ok (.getfield 174, 3) := dk_180 0 174 (dk_at dksX5_takeNumber_3 11 rfl rfl)
theorem dX5_takeNumber_84 : decode cX5_takeNumber 84 = .ok (.iconst 1, 1) := dk_4 (dk_at dksX5_takeNumber_3 14 rfl rfl)
theorem dX5_takeNumber_85 : decode cX5_takeNumber 85 = .ok (.iadd, 1) := dk_96 (dk_at dksX5_takeNumber_3 15 rfl rfl)
theorem dX5_takeNumber_86 : decode cX5_takeNumber 86 = .ok (.putfield 174, 3) := dk_181 0 174 (dk_at dksX5_takeNumber_3 16 rfl rfl)
theorem dX5_takeNumber_89 : decode cX5_takeNumber 89 = .ok (.aload_n 0, 1) := dk_42 (dk_at dksX5_takeNumber_3 19 rfl rfl)
theorem dX5_takeNumber_90 : decode cX5_takeNumber 90 = .ok (.getfield 30, 3) := dk_180 0 30 (dk_at dksX5_takeNumber_3 20 rfl rfl)
theorem dX5_takeNumber_93 : decode cX5_takeNumber 93 = .ok (.aload_n 0, 1) := dk_42 (dk_at dksX5_takeNumber_3 23 rfl rfl)
theorem dX5_takeNumber_94 : decode cX5_takeNumber 94 = .ok (.getfield 174, 3) := dk_180 0 174 (dk_at dksX5_takeNumber_4 0 rfl rfl)
theorem dX5_takeNumber_97 : decode cX5_takeNumber 97 = .ok (.iconst 1, 1) := dk_4 (dk_at dksX5_takeNumber_4 3 rfl rfl)
theorem dX5_takeNumber_98 : decode cX5_takeNumber 98 = .ok (.isub, 1) := dk_100 (dk_at dksX5_takeNumber_4 4 rfl rfl)
theorem dX5_takeNumber_99 : decode cX5_takeNumber 99 = .ok (.laload, 1) := dk_47 (dk_at dksX5_takeNumber_4 5 rfl rfl)
theorem dX5_takeNumber_100 : decode cX5_takeNumber 100 = .ok (.l2i, 1) := dk_136 (dk_at dksX5_takeNumber_4 6 rfl rfl)
theorem dX5_takeNumber_101 : decode cX5_takeNumber 101 = .ok (.ireturn, 1) := dk_172 (dk_at dksX5_takeNumber_4 7 rfl rfl)
abbrev cX5_readClash : ByteArray := prog_23_method_29_code
def yX5_readClash : MethodName := ⟨RX5, "readClash", "()V"⟩
def dkwX5_readClash_4 : List UInt8 := [17, 0, 132, 16, 6, 28, 104, 96, 27, 96, 4, 79, 42, 180, 0, 89, 16, 105, 92, 46, 4, 96, 79, 177]
abbrev dktX5_readClash_4 : List UInt8 := dkwX5_readClash_4 ++ []
def dkwX5_readClash_3 : List UInt8 := [96, 181, 0, 174, 42, 180, 0, 89, 17, 0, 132, 16, 6, 27, 104, 96, 28, 96, 4, 79, 42, 180, 0, 89]
abbrev dktX5_readClash_3 : List UInt8 := dkwX5_readClash_3 ++ dktX5_readClash_4
def dkwX5_readClash_2 : List UInt8 := [96, 46, 4, 160, 0, 8, 42, 6, 182, 0, 183, 42, 180, 0, 177, 154, 0, 56, 42, 89, 180, 0, 174, 4]
abbrev dktX5_readClash_2 : List UInt8 := dkwX5_readClash_2 ++ dktX5_readClash_3
def dkwX5_readClash_1 : List UInt8 := [180, 0, 177, 154, 0, 32, 27, 28, 159, 0, 22, 42, 180, 0, 89, 17, 0, 132, 16, 6, 27, 104, 96, 28]
abbrev dktX5_readClash_1 : List UInt8 := dkwX5_readClash_1 ++ dktX5_readClash_2
def dkwX5_readClash_0 : List UInt8 := [42, 89, 180, 0, 174, 4, 96, 181, 0, 174, 42, 4, 182, 0, 247, 60, 42, 4, 182, 0, 216, 61, 42]
abbrev dktX5_readClash_0 : List UInt8 := dkwX5_readClash_0 ++ dktX5_readClash_1
theorem dksX5_readClash_0 : cX5_readClash.data.toList.drop 0 = dktX5_readClash_0 := by decide +kernel
theorem dksX5_readClash_1 : cX5_readClash.data.toList.drop 23 = dktX5_readClash_1 := dk_seg dksX5_readClash_0 23 rfl rfl
theorem dksX5_readClash_2 : cX5_readClash.data.toList.drop 47 = dktX5_readClash_2 := dk_seg dksX5_readClash_1 24 rfl rfl
theorem dksX5_readClash_3 : cX5_readClash.data.toList.drop 71 = dktX5_readClash_3 := dk_seg dksX5_readClash_2 24 rfl rfl
theorem dksX5_readClash_4 : cX5_readClash.data.toList.drop 95 = dktX5_readClash_4 := dk_seg dksX5_readClash_3 24 rfl rfl
theorem dX5_readClash_0 : decode cX5_readClash 0 = .ok (.aload_n 0, 1) := dk_42 (dk_at dksX5_readClash_0 0 rfl rfl)
theorem dX5_readClash_1 : decode cX5_readClash 1 = .ok (.dup, 1) := dk_89 (dk_at dksX5_readClash_0 1 rfl rfl)
theorem dX5_readClash_2 : decode cX5_readClash 2 = .ok (.getfield 174, 3) := dk_180 0 174 (dk_at dksX5_readClash_0 2 rfl rfl)
theorem dX5_readClash_5 : decode cX5_readClash 5 = .ok (.iconst 1, 1) := dk_4 (dk_at dksX5_readClash_0 5 rfl rfl)
theorem dX5_readClash_6 : decode cX5_readClash 6 = .ok (.iadd, 1) := dk_96 (dk_at dksX5_readClash_0 6 rfl rfl)
theorem dX5_readClash_7 : decode cX5_readClash 7 = .ok (.putfield 174, 3) := dk_181 0 174 (dk_at dksX5_readClash_0 7 rfl rfl)
theorem dX5_readClash_10 : decode cX5_readClash 10 = .ok (.aload_n 0, 1) := dk_42 (dk_at dksX5_readClash_0 10 rfl rfl)
theorem dX5_readClash_11 : decode cX5_readClash 11 = .ok (.iconst 1, 1) := dk_4 (dk_at dksX5_readClash_0 11 rfl rfl)
theorem dX5_readClash_12 : decode cX5_readClash 12 = .ok (.invokevirtual 247, 3) := dk_182 0 247 (dk_at dksX5_readClash_0 12 rfl rfl)
theorem dX5_readClash_15 : decode cX5_readClash 15 = .ok (.istore_n 1, 1) := dk_60 (dk_at dksX5_readClash_0 15 rfl rfl)
theorem dX5_readClash_16 : decode cX5_readClash 16 = .ok (.aload_n 0, 1) := dk_42 (dk_at dksX5_readClash_0 16 rfl rfl)
theorem dX5_readClash_17 : decode cX5_readClash 17 = .ok (.iconst 1, 1) := dk_4 (dk_at dksX5_readClash_0 17 rfl rfl)
theorem dX5_readClash_18 : decode cX5_readClash 18 = .ok (.invokevirtual 216, 3) := dk_182 0 216 (dk_at dksX5_readClash_0 18 rfl rfl)
theorem dX5_readClash_21 : decode cX5_readClash 21 = .ok (.istore_n 2, 1) := dk_61 (dk_at dksX5_readClash_0 21 rfl rfl)
theorem dX5_readClash_22 : decode cX5_readClash 22 = .ok (.aload_n 0, 1) := dk_42 (dk_at dksX5_readClash_0 22 rfl rfl)
theorem dX5_readClash_23 : decode cX5_readClash 23 = .ok (.getfield 177, 3) := dk_180 0 177 (dk_at dksX5_readClash_1 0 rfl rfl)
theorem dX5_readClash_26 : decode cX5_readClash 26 = .ok (.ifCond .ne 32, 3) := dk_154 0 32 (dk_at dksX5_readClash_1 3 rfl rfl)
theorem dX5_readClash_29 : decode cX5_readClash 29 = .ok (.iload_n 1, 1) := dk_27 (dk_at dksX5_readClash_1 6 rfl rfl)
theorem dX5_readClash_30 : decode cX5_readClash 30 = .ok (.iload_n 2, 1) := dk_28 (dk_at dksX5_readClash_1 7 rfl rfl)
theorem dX5_readClash_31 : decode cX5_readClash 31 = .ok (.if_icmp .eq 22, 3) := dk_159 0 22 (dk_at dksX5_readClash_1 8 rfl rfl)
theorem dX5_readClash_34 : decode cX5_readClash 34 = .ok (.aload_n 0, 1) := dk_42 (dk_at dksX5_readClash_1 11 rfl rfl)
theorem dX5_readClash_35 : decode cX5_readClash 35 = .ok (.getfield 89, 3) := dk_180 0 89 (dk_at dksX5_readClash_1 12 rfl rfl)
theorem dX5_readClash_38 : decode cX5_readClash 38 = .ok (.sipush 132, 3) := dk_17 0 132 (dk_at dksX5_readClash_1 15 rfl rfl)
theorem dX5_readClash_41 : decode cX5_readClash 41 = .ok (.bipush 6, 2) := dk_16 6 (dk_at dksX5_readClash_1 18 rfl rfl)
theorem dX5_readClash_43 : decode cX5_readClash 43 = .ok (.iload_n 1, 1) := dk_27 (dk_at dksX5_readClash_1 20 rfl rfl)
theorem dX5_readClash_44 : decode cX5_readClash 44 = .ok (.imul, 1) := dk_104 (dk_at dksX5_readClash_1 21 rfl rfl)
theorem dX5_readClash_45 : decode cX5_readClash 45 = .ok (.iadd, 1) := dk_96 (dk_at dksX5_readClash_1 22 rfl rfl)
theorem dX5_readClash_46 : decode cX5_readClash 46 = .ok (.iload_n 2, 1) := dk_28 (dk_at dksX5_readClash_1 23 rfl rfl)
theorem dX5_readClash_47 : decode cX5_readClash 47 = .ok (.iadd, 1) := dk_96 (dk_at dksX5_readClash_2 0 rfl rfl)
theorem dX5_readClash_48 : decode cX5_readClash 48 = .ok (.iaload, 1) := dk_46 (dk_at dksX5_readClash_2 1 rfl rfl)
theorem dX5_readClash_49 : decode cX5_readClash 49 = .ok (.iconst 1, 1) := dk_4 (dk_at dksX5_readClash_2 2 rfl rfl)
theorem dX5_readClash_50 : decode cX5_readClash 50 = .ok (.if_icmp .ne 8, 3) := dk_160 0 8 (dk_at dksX5_readClash_2 3 rfl rfl)
theorem dX5_readClash_53 : decode cX5_readClash 53 = .ok (.aload_n 0, 1) := dk_42 (dk_at dksX5_readClash_2 6 rfl rfl)
theorem dX5_readClash_54 : decode cX5_readClash 54 = .ok (.iconst 3, 1) := dk_6 (dk_at dksX5_readClash_2 7 rfl rfl)
theorem dX5_readClash_55 : decode cX5_readClash 55 = .ok (.invokevirtual 183, 3) := dk_182 0 183 (dk_at dksX5_readClash_2 8 rfl rfl)
theorem dX5_readClash_58 : decode cX5_readClash 58 = .ok (.aload_n 0, 1) := dk_42 (dk_at dksX5_readClash_2 11 rfl rfl)
theorem dX5_readClash_59 : decode cX5_readClash 59 = .ok (.getfield 177, 3) := dk_180 0 177 (dk_at dksX5_readClash_2 12 rfl rfl)
theorem dX5_readClash_62 : decode cX5_readClash 62 = .ok (.ifCond .ne 56, 3) := dk_154 0 56 (dk_at dksX5_readClash_2 15 rfl rfl)
theorem dX5_readClash_65 : decode cX5_readClash 65 = .ok (.aload_n 0, 1) := dk_42 (dk_at dksX5_readClash_2 18 rfl rfl)
theorem dX5_readClash_66 : decode cX5_readClash 66 = .ok (.dup, 1) := dk_89 (dk_at dksX5_readClash_2 19 rfl rfl)
theorem dX5_readClash_67 : decode cX5_readClash 67 = .ok (.getfield 174, 3) := dk_180 0 174 (dk_at dksX5_readClash_2 20 rfl rfl)
theorem dX5_readClash_70 : decode cX5_readClash 70 = .ok (.iconst 1, 1) := dk_4 (dk_at dksX5_readClash_2 23 rfl rfl)
theorem dX5_readClash_71 : decode cX5_readClash 71 = .ok (.iadd, 1) := dk_96 (dk_at dksX5_readClash_3 0 rfl rfl)
theorem dX5_readClash_72 : decode cX5_readClash 72 = .ok (.putfield 174, 3) := dk_181 0 174 (dk_at dksX5_readClash_3 1 rfl rfl)
theorem dX5_readClash_75 : decode cX5_readClash 75 = .ok (.aload_n 0, 1) := dk_42 (dk_at dksX5_readClash_3 4 rfl rfl)
theorem dX5_readClash_76 : decode cX5_readClash 76 = .ok (.getfield 89, 3) := dk_180 0 89 (dk_at dksX5_readClash_3 5 rfl rfl)
theorem dX5_readClash_79 : decode cX5_readClash 79 = .ok (.sipush 132, 3) := dk_17 0 132 (dk_at dksX5_readClash_3 8 rfl rfl)
theorem dX5_readClash_82 : decode cX5_readClash 82 = .ok (.bipush 6, 2) := dk_16 6 (dk_at dksX5_readClash_3 11 rfl rfl)
theorem dX5_readClash_84 : decode cX5_readClash 84 = .ok (.iload_n 1, 1) := dk_27 (dk_at dksX5_readClash_3 13 rfl rfl)
theorem dX5_readClash_85 : decode cX5_readClash 85 = .ok (.imul, 1) := dk_104 (dk_at dksX5_readClash_3 14 rfl rfl)
theorem dX5_readClash_86 : decode cX5_readClash 86 = .ok (.iadd, 1) := dk_96 (dk_at dksX5_readClash_3 15 rfl rfl)
theorem dX5_readClash_87 : decode cX5_readClash 87 = .ok (.iload_n 2, 1) := dk_28 (dk_at dksX5_readClash_3 16 rfl rfl)
theorem dX5_readClash_88 : decode cX5_readClash 88 = .ok (.iadd, 1) := dk_96 (dk_at dksX5_readClash_3 17 rfl rfl)
theorem dX5_readClash_89 : decode cX5_readClash 89 = .ok (.iconst 1, 1) := dk_4 (dk_at dksX5_readClash_3 18 rfl rfl)
theorem dX5_readClash_90 : decode cX5_readClash 90 = .ok (.iastore, 1) := dk_79 (dk_at dksX5_readClash_3 19 rfl rfl)
theorem dX5_readClash_91 : decode cX5_readClash 91 = .ok (.aload_n 0, 1) := dk_42 (dk_at dksX5_readClash_3 20 rfl rfl)
theorem dX5_readClash_92 : decode cX5_readClash 92 = .ok (.getfield 89, 3) := dk_180 0 89 (dk_at dksX5_readClash_3 21 rfl rfl)
theorem dX5_readClash_95 : decode cX5_readClash 95 = .ok (.sipush 132, 3) := dk_17 0 132 (dk_at dksX5_readClash_4 0 rfl rfl)
theorem dX5_readClash_98 : decode cX5_readClash 98 = .ok (.bipush 6, 2) := dk_16 6 (dk_at dksX5_readClash_4 3 rfl rfl)
theorem dX5_readClash_100 : decode cX5_readClash 100 = .ok (.iload_n 2, 1) := dk_28 (dk_at dksX5_readClash_4 5 rfl rfl)
theorem dX5_readClash_101 : decode cX5_readClash 101 = .ok (.imul, 1) := dk_104 (dk_at dksX5_readClash_4 6 rfl rfl)
theorem dX5_readClash_102 : decode cX5_readClash 102 = .ok (.iadd, 1) := dk_96 (dk_at dksX5_readClash_4 7 rfl rfl)
theorem dX5_readClash_103 : decode cX5_readClash 103 = .ok (.iload_n 1, 1) := dk_27 (dk_at dksX5_readClash_4 8 rfl rfl)
theorem dX5_readClash_104 : decode cX5_readClash 104 = .ok (.iadd, 1) := dk_96 (dk_at dksX5_readClash_4 9 rfl rfl)
theorem dX5_readClash_105 : decode cX5_readClash 105 = .ok (.iconst 1, 1) := dk_4 (dk_at dksX5_readClash_4 10 rfl rfl)
theorem dX5_readClash_106 : decode cX5_readClash 106 = .ok (.iastore, 1) := dk_79 (dk_at dksX5_readClash_4 11 rfl rfl)
theorem dX5_readClash_107 : decode cX5_readClash 107 = .ok (.aload_n 0, 1) := dk_42 (dk_at dksX5_readClash_4 12 rfl rfl)
theorem dX5_readClash_108 : decode cX5_readClash 108 = .ok (.getfield 89, 3) := dk_180 0 89 (dk_at dksX5_readClash_4 13 rfl rfl)
theorem dX5_readClash_111 : decode cX5_readClash 111 = .ok (.bipush 105, 2) := dk_16 105 (dk_at dksX5_readClash_4 16 rfl rfl)
theorem dX5_readClash_113 : decode cX5_readClash 113 = .ok (.dup2, 1) := dk_92 (dk_at dksX5_readClash_4 18 rfl rfl)
theorem dX5_readClash_114 : decode cX5_readClash 114 = .ok (.iaload, 1) := dk_46 (dk_at dksX5_readClash_4 19 rfl rfl)
theorem dX5_readClash_115 : decode cX5_readClash 115 = .ok (.iconst 1, 1) := dk_4 (dk_at dksX5_readClash_4 20 rfl rfl)
theorem dX5_readClash_116 : decode cX5_readClash 116 = .ok (.iadd, 1) := dk_96 (dk_at dksX5_readClash_4 21 rfl rfl)
theorem dX5_readClash_117 : decode cX5_readClash 117 = .ok (.iastore, 1) := dk_79 (dk_at dksX5_readClash_4 22 rfl rfl)
theorem dX5_readClash_118 : decode cX5_readClash 118 = .ok (.return_, 1) := dk_177 (dk_at dksX5_readClash_4 23 rfl rfl)
abbrev cX5_takeTold : ByteArray := prog_23_method_26_code
def yX5_takeTold : MethodName := ⟨RX5, "takeTold", "(Z)I"⟩
def dkwX5_takeTold_1 : List UInt8 := [181, 0, 174, 28, 172]
abbrev dktX5_takeTold_1 : List UInt8 := dkwX5_takeTold_1 ++ []
def dkwX5_takeTold_0 : List UInt8 := [42, 27, 182, 0, 216, 61, 42, 89, 180, 0, 174, 42, 180, 0, 177, 158, 0, 7, 3, 167, 0, 4, 4, 96]
abbrev dktX5_takeTold_0 : List UInt8 := dkwX5_takeTold_0 ++ dktX5_takeTold_1
theorem dksX5_takeTold_0 : cX5_takeTold.data.toList.drop 0 = dktX5_takeTold_0 := by decide +kernel
theorem dksX5_takeTold_1 : cX5_takeTold.data.toList.drop 24 = dktX5_takeTold_1 := dk_seg dksX5_takeTold_0 24 rfl rfl
theorem dX5_takeTold_0 : decode cX5_takeTold 0 = .ok (.aload_n 0, 1) := dk_42 (dk_at dksX5_takeTold_0 0 rfl rfl)
theorem dX5_takeTold_1 : decode cX5_takeTold 1 = .ok (.iload_n 1, 1) := dk_27 (dk_at dksX5_takeTold_0 1 rfl rfl)
theorem dX5_takeTold_2 : decode cX5_takeTold 2 = .ok (.invokevirtual 216, 3) := dk_182 0 216 (dk_at dksX5_takeTold_0 2 rfl rfl)
theorem dX5_takeTold_5 : decode cX5_takeTold 5 = .ok (.istore_n 2, 1) := dk_61 (dk_at dksX5_takeTold_0 5 rfl rfl)
theorem dX5_takeTold_6 : decode cX5_takeTold 6 = .ok (.aload_n 0, 1) := dk_42 (dk_at dksX5_takeTold_0 6 rfl rfl)
theorem dX5_takeTold_7 : decode cX5_takeTold 7 = .ok (.dup, 1) := dk_89 (dk_at dksX5_takeTold_0 7 rfl rfl)
theorem dX5_takeTold_8 : decode cX5_takeTold 8 = .ok (.getfield 174, 3) := dk_180 0 174 (dk_at dksX5_takeTold_0 8 rfl rfl)
theorem dX5_takeTold_11 : decode cX5_takeTold 11 = .ok (.aload_n 0, 1) := dk_42 (dk_at dksX5_takeTold_0 11 rfl rfl)
theorem dX5_takeTold_12 : decode cX5_takeTold 12 = .ok (.getfield 177, 3) := dk_180 0 177 (dk_at dksX5_takeTold_0 12 rfl rfl)
theorem dX5_takeTold_15 : decode cX5_takeTold 15 = .ok (.ifCond .le 7, 3) := dk_158 0 7 (dk_at dksX5_takeTold_0 15 rfl rfl)
theorem dX5_takeTold_18 : decode cX5_takeTold 18 = .ok (.iconst 0, 1) := dk_3 (dk_at dksX5_takeTold_0 18 rfl rfl)
theorem dX5_takeTold_19 : decode cX5_takeTold 19 = .ok (.goto 4, 3) := dk_167 0 4 (dk_at dksX5_takeTold_0 19 rfl rfl)
theorem dX5_takeTold_22 : decode cX5_takeTold 22 = .ok (.iconst 1, 1) := dk_4 (dk_at dksX5_takeTold_0 22 rfl rfl)
theorem dX5_takeTold_23 : decode cX5_takeTold 23 = .ok (.iadd, 1) := dk_96 (dk_at dksX5_takeTold_0 23 rfl rfl)
theorem dX5_takeTold_24 : decode cX5_takeTold 24 = .ok (.putfield 174, 3) := dk_181 0 174 (dk_at dksX5_takeTold_1 0 rfl rfl)
theorem dX5_takeTold_27 : decode cX5_takeTold 27 = .ok (.iload_n 2, 1) := dk_28 (dk_at dksX5_takeTold_1 3 rfl rfl)
theorem dX5_takeTold_28 : decode cX5_takeTold 28 = .ok (.ireturn, 1) := dk_172 (dk_at dksX5_takeTold_1 4 rfl rfl)
abbrev cX5_toldHere : ByteArray := prog_23_method_25_code
def yX5_toldHere : MethodName := ⟨RX5, "toldHere", "(Z)I"⟩
def dkwX5_toldHere_2 : List UInt8 := [42, 5, 182, 0, 183, 42, 180, 0, 177, 158, 0, 7, 3, 167, 0, 4, 28, 172]
abbrev dktX5_toldHere_2 : List UInt8 := dkwX5_toldHere_2 ++ []
def dkwX5_toldHere_1 : List UInt8 := [158, 0, 7, 2, 167, 0, 8, 42, 27, 182, 0, 212, 61, 42, 180, 0, 177, 154, 0, 12, 28, 156, 0, 8]
abbrev dktX5_toldHere_1 : List UInt8 := dkwX5_toldHere_1 ++ dktX5_toldHere_2
def dkwX5_toldHere_0 : List UInt8 := [42, 180, 0, 177, 154, 0, 15, 42, 182, 0, 208, 154, 0, 8, 42, 4, 182, 0, 183, 42, 180, 0, 177]
abbrev dktX5_toldHere_0 : List UInt8 := dkwX5_toldHere_0 ++ dktX5_toldHere_1
theorem dksX5_toldHere_0 : cX5_toldHere.data.toList.drop 0 = dktX5_toldHere_0 := by decide +kernel
theorem dksX5_toldHere_1 : cX5_toldHere.data.toList.drop 23 = dktX5_toldHere_1 := dk_seg dksX5_toldHere_0 23 rfl rfl
theorem dksX5_toldHere_2 : cX5_toldHere.data.toList.drop 47 = dktX5_toldHere_2 := dk_seg dksX5_toldHere_1 24 rfl rfl
theorem dX5_toldHere_0 : decode cX5_toldHere 0 = .ok (.aload_n 0, 1) := dk_42 (dk_at dksX5_toldHere_0 0 rfl rfl)
theorem dX5_toldHere_1 : decode cX5_toldHere 1 = .ok (.getfield 177, 3) := dk_180 0 177 (dk_at dksX5_toldHere_0 1 rfl rfl)
theorem dX5_toldHere_4 : decode cX5_toldHere 4 = .ok (.ifCond .ne 15, 3) := dk_154 0 15 (dk_at dksX5_toldHere_0 4 rfl rfl)
theorem dX5_toldHere_7 : decode cX5_toldHere 7 = .ok (.aload_n 0, 1) := dk_42 (dk_at dksX5_toldHere_0 7 rfl rfl)
theorem dX5_toldHere_8 : decode cX5_toldHere 8 = .ok (.invokevirtual 208, 3) := dk_182 0 208 (dk_at dksX5_toldHere_0 8 rfl rfl)
theorem dX5_toldHere_11 : decode cX5_toldHere 11 = .ok (.ifCond .ne 8, 3) := dk_154 0 8 (dk_at dksX5_toldHere_0 11 rfl rfl)
theorem dX5_toldHere_14 : decode cX5_toldHere 14 = .ok (.aload_n 0, 1) := dk_42 (dk_at dksX5_toldHere_0 14 rfl rfl)
theorem dX5_toldHere_15 : decode cX5_toldHere 15 = .ok (.iconst 1, 1) := dk_4 (dk_at dksX5_toldHere_0 15 rfl rfl)
theorem dX5_toldHere_16 : decode cX5_toldHere 16 = .ok (.invokevirtual 183, 3) := dk_182 0 183 (dk_at dksX5_toldHere_0 16 rfl rfl)
theorem dX5_toldHere_19 : decode cX5_toldHere 19 = .ok (.aload_n 0, 1) := dk_42 (dk_at dksX5_toldHere_0 19 rfl rfl)
theorem dX5_toldHere_20 : decode cX5_toldHere 20 = .ok (.getfield 177, 3) := dk_180 0 177 (dk_at dksX5_toldHere_0 20 rfl rfl)
theorem dX5_toldHere_23 : decode cX5_toldHere 23 = .ok (.ifCond .le 7, 3) := dk_158 0 7 (dk_at dksX5_toldHere_1 0 rfl rfl)
theorem dX5_toldHere_26 : decode cX5_toldHere 26 = .ok (.iconst (-1), 1) := dk_2 (dk_at dksX5_toldHere_1 3 rfl rfl)
theorem dX5_toldHere_27 : decode cX5_toldHere 27 = .ok (.goto 8, 3) := dk_167 0 8 (dk_at dksX5_toldHere_1 4 rfl rfl)
theorem dX5_toldHere_30 : decode cX5_toldHere 30 = .ok (.aload_n 0, 1) := dk_42 (dk_at dksX5_toldHere_1 7 rfl rfl)
theorem dX5_toldHere_31 : decode cX5_toldHere 31 = .ok (.iload_n 1, 1) := dk_27 (dk_at dksX5_toldHere_1 8 rfl rfl)
theorem dX5_toldHere_32 : decode cX5_toldHere 32 = .ok (.invokevirtual 212, 3) := dk_182 0 212 (dk_at dksX5_toldHere_1 9 rfl rfl)
theorem dX5_toldHere_35 : decode cX5_toldHere 35 = .ok (.istore_n 2, 1) := dk_61 (dk_at dksX5_toldHere_1 12 rfl rfl)
theorem dX5_toldHere_36 : decode cX5_toldHere 36 = .ok (.aload_n 0, 1) := dk_42 (dk_at dksX5_toldHere_1 13 rfl rfl)
theorem dX5_toldHere_37 : decode cX5_toldHere 37 = .ok (.getfield 177, 3) := dk_180 0 177 (dk_at dksX5_toldHere_1 14 rfl rfl)
theorem dX5_toldHere_40 : decode cX5_toldHere 40 = .ok (.ifCond .ne 12, 3) := dk_154 0 12 (dk_at dksX5_toldHere_1 17 rfl rfl)
theorem dX5_toldHere_43 : decode cX5_toldHere 43 = .ok (.iload_n 2, 1) := dk_28 (dk_at dksX5_toldHere_1 20 rfl rfl)
theorem dX5_toldHere_44 : decode cX5_toldHere 44 = .ok (.ifCond .ge 8, 3) := dk_156 0 8 (dk_at dksX5_toldHere_1 21 rfl rfl)
theorem dX5_toldHere_47 : decode cX5_toldHere 47 = .ok (.aload_n 0, 1) := dk_42 (dk_at dksX5_toldHere_2 0 rfl rfl)
theorem dX5_toldHere_48 : decode cX5_toldHere 48 = .ok (.iconst 2, 1) := dk_5 (dk_at dksX5_toldHere_2 1 rfl rfl)
theorem dX5_toldHere_49 : decode cX5_toldHere 49 = .ok (.invokevirtual 183, 3) := dk_182 0 183 (dk_at dksX5_toldHere_2 2 rfl rfl)
theorem dX5_toldHere_52 : decode cX5_toldHere 52 = .ok (.aload_n 0, 1) := dk_42 (dk_at dksX5_toldHere_2 5 rfl rfl)
theorem dX5_toldHere_53 : decode cX5_toldHere 53 = .ok (.getfield 177, 3) := dk_180 0 177 (dk_at dksX5_toldHere_2 6 rfl rfl)
theorem dX5_toldHere_56 : decode cX5_toldHere 56 = .ok (.ifCond .le 7, 3) := dk_158 0 7 (dk_at dksX5_toldHere_2 9 rfl rfl)
theorem dX5_toldHere_59 : decode cX5_toldHere 59 = .ok (.iconst 0, 1) := dk_3 (dk_at dksX5_toldHere_2 12 rfl rfl)
theorem dX5_toldHere_60 : decode cX5_toldHere 60 = .ok (.goto 4, 3) := dk_167 0 4 (dk_at dksX5_toldHere_2 13 rfl rfl)
theorem dX5_toldHere_63 : decode cX5_toldHere 63 = .ok (.iload_n 2, 1) := dk_28 (dk_at dksX5_toldHere_2 16 rfl rfl)
theorem dX5_toldHere_64 : decode cX5_toldHere 64 = .ok (.ireturn, 1) := dk_172 (dk_at dksX5_toldHere_2 17 rfl rfl)
abbrev cX5_readOnce : ByteArray := prog_23_method_30_code
def yX5_readOnce : MethodName := ⟨RX5, "readOnce", "()V"⟩
def dkwX5_readOnce_8 : List UInt8 := [16, 106, 27, 96, 7, 100, 42, 180, 0, 222, 79, 42, 3, 182, 0, 253, 42, 3, 3, 182, 1, 0, 177]
abbrev dktX5_readOnce_8 : List UInt8 := dkwX5_readOnce_8 ++ []
def dkwX5_readOnce_7 : List UInt8 := [160, 0, 20, 42, 180, 0, 89, 16, 104, 42, 3, 16, 10, 182, 0, 195, 79, 167, 0, 29, 42, 180, 0, 89]
abbrev dktX5_readOnce_7 : List UInt8 := dkwX5_readOnce_7 ++ dktX5_readOnce_8
def dkwX5_readOnce_6 : List UInt8 := [160, 0, 20, 42, 180, 0, 89, 16, 103, 42, 4, 16, 60, 182, 0, 195, 79, 167, 0, 51, 27, 6]
abbrev dktX5_readOnce_6 : List UInt8 := dkwX5_readOnce_6 ++ dktX5_readOnce_7
def dkwX5_readOnce_5 : List UInt8 := [160, 0, 22, 42, 180, 0, 89, 16, 102, 42, 16, 76, 16, 12, 3, 182, 0, 250, 79, 167, 0, 73, 27, 5]
abbrev dktX5_readOnce_5 : List UInt8 := dkwX5_readOnce_5 ++ dktX5_readOnce_6
def dkwX5_readOnce_4 : List UInt8 := [154, 0, 22, 42, 180, 0, 89, 16, 101, 42, 16, 68, 16, 8, 4, 182, 0, 250, 79, 167, 0, 97, 27, 4]
abbrev dktX5_readOnce_4 : List UInt8 := dkwX5_readOnce_4 ++ dktX5_readOnce_5
def dkwX5_readOnce_3 : List UInt8 := [42, 89, 180, 0, 225, 4, 27, 120, 128, 181, 0, 225, 42, 89, 180, 0, 174, 4, 96, 181, 0, 174, 27]
abbrev dktX5_readOnce_3 : List UInt8 := dkwX5_readOnce_3 ++ dktX5_readOnce_4
def dkwX5_readOnce_2 : List UInt8 := [180, 0, 225, 27, 122, 4, 126, 4, 160, 0, 8, 42, 6, 182, 0, 183, 42, 180, 0, 177, 158, 0, 4, 177]
abbrev dktX5_readOnce_2 : List UInt8 := dkwX5_readOnce_2 ++ dktX5_readOnce_3
def dkwX5_readOnce_1 : List UInt8 := [167, 0, 9, 42, 7, 7, 182, 0, 199, 60, 27, 156, 0, 11, 42, 4, 182, 0, 183, 167, 0, 20, 42]
abbrev dktX5_readOnce_1 : List UInt8 := dkwX5_readOnce_1 ++ dktX5_readOnce_2
def dkwX5_readOnce_0 : List UInt8 := [42, 16, 9, 182, 0, 186, 153, 0, 7, 7, 167, 0, 22, 42, 16, 10, 182, 0, 186, 153, 0, 7, 8]
abbrev dktX5_readOnce_0 : List UInt8 := dkwX5_readOnce_0 ++ dktX5_readOnce_1
theorem dksX5_readOnce_0 : cX5_readOnce.data.toList.drop 0 = dktX5_readOnce_0 := by decide +kernel
theorem dksX5_readOnce_1 : cX5_readOnce.data.toList.drop 23 = dktX5_readOnce_1 := dk_seg dksX5_readOnce_0 23 rfl rfl
theorem dksX5_readOnce_2 : cX5_readOnce.data.toList.drop 46 = dktX5_readOnce_2 := dk_seg dksX5_readOnce_1 23 rfl rfl
theorem dksX5_readOnce_3 : cX5_readOnce.data.toList.drop 70 = dktX5_readOnce_3 := dk_seg dksX5_readOnce_2 24 rfl rfl
theorem dksX5_readOnce_4 : cX5_readOnce.data.toList.drop 93 = dktX5_readOnce_4 := dk_seg dksX5_readOnce_3 23 rfl rfl
theorem dksX5_readOnce_5 : cX5_readOnce.data.toList.drop 117 = dktX5_readOnce_5 := dk_seg dksX5_readOnce_4 24 rfl rfl
theorem dksX5_readOnce_6 : cX5_readOnce.data.toList.drop 141 = dktX5_readOnce_6 := dk_seg dksX5_readOnce_5 24 rfl rfl
theorem dksX5_readOnce_7 : cX5_readOnce.data.toList.drop 163 = dktX5_readOnce_7 := dk_seg dksX5_readOnce_6 22 rfl rfl
theorem dksX5_readOnce_8 : cX5_readOnce.data.toList.drop 187 = dktX5_readOnce_8 := dk_seg dksX5_readOnce_7 24 rfl rfl
theorem dX5_readOnce_0 : decode cX5_readOnce 0 = .ok (.aload_n 0, 1) := dk_42 (dk_at dksX5_readOnce_0 0 rfl rfl)
theorem dX5_readOnce_1 : decode cX5_readOnce 1 = .ok (.bipush 9, 2) := dk_16 9 (dk_at dksX5_readOnce_0 1 rfl rfl)
theorem dX5_readOnce_3 : decode cX5_readOnce 3 = .ok (.invokevirtual 186, 3) := dk_182 0 186 (dk_at dksX5_readOnce_0 3 rfl rfl)
theorem dX5_readOnce_6 : decode cX5_readOnce 6 = .ok (.ifCond .eq 7, 3) := dk_153 0 7 (dk_at dksX5_readOnce_0 6 rfl rfl)
theorem dX5_readOnce_9 : decode cX5_readOnce 9 = .ok (.iconst 4, 1) := dk_7 (dk_at dksX5_readOnce_0 9 rfl rfl)
theorem dX5_readOnce_10 : decode cX5_readOnce 10 = .ok (.goto 22, 3) := dk_167 0 22 (dk_at dksX5_readOnce_0 10 rfl rfl)
theorem dX5_readOnce_13 : decode cX5_readOnce 13 = .ok (.aload_n 0, 1) := dk_42 (dk_at dksX5_readOnce_0 13 rfl rfl)
theorem dX5_readOnce_14 : decode cX5_readOnce 14 = .ok (.bipush 10, 2) := dk_16 10 (dk_at dksX5_readOnce_0 14 rfl rfl)
theorem dX5_readOnce_16 : decode cX5_readOnce 16 = .ok (.invokevirtual 186, 3) := dk_182 0 186 (dk_at dksX5_readOnce_0 16 rfl rfl)
theorem dX5_readOnce_19 : decode cX5_readOnce 19 = .ok (.ifCond .eq 7, 3) := dk_153 0 7 (dk_at dksX5_readOnce_0 19 rfl rfl)
theorem dX5_readOnce_22 : decode cX5_readOnce 22 = .ok (.iconst 5, 1) := dk_8 (dk_at dksX5_readOnce_0 22 rfl rfl)
theorem dX5_readOnce_23 : decode cX5_readOnce 23 = .ok (.goto 9, 3) := dk_167 0 9 (dk_at dksX5_readOnce_1 0 rfl rfl)
theorem dX5_readOnce_26 : decode cX5_readOnce 26 = .ok (.aload_n 0, 1) := dk_42 (dk_at dksX5_readOnce_1 3 rfl rfl)
theorem dX5_readOnce_27 : decode cX5_readOnce 27 = .ok (.iconst 4, 1) := dk_7 (dk_at dksX5_readOnce_1 4 rfl rfl)
theorem dX5_readOnce_28 : decode cX5_readOnce 28 = .ok (.iconst 4, 1) := dk_7 (dk_at dksX5_readOnce_1 5 rfl rfl)
theorem dX5_readOnce_29 : decode cX5_readOnce 29 = .ok (.invokevirtual 199, 3) := dk_182 0 199 (dk_at dksX5_readOnce_1 6 rfl rfl)
theorem dX5_readOnce_32 : decode cX5_readOnce 32 = .ok (.istore_n 1, 1) := dk_60 (dk_at dksX5_readOnce_1 9 rfl rfl)
theorem dX5_readOnce_33 : decode cX5_readOnce 33 = .ok (.iload_n 1, 1) := dk_27 (dk_at dksX5_readOnce_1 10 rfl rfl)
theorem dX5_readOnce_34 : decode cX5_readOnce 34 = .ok (.ifCond .ge 11, 3) := dk_156 0 11 (dk_at dksX5_readOnce_1 11 rfl rfl)
theorem dX5_readOnce_37 : decode cX5_readOnce 37 = .ok (.aload_n 0, 1) := dk_42 (dk_at dksX5_readOnce_1 14 rfl rfl)
theorem dX5_readOnce_38 : decode cX5_readOnce 38 = .ok (.iconst 1, 1) := dk_4 (dk_at dksX5_readOnce_1 15 rfl rfl)
theorem dX5_readOnce_39 : decode cX5_readOnce 39 = .ok (.invokevirtual 183, 3) := dk_182 0 183 (dk_at dksX5_readOnce_1 16 rfl rfl)
theorem dX5_readOnce_42 : decode cX5_readOnce 42 = .ok (.goto 20, 3) := dk_167 0 20 (dk_at dksX5_readOnce_1 19 rfl rfl)
theorem dX5_readOnce_45 : decode cX5_readOnce 45 = .ok (.aload_n 0, 1) := dk_42 (dk_at dksX5_readOnce_1 22 rfl rfl)
theorem dX5_readOnce_46 : decode cX5_readOnce 46 = .ok (.getfield 225, 3) := dk_180 0 225 (dk_at dksX5_readOnce_2 0 rfl rfl)
theorem dX5_readOnce_49 : decode cX5_readOnce 49 = .ok (.iload_n 1, 1) := dk_27 (dk_at dksX5_readOnce_2 3 rfl rfl)
theorem dX5_readOnce_50 : decode cX5_readOnce 50 = .ok (.ishr, 1) := dk_122 (dk_at dksX5_readOnce_2 4 rfl rfl)
theorem dX5_readOnce_51 : decode cX5_readOnce 51 = .ok (.iconst 1, 1) := dk_4 (dk_at dksX5_readOnce_2 5 rfl rfl)
theorem dX5_readOnce_52 : decode cX5_readOnce 52 = .ok (.iand, 1) := dk_126 (dk_at dksX5_readOnce_2 6 rfl rfl)
theorem dX5_readOnce_53 : decode cX5_readOnce 53 = .ok (.iconst 1, 1) := dk_4 (dk_at dksX5_readOnce_2 7 rfl rfl)
theorem dX5_readOnce_54 : decode cX5_readOnce 54 = .ok (.if_icmp .ne 8, 3) := dk_160 0 8 (dk_at dksX5_readOnce_2 8 rfl rfl)
theorem dX5_readOnce_57 : decode cX5_readOnce 57 = .ok (.aload_n 0, 1) := dk_42 (dk_at dksX5_readOnce_2 11 rfl rfl)
theorem dX5_readOnce_58 : decode cX5_readOnce 58 = .ok (.iconst 3, 1) := dk_6 (dk_at dksX5_readOnce_2 12 rfl rfl)
theorem dX5_readOnce_59 : decode cX5_readOnce 59 = .ok (.invokevirtual 183, 3) := dk_182 0 183 (dk_at dksX5_readOnce_2 13 rfl rfl)
theorem dX5_readOnce_62 : decode cX5_readOnce 62 = .ok (.aload_n 0, 1) := dk_42 (dk_at dksX5_readOnce_2 16 rfl rfl)
theorem dX5_readOnce_63 : decode cX5_readOnce 63 = .ok (.getfield 177, 3) := dk_180 0 177 (dk_at dksX5_readOnce_2 17 rfl rfl)
theorem dX5_readOnce_66 : decode cX5_readOnce 66 = .ok (.ifCond .le 4, 3) := dk_158 0 4 (dk_at dksX5_readOnce_2 20 rfl rfl)
theorem dX5_readOnce_69 : decode cX5_readOnce 69 = .ok (.return_, 1) := dk_177 (dk_at dksX5_readOnce_2 23 rfl rfl)
theorem dX5_readOnce_70 : decode cX5_readOnce 70 = .ok (.aload_n 0, 1) := dk_42 (dk_at dksX5_readOnce_3 0 rfl rfl)
theorem dX5_readOnce_71 : decode cX5_readOnce 71 = .ok (.dup, 1) := dk_89 (dk_at dksX5_readOnce_3 1 rfl rfl)
theorem dX5_readOnce_72 : decode cX5_readOnce 72 = .ok (.getfield 225, 3) := dk_180 0 225 (dk_at dksX5_readOnce_3 2 rfl rfl)
theorem dX5_readOnce_75 : decode cX5_readOnce 75 = .ok (.iconst 1, 1) := dk_4 (dk_at dksX5_readOnce_3 5 rfl rfl)
theorem dX5_readOnce_76 : decode cX5_readOnce 76 = .ok (.iload_n 1, 1) := dk_27 (dk_at dksX5_readOnce_3 6 rfl rfl)
theorem dX5_readOnce_77 : decode cX5_readOnce 77 = .ok (.ishl, 1) := dk_120 (dk_at dksX5_readOnce_3 7 rfl rfl)
theorem dX5_readOnce_78 : decode cX5_readOnce 78 = .ok (.ior, 1) := dk_128 (dk_at dksX5_readOnce_3 8 rfl rfl)
theorem dX5_readOnce_79 : decode cX5_readOnce 79 = .ok (.putfield 225, 3) := dk_181 0 225 (dk_at dksX5_readOnce_3 9 rfl rfl)
theorem dX5_readOnce_82 : decode cX5_readOnce 82 = .ok (.aload_n 0, 1) := dk_42 (dk_at dksX5_readOnce_3 12 rfl rfl)
theorem dX5_readOnce_83 : decode cX5_readOnce 83 = .ok (.dup, 1) := dk_89 (dk_at dksX5_readOnce_3 13 rfl rfl)
theorem dX5_readOnce_84 : decode cX5_readOnce 84 = .ok (.getfield 174, 3) := dk_180 0 174 (dk_at dksX5_readOnce_3 14 rfl rfl)
theorem dX5_readOnce_87 : decode cX5_readOnce 87 = .ok (.iconst 1, 1) := dk_4 (dk_at dksX5_readOnce_3 17 rfl rfl)
theorem dX5_readOnce_88 : decode cX5_readOnce 88 = .ok (.iadd, 1) := dk_96 (dk_at dksX5_readOnce_3 18 rfl rfl)
theorem dX5_readOnce_89 : decode cX5_readOnce 89 = .ok (.putfield 174, 3) := dk_181 0 174 (dk_at dksX5_readOnce_3 19 rfl rfl)
theorem dX5_readOnce_92 : decode cX5_readOnce 92 = .ok (.iload_n 1, 1) := dk_27 (dk_at dksX5_readOnce_3 22 rfl rfl)
theorem dX5_readOnce_93 : decode cX5_readOnce 93 = .ok (.ifCond .ne 22, 3) := dk_154 0 22 (dk_at dksX5_readOnce_4 0 rfl rfl)
theorem dX5_readOnce_96 : decode cX5_readOnce 96 = .ok (.aload_n 0, 1) := dk_42 (dk_at dksX5_readOnce_4 3 rfl rfl)
theorem dX5_readOnce_97 : decode cX5_readOnce 97 = .ok (.getfield 89, 3) := dk_180 0 89 (dk_at dksX5_readOnce_4 4 rfl rfl)
theorem dX5_readOnce_100 : decode cX5_readOnce 100 = .ok (.bipush 101, 2) := dk_16 101 (dk_at dksX5_readOnce_4 7 rfl rfl)
theorem dX5_readOnce_102 : decode cX5_readOnce 102 = .ok (.aload_n 0, 1) := dk_42 (dk_at dksX5_readOnce_4 9 rfl rfl)
theorem dX5_readOnce_103 : decode cX5_readOnce 103 = .ok (.bipush 68, 2) := dk_16 68 (dk_at dksX5_readOnce_4 10 rfl rfl)
theorem dX5_readOnce_105 : decode cX5_readOnce 105 = .ok (.bipush 8, 2) := dk_16 8 (dk_at dksX5_readOnce_4 12 rfl rfl)
theorem dX5_readOnce_107 : decode cX5_readOnce 107 = .ok (.iconst 1, 1) := dk_4 (dk_at dksX5_readOnce_4 14 rfl rfl)
theorem dX5_readOnce_108 : decode cX5_readOnce 108 = .ok (.invokevirtual 250, 3) := dk_182 0 250 (dk_at dksX5_readOnce_4 15 rfl rfl)
theorem dX5_readOnce_111 : decode cX5_readOnce 111 = .ok (.iastore, 1) := dk_79 (dk_at dksX5_readOnce_4 18 rfl rfl)
theorem dX5_readOnce_112 : decode cX5_readOnce 112 = .ok (.goto 97, 3) := dk_167 0 97 (dk_at dksX5_readOnce_4 19 rfl rfl)
theorem dX5_readOnce_115 : decode cX5_readOnce 115 = .ok (.iload_n 1, 1) := dk_27 (dk_at dksX5_readOnce_4 22 rfl rfl)
theorem dX5_readOnce_116 : decode cX5_readOnce 116 = .ok (.iconst 1, 1) := dk_4 (dk_at dksX5_readOnce_4 23 rfl rfl)
theorem dX5_readOnce_117 : decode cX5_readOnce 117 = .ok (.if_icmp .ne 22, 3) := dk_160 0 22 (dk_at dksX5_readOnce_5 0 rfl rfl)
theorem dX5_readOnce_120 : decode cX5_readOnce 120 = .ok (.aload_n 0, 1) := dk_42 (dk_at dksX5_readOnce_5 3 rfl rfl)
theorem dX5_readOnce_121 : decode cX5_readOnce 121 = .ok (.getfield 89, 3) := dk_180 0 89 (dk_at dksX5_readOnce_5 4 rfl rfl)
theorem dX5_readOnce_124 : decode cX5_readOnce 124 = .ok (.bipush 102, 2) := dk_16 102 (dk_at dksX5_readOnce_5 7 rfl rfl)
theorem dX5_readOnce_126 : decode cX5_readOnce 126 = .ok (.aload_n 0, 1) := dk_42 (dk_at dksX5_readOnce_5 9 rfl rfl)
theorem dX5_readOnce_127 : decode cX5_readOnce 127 = .ok (.bipush 76, 2) := dk_16 76 (dk_at dksX5_readOnce_5 10 rfl rfl)
theorem dX5_readOnce_129 : decode cX5_readOnce 129 = .ok (.bipush 12, 2) := dk_16 12 (dk_at dksX5_readOnce_5 12 rfl rfl)
theorem dX5_readOnce_131 : decode cX5_readOnce 131 = .ok (.iconst 0, 1) := dk_3 (dk_at dksX5_readOnce_5 14 rfl rfl)
theorem dX5_readOnce_132 : decode cX5_readOnce 132 = .ok (.invokevirtual 250, 3) := dk_182 0 250 (dk_at dksX5_readOnce_5 15 rfl rfl)
theorem dX5_readOnce_135 : decode cX5_readOnce 135 = .ok (.iastore, 1) := dk_79 (dk_at dksX5_readOnce_5 18 rfl rfl)
theorem dX5_readOnce_136 : decode cX5_readOnce 136 = .ok (.goto 73, 3) := dk_167 0 73 (dk_at dksX5_readOnce_5 19 rfl rfl)
theorem dX5_readOnce_139 : decode cX5_readOnce 139 = .ok (.iload_n 1, 1) := dk_27 (dk_at dksX5_readOnce_5 22 rfl rfl)
theorem dX5_readOnce_140 : decode cX5_readOnce 140 = .ok (.iconst 2, 1) := dk_5 (dk_at dksX5_readOnce_5 23 rfl rfl)
theorem dX5_readOnce_141 : decode cX5_readOnce 141 = .ok (.if_icmp .ne 20, 3) := dk_160 0 20 (dk_at dksX5_readOnce_6 0 rfl rfl)
theorem dX5_readOnce_144 : decode cX5_readOnce 144 = .ok (.aload_n 0, 1) := dk_42 (dk_at dksX5_readOnce_6 3 rfl rfl)
theorem dX5_readOnce_145 : decode cX5_readOnce 145 = .ok (.getfield 89, 3) := dk_180 0 89 (dk_at dksX5_readOnce_6 4 rfl rfl)
theorem dX5_readOnce_148 : decode cX5_readOnce 148 = .ok (.bipush 103, 2) := dk_16 103 (dk_at dksX5_readOnce_6 7 rfl rfl)
theorem dX5_readOnce_150 : decode cX5_readOnce 150 = .ok (.aload_n 0, 1) := dk_42 (dk_at dksX5_readOnce_6 9 rfl rfl)
theorem dX5_readOnce_151 : decode cX5_readOnce 151 = .ok (.iconst 1, 1) := dk_4 (dk_at dksX5_readOnce_6 10 rfl rfl)
theorem dX5_readOnce_152 : decode cX5_readOnce 152 = .ok (.bipush 60, 2) := dk_16 60 (dk_at dksX5_readOnce_6 11 rfl rfl)
theorem dX5_readOnce_154 : decode cX5_readOnce 154 = .ok (.invokevirtual 195, 3) := dk_182 0 195 (dk_at dksX5_readOnce_6 13 rfl rfl)
theorem dX5_readOnce_157 : decode cX5_readOnce 157 = .ok (.iastore, 1) := dk_79 (dk_at dksX5_readOnce_6 16 rfl rfl)
theorem dX5_readOnce_158 : decode cX5_readOnce 158 = .ok (.goto 51, 3) := dk_167 0 51 (dk_at dksX5_readOnce_6 17 rfl rfl)
theorem dX5_readOnce_161 : decode cX5_readOnce 161 = .ok (.iload_n 1, 1) := dk_27 (dk_at dksX5_readOnce_6 20 rfl rfl)
theorem dX5_readOnce_162 : decode cX5_readOnce 162 = .ok (.iconst 3, 1) := dk_6 (dk_at dksX5_readOnce_6 21 rfl rfl)
theorem dX5_readOnce_163 : decode cX5_readOnce 163 = .ok (.if_icmp .ne 20, 3) := dk_160 0 20 (dk_at dksX5_readOnce_7 0 rfl rfl)
theorem dX5_readOnce_166 : decode cX5_readOnce 166 = .ok (.aload_n 0, 1) := dk_42 (dk_at dksX5_readOnce_7 3 rfl rfl)
theorem dX5_readOnce_167 : decode cX5_readOnce 167 = .ok (.getfield 89, 3) := dk_180 0 89 (dk_at dksX5_readOnce_7 4 rfl rfl)
theorem dX5_readOnce_170 : decode cX5_readOnce 170 = .ok (.bipush 104, 2) := dk_16 104 (dk_at dksX5_readOnce_7 7 rfl rfl)
theorem dX5_readOnce_172 : decode cX5_readOnce 172 = .ok (.aload_n 0, 1) := dk_42 (dk_at dksX5_readOnce_7 9 rfl rfl)
theorem dX5_readOnce_173 : decode cX5_readOnce 173 = .ok (.iconst 0, 1) := dk_3 (dk_at dksX5_readOnce_7 10 rfl rfl)
theorem dX5_readOnce_174 : decode cX5_readOnce 174 = .ok (.bipush 10, 2) := dk_16 10 (dk_at dksX5_readOnce_7 11 rfl rfl)
theorem dX5_readOnce_176 : decode cX5_readOnce 176 = .ok (.invokevirtual 195, 3) := dk_182 0 195 (dk_at dksX5_readOnce_7 13 rfl rfl)
theorem dX5_readOnce_179 : decode cX5_readOnce 179 = .ok (.iastore, 1) := dk_79 (dk_at dksX5_readOnce_7 16 rfl rfl)
theorem dX5_readOnce_180 : decode cX5_readOnce 180 = .ok (.goto 29, 3) := dk_167 0 29 (dk_at dksX5_readOnce_7 17 rfl rfl)
theorem dX5_readOnce_183 : decode cX5_readOnce 183 = .ok (.aload_n 0, 1) := dk_42 (dk_at dksX5_readOnce_7 20 rfl rfl)
theorem dX5_readOnce_184 : decode cX5_readOnce 184 = .ok (.getfield 89, 3) := dk_180 0 89 (dk_at dksX5_readOnce_7 21 rfl rfl)
theorem dX5_readOnce_187 : decode cX5_readOnce 187 = .ok (.bipush 106, 2) := dk_16 106 (dk_at dksX5_readOnce_8 0 rfl rfl)
theorem dX5_readOnce_189 : decode cX5_readOnce 189 = .ok (.iload_n 1, 1) := dk_27 (dk_at dksX5_readOnce_8 2 rfl rfl)
theorem dX5_readOnce_190 : decode cX5_readOnce 190 = .ok (.iadd, 1) := dk_96 (dk_at dksX5_readOnce_8 3 rfl rfl)
theorem dX5_readOnce_191 : decode cX5_readOnce 191 = .ok (.iconst 4, 1) := dk_7 (dk_at dksX5_readOnce_8 4 rfl rfl)
theorem dX5_readOnce_192 : decode cX5_readOnce 192 = .ok (.isub, 1) := dk_100 (dk_at dksX5_readOnce_8 5 rfl rfl)
theorem dX5_readOnce_193 : decode cX5_readOnce 193 = .ok (.aload_n 0, 1) := dk_42 (dk_at dksX5_readOnce_8 6 rfl rfl)
theorem dX5_readOnce_194 : decode cX5_readOnce 194 = .ok (.getfield 222, 3) := dk_180 0 222 (dk_at dksX5_readOnce_8 7 rfl rfl)
theorem dX5_readOnce_197 : decode cX5_readOnce 197 = .ok (.iastore, 1) := dk_79 (dk_at dksX5_readOnce_8 10 rfl rfl)
theorem dX5_readOnce_198 : decode cX5_readOnce 198 = .ok (.aload_n 0, 1) := dk_42 (dk_at dksX5_readOnce_8 11 rfl rfl)
theorem dX5_readOnce_199 : decode cX5_readOnce 199 = .ok (.iconst 0, 1) := dk_3 (dk_at dksX5_readOnce_8 12 rfl rfl)
theorem dX5_readOnce_200 : decode cX5_readOnce 200 = .ok (.invokevirtual 253, 3) := dk_182 0 253 (dk_at dksX5_readOnce_8 13 rfl rfl)
theorem dX5_readOnce_203 : decode cX5_readOnce 203 = .ok (.aload_n 0, 1) := dk_42 (dk_at dksX5_readOnce_8 16 rfl rfl)
theorem dX5_readOnce_204 : decode cX5_readOnce 204 = .ok (.iconst 0, 1) := dk_3 (dk_at dksX5_readOnce_8 17 rfl rfl)
theorem dX5_readOnce_205 : decode cX5_readOnce 205 = .ok (.iconst 0, 1) := dk_3 (dk_at dksX5_readOnce_8 18 rfl rfl)
theorem dX5_readOnce_206 : decode cX5_readOnce 206 = .ok (.invokevirtual 256, 3) := dk_182 1 0 (dk_at dksX5_readOnce_8 19 rfl rfl)
theorem dX5_readOnce_209 : decode cX5_readOnce 209 = .ok (.return_, 1) := dk_177 (dk_at dksX5_readOnce_8 22 rfl rfl)
abbrev cX5_readRow : ByteArray := prog_23_method_31_code
def yX5_readRow : MethodName := ⟨RX5, "readRow", "(III)I"⟩
def dkwX5_readRow_4 : List UInt8 := [167, 255, 167, 21, 4, 172]
abbrev dktX5_readRow_4 : List UInt8 := dkwX5_readRow_4 ++ []
def dkwX5_readRow_3 : List UInt8 := [180, 0, 177, 154, 0, 20, 42, 180, 0, 89, 16, 100, 27, 96, 21, 4, 96, 21, 5, 79, 132, 4, 1]
abbrev dktX5_readRow_3 : List UInt8 := dkwX5_readRow_3 ++ dktX5_readRow_4
def dkwX5_readRow_2 : List UInt8 := [160, 0, 21, 42, 89, 180, 0, 174, 4, 100, 181, 0, 174, 42, 8, 182, 0, 183, 167, 0, 27, 42]
abbrev dktX5_readRow_2 : List UInt8 := dkwX5_readRow_2 ++ dktX5_readRow_3
def dkwX5_readRow_1 : List UInt8 := [5, 160, 0, 70, 42, 29, 16, 9, 182, 0, 195, 54, 5, 42, 180, 0, 177, 154, 0, 27, 21, 4, 28]
abbrev dktX5_readRow_1 : List UInt8 := dkwX5_readRow_1 ++ dktX5_readRow_2
def dkwX5_readRow_0 : List UInt8 := [3, 54, 4, 42, 180, 0, 177, 154, 0, 88, 21, 4, 153, 0, 16, 42, 180, 0, 24, 42, 180, 0, 174, 46]
abbrev dktX5_readRow_0 : List UInt8 := dkwX5_readRow_0 ++ dktX5_readRow_1
theorem dksX5_readRow_0 : cX5_readRow.data.toList.drop 0 = dktX5_readRow_0 := by decide +kernel
theorem dksX5_readRow_1 : cX5_readRow.data.toList.drop 24 = dktX5_readRow_1 := dk_seg dksX5_readRow_0 24 rfl rfl
theorem dksX5_readRow_2 : cX5_readRow.data.toList.drop 47 = dktX5_readRow_2 := dk_seg dksX5_readRow_1 23 rfl rfl
theorem dksX5_readRow_3 : cX5_readRow.data.toList.drop 69 = dktX5_readRow_3 := dk_seg dksX5_readRow_2 22 rfl rfl
theorem dksX5_readRow_4 : cX5_readRow.data.toList.drop 92 = dktX5_readRow_4 := dk_seg dksX5_readRow_3 23 rfl rfl
theorem dX5_readRow_0 : decode cX5_readRow 0 = .ok (.iconst 0, 1) := dk_3 (dk_at dksX5_readRow_0 0 rfl rfl)
theorem dX5_readRow_1 : decode cX5_readRow 1 = .ok (.istore 4, 2) := dk_54 4 (dk_at dksX5_readRow_0 1 rfl rfl)
theorem dX5_readRow_3 : decode cX5_readRow 3 = .ok (.aload_n 0, 1) := dk_42 (dk_at dksX5_readRow_0 3 rfl rfl)
theorem dX5_readRow_4 : decode cX5_readRow 4 = .ok (.getfield 177, 3) := dk_180 0 177 (dk_at dksX5_readRow_0 4 rfl rfl)
theorem dX5_readRow_7 : decode cX5_readRow 7 = .ok (.ifCond .ne 88, 3) := dk_154 0 88 (dk_at dksX5_readRow_0 7 rfl rfl)
theorem dX5_readRow_10 : decode cX5_readRow 10 = .ok (.iload 4, 2) := dk_21 4 (dk_at dksX5_readRow_0 10 rfl rfl)
theorem dX5_readRow_12 : decode cX5_readRow 12 = .ok (.ifCond .eq 16, 3) := dk_153 0 16 (dk_at dksX5_readRow_0 12 rfl rfl)
theorem dX5_readRow_15 : decode cX5_readRow 15 = .ok (.aload_n 0, 1) := dk_42 (dk_at dksX5_readRow_0 15 rfl rfl)
theorem dX5_readRow_16 : decode cX5_readRow 16 = .ok (.getfield 24, 3) := dk_180 0 24 (dk_at dksX5_readRow_0 16 rfl rfl)
theorem dX5_readRow_19 : decode cX5_readRow 19 = .ok (.aload_n 0, 1) := dk_42 (dk_at dksX5_readRow_0 19 rfl rfl)
theorem dX5_readRow_20 : decode cX5_readRow 20 = .ok (.getfield 174, 3) := dk_180 0 174 (dk_at dksX5_readRow_0 20 rfl rfl)
theorem dX5_readRow_23 : decode cX5_readRow 23 = .ok (.iaload, 1) := dk_46 (dk_at dksX5_readRow_0 23 rfl rfl)
theorem dX5_readRow_24 : decode cX5_readRow 24 = .ok (.iconst 2, 1) := dk_5 (dk_at dksX5_readRow_1 0 rfl rfl)
theorem dX5_readRow_25 : decode cX5_readRow 25 = .ok (.if_icmp .ne 70, 3) := dk_160 0 70 (dk_at dksX5_readRow_1 1 rfl rfl)
theorem dX5_readRow_28 : decode cX5_readRow 28 = .ok (.aload_n 0, 1) := dk_42 (dk_at dksX5_readRow_1 4 rfl rfl)
theorem dX5_readRow_29 : decode cX5_readRow 29 = .ok (.iload_n 3, 1) := dk_29 (dk_at dksX5_readRow_1 5 rfl rfl)
theorem dX5_readRow_30 : decode cX5_readRow 30 = .ok (.bipush 9, 2) := dk_16 9 (dk_at dksX5_readRow_1 6 rfl rfl)
theorem dX5_readRow_32 : decode cX5_readRow 32 = .ok (.invokevirtual 195, 3) := dk_182 0 195 (dk_at dksX5_readRow_1 8 rfl rfl)
theorem dX5_readRow_35 : decode cX5_readRow 35 = .ok (.istore 5, 2) := dk_54 5 (dk_at dksX5_readRow_1 11 rfl rfl)
theorem dX5_readRow_37 : decode cX5_readRow 37 = .ok (.aload_n 0, 1) := dk_42 (dk_at dksX5_readRow_1 13 rfl rfl)
theorem dX5_readRow_38 : decode cX5_readRow 38 = .ok (.getfield 177, 3) := dk_180 0 177 (dk_at dksX5_readRow_1 14 rfl rfl)
theorem dX5_readRow_41 : decode cX5_readRow 41 = .ok (.ifCond .ne 27, 3) := dk_154 0 27 (dk_at dksX5_readRow_1 17 rfl rfl)
theorem dX5_readRow_44 : decode cX5_readRow 44 = .ok (.iload 4, 2) := dk_21 4 (dk_at dksX5_readRow_1 20 rfl rfl)
theorem dX5_readRow_46 : decode cX5_readRow 46 = .ok (.iload_n 2, 1) := dk_28 (dk_at dksX5_readRow_1 22 rfl rfl)
theorem dX5_readRow_47 : decode cX5_readRow 47 = .ok (.if_icmp .ne 21, 3) := dk_160 0 21 (dk_at dksX5_readRow_2 0 rfl rfl)
theorem dX5_readRow_50 : decode cX5_readRow 50 = .ok (.aload_n 0, 1) := dk_42 (dk_at dksX5_readRow_2 3 rfl rfl)
theorem dX5_readRow_51 : decode cX5_readRow 51 = .ok (.dup, 1) := dk_89 (dk_at dksX5_readRow_2 4 rfl rfl)
theorem dX5_readRow_52 : decode cX5_readRow 52 = .ok (.getfield 174, 3) := dk_180 0 174 (dk_at dksX5_readRow_2 5 rfl rfl)
theorem dX5_readRow_55 : decode cX5_readRow 55 = .ok (.iconst 1, 1) := dk_4 (dk_at dksX5_readRow_2 8 rfl rfl)
theorem dX5_readRow_56 : decode cX5_readRow 56 = .ok (.isub, 1) := dk_100 (dk_at dksX5_readRow_2 9 rfl rfl)
theorem dX5_readRow_57 : decode cX5_readRow 57 = .ok (.putfield 174, 3) := dk_181 0 174 (dk_at dksX5_readRow_2 10 rfl rfl)
theorem dX5_readRow_60 : decode cX5_readRow 60 = .ok (.aload_n 0, 1) := dk_42 (dk_at dksX5_readRow_2 13 rfl rfl)
theorem dX5_readRow_61 : decode cX5_readRow 61 = .ok (.iconst 5, 1) := dk_8 (dk_at dksX5_readRow_2 14 rfl rfl)
theorem dX5_readRow_62 : decode cX5_readRow 62 = .ok (.invokevirtual 183, 3) := dk_182 0 183 (dk_at dksX5_readRow_2 15 rfl rfl)
theorem dX5_readRow_65 : decode cX5_readRow 65 = .ok (.goto 27, 3) := dk_167 0 27 (dk_at dksX5_readRow_2 18 rfl rfl)
theorem dX5_readRow_68 : decode cX5_readRow 68 = .ok (.aload_n 0, 1) := dk_42 (dk_at dksX5_readRow_2 21 rfl rfl)
theorem dX5_readRow_69 : decode cX5_readRow 69 = .ok (.getfield 177, 3) := dk_180 0 177 (dk_at dksX5_readRow_3 0 rfl rfl)
theorem dX5_readRow_72 : decode cX5_readRow 72 = .ok (.ifCond .ne 20, 3) := dk_154 0 20 (dk_at dksX5_readRow_3 3 rfl rfl)
theorem dX5_readRow_75 : decode cX5_readRow 75 = .ok (.aload_n 0, 1) := dk_42 (dk_at dksX5_readRow_3 6 rfl rfl)
theorem dX5_readRow_76 : decode cX5_readRow 76 = .ok (.getfield 89, 3) := dk_180 0 89 (dk_at dksX5_readRow_3 7 rfl rfl)
theorem dX5_readRow_79 : decode cX5_readRow 79 = .ok (.bipush 100, 2) := dk_16 100 (dk_at dksX5_readRow_3 10 rfl rfl)
theorem dX5_readRow_81 : decode cX5_readRow 81 = .ok (.iload_n 1, 1) := dk_27 (dk_at dksX5_readRow_3 12 rfl rfl)
theorem dX5_readRow_82 : decode cX5_readRow 82 = .ok (.iadd, 1) := dk_96 (dk_at dksX5_readRow_3 13 rfl rfl)
theorem dX5_readRow_83 : decode cX5_readRow 83 = .ok (.iload 4, 2) := dk_21 4 (dk_at dksX5_readRow_3 14 rfl rfl)
theorem dX5_readRow_85 : decode cX5_readRow 85 = .ok (.iadd, 1) := dk_96 (dk_at dksX5_readRow_3 16 rfl rfl)
theorem dX5_readRow_86 : decode cX5_readRow 86 = .ok (.iload 5, 2) := dk_21 5 (dk_at dksX5_readRow_3 17 rfl rfl)
theorem dX5_readRow_88 : decode cX5_readRow 88 = .ok (.iastore, 1) := dk_79 (dk_at dksX5_readRow_3 19 rfl rfl)
theorem dX5_readRow_89 : decode cX5_readRow 89 = .ok (.iinc 4 1, 3) := dk_132 4 1 (dk_at dksX5_readRow_3 20 rfl rfl)
theorem dX5_readRow_92 : decode cX5_readRow 92 = .ok (.goto (-89), 3) := dk_167 255 167 (dk_at dksX5_readRow_4 0 rfl rfl)
theorem dX5_readRow_95 : decode cX5_readRow 95 = .ok (.iload 4, 2) := dk_21 4 (dk_at dksX5_readRow_4 3 rfl rfl)
theorem dX5_readRow_97 : decode cX5_readRow 97 = .ok (.ireturn, 1) := dk_172 (dk_at dksX5_readRow_4 5 rfl rfl)
abbrev cX5_all : ByteArray := prog_23_method_35_code
def yX5_all : MethodName := ⟨RX5, "all", "(I)V"⟩
def dkwX5_all_2 : List UInt8 := [153, 0, 8, 16, 9, 167, 0, 5, 16, 10, 3, 182, 1, 0, 167, 255, 200, 177]
abbrev dktX5_all_2 : List UInt8 := dkwX5_all_2 ++ []
def dkwX5_all_1 : List UInt8 := [16, 21, 182, 0, 186, 61, 42, 89, 180, 0, 174, 4, 96, 181, 0, 174, 42, 27, 182, 1, 8, 42, 28]
abbrev dktX5_all_1 : List UInt8 := dkwX5_all_1 ++ dktX5_all_2
def dkwX5_all_0 : List UInt8 := [42, 27, 182, 1, 8, 42, 16, 21, 182, 0, 186, 154, 0, 12, 42, 16, 22, 182, 0, 186, 153, 0, 44, 42]
abbrev dktX5_all_0 : List UInt8 := dkwX5_all_0 ++ dktX5_all_1
theorem dksX5_all_0 : cX5_all.data.toList.drop 0 = dktX5_all_0 := by decide +kernel
theorem dksX5_all_1 : cX5_all.data.toList.drop 24 = dktX5_all_1 := dk_seg dksX5_all_0 24 rfl rfl
theorem dksX5_all_2 : cX5_all.data.toList.drop 47 = dktX5_all_2 := dk_seg dksX5_all_1 23 rfl rfl
theorem dX5_all_0 : decode cX5_all 0 = .ok (.aload_n 0, 1) := dk_42 (dk_at dksX5_all_0 0 rfl rfl)
theorem dX5_all_1 : decode cX5_all 1 = .ok (.iload_n 1, 1) := dk_27 (dk_at dksX5_all_0 1 rfl rfl)
theorem dX5_all_2 : decode cX5_all 2 = .ok (.invokevirtual 264, 3) := dk_182 1 8 (dk_at dksX5_all_0 2 rfl rfl)
theorem dX5_all_5 : decode cX5_all 5 = .ok (.aload_n 0, 1) := dk_42 (dk_at dksX5_all_0 5 rfl rfl)
theorem dX5_all_6 : decode cX5_all 6 = .ok (.bipush 21, 2) := dk_16 21 (dk_at dksX5_all_0 6 rfl rfl)
theorem dX5_all_8 : decode cX5_all 8 = .ok (.invokevirtual 186, 3) := dk_182 0 186 (dk_at dksX5_all_0 8 rfl rfl)
theorem dX5_all_11 : decode cX5_all 11 = .ok (.ifCond .ne 12, 3) := dk_154 0 12 (dk_at dksX5_all_0 11 rfl rfl)
theorem dX5_all_14 : decode cX5_all 14 = .ok (.aload_n 0, 1) := dk_42 (dk_at dksX5_all_0 14 rfl rfl)
theorem dX5_all_15 : decode cX5_all 15 = .ok (.bipush 22, 2) := dk_16 22 (dk_at dksX5_all_0 15 rfl rfl)
theorem dX5_all_17 : decode cX5_all 17 = .ok (.invokevirtual 186, 3) := dk_182 0 186 (dk_at dksX5_all_0 17 rfl rfl)
theorem dX5_all_20 : decode cX5_all 20 = .ok (.ifCond .eq 44, 3) := dk_153 0 44 (dk_at dksX5_all_0 20 rfl rfl)
theorem dX5_all_23 : decode cX5_all 23 = .ok (.aload_n 0, 1) := dk_42 (dk_at dksX5_all_0 23 rfl rfl)
theorem dX5_all_24 : decode cX5_all 24 = .ok (.bipush 21, 2) := dk_16 21 (dk_at dksX5_all_1 0 rfl rfl)
theorem dX5_all_26 : decode cX5_all 26 = .ok (.invokevirtual 186, 3) := dk_182 0 186 (dk_at dksX5_all_1 2 rfl rfl)
theorem dX5_all_29 : decode cX5_all 29 = .ok (.istore_n 2, 1) := dk_61 (dk_at dksX5_all_1 5 rfl rfl)
theorem dX5_all_30 : decode cX5_all 30 = .ok (.aload_n 0, 1) := dk_42 (dk_at dksX5_all_1 6 rfl rfl)
theorem dX5_all_31 : decode cX5_all 31 = .ok (.dup, 1) := dk_89 (dk_at dksX5_all_1 7 rfl rfl)
theorem dX5_all_32 : decode cX5_all 32 = .ok (.getfield 174, 3) := dk_180 0 174 (dk_at dksX5_all_1 8 rfl rfl)
theorem dX5_all_35 : decode cX5_all 35 = .ok (.iconst 1, 1) := dk_4 (dk_at dksX5_all_1 11 rfl rfl)
theorem dX5_all_36 : decode cX5_all 36 = .ok (.iadd, 1) := dk_96 (dk_at dksX5_all_1 12 rfl rfl)
theorem dX5_all_37 : decode cX5_all 37 = .ok (.putfield 174, 3) := dk_181 0 174 (dk_at dksX5_all_1 13 rfl rfl)
theorem dX5_all_40 : decode cX5_all 40 = .ok (.aload_n 0, 1) := dk_42 (dk_at dksX5_all_1 16 rfl rfl)
theorem dX5_all_41 : decode cX5_all 41 = .ok (.iload_n 1, 1) := dk_27 (dk_at dksX5_all_1 17 rfl rfl)
theorem dX5_all_42 : decode cX5_all 42 = .ok (.invokevirtual 264, 3) := dk_182 1 8 (dk_at dksX5_all_1 18 rfl rfl)
theorem dX5_all_45 : decode cX5_all 45 = .ok (.aload_n 0, 1) := dk_42 (dk_at dksX5_all_1 21 rfl rfl)
theorem dX5_all_46 : decode cX5_all 46 = .ok (.iload_n 2, 1) := dk_28 (dk_at dksX5_all_1 22 rfl rfl)
theorem dX5_all_47 : decode cX5_all 47 = .ok (.ifCond .eq 8, 3) := dk_153 0 8 (dk_at dksX5_all_2 0 rfl rfl)
theorem dX5_all_50 : decode cX5_all 50 = .ok (.bipush 9, 2) := dk_16 9 (dk_at dksX5_all_2 3 rfl rfl)
theorem dX5_all_52 : decode cX5_all 52 = .ok (.goto 5, 3) := dk_167 0 5 (dk_at dksX5_all_2 5 rfl rfl)
theorem dX5_all_55 : decode cX5_all 55 = .ok (.bipush 10, 2) := dk_16 10 (dk_at dksX5_all_2 8 rfl rfl)
theorem dX5_all_57 : decode cX5_all 57 = .ok (.iconst 0, 1) := dk_3 (dk_at dksX5_all_2 10 rfl rfl)
theorem dX5_all_58 : decode cX5_all 58 = .ok (.invokevirtual 256, 3) := dk_182 1 0 (dk_at dksX5_all_2 11 rfl rfl)
theorem dX5_all_61 : decode cX5_all 61 = .ok (.goto (-56), 3) := dk_167 255 200 (dk_at dksX5_all_2 14 rfl rfl)
theorem dX5_all_64 : decode cX5_all 64 = .ok (.return_, 1) := dk_177 (dk_at dksX5_all_2 17 rfl rfl)
abbrev cX5_test : ByteArray := prog_23_method_36_code
def yX5_test : MethodName := ⟨RX5, "test", "(I)V"⟩
def dkwX5_test_2 : List UInt8 := [182, 1, 0, 177]
abbrev dktX5_test_2 : List UInt8 := dkwX5_test_2 ++ []
def dkwX5_test_1 : List UInt8 := [182, 1, 14, 153, 0, 24, 42, 27, 182, 1, 11, 42, 28, 153, 0, 8, 16, 7, 167, 0, 5, 16, 8, 3]
abbrev dktX5_test_1 : List UInt8 := dkwX5_test_1 ++ dktX5_test_2
def dkwX5_test_0 : List UInt8 := [42, 27, 182, 1, 11, 42, 16, 60, 182, 0, 180, 61, 42, 16, 60, 182, 1, 14, 154, 0, 12, 42, 16, 61]
abbrev dktX5_test_0 : List UInt8 := dkwX5_test_0 ++ dktX5_test_1
theorem dksX5_test_0 : cX5_test.data.toList.drop 0 = dktX5_test_0 := by decide +kernel
theorem dksX5_test_1 : cX5_test.data.toList.drop 24 = dktX5_test_1 := dk_seg dksX5_test_0 24 rfl rfl
theorem dksX5_test_2 : cX5_test.data.toList.drop 48 = dktX5_test_2 := dk_seg dksX5_test_1 24 rfl rfl
theorem dX5_test_0 : decode cX5_test 0 = .ok (.aload_n 0, 1) := dk_42 (dk_at dksX5_test_0 0 rfl rfl)
theorem dX5_test_1 : decode cX5_test 1 = .ok (.iload_n 1, 1) := dk_27 (dk_at dksX5_test_0 1 rfl rfl)
theorem dX5_test_2 : decode cX5_test 2 = .ok (.invokevirtual 267, 3) := dk_182 1 11 (dk_at dksX5_test_0 2 rfl rfl)
theorem dX5_test_5 : decode cX5_test 5 = .ok (.aload_n 0, 1) := dk_42 (dk_at dksX5_test_0 5 rfl rfl)
theorem dX5_test_6 : decode cX5_test 6 = .ok (.bipush 60, 2) := dk_16 60 (dk_at dksX5_test_0 6 rfl rfl)
theorem dX5_test_8 : decode cX5_test 8 = .ok (.invokevirtual 180, 3) := dk_182 0 180 (dk_at dksX5_test_0 8 rfl rfl)
theorem dX5_test_11 : decode cX5_test 11 = .ok (.istore_n 2, 1) := dk_61 (dk_at dksX5_test_0 11 rfl rfl)
theorem dX5_test_12 : decode cX5_test 12 = .ok (.aload_n 0, 1) := dk_42 (dk_at dksX5_test_0 12 rfl rfl)
theorem dX5_test_13 : decode cX5_test 13 = .ok (.bipush 60, 2) := dk_16 60 (dk_at dksX5_test_0 13 rfl rfl)
theorem dX5_test_15 : decode cX5_test 15 = .ok (.invokevirtual 270, 3) := dk_182 1 14 (dk_at dksX5_test_0 15 rfl rfl)
theorem dX5_test_18 : decode cX5_test 18 = .ok (.ifCond .ne 12, 3) := dk_154 0 12 (dk_at dksX5_test_0 18 rfl rfl)
theorem dX5_test_21 : decode cX5_test 21 = .ok (.aload_n 0, 1) := dk_42 (dk_at dksX5_test_0 21 rfl rfl)
theorem dX5_test_22 : decode cX5_test 22 = .ok (.bipush 61, 2) := dk_16 61 (dk_at dksX5_test_0 22 rfl rfl)
theorem dX5_test_24 : decode cX5_test 24 = .ok (.invokevirtual 270, 3) := dk_182 1 14 (dk_at dksX5_test_1 0 rfl rfl)
theorem dX5_test_27 : decode cX5_test 27 = .ok (.ifCond .eq 24, 3) := dk_153 0 24 (dk_at dksX5_test_1 3 rfl rfl)
theorem dX5_test_30 : decode cX5_test 30 = .ok (.aload_n 0, 1) := dk_42 (dk_at dksX5_test_1 6 rfl rfl)
theorem dX5_test_31 : decode cX5_test 31 = .ok (.iload_n 1, 1) := dk_27 (dk_at dksX5_test_1 7 rfl rfl)
theorem dX5_test_32 : decode cX5_test 32 = .ok (.invokevirtual 267, 3) := dk_182 1 11 (dk_at dksX5_test_1 8 rfl rfl)
theorem dX5_test_35 : decode cX5_test 35 = .ok (.aload_n 0, 1) := dk_42 (dk_at dksX5_test_1 11 rfl rfl)
theorem dX5_test_36 : decode cX5_test 36 = .ok (.iload_n 2, 1) := dk_28 (dk_at dksX5_test_1 12 rfl rfl)
theorem dX5_test_37 : decode cX5_test 37 = .ok (.ifCond .eq 8, 3) := dk_153 0 8 (dk_at dksX5_test_1 13 rfl rfl)
theorem dX5_test_40 : decode cX5_test 40 = .ok (.bipush 7, 2) := dk_16 7 (dk_at dksX5_test_1 16 rfl rfl)
theorem dX5_test_42 : decode cX5_test 42 = .ok (.goto 5, 3) := dk_167 0 5 (dk_at dksX5_test_1 18 rfl rfl)
theorem dX5_test_45 : decode cX5_test 45 = .ok (.bipush 8, 2) := dk_16 8 (dk_at dksX5_test_1 21 rfl rfl)
theorem dX5_test_47 : decode cX5_test 47 = .ok (.iconst 0, 1) := dk_3 (dk_at dksX5_test_1 23 rfl rfl)
theorem dX5_test_48 : decode cX5_test 48 = .ok (.invokevirtual 256, 3) := dk_182 1 0 (dk_at dksX5_test_2 0 rfl rfl)
theorem dX5_test_51 : decode cX5_test 51 = .ok (.return_, 1) := dk_177 (dk_at dksX5_test_2 3 rfl rfl)
abbrev cX5_sums : ByteArray := prog_23_method_37_code
def yX5_sums : MethodName := ⟨RX5, "sums", "(I)V"⟩
def dkwX5_sums_2 : List UInt8 := [153, 0, 7, 7, 167, 0, 4, 8, 3, 182, 1, 0, 167, 255, 202, 177]
abbrev dktX5_sums_2 : List UInt8 := dkwX5_sums_2 ++ []
def dkwX5_sums_1 : List UInt8 := [16, 43, 182, 0, 180, 61, 42, 89, 180, 0, 174, 4, 96, 181, 0, 174, 42, 27, 182, 1, 17, 42, 28]
abbrev dktX5_sums_1 : List UInt8 := dkwX5_sums_1 ++ dktX5_sums_2
def dkwX5_sums_0 : List UInt8 := [42, 27, 182, 1, 17, 42, 16, 43, 182, 0, 180, 154, 0, 12, 42, 16, 45, 182, 0, 180, 153, 0, 42, 42]
abbrev dktX5_sums_0 : List UInt8 := dkwX5_sums_0 ++ dktX5_sums_1
theorem dksX5_sums_0 : cX5_sums.data.toList.drop 0 = dktX5_sums_0 := by decide +kernel
theorem dksX5_sums_1 : cX5_sums.data.toList.drop 24 = dktX5_sums_1 := dk_seg dksX5_sums_0 24 rfl rfl
theorem dksX5_sums_2 : cX5_sums.data.toList.drop 47 = dktX5_sums_2 := dk_seg dksX5_sums_1 23 rfl rfl
theorem dX5_sums_0 : decode cX5_sums 0 = .ok (.aload_n 0, 1) := dk_42 (dk_at dksX5_sums_0 0 rfl rfl)
theorem dX5_sums_1 : decode cX5_sums 1 = .ok (.iload_n 1, 1) := dk_27 (dk_at dksX5_sums_0 1 rfl rfl)
theorem dX5_sums_2 : decode cX5_sums 2 = .ok (.invokevirtual 273, 3) := dk_182 1 17 (dk_at dksX5_sums_0 2 rfl rfl)
theorem dX5_sums_5 : decode cX5_sums 5 = .ok (.aload_n 0, 1) := dk_42 (dk_at dksX5_sums_0 5 rfl rfl)
theorem dX5_sums_6 : decode cX5_sums 6 = .ok (.bipush 43, 2) := dk_16 43 (dk_at dksX5_sums_0 6 rfl rfl)
theorem dX5_sums_8 : decode cX5_sums 8 = .ok (.invokevirtual 180, 3) := dk_182 0 180 (dk_at dksX5_sums_0 8 rfl rfl)
theorem dX5_sums_11 : decode cX5_sums 11 = .ok (.ifCond .ne 12, 3) := dk_154 0 12 (dk_at dksX5_sums_0 11 rfl rfl)
theorem dX5_sums_14 : decode cX5_sums 14 = .ok (.aload_n 0, 1) := dk_42 (dk_at dksX5_sums_0 14 rfl rfl)
theorem dX5_sums_15 : decode cX5_sums 15 = .ok (.bipush 45, 2) := dk_16 45 (dk_at dksX5_sums_0 15 rfl rfl)
theorem dX5_sums_17 : decode cX5_sums 17 = .ok (.invokevirtual 180, 3) := dk_182 0 180 (dk_at dksX5_sums_0 17 rfl rfl)
theorem dX5_sums_20 : decode cX5_sums 20 = .ok (.ifCond .eq 42, 3) := dk_153 0 42 (dk_at dksX5_sums_0 20 rfl rfl)
theorem dX5_sums_23 : decode cX5_sums 23 = .ok (.aload_n 0, 1) := dk_42 (dk_at dksX5_sums_0 23 rfl rfl)
theorem dX5_sums_24 : decode cX5_sums 24 = .ok (.bipush 43, 2) := dk_16 43 (dk_at dksX5_sums_1 0 rfl rfl)
theorem dX5_sums_26 : decode cX5_sums 26 = .ok (.invokevirtual 180, 3) := dk_182 0 180 (dk_at dksX5_sums_1 2 rfl rfl)
theorem dX5_sums_29 : decode cX5_sums 29 = .ok (.istore_n 2, 1) := dk_61 (dk_at dksX5_sums_1 5 rfl rfl)
theorem dX5_sums_30 : decode cX5_sums 30 = .ok (.aload_n 0, 1) := dk_42 (dk_at dksX5_sums_1 6 rfl rfl)
theorem dX5_sums_31 : decode cX5_sums 31 = .ok (.dup, 1) := dk_89 (dk_at dksX5_sums_1 7 rfl rfl)
theorem dX5_sums_32 : decode cX5_sums 32 = .ok (.getfield 174, 3) := dk_180 0 174 (dk_at dksX5_sums_1 8 rfl rfl)
theorem dX5_sums_35 : decode cX5_sums 35 = .ok (.iconst 1, 1) := dk_4 (dk_at dksX5_sums_1 11 rfl rfl)
theorem dX5_sums_36 : decode cX5_sums 36 = .ok (.iadd, 1) := dk_96 (dk_at dksX5_sums_1 12 rfl rfl)
theorem dX5_sums_37 : decode cX5_sums 37 = .ok (.putfield 174, 3) := dk_181 0 174 (dk_at dksX5_sums_1 13 rfl rfl)
theorem dX5_sums_40 : decode cX5_sums 40 = .ok (.aload_n 0, 1) := dk_42 (dk_at dksX5_sums_1 16 rfl rfl)
theorem dX5_sums_41 : decode cX5_sums 41 = .ok (.iload_n 1, 1) := dk_27 (dk_at dksX5_sums_1 17 rfl rfl)
theorem dX5_sums_42 : decode cX5_sums 42 = .ok (.invokevirtual 273, 3) := dk_182 1 17 (dk_at dksX5_sums_1 18 rfl rfl)
theorem dX5_sums_45 : decode cX5_sums 45 = .ok (.aload_n 0, 1) := dk_42 (dk_at dksX5_sums_1 21 rfl rfl)
theorem dX5_sums_46 : decode cX5_sums 46 = .ok (.iload_n 2, 1) := dk_28 (dk_at dksX5_sums_1 22 rfl rfl)
theorem dX5_sums_47 : decode cX5_sums 47 = .ok (.ifCond .eq 7, 3) := dk_153 0 7 (dk_at dksX5_sums_2 0 rfl rfl)
theorem dX5_sums_50 : decode cX5_sums 50 = .ok (.iconst 4, 1) := dk_7 (dk_at dksX5_sums_2 3 rfl rfl)
theorem dX5_sums_51 : decode cX5_sums 51 = .ok (.goto 4, 3) := dk_167 0 4 (dk_at dksX5_sums_2 4 rfl rfl)
theorem dX5_sums_54 : decode cX5_sums 54 = .ok (.iconst 5, 1) := dk_8 (dk_at dksX5_sums_2 7 rfl rfl)
theorem dX5_sums_55 : decode cX5_sums 55 = .ok (.iconst 0, 1) := dk_3 (dk_at dksX5_sums_2 8 rfl rfl)
theorem dX5_sums_56 : decode cX5_sums 56 = .ok (.invokevirtual 256, 3) := dk_182 1 0 (dk_at dksX5_sums_2 9 rfl rfl)
theorem dX5_sums_59 : decode cX5_sums 59 = .ok (.goto (-54), 3) := dk_167 255 202 (dk_at dksX5_sums_2 12 rfl rfl)
theorem dX5_sums_62 : decode cX5_sums 62 = .ok (.return_, 1) := dk_177 (dk_at dksX5_sums_2 15 rfl rfl)
abbrev cX5_products : ByteArray := prog_23_method_38_code
def yX5_products : MethodName := ⟨RX5, "products", "(I)V"⟩
def dkwX5_products_1 : List UInt8 := [182, 1, 0, 167, 255, 235, 177]
abbrev dktX5_products_1 : List UInt8 := dkwX5_products_1 ++ []
def dkwX5_products_0 : List UInt8 := [42, 27, 182, 1, 20, 42, 16, 42, 182, 1, 14, 153, 0, 18, 42, 27, 182, 1, 20, 42, 16, 6, 3]
abbrev dktX5_products_0 : List UInt8 := dkwX5_products_0 ++ dktX5_products_1
theorem dksX5_products_0 : cX5_products.data.toList.drop 0 = dktX5_products_0 := by decide +kernel
theorem dksX5_products_1 : cX5_products.data.toList.drop 23 = dktX5_products_1 := dk_seg dksX5_products_0 23 rfl rfl
theorem dX5_products_0 : decode cX5_products 0 = .ok (.aload_n 0, 1) := dk_42 (dk_at dksX5_products_0 0 rfl rfl)
theorem dX5_products_1 : decode cX5_products 1 = .ok (.iload_n 1, 1) := dk_27 (dk_at dksX5_products_0 1 rfl rfl)
theorem dX5_products_2 : decode cX5_products 2 = .ok (.invokevirtual 276, 3) := dk_182 1 20 (dk_at dksX5_products_0 2 rfl rfl)
theorem dX5_products_5 : decode cX5_products 5 = .ok (.aload_n 0, 1) := dk_42 (dk_at dksX5_products_0 5 rfl rfl)
theorem dX5_products_6 : decode cX5_products 6 = .ok (.bipush 42, 2) := dk_16 42 (dk_at dksX5_products_0 6 rfl rfl)
theorem dX5_products_8 : decode cX5_products 8 = .ok (.invokevirtual 270, 3) := dk_182 1 14 (dk_at dksX5_products_0 8 rfl rfl)
theorem dX5_products_11 : decode cX5_products 11 = .ok (.ifCond .eq 18, 3) := dk_153 0 18 (dk_at dksX5_products_0 11 rfl rfl)
theorem dX5_products_14 : decode cX5_products 14 = .ok (.aload_n 0, 1) := dk_42 (dk_at dksX5_products_0 14 rfl rfl)
theorem dX5_products_15 : decode cX5_products 15 = .ok (.iload_n 1, 1) := dk_27 (dk_at dksX5_products_0 15 rfl rfl)
theorem dX5_products_16 : decode cX5_products 16 = .ok (.invokevirtual 276, 3) := dk_182 1 20 (dk_at dksX5_products_0 16 rfl rfl)
theorem dX5_products_19 : decode cX5_products 19 = .ok (.aload_n 0, 1) := dk_42 (dk_at dksX5_products_0 19 rfl rfl)
theorem dX5_products_20 : decode cX5_products 20 = .ok (.bipush 6, 2) := dk_16 6 (dk_at dksX5_products_0 20 rfl rfl)
theorem dX5_products_22 : decode cX5_products 22 = .ok (.iconst 0, 1) := dk_3 (dk_at dksX5_products_0 22 rfl rfl)
theorem dX5_products_23 : decode cX5_products 23 = .ok (.invokevirtual 256, 3) := dk_182 1 0 (dk_at dksX5_products_1 0 rfl rfl)
theorem dX5_products_26 : decode cX5_products 26 = .ok (.goto (-21), 3) := dk_167 255 235 (dk_at dksX5_products_1 3 rfl rfl)
theorem dX5_products_29 : decode cX5_products 29 = .ok (.return_, 1) := dk_177 (dk_at dksX5_products_1 6 rfl rfl)
abbrev cX5_takePart : ByteArray := prog_23_method_39_code
def yX5_takePart : MethodName := ⟨RX5, "takePart", "(I)V"⟩
def dkwX5_takePart_7 : List UInt8 := [167, 0, 4, 29, 182, 1, 0, 42, 89, 180, 0, 174, 4, 96, 181, 0, 174, 177]
abbrev dktX5_takePart_7 : List UInt8 := dkwX5_takePart_7 ++ []
def dkwX5_takePart_6 : List UInt8 := [153, 0, 7, 4, 167, 0, 4, 5, 28, 153, 0, 16, 42, 180, 0, 30, 42, 180, 0, 174, 47, 136]
abbrev dktX5_takePart_6 : List UInt8 := dkwX5_takePart_6 ++ dktX5_takePart_7
def dkwX5_takePart_5 : List UInt8 := [182, 1, 14, 153, 0, 19, 42, 27, 4, 96, 182, 0, 253, 42, 16, 41, 182, 0, 237, 167, 0, 44, 42, 28]
abbrev dktX5_takePart_5 : List UInt8 := dkwX5_takePart_5 ++ dktX5_takePart_6
def dkwX5_takePart_4 : List UInt8 := [153, 0, 19, 42, 27, 4, 96, 182, 1, 20, 42, 6, 3, 182, 1, 0, 167, 0, 69, 42, 16, 40]
abbrev dktX5_takePart_4 : List UInt8 := dkwX5_takePart_4 ++ dktX5_takePart_5
def dkwX5_takePart_3 : List UInt8 := [8, 160, 0, 8, 42, 8, 182, 0, 183, 42, 180, 0, 177, 158, 0, 4, 177, 42, 16, 20, 182, 0, 189]
abbrev dktX5_takePart_3 : List UInt8 := dkwX5_takePart_3 ++ dktX5_takePart_4
def dkwX5_takePart_2 : List UInt8 := [182, 0, 180, 154, 0, 20, 42, 16, 20, 182, 0, 186, 154, 0, 11, 42, 4, 182, 0, 183, 167, 0, 13, 27]
abbrev dktX5_takePart_2 : List UInt8 := dkwX5_takePart_2 ++ dktX5_takePart_3
def dkwX5_takePart_1 : List UInt8 := [167, 0, 4, 3, 61, 42, 16, 23, 6, 182, 0, 199, 62, 29, 156, 0, 33, 28, 154, 0, 29, 42, 16, 40]
abbrev dktX5_takePart_1 : List UInt8 := dkwX5_takePart_1 ++ dktX5_takePart_2
def dkwX5_takePart_0 : List UInt8 := [42, 180, 0, 177, 158, 0, 4, 177, 42, 180, 0, 24, 42, 180, 0, 174, 46, 5, 160, 0, 7, 4]
abbrev dktX5_takePart_0 : List UInt8 := dkwX5_takePart_0 ++ dktX5_takePart_1
theorem dksX5_takePart_0 : cX5_takePart.data.toList.drop 0 = dktX5_takePart_0 := by decide +kernel
theorem dksX5_takePart_1 : cX5_takePart.data.toList.drop 22 = dktX5_takePart_1 := dk_seg dksX5_takePart_0 22 rfl rfl
theorem dksX5_takePart_2 : cX5_takePart.data.toList.drop 46 = dktX5_takePart_2 := dk_seg dksX5_takePart_1 24 rfl rfl
theorem dksX5_takePart_3 : cX5_takePart.data.toList.drop 70 = dktX5_takePart_3 := dk_seg dksX5_takePart_2 24 rfl rfl
theorem dksX5_takePart_4 : cX5_takePart.data.toList.drop 93 = dktX5_takePart_4 := dk_seg dksX5_takePart_3 23 rfl rfl
theorem dksX5_takePart_5 : cX5_takePart.data.toList.drop 115 = dktX5_takePart_5 := dk_seg dksX5_takePart_4 22 rfl rfl
theorem dksX5_takePart_6 : cX5_takePart.data.toList.drop 139 = dktX5_takePart_6 := dk_seg dksX5_takePart_5 24 rfl rfl
theorem dksX5_takePart_7 : cX5_takePart.data.toList.drop 161 = dktX5_takePart_7 := dk_seg dksX5_takePart_6 22 rfl rfl
theorem dX5_takePart_0 : decode cX5_takePart 0 = .ok (.aload_n 0, 1) := dk_42 (dk_at dksX5_takePart_0 0 rfl rfl)
theorem dX5_takePart_1 : decode cX5_takePart 1 = .ok (.getfield 177, 3) := dk_180 0 177 (dk_at dksX5_takePart_0 1 rfl rfl)
theorem dX5_takePart_4 : decode cX5_takePart 4 = .ok (.ifCond .le 4, 3) := dk_158 0 4 (dk_at dksX5_takePart_0 4 rfl rfl)
theorem dX5_takePart_7 : decode cX5_takePart 7 = .ok (.return_, 1) := dk_177 (dk_at dksX5_takePart_0 7 rfl rfl)
theorem dX5_takePart_8 : decode cX5_takePart 8 = .ok (.aload_n 0, 1) := dk_42 (dk_at dksX5_takePart_0 8 rfl rfl)
theorem dX5_takePart_9 : decode cX5_takePart 9 = .ok (.getfield 24, 3) := dk_180 0 24 (dk_at dksX5_takePart_0 9 rfl rfl)
theorem dX5_takePart_12 : decode cX5_takePart 12 = .ok (.aload_n 0, 1) := dk_42 (dk_at dksX5_takePart_0 12 rfl rfl)
theorem dX5_takePart_13 : decode cX5_takePart 13 = .ok (.getfield 174, 3) := dk_180 0 174 (dk_at dksX5_takePart_0 13 rfl rfl)
theorem dX5_takePart_16 : decode cX5_takePart 16 = .ok (.iaload, 1) := dk_46 (dk_at dksX5_takePart_0 16 rfl rfl)
theorem dX5_takePart_17 : decode cX5_takePart 17 = .ok (.iconst 2, 1) := dk_5 (dk_at dksX5_takePart_0 17 rfl rfl)
theorem dX5_takePart_18 : decode cX5_takePart 18 = .ok (.if_icmp .ne 7, 3) := dk_160 0 7 (dk_at dksX5_takePart_0 18 rfl rfl)
theorem dX5_takePart_21 : decode cX5_takePart 21 = .ok (.iconst 1, 1) := dk_4 (dk_at dksX5_takePart_0 21 rfl rfl)
theorem dX5_takePart_22 : decode cX5_takePart 22 = .ok (.goto 4, 3) := dk_167 0 4 (dk_at dksX5_takePart_1 0 rfl rfl)
theorem dX5_takePart_25 : decode cX5_takePart 25 = .ok (.iconst 0, 1) := dk_3 (dk_at dksX5_takePart_1 3 rfl rfl)
theorem dX5_takePart_26 : decode cX5_takePart 26 = .ok (.istore_n 2, 1) := dk_61 (dk_at dksX5_takePart_1 4 rfl rfl)
theorem dX5_takePart_27 : decode cX5_takePart 27 = .ok (.aload_n 0, 1) := dk_42 (dk_at dksX5_takePart_1 5 rfl rfl)
theorem dX5_takePart_28 : decode cX5_takePart 28 = .ok (.bipush 23, 2) := dk_16 23 (dk_at dksX5_takePart_1 6 rfl rfl)
theorem dX5_takePart_30 : decode cX5_takePart 30 = .ok (.iconst 3, 1) := dk_6 (dk_at dksX5_takePart_1 8 rfl rfl)
theorem dX5_takePart_31 : decode cX5_takePart 31 = .ok (.invokevirtual 199, 3) := dk_182 0 199 (dk_at dksX5_takePart_1 9 rfl rfl)
theorem dX5_takePart_34 : decode cX5_takePart 34 = .ok (.istore_n 3, 1) := dk_62 (dk_at dksX5_takePart_1 12 rfl rfl)
theorem dX5_takePart_35 : decode cX5_takePart 35 = .ok (.iload_n 3, 1) := dk_29 (dk_at dksX5_takePart_1 13 rfl rfl)
theorem dX5_takePart_36 : decode cX5_takePart 36 = .ok (.ifCond .ge 33, 3) := dk_156 0 33 (dk_at dksX5_takePart_1 14 rfl rfl)
theorem dX5_takePart_39 : decode cX5_takePart 39 = .ok (.iload_n 2, 1) := dk_28 (dk_at dksX5_takePart_1 17 rfl rfl)
theorem dX5_takePart_40 : decode cX5_takePart 40 = .ok (.ifCond .ne 29, 3) := dk_154 0 29 (dk_at dksX5_takePart_1 18 rfl rfl)
theorem dX5_takePart_43 : decode cX5_takePart 43 = .ok (.aload_n 0, 1) := dk_42 (dk_at dksX5_takePart_1 21 rfl rfl)
theorem dX5_takePart_44 : decode cX5_takePart 44 = .ok (.bipush 40, 2) := dk_16 40 (dk_at dksX5_takePart_1 22 rfl rfl)
theorem dX5_takePart_46 : decode cX5_takePart 46 = .ok (.invokevirtual 180, 3) := dk_182 0 180 (dk_at dksX5_takePart_2 0 rfl rfl)
theorem dX5_takePart_49 : decode cX5_takePart 49 = .ok (.ifCond .ne 20, 3) := dk_154 0 20 (dk_at dksX5_takePart_2 3 rfl rfl)
theorem dX5_takePart_52 : decode cX5_takePart 52 = .ok (.aload_n 0, 1) := dk_42 (dk_at dksX5_takePart_2 6 rfl rfl)
theorem dX5_takePart_53 : decode cX5_takePart 53 = .ok (.bipush 20, 2) := dk_16 20 (dk_at dksX5_takePart_2 7 rfl rfl)
theorem dX5_takePart_55 : decode cX5_takePart 55 = .ok (.invokevirtual 186, 3) := dk_182 0 186 (dk_at dksX5_takePart_2 9 rfl rfl)
theorem dX5_takePart_58 : decode cX5_takePart 58 = .ok (.ifCond .ne 11, 3) := dk_154 0 11 (dk_at dksX5_takePart_2 12 rfl rfl)
theorem dX5_takePart_61 : decode cX5_takePart 61 = .ok (.aload_n 0, 1) := dk_42 (dk_at dksX5_takePart_2 15 rfl rfl)
theorem dX5_takePart_62 : decode cX5_takePart 62 = .ok (.iconst 1, 1) := dk_4 (dk_at dksX5_takePart_2 16 rfl rfl)
theorem dX5_takePart_63 : decode cX5_takePart 63 = .ok (.invokevirtual 183, 3) := dk_182 0 183 (dk_at dksX5_takePart_2 17 rfl rfl)
theorem dX5_takePart_66 : decode cX5_takePart 66 = .ok (.goto 13, 3) := dk_167 0 13 (dk_at dksX5_takePart_2 20 rfl rfl)
theorem dX5_takePart_69 : decode cX5_takePart 69 = .ok (.iload_n 1, 1) := dk_27 (dk_at dksX5_takePart_2 23 rfl rfl)
theorem dX5_takePart_70 : decode cX5_takePart 70 = .ok (.iconst 5, 1) := dk_8 (dk_at dksX5_takePart_3 0 rfl rfl)
theorem dX5_takePart_71 : decode cX5_takePart 71 = .ok (.if_icmp .ne 8, 3) := dk_160 0 8 (dk_at dksX5_takePart_3 1 rfl rfl)
theorem dX5_takePart_74 : decode cX5_takePart 74 = .ok (.aload_n 0, 1) := dk_42 (dk_at dksX5_takePart_3 4 rfl rfl)
theorem dX5_takePart_75 : decode cX5_takePart 75 = .ok (.iconst 5, 1) := dk_8 (dk_at dksX5_takePart_3 5 rfl rfl)
theorem dX5_takePart_76 : decode cX5_takePart 76 = .ok (.invokevirtual 183, 3) := dk_182 0 183 (dk_at dksX5_takePart_3 6 rfl rfl)
theorem dX5_takePart_79 : decode cX5_takePart 79 = .ok (.aload_n 0, 1) := dk_42 (dk_at dksX5_takePart_3 9 rfl rfl)
theorem dX5_takePart_80 : decode cX5_takePart 80 = .ok (.getfield 177, 3) := dk_180 0 177 (dk_at dksX5_takePart_3 10 rfl rfl)
theorem dX5_takePart_83 : decode cX5_takePart 83 = .ok (.ifCond .le 4, 3) := dk_158 0 4 (dk_at dksX5_takePart_3 13 rfl rfl)
theorem dX5_takePart_86 : decode cX5_takePart 86 = .ok (.return_, 1) := dk_177 (dk_at dksX5_takePart_3 16 rfl rfl)
theorem dX5_takePart_87 : decode cX5_takePart 87 = .ok (.aload_n 0, 1) := dk_42 (dk_at dksX5_takePart_3 17 rfl rfl)
theorem dX5_takePart_88 : decode cX5_takePart 88 = .ok (.bipush 20, 2) := dk_16 20 (dk_at dksX5_takePart_3 18 rfl rfl)
theorem dX5_takePart_90 : decode cX5_takePart 90 = .ok (.invokevirtual 189, 3) := dk_182 0 189 (dk_at dksX5_takePart_3 20 rfl rfl)
theorem dX5_takePart_93 : decode cX5_takePart 93 = .ok (.ifCond .eq 19, 3) := dk_153 0 19 (dk_at dksX5_takePart_4 0 rfl rfl)
theorem dX5_takePart_96 : decode cX5_takePart 96 = .ok (.aload_n 0, 1) := dk_42 (dk_at dksX5_takePart_4 3 rfl rfl)
theorem dX5_takePart_97 : decode cX5_takePart 97 = .ok (.iload_n 1, 1) := dk_27 (dk_at dksX5_takePart_4 4 rfl rfl)
theorem dX5_takePart_98 : decode cX5_takePart 98 = .ok (.iconst 1, 1) := dk_4 (dk_at dksX5_takePart_4 5 rfl rfl)
theorem dX5_takePart_99 : decode cX5_takePart 99 = .ok (.iadd, 1) := dk_96 (dk_at dksX5_takePart_4 6 rfl rfl)
theorem dX5_takePart_100 : decode cX5_takePart 100 = .ok (.invokevirtual 276, 3) := dk_182 1 20 (dk_at dksX5_takePart_4 7 rfl rfl)
theorem dX5_takePart_103 : decode cX5_takePart 103 = .ok (.aload_n 0, 1) := dk_42 (dk_at dksX5_takePart_4 10 rfl rfl)
theorem dX5_takePart_104 : decode cX5_takePart 104 = .ok (.iconst 3, 1) := dk_6 (dk_at dksX5_takePart_4 11 rfl rfl)
theorem dX5_takePart_105 : decode cX5_takePart 105 = .ok (.iconst 0, 1) := dk_3 (dk_at dksX5_takePart_4 12 rfl rfl)
theorem dX5_takePart_106 : decode cX5_takePart 106 = .ok (.invokevirtual 256, 3) := dk_182 1 0 (dk_at dksX5_takePart_4 13 rfl rfl)
theorem dX5_takePart_109 : decode cX5_takePart 109 = .ok (.goto 69, 3) := dk_167 0 69 (dk_at dksX5_takePart_4 16 rfl rfl)
theorem dX5_takePart_112 : decode cX5_takePart 112 = .ok (.aload_n 0, 1) := dk_42 (dk_at dksX5_takePart_4 19 rfl rfl)
theorem dX5_takePart_113 : decode cX5_takePart 113 = .ok (.bipush 40, 2) := dk_16 40 (dk_at dksX5_takePart_4 20 rfl rfl)
theorem dX5_takePart_115 : decode cX5_takePart 115 = .ok (.invokevirtual 270, 3) := dk_182 1 14 (dk_at dksX5_takePart_5 0 rfl rfl)
theorem dX5_takePart_118 : decode cX5_takePart 118 = .ok (.ifCond .eq 19, 3) := dk_153 0 19 (dk_at dksX5_takePart_5 3 rfl rfl)
theorem dX5_takePart_121 : decode cX5_takePart 121 = .ok (.aload_n 0, 1) := dk_42 (dk_at dksX5_takePart_5 6 rfl rfl)
theorem dX5_takePart_122 : decode cX5_takePart 122 = .ok (.iload_n 1, 1) := dk_27 (dk_at dksX5_takePart_5 7 rfl rfl)
theorem dX5_takePart_123 : decode cX5_takePart 123 = .ok (.iconst 1, 1) := dk_4 (dk_at dksX5_takePart_5 8 rfl rfl)
theorem dX5_takePart_124 : decode cX5_takePart 124 = .ok (.iadd, 1) := dk_96 (dk_at dksX5_takePart_5 9 rfl rfl)
theorem dX5_takePart_125 : decode cX5_takePart 125 = .ok (.invokevirtual 253, 3) := dk_182 0 253 (dk_at dksX5_takePart_5 10 rfl rfl)
theorem dX5_takePart_128 : decode cX5_takePart 128 = .ok (.aload_n 0, 1) := dk_42 (dk_at dksX5_takePart_5 13 rfl rfl)
theorem dX5_takePart_129 : decode cX5_takePart 129 = .ok (.bipush 41, 2) := dk_16 41 (dk_at dksX5_takePart_5 14 rfl rfl)
theorem dX5_takePart_131 : decode cX5_takePart 131 = .ok (.invokevirtual 237, 3) := dk_182 0 237 (dk_at dksX5_takePart_5 16 rfl rfl)
theorem dX5_takePart_134 : decode cX5_takePart 134 = .ok (.goto 44, 3) := dk_167 0 44 (dk_at dksX5_takePart_5 19 rfl rfl)
theorem dX5_takePart_137 : decode cX5_takePart 137 = .ok (.aload_n 0, 1) := dk_42 (dk_at dksX5_takePart_5 22 rfl rfl)
theorem dX5_takePart_138 : decode cX5_takePart 138 = .ok (.iload_n 2, 1) := dk_28 (dk_at dksX5_takePart_5 23 rfl rfl)
theorem dX5_takePart_139 : decode cX5_takePart 139 = .ok (.ifCond .eq 7, 3) := dk_153 0 7 (dk_at dksX5_takePart_6 0 rfl rfl)
theorem dX5_takePart_142 : decode cX5_takePart 142 = .ok (.iconst 1, 1) := dk_4 (dk_at dksX5_takePart_6 3 rfl rfl)
theorem dX5_takePart_143 : decode cX5_takePart 143 = .ok (.goto 4, 3) := dk_167 0 4 (dk_at dksX5_takePart_6 4 rfl rfl)
theorem dX5_takePart_146 : decode cX5_takePart 146 = .ok (.iconst 2, 1) := dk_5 (dk_at dksX5_takePart_6 7 rfl rfl)
theorem dX5_takePart_147 : decode cX5_takePart 147 = .ok (.iload_n 2, 1) := dk_28 (dk_at dksX5_takePart_6 8 rfl rfl)
theorem dX5_takePart_148 : decode cX5_takePart 148 = .ok (.ifCond .eq 16, 3) := dk_153 0 16 (dk_at dksX5_takePart_6 9 rfl rfl)
theorem dX5_takePart_151 : decode cX5_takePart 151 = .ok (.aload_n 0, 1) := dk_42 (dk_at dksX5_takePart_6 12 rfl rfl)
theorem dX5_takePart_152 : decode cX5_takePart 152 = .ok (.getfield 30, 3) := dk_180 0 30 (dk_at dksX5_takePart_6 13 rfl rfl)
theorem dX5_takePart_155 : decode cX5_takePart 155 = .ok (.aload_n 0, 1) := dk_42 (dk_at dksX5_takePart_6 16 rfl rfl)
theorem dX5_takePart_156 : decode cX5_takePart 156 = .ok (.getfield 174, 3) := dk_180 0 174 (dk_at dksX5_takePart_6 17 rfl rfl)
theorem dX5_takePart_159 : decode cX5_takePart 159 = .ok (.laload, 1) := dk_47 (dk_at dksX5_takePart_6 20 rfl rfl)
theorem dX5_takePart_160 : decode cX5_takePart 160 = .ok (.l2i, 1) := dk_136 (dk_at dksX5_takePart_6 21 rfl rfl)
theorem dX5_takePart_161 : decode cX5_takePart 161 = .ok (.goto 4, 3) := dk_167 0 4 (dk_at dksX5_takePart_7 0 rfl rfl)
theorem dX5_takePart_164 : decode cX5_takePart 164 = .ok (.iload_n 3, 1) := dk_29 (dk_at dksX5_takePart_7 3 rfl rfl)
theorem dX5_takePart_165 : decode cX5_takePart 165 = .ok (.invokevirtual 256, 3) := dk_182 1 0 (dk_at dksX5_takePart_7 4 rfl rfl)
theorem dX5_takePart_168 : decode cX5_takePart 168 = .ok (.aload_n 0, 1) := dk_42 (dk_at dksX5_takePart_7 7 rfl rfl)
theorem dX5_takePart_169 : decode cX5_takePart 169 = .ok (.dup, 1) := dk_89 (dk_at dksX5_takePart_7 8 rfl rfl)
theorem dX5_takePart_170 : decode cX5_takePart 170 = .ok (.getfield 174, 3) := dk_180 0 174 (dk_at dksX5_takePart_7 9 rfl rfl)
theorem dX5_takePart_173 : decode cX5_takePart 173 = .ok (.iconst 1, 1) := dk_4 (dk_at dksX5_takePart_7 12 rfl rfl)
theorem dX5_takePart_174 : decode cX5_takePart 174 = .ok (.iadd, 1) := dk_96 (dk_at dksX5_takePart_7 13 rfl rfl)
theorem dX5_takePart_175 : decode cX5_takePart 175 = .ok (.putfield 174, 3) := dk_181 0 174 (dk_at dksX5_takePart_7 14 rfl rfl)
theorem dX5_takePart_178 : decode cX5_takePart 178 = .ok (.return_, 1) := dk_177 (dk_at dksX5_takePart_7 17 rfl rfl)
abbrev cX5_isSign : ByteArray := prog_23_method_11_code
def yX5_isSign : MethodName := ⟨RX5, "isSign", "(I)Z"⟩
def dkwX5_isSign_1 : List UInt8 := [42, 180, 0, 174, 47, 27, 133, 148, 154, 0, 7, 4, 167, 0, 4, 3, 172]
abbrev dktX5_isSign_1 : List UInt8 := dkwX5_isSign_1 ++ []
def dkwX5_isSign_0 : List UInt8 := [42, 180, 0, 177, 154, 0, 35, 42, 180, 0, 24, 42, 180, 0, 174, 46, 6, 160, 0, 22, 42, 180, 0, 30]
abbrev dktX5_isSign_0 : List UInt8 := dkwX5_isSign_0 ++ dktX5_isSign_1
theorem dksX5_isSign_0 : cX5_isSign.data.toList.drop 0 = dktX5_isSign_0 := by decide +kernel
theorem dksX5_isSign_1 : cX5_isSign.data.toList.drop 24 = dktX5_isSign_1 := dk_seg dksX5_isSign_0 24 rfl rfl
theorem dX5_isSign_0 : decode cX5_isSign 0 = .ok (.aload_n 0, 1) := dk_42 (dk_at dksX5_isSign_0 0 rfl rfl)
theorem dX5_isSign_1 : decode cX5_isSign 1 = .ok (.getfield 177, 3) := dk_180 0 177 (dk_at dksX5_isSign_0 1 rfl rfl)
theorem dX5_isSign_4 : decode cX5_isSign 4 = .ok (.ifCond .ne 35, 3) := dk_154 0 35 (dk_at dksX5_isSign_0 4 rfl rfl)
theorem dX5_isSign_7 : decode cX5_isSign 7 = .ok (.aload_n 0, 1) := dk_42 (dk_at dksX5_isSign_0 7 rfl rfl)
theorem dX5_isSign_8 : decode cX5_isSign 8 = .ok (.getfield 24, 3) := dk_180 0 24 (dk_at dksX5_isSign_0 8 rfl rfl)
theorem dX5_isSign_11 : decode cX5_isSign 11 = .ok (.aload_n 0, 1) := dk_42 (dk_at dksX5_isSign_0 11 rfl rfl)
theorem dX5_isSign_12 : decode cX5_isSign 12 = .ok (.getfield 174, 3) := dk_180 0 174 (dk_at dksX5_isSign_0 12 rfl rfl)
theorem dX5_isSign_15 : decode cX5_isSign 15 = .ok (.iaload, 1) := dk_46 (dk_at dksX5_isSign_0 15 rfl rfl)
theorem dX5_isSign_16 : decode cX5_isSign 16 = .ok (.iconst 3, 1) := dk_6 (dk_at dksX5_isSign_0 16 rfl rfl)
theorem dX5_isSign_17 : decode cX5_isSign 17 = .ok (.if_icmp .ne 22, 3) := dk_160 0 22 (dk_at dksX5_isSign_0 17 rfl rfl)
theorem dX5_isSign_20 : decode cX5_isSign 20 = .ok (.aload_n 0, 1) := dk_42 (dk_at dksX5_isSign_0 20 rfl rfl)
theorem dX5_isSign_21 : decode cX5_isSign 21 = .ok (.getfield 30, 3) := dk_180 0 30 (dk_at dksX5_isSign_0 21 rfl rfl)
theorem dX5_isSign_24 : decode cX5_isSign 24 = .ok (.aload_n 0, 1) := dk_42 (dk_at dksX5_isSign_1 0 rfl rfl)
theorem dX5_isSign_25 : decode cX5_isSign 25 = .ok (.getfield 174, 3) := dk_180 0 174 (dk_at dksX5_isSign_1 1 rfl rfl)
theorem dX5_isSign_28 : decode cX5_isSign 28 = .ok (.laload, 1) := dk_47 (dk_at dksX5_isSign_1 4 rfl rfl)
theorem dX5_isSign_29 : decode cX5_isSign 29 = .ok (.iload_n 1, 1) := dk_27 (dk_at dksX5_isSign_1 5 rfl rfl)
theorem dX5_isSign_30 : decode cX5_isSign 30 = .ok (.i2l, 1) := dk_133 (dk_at dksX5_isSign_1 6 rfl rfl)
theorem dX5_isSign_31 : decode cX5_isSign 31 = .ok (.lcmp, 1) := dk_148 (dk_at dksX5_isSign_1 7 rfl rfl)
theorem dX5_isSign_32 : decode cX5_isSign 32 = .ok (.ifCond .ne 7, 3) := dk_154 0 7 (dk_at dksX5_isSign_1 8 rfl rfl)
theorem dX5_isSign_35 : decode cX5_isSign 35 = .ok (.iconst 1, 1) := dk_4 (dk_at dksX5_isSign_1 11 rfl rfl)
theorem dX5_isSign_36 : decode cX5_isSign 36 = .ok (.goto 4, 3) := dk_167 0 4 (dk_at dksX5_isSign_1 12 rfl rfl)
theorem dX5_isSign_39 : decode cX5_isSign 39 = .ok (.iconst 0, 1) := dk_3 (dk_at dksX5_isSign_1 15 rfl rfl)
theorem dX5_isSign_40 : decode cX5_isSign 40 = .ok (.ireturn, 1) := dk_172 (dk_at dksX5_isSign_1 16 rfl rfl)
abbrev cX5_emit : ByteArray := prog_23_method_34_code
def yX5_emit : MethodName := ⟨RX5, "emit", "(II)V"⟩
def dkwX5_emit_1 : List UInt8 := [180, 0, 222, 96, 28, 79, 42, 89, 180, 0, 222, 4, 96, 181, 0, 222, 177]
abbrev dktX5_emit_1 : List UInt8 := dkwX5_emit_1 ++ []
def dkwX5_emit_0 : List UInt8 := [42, 180, 0, 92, 17, 4, 76, 42, 180, 0, 222, 96, 27, 79, 42, 180, 0, 95, 17, 4, 76, 42]
abbrev dktX5_emit_0 : List UInt8 := dkwX5_emit_0 ++ dktX5_emit_1
theorem dksX5_emit_0 : cX5_emit.data.toList.drop 0 = dktX5_emit_0 := by decide +kernel
theorem dksX5_emit_1 : cX5_emit.data.toList.drop 22 = dktX5_emit_1 := dk_seg dksX5_emit_0 22 rfl rfl
theorem dX5_emit_0 : decode cX5_emit 0 = .ok (.aload_n 0, 1) := dk_42 (dk_at dksX5_emit_0 0 rfl rfl)
theorem dX5_emit_1 : decode cX5_emit 1 = .ok (.getfield 92, 3) := dk_180 0 92 (dk_at dksX5_emit_0 1 rfl rfl)
theorem dX5_emit_4 : decode cX5_emit 4 = .ok (.sipush 1100, 3) := dk_17 4 76 (dk_at dksX5_emit_0 4 rfl rfl)
theorem dX5_emit_7 : decode cX5_emit 7 = .ok (.aload_n 0, 1) := dk_42 (dk_at dksX5_emit_0 7 rfl rfl)
theorem dX5_emit_8 : decode cX5_emit 8 = .ok (.getfield 222, 3) := dk_180 0 222 (dk_at dksX5_emit_0 8 rfl rfl)
theorem dX5_emit_11 : decode cX5_emit 11 = .ok (.iadd, 1) := dk_96 (dk_at dksX5_emit_0 11 rfl rfl)
theorem dX5_emit_12 : decode cX5_emit 12 = .ok (.iload_n 1, 1) := dk_27 (dk_at dksX5_emit_0 12 rfl rfl)
theorem dX5_emit_13 : decode cX5_emit 13 = .ok (.iastore, 1) := dk_79 (dk_at dksX5_emit_0 13 rfl rfl)
theorem dX5_emit_14 : decode cX5_emit 14 = .ok (.aload_n 0, 1) := dk_42 (dk_at dksX5_emit_0 14 rfl rfl)
theorem dX5_emit_15 : decode cX5_emit 15 = .ok (.getfield 95, 3) := dk_180 0 95 (dk_at dksX5_emit_0 15 rfl rfl)
theorem dX5_emit_18 : decode cX5_emit 18 = .ok (.sipush 1100, 3) := dk_17 4 76 (dk_at dksX5_emit_0 18 rfl rfl)
theorem dX5_emit_21 : decode cX5_emit 21 = .ok (.aload_n 0, 1) := dk_42 (dk_at dksX5_emit_0 21 rfl rfl)
theorem dX5_emit_22 : decode cX5_emit 22 = .ok (.getfield 222, 3) := dk_180 0 222 (dk_at dksX5_emit_1 0 rfl rfl)
theorem dX5_emit_25 : decode cX5_emit 25 = .ok (.iadd, 1) := dk_96 (dk_at dksX5_emit_1 3 rfl rfl)
theorem dX5_emit_26 : decode cX5_emit 26 = .ok (.iload_n 2, 1) := dk_28 (dk_at dksX5_emit_1 4 rfl rfl)
theorem dX5_emit_27 : decode cX5_emit 27 = .ok (.iastore, 1) := dk_79 (dk_at dksX5_emit_1 5 rfl rfl)
theorem dX5_emit_28 : decode cX5_emit 28 = .ok (.aload_n 0, 1) := dk_42 (dk_at dksX5_emit_1 6 rfl rfl)
theorem dX5_emit_29 : decode cX5_emit 29 = .ok (.dup, 1) := dk_89 (dk_at dksX5_emit_1 7 rfl rfl)
theorem dX5_emit_30 : decode cX5_emit 30 = .ok (.getfield 222, 3) := dk_180 0 222 (dk_at dksX5_emit_1 8 rfl rfl)
theorem dX5_emit_33 : decode cX5_emit 33 = .ok (.iconst 1, 1) := dk_4 (dk_at dksX5_emit_1 11 rfl rfl)
theorem dX5_emit_34 : decode cX5_emit 34 = .ok (.iadd, 1) := dk_96 (dk_at dksX5_emit_1 12 rfl rfl)
theorem dX5_emit_35 : decode cX5_emit 35 = .ok (.putfield 222, 3) := dk_181 0 222 (dk_at dksX5_emit_1 13 rfl rfl)
theorem dX5_emit_38 : decode cX5_emit 38 = .ok (.return_, 1) := dk_177 (dk_at dksX5_emit_1 16 rfl rfl)
abbrev cX5_hasSign : ByteArray := prog_23_method_14_code
def yX5_hasSign : MethodName := ⟨RX5, "hasSign", "(I)Z"⟩
def dkwX5_hasSign_1 : List UInt8 := [28, 172]
abbrev dktX5_hasSign_1 : List UInt8 := dkwX5_hasSign_1 ++ []
def dkwX5_hasSign_0 : List UInt8 := [42, 27, 182, 0, 180, 61, 42, 89, 180, 0, 174, 28, 153, 0, 7, 4, 167, 0, 4, 3, 96, 181, 0, 174]
abbrev dktX5_hasSign_0 : List UInt8 := dkwX5_hasSign_0 ++ dktX5_hasSign_1
theorem dksX5_hasSign_0 : cX5_hasSign.data.toList.drop 0 = dktX5_hasSign_0 := by decide +kernel
theorem dksX5_hasSign_1 : cX5_hasSign.data.toList.drop 24 = dktX5_hasSign_1 := dk_seg dksX5_hasSign_0 24 rfl rfl
theorem dX5_hasSign_0 : decode cX5_hasSign 0 = .ok (.aload_n 0, 1) := dk_42 (dk_at dksX5_hasSign_0 0 rfl rfl)
theorem dX5_hasSign_1 : decode cX5_hasSign 1 = .ok (.iload_n 1, 1) := dk_27 (dk_at dksX5_hasSign_0 1 rfl rfl)
theorem dX5_hasSign_2 : decode cX5_hasSign 2 = .ok (.invokevirtual 180, 3) := dk_182 0 180 (dk_at dksX5_hasSign_0 2 rfl rfl)
theorem dX5_hasSign_5 : decode cX5_hasSign 5 = .ok (.istore_n 2, 1) := dk_61 (dk_at dksX5_hasSign_0 5 rfl rfl)
theorem dX5_hasSign_6 : decode cX5_hasSign 6 = .ok (.aload_n 0, 1) := dk_42 (dk_at dksX5_hasSign_0 6 rfl rfl)
theorem dX5_hasSign_7 : decode cX5_hasSign 7 = .ok (.dup, 1) := dk_89 (dk_at dksX5_hasSign_0 7 rfl rfl)
theorem dX5_hasSign_8 : decode cX5_hasSign 8 = .ok (.getfield 174, 3) := dk_180 0 174 (dk_at dksX5_hasSign_0 8 rfl rfl)
theorem dX5_hasSign_11 : decode cX5_hasSign 11 = .ok (.iload_n 2, 1) := dk_28 (dk_at dksX5_hasSign_0 11 rfl rfl)
theorem dX5_hasSign_12 : decode cX5_hasSign 12 = .ok (.ifCond .eq 7, 3) := dk_153 0 7 (dk_at dksX5_hasSign_0 12 rfl rfl)
theorem dX5_hasSign_15 : decode cX5_hasSign 15 = .ok (.iconst 1, 1) := dk_4 (dk_at dksX5_hasSign_0 15 rfl rfl)
theorem dX5_hasSign_16 : decode cX5_hasSign 16 = .ok (.goto 4, 3) := dk_167 0 4 (dk_at dksX5_hasSign_0 16 rfl rfl)
theorem dX5_hasSign_19 : decode cX5_hasSign 19 = .ok (.iconst 0, 1) := dk_3 (dk_at dksX5_hasSign_0 19 rfl rfl)
theorem dX5_hasSign_20 : decode cX5_hasSign 20 = .ok (.iadd, 1) := dk_96 (dk_at dksX5_hasSign_0 20 rfl rfl)
theorem dX5_hasSign_21 : decode cX5_hasSign 21 = .ok (.putfield 174, 3) := dk_181 0 174 (dk_at dksX5_hasSign_0 21 rfl rfl)
theorem dX5_hasSign_24 : decode cX5_hasSign 24 = .ok (.iload_n 2, 1) := dk_28 (dk_at dksX5_hasSign_1 0 rfl rfl)
theorem dX5_hasSign_25 : decode cX5_hasSign 25 = .ok (.ireturn, 1) := dk_172 (dk_at dksX5_hasSign_1 1 rfl rfl)
abbrev cX5_takeSign : ByteArray := prog_23_method_13_code
def yX5_takeSign : MethodName := ⟨RX5, "takeSign", "(I)V"⟩
def dkwX5_takeSign_1 : List UInt8 := [182, 0, 183, 177]
abbrev dktX5_takeSign_1 : List UInt8 := dkwX5_takeSign_1 ++ []
def dkwX5_takeSign_0 : List UInt8 := [42, 27, 182, 0, 180, 153, 0, 16, 42, 89, 180, 0, 174, 4, 96, 181, 0, 174, 167, 0, 8, 42, 4]
abbrev dktX5_takeSign_0 : List UInt8 := dkwX5_takeSign_0 ++ dktX5_takeSign_1
theorem dksX5_takeSign_0 : cX5_takeSign.data.toList.drop 0 = dktX5_takeSign_0 := by decide +kernel
theorem dksX5_takeSign_1 : cX5_takeSign.data.toList.drop 23 = dktX5_takeSign_1 := dk_seg dksX5_takeSign_0 23 rfl rfl
theorem dX5_takeSign_0 : decode cX5_takeSign 0 = .ok (.aload_n 0, 1) := dk_42 (dk_at dksX5_takeSign_0 0 rfl rfl)
theorem dX5_takeSign_1 : decode cX5_takeSign 1 = .ok (.iload_n 1, 1) := dk_27 (dk_at dksX5_takeSign_0 1 rfl rfl)
theorem dX5_takeSign_2 : decode cX5_takeSign 2 = .ok (.invokevirtual 180, 3) := dk_182 0 180 (dk_at dksX5_takeSign_0 2 rfl rfl)
theorem dX5_takeSign_5 : decode cX5_takeSign 5 = .ok (.ifCond .eq 16, 3) := dk_153 0 16 (dk_at dksX5_takeSign_0 5 rfl rfl)
theorem dX5_takeSign_8 : decode cX5_takeSign 8 = .ok (.aload_n 0, 1) := dk_42 (dk_at dksX5_takeSign_0 8 rfl rfl)
theorem dX5_takeSign_9 : decode cX5_takeSign 9 = .ok (.dup, 1) := dk_89 (dk_at dksX5_takeSign_0 9 rfl rfl)
theorem dX5_takeSign_10 : decode cX5_takeSign 10 = .ok (.getfield 174, 3) := dk_180 0 174 (dk_at dksX5_takeSign_0 10 rfl rfl)
theorem dX5_takeSign_13 : decode cX5_takeSign 13 = .ok (.iconst 1, 1) := dk_4 (dk_at dksX5_takeSign_0 13 rfl rfl)
theorem dX5_takeSign_14 : decode cX5_takeSign 14 = .ok (.iadd, 1) := dk_96 (dk_at dksX5_takeSign_0 14 rfl rfl)
theorem dX5_takeSign_15 : decode cX5_takeSign 15 = .ok (.putfield 174, 3) := dk_181 0 174 (dk_at dksX5_takeSign_0 15 rfl rfl)
theorem dX5_takeSign_18 : decode cX5_takeSign 18 = .ok (.goto 8, 3) := dk_167 0 8 (dk_at dksX5_takeSign_0 18 rfl rfl)
theorem dX5_takeSign_21 : decode cX5_takeSign 21 = .ok (.aload_n 0, 1) := dk_42 (dk_at dksX5_takeSign_0 21 rfl rfl)
theorem dX5_takeSign_22 : decode cX5_takeSign 22 = .ok (.iconst 1, 1) := dk_4 (dk_at dksX5_takeSign_0 22 rfl rfl)
theorem dX5_takeSign_23 : decode cX5_takeSign 23 = .ok (.invokevirtual 183, 3) := dk_182 0 183 (dk_at dksX5_takeSign_1 0 rfl rfl)
theorem dX5_takeSign_26 : decode cX5_takeSign 26 = .ok (.return_, 1) := dk_177 (dk_at dksX5_takeSign_1 3 rfl rfl)
abbrev cX5_day : ByteArray := prog_23_method_32_code
def yX5_day : MethodName := ⟨RX5, "day", "()I"⟩
def dkwX5_day_9 : List UInt8 := [172]
abbrev dktX5_day_9 : List UInt8 := dkwX5_day_9 ++ []
def dkwX5_day_8 : List UInt8 := [42, 180, 0, 104, 4, 28, 96, 42, 180, 0, 104, 16, 100, 28, 96, 46, 79, 132, 2, 1, 167, 255, 229, 3]
abbrev dktX5_day_8 : List UInt8 := dkwX5_day_8 ++ dktX5_day_9
def dkwX5_day_7 : List UInt8 := [158, 0, 8, 42, 180, 0, 177, 172, 42, 180, 0, 104, 3, 27, 79, 3, 61, 28, 6, 27, 104, 162, 0, 26]
abbrev dktX5_day_7 : List UInt8 := dkwX5_day_7 ++ dktX5_day_8
def dkwX5_day_6 : List UInt8 := [182, 1, 4, 167, 0, 4, 3, 79, 132, 1, 1, 42, 16, 59, 182, 0, 237, 167, 255, 109, 42, 180, 0, 177]
abbrev dktX5_day_6 : List UInt8 := dkwX5_day_6 ++ dktX5_day_7
def dkwX5_day_5 : List UInt8 := [182, 0, 195, 167, 0, 4, 3, 79, 42, 180, 0, 104, 16, 102, 6, 27, 104, 96, 28, 154, 0, 10, 42]
abbrev dktX5_day_5 : List UInt8 := dkwX5_day_5 ++ dktX5_day_6
def dkwX5_day_4 : List UInt8 := [96, 28, 6, 162, 0, 11, 42, 3, 182, 0, 247, 167, 0, 19, 28, 6, 160, 0, 13, 42, 4, 16, 9]
abbrev dktX5_day_4 : List UInt8 := dkwX5_day_4 ++ dktX5_day_5
def dkwX5_day_3 : List UInt8 := [181, 0, 174, 42, 180, 0, 104, 16, 100, 6, 27, 104, 96, 28, 79, 42, 180, 0, 104, 16, 101, 6, 27, 104]
abbrev dktX5_day_3 : List UInt8 := dkwX5_day_3 ++ dktX5_day_4
def dkwX5_day_2 : List UInt8 := [167, 0, 105, 27, 16, 30, 160, 0, 11, 42, 8, 182, 0, 183, 167, 0, 91, 42, 89, 180, 0, 174, 4, 96]
abbrev dktX5_day_2 : List UInt8 := dkwX5_day_2 ++ dktX5_day_3
def dkwX5_day_1 : List UInt8 := [180, 0, 174, 46, 153, 0, 134, 42, 16, 11, 8, 182, 0, 199, 61, 28, 156, 0, 11, 42, 4, 182, 0, 183]
abbrev dktX5_day_1 : List UInt8 := dkwX5_day_1 ++ dktX5_day_2
def dkwX5_day_0 : List UInt8 := [42, 3, 181, 0, 1, 42, 182, 0, 219, 3, 60, 42, 180, 0, 177, 154, 0, 146, 42, 180, 0, 24, 42]
abbrev dktX5_day_0 : List UInt8 := dkwX5_day_0 ++ dktX5_day_1
theorem dksX5_day_0 : cX5_day.data.toList.drop 0 = dktX5_day_0 := by decide +kernel
theorem dksX5_day_1 : cX5_day.data.toList.drop 23 = dktX5_day_1 := dk_seg dksX5_day_0 23 rfl rfl
theorem dksX5_day_2 : cX5_day.data.toList.drop 47 = dktX5_day_2 := dk_seg dksX5_day_1 24 rfl rfl
theorem dksX5_day_3 : cX5_day.data.toList.drop 71 = dktX5_day_3 := dk_seg dksX5_day_2 24 rfl rfl
theorem dksX5_day_4 : cX5_day.data.toList.drop 95 = dktX5_day_4 := dk_seg dksX5_day_3 24 rfl rfl
theorem dksX5_day_5 : cX5_day.data.toList.drop 118 = dktX5_day_5 := dk_seg dksX5_day_4 23 rfl rfl
theorem dksX5_day_6 : cX5_day.data.toList.drop 141 = dktX5_day_6 := dk_seg dksX5_day_5 23 rfl rfl
theorem dksX5_day_7 : cX5_day.data.toList.drop 165 = dktX5_day_7 := dk_seg dksX5_day_6 24 rfl rfl
theorem dksX5_day_8 : cX5_day.data.toList.drop 189 = dktX5_day_8 := dk_seg dksX5_day_7 24 rfl rfl
theorem dksX5_day_9 : cX5_day.data.toList.drop 213 = dktX5_day_9 := dk_seg dksX5_day_8 24 rfl rfl
theorem dX5_day_0 : decode cX5_day 0 = .ok (.aload_n 0, 1) := dk_42 (dk_at dksX5_day_0 0 rfl rfl)
theorem dX5_day_1 : decode cX5_day 1 = .ok (.iconst 0, 1) := dk_3 (dk_at dksX5_day_0 1 rfl rfl)
theorem dX5_day_2 : decode cX5_day 2 = .ok (.putfield 1, 3) := dk_181 0 1 (dk_at dksX5_day_0 2 rfl rfl)
theorem dX5_day_5 : decode cX5_day 5 = .ok (.aload_n 0, 1) := dk_42 (dk_at dksX5_day_0 5 rfl rfl)
theorem dX5_day_6 : decode cX5_day 6 = .ok (.invokevirtual 219, 3) := dk_182 0 219 (dk_at dksX5_day_0 6 rfl rfl)
theorem dX5_day_9 : decode cX5_day 9 = .ok (.iconst 0, 1) := dk_3 (dk_at dksX5_day_0 9 rfl rfl)
theorem dX5_day_10 : decode cX5_day 10 = .ok (.istore_n 1, 1) := dk_60 (dk_at dksX5_day_0 10 rfl rfl)
theorem dX5_day_11 : decode cX5_day 11 = .ok (.aload_n 0, 1) := dk_42 (dk_at dksX5_day_0 11 rfl rfl)
theorem dX5_day_12 : decode cX5_day 12 = .ok (.getfield 177, 3) := dk_180 0 177 (dk_at dksX5_day_0 12 rfl rfl)
theorem dX5_day_15 : decode cX5_day 15 = .ok (.ifCond .ne 146, 3) := dk_154 0 146 (dk_at dksX5_day_0 15 rfl rfl)
theorem dX5_day_18 : decode cX5_day 18 = .ok (.aload_n 0, 1) := dk_42 (dk_at dksX5_day_0 18 rfl rfl)
theorem dX5_day_19 : decode cX5_day 19 = .ok (.getfield 24, 3) := dk_180 0 24 (dk_at dksX5_day_0 19 rfl rfl)
theorem dX5_day_22 : decode cX5_day 22 = .ok (.aload_n 0, 1) := dk_42 (dk_at dksX5_day_0 22 rfl rfl)
theorem dX5_day_23 : decode cX5_day 23 = .ok (.getfield 174, 3) := dk_180 0 174 (dk_at dksX5_day_1 0 rfl rfl)
theorem dX5_day_26 : decode cX5_day 26 = .ok (.iaload, 1) := dk_46 (dk_at dksX5_day_1 3 rfl rfl)
theorem dX5_day_27 : decode cX5_day 27 = .ok (.ifCond .eq 134, 3) := dk_153 0 134 (dk_at dksX5_day_1 4 rfl rfl)
theorem dX5_day_30 : decode cX5_day 30 = .ok (.aload_n 0, 1) := dk_42 (dk_at dksX5_day_1 7 rfl rfl)
theorem dX5_day_31 : decode cX5_day 31 = .ok (.bipush 11, 2) := dk_16 11 (dk_at dksX5_day_1 8 rfl rfl)
theorem dX5_day_33 : decode cX5_day 33 = .ok (.iconst 5, 1) := dk_8 (dk_at dksX5_day_1 10 rfl rfl)
theorem dX5_day_34 : decode cX5_day 34 = .ok (.invokevirtual 199, 3) := dk_182 0 199 (dk_at dksX5_day_1 11 rfl rfl)
theorem dX5_day_37 : decode cX5_day 37 = .ok (.istore_n 2, 1) := dk_61 (dk_at dksX5_day_1 14 rfl rfl)
theorem dX5_day_38 : decode cX5_day 38 = .ok (.iload_n 2, 1) := dk_28 (dk_at dksX5_day_1 15 rfl rfl)
theorem dX5_day_39 : decode cX5_day 39 = .ok (.ifCond .ge 11, 3) := dk_156 0 11 (dk_at dksX5_day_1 16 rfl rfl)
theorem dX5_day_42 : decode cX5_day 42 = .ok (.aload_n 0, 1) := dk_42 (dk_at dksX5_day_1 19 rfl rfl)
theorem dX5_day_43 : decode cX5_day 43 = .ok (.iconst 1, 1) := dk_4 (dk_at dksX5_day_1 20 rfl rfl)
theorem dX5_day_44 : decode cX5_day 44 = .ok (.invokevirtual 183, 3) := dk_182 0 183 (dk_at dksX5_day_1 21 rfl rfl)
theorem dX5_day_47 : decode cX5_day 47 = .ok (.goto 105, 3) := dk_167 0 105 (dk_at dksX5_day_2 0 rfl rfl)
theorem dX5_day_50 : decode cX5_day 50 = .ok (.iload_n 1, 1) := dk_27 (dk_at dksX5_day_2 3 rfl rfl)
theorem dX5_day_51 : decode cX5_day 51 = .ok (.bipush 30, 2) := dk_16 30 (dk_at dksX5_day_2 4 rfl rfl)
theorem dX5_day_53 : decode cX5_day 53 = .ok (.if_icmp .ne 11, 3) := dk_160 0 11 (dk_at dksX5_day_2 6 rfl rfl)
theorem dX5_day_56 : decode cX5_day 56 = .ok (.aload_n 0, 1) := dk_42 (dk_at dksX5_day_2 9 rfl rfl)
theorem dX5_day_57 : decode cX5_day 57 = .ok (.iconst 5, 1) := dk_8 (dk_at dksX5_day_2 10 rfl rfl)
theorem dX5_day_58 : decode cX5_day 58 = .ok (.invokevirtual 183, 3) := dk_182 0 183 (dk_at dksX5_day_2 11 rfl rfl)
theorem dX5_day_61 : decode cX5_day 61 = .ok (.goto 91, 3) := dk_167 0 91 (dk_at dksX5_day_2 14 rfl rfl)
theorem dX5_day_64 : decode cX5_day 64 = .ok (.aload_n 0, 1) := dk_42 (dk_at dksX5_day_2 17 rfl rfl)
theorem dX5_day_65 : decode cX5_day 65 = .ok (.dup, 1) := dk_89 (dk_at dksX5_day_2 18 rfl rfl)
theorem dX5_day_66 : decode cX5_day 66 = .ok (.getfield 174, 3) := dk_180 0 174 (dk_at dksX5_day_2 19 rfl rfl)
theorem dX5_day_69 : decode cX5_day 69 = .ok (.iconst 1, 1) := dk_4 (dk_at dksX5_day_2 22 rfl rfl)
theorem dX5_day_70 : decode cX5_day 70 = .ok (.iadd, 1) := dk_96 (dk_at dksX5_day_2 23 rfl rfl)
theorem dX5_day_71 : decode cX5_day 71 = .ok (.putfield 174, 3) := dk_181 0 174 (dk_at dksX5_day_3 0 rfl rfl)
theorem dX5_day_74 : decode cX5_day 74 = .ok (.aload_n 0, 1) := dk_42 (dk_at dksX5_day_3 3 rfl rfl)
theorem dX5_day_75 : decode cX5_day 75 = .ok (.getfield 104, 3) := dk_180 0 104 (dk_at dksX5_day_3 4 rfl rfl)
theorem dX5_day_78 : decode cX5_day 78 = .ok (.bipush 100, 2) := dk_16 100 (dk_at dksX5_day_3 7 rfl rfl)
theorem dX5_day_80 : decode cX5_day 80 = .ok (.iconst 3, 1) := dk_6 (dk_at dksX5_day_3 9 rfl rfl)
theorem dX5_day_81 : decode cX5_day 81 = .ok (.iload_n 1, 1) := dk_27 (dk_at dksX5_day_3 10 rfl rfl)
theorem dX5_day_82 : decode cX5_day 82 = .ok (.imul, 1) := dk_104 (dk_at dksX5_day_3 11 rfl rfl)
theorem dX5_day_83 : decode cX5_day 83 = .ok (.iadd, 1) := dk_96 (dk_at dksX5_day_3 12 rfl rfl)
theorem dX5_day_84 : decode cX5_day 84 = .ok (.iload_n 2, 1) := dk_28 (dk_at dksX5_day_3 13 rfl rfl)
theorem dX5_day_85 : decode cX5_day 85 = .ok (.iastore, 1) := dk_79 (dk_at dksX5_day_3 14 rfl rfl)
theorem dX5_day_86 : decode cX5_day 86 = .ok (.aload_n 0, 1) := dk_42 (dk_at dksX5_day_3 15 rfl rfl)
theorem dX5_day_87 : decode cX5_day 87 = .ok (.getfield 104, 3) := dk_180 0 104 (dk_at dksX5_day_3 16 rfl rfl)
theorem dX5_day_90 : decode cX5_day 90 = .ok (.bipush 101, 2) := dk_16 101 (dk_at dksX5_day_3 19 rfl rfl)
theorem dX5_day_92 : decode cX5_day 92 = .ok (.iconst 3, 1) := dk_6 (dk_at dksX5_day_3 21 rfl rfl)
theorem dX5_day_93 : decode cX5_day 93 = .ok (.iload_n 1, 1) := dk_27 (dk_at dksX5_day_3 22 rfl rfl)
theorem dX5_day_94 : decode cX5_day 94 = .ok (.imul, 1) := dk_104 (dk_at dksX5_day_3 23 rfl rfl)
theorem dX5_day_95 : decode cX5_day 95 = .ok (.iadd, 1) := dk_96 (dk_at dksX5_day_4 0 rfl rfl)
theorem dX5_day_96 : decode cX5_day 96 = .ok (.iload_n 2, 1) := dk_28 (dk_at dksX5_day_4 1 rfl rfl)
theorem dX5_day_97 : decode cX5_day 97 = .ok (.iconst 3, 1) := dk_6 (dk_at dksX5_day_4 2 rfl rfl)
theorem dX5_day_98 : decode cX5_day 98 = .ok (.if_icmp .ge 11, 3) := dk_162 0 11 (dk_at dksX5_day_4 3 rfl rfl)
theorem dX5_day_101 : decode cX5_day 101 = .ok (.aload_n 0, 1) := dk_42 (dk_at dksX5_day_4 6 rfl rfl)
theorem dX5_day_102 : decode cX5_day 102 = .ok (.iconst 0, 1) := dk_3 (dk_at dksX5_day_4 7 rfl rfl)
theorem dX5_day_103 : decode cX5_day 103 = .ok (.invokevirtual 247, 3) := dk_182 0 247 (dk_at dksX5_day_4 8 rfl rfl)
theorem dX5_day_106 : decode cX5_day 106 = .ok (.goto 19, 3) := dk_167 0 19 (dk_at dksX5_day_4 11 rfl rfl)
theorem dX5_day_109 : decode cX5_day 109 = .ok (.iload_n 2, 1) := dk_28 (dk_at dksX5_day_4 14 rfl rfl)
theorem dX5_day_110 : decode cX5_day 110 = .ok (.iconst 3, 1) := dk_6 (dk_at dksX5_day_4 15 rfl rfl)
theorem dX5_day_111 : decode cX5_day 111 = .ok (.if_icmp .ne 13, 3) := dk_160 0 13 (dk_at dksX5_day_4 16 rfl rfl)
theorem dX5_day_114 : decode cX5_day 114 = .ok (.aload_n 0, 1) := dk_42 (dk_at dksX5_day_4 19 rfl rfl)
theorem dX5_day_115 : decode cX5_day 115 = .ok (.iconst 1, 1) := dk_4 (dk_at dksX5_day_4 20 rfl rfl)
theorem dX5_day_116 : decode cX5_day 116 = .ok (.bipush 9, 2) := dk_16 9 (dk_at dksX5_day_4 21 rfl rfl)
theorem dX5_day_118 : decode cX5_day 118 = .ok (.invokevirtual 195, 3) := dk_182 0 195 (dk_at dksX5_day_5 0 rfl rfl)
theorem dX5_day_121 : decode cX5_day 121 = .ok (.goto 4, 3) := dk_167 0 4 (dk_at dksX5_day_5 3 rfl rfl)
theorem dX5_day_124 : decode cX5_day 124 = .ok (.iconst 0, 1) := dk_3 (dk_at dksX5_day_5 6 rfl rfl)
theorem dX5_day_125 : decode cX5_day 125 = .ok (.iastore, 1) := dk_79 (dk_at dksX5_day_5 7 rfl rfl)
theorem dX5_day_126 : decode cX5_day 126 = .ok (.aload_n 0, 1) := dk_42 (dk_at dksX5_day_5 8 rfl rfl)
theorem dX5_day_127 : decode cX5_day 127 = .ok (.getfield 104, 3) := dk_180 0 104 (dk_at dksX5_day_5 9 rfl rfl)
theorem dX5_day_130 : decode cX5_day 130 = .ok (.bipush 102, 2) := dk_16 102 (dk_at dksX5_day_5 12 rfl rfl)
theorem dX5_day_132 : decode cX5_day 132 = .ok (.iconst 3, 1) := dk_6 (dk_at dksX5_day_5 14 rfl rfl)
theorem dX5_day_133 : decode cX5_day 133 = .ok (.iload_n 1, 1) := dk_27 (dk_at dksX5_day_5 15 rfl rfl)
theorem dX5_day_134 : decode cX5_day 134 = .ok (.imul, 1) := dk_104 (dk_at dksX5_day_5 16 rfl rfl)
theorem dX5_day_135 : decode cX5_day 135 = .ok (.iadd, 1) := dk_96 (dk_at dksX5_day_5 17 rfl rfl)
theorem dX5_day_136 : decode cX5_day 136 = .ok (.iload_n 2, 1) := dk_28 (dk_at dksX5_day_5 18 rfl rfl)
theorem dX5_day_137 : decode cX5_day 137 = .ok (.ifCond .ne 10, 3) := dk_154 0 10 (dk_at dksX5_day_5 19 rfl rfl)
theorem dX5_day_140 : decode cX5_day 140 = .ok (.aload_n 0, 1) := dk_42 (dk_at dksX5_day_5 22 rfl rfl)
theorem dX5_day_141 : decode cX5_day 141 = .ok (.invokevirtual 260, 3) := dk_182 1 4 (dk_at dksX5_day_6 0 rfl rfl)
theorem dX5_day_144 : decode cX5_day 144 = .ok (.goto 4, 3) := dk_167 0 4 (dk_at dksX5_day_6 3 rfl rfl)
theorem dX5_day_147 : decode cX5_day 147 = .ok (.iconst 0, 1) := dk_3 (dk_at dksX5_day_6 6 rfl rfl)
theorem dX5_day_148 : decode cX5_day 148 = .ok (.iastore, 1) := dk_79 (dk_at dksX5_day_6 7 rfl rfl)
theorem dX5_day_149 : decode cX5_day 149 = .ok (.iinc 1 1, 3) := dk_132 1 1 (dk_at dksX5_day_6 8 rfl rfl)
theorem dX5_day_152 : decode cX5_day 152 = .ok (.aload_n 0, 1) := dk_42 (dk_at dksX5_day_6 11 rfl rfl)
theorem dX5_day_153 : decode cX5_day 153 = .ok (.bipush 59, 2) := dk_16 59 (dk_at dksX5_day_6 12 rfl rfl)
theorem dX5_day_155 : decode cX5_day 155 = .ok (.invokevirtual 237, 3) := dk_182 0 237 (dk_at dksX5_day_6 14 rfl rfl)
theorem dX5_day_158 : decode cX5_day 158 = .ok (.goto (-147), 3) := dk_167 255 109 (dk_at dksX5_day_6 17 rfl rfl)
theorem dX5_day_161 : decode cX5_day 161 = .ok (.aload_n 0, 1) := dk_42 (dk_at dksX5_day_6 20 rfl rfl)
theorem dX5_day_162 : decode cX5_day 162 = .ok (.getfield 177, 3) := dk_180 0 177 (dk_at dksX5_day_6 21 rfl rfl)
theorem dX5_day_165 : decode cX5_day 165 = .ok (.ifCond .le 8, 3) := dk_158 0 8 (dk_at dksX5_day_7 0 rfl rfl)
theorem dX5_day_168 : decode cX5_day 168 = .ok (.aload_n 0, 1) := dk_42 (dk_at dksX5_day_7 3 rfl rfl)
theorem dX5_day_169 : decode cX5_day 169 = .ok (.getfield 177, 3) := dk_180 0 177 (dk_at dksX5_day_7 4 rfl rfl)
theorem dX5_day_172 : decode cX5_day 172 = .ok (.ireturn, 1) := dk_172 (dk_at dksX5_day_7 7 rfl rfl)
theorem dX5_day_173 : decode cX5_day 173 = .ok (.aload_n 0, 1) := dk_42 (dk_at dksX5_day_7 8 rfl rfl)
theorem dX5_day_174 : decode cX5_day 174 = .ok (.getfield 104, 3) := dk_180 0 104 (dk_at dksX5_day_7 9 rfl rfl)
theorem dX5_day_177 : decode cX5_day 177 = .ok (.iconst 0, 1) := dk_3 (dk_at dksX5_day_7 12 rfl rfl)
theorem dX5_day_178 : decode cX5_day 178 = .ok (.iload_n 1, 1) := dk_27 (dk_at dksX5_day_7 13 rfl rfl)
theorem dX5_day_179 : decode cX5_day 179 = .ok (.iastore, 1) := dk_79 (dk_at dksX5_day_7 14 rfl rfl)
theorem dX5_day_180 : decode cX5_day 180 = .ok (.iconst 0, 1) := dk_3 (dk_at dksX5_day_7 15 rfl rfl)
theorem dX5_day_181 : decode cX5_day 181 = .ok (.istore_n 2, 1) := dk_61 (dk_at dksX5_day_7 16 rfl rfl)
theorem dX5_day_182 : decode cX5_day 182 = .ok (.iload_n 2, 1) := dk_28 (dk_at dksX5_day_7 17 rfl rfl)
theorem dX5_day_183 : decode cX5_day 183 = .ok (.iconst 3, 1) := dk_6 (dk_at dksX5_day_7 18 rfl rfl)
theorem dX5_day_184 : decode cX5_day 184 = .ok (.iload_n 1, 1) := dk_27 (dk_at dksX5_day_7 19 rfl rfl)
theorem dX5_day_185 : decode cX5_day 185 = .ok (.imul, 1) := dk_104 (dk_at dksX5_day_7 20 rfl rfl)
theorem dX5_day_186 : decode cX5_day 186 = .ok (.if_icmp .ge 26, 3) := dk_162 0 26 (dk_at dksX5_day_7 21 rfl rfl)
theorem dX5_day_189 : decode cX5_day 189 = .ok (.aload_n 0, 1) := dk_42 (dk_at dksX5_day_8 0 rfl rfl)
theorem dX5_day_190 : decode cX5_day 190 = .ok (.getfield 104, 3) := dk_180 0 104 (dk_at dksX5_day_8 1 rfl rfl)
theorem dX5_day_193 : decode cX5_day 193 = .ok (.iconst 1, 1) := dk_4 (dk_at dksX5_day_8 4 rfl rfl)
theorem dX5_day_194 : decode cX5_day 194 = .ok (.iload_n 2, 1) := dk_28 (dk_at dksX5_day_8 5 rfl rfl)
theorem dX5_day_195 : decode cX5_day 195 = .ok (.iadd, 1) := dk_96 (dk_at dksX5_day_8 6 rfl rfl)
theorem dX5_day_196 : decode cX5_day 196 = .ok (.aload_n 0, 1) := dk_42 (dk_at dksX5_day_8 7 rfl rfl)
theorem dX5_day_197 : decode cX5_day 197 = .ok (.getfield 104, 3) := dk_180 0 104 (dk_at dksX5_day_8 8 rfl rfl)
theorem dX5_day_200 : decode cX5_day 200 = .ok (.bipush 100, 2) := dk_16 100 (dk_at dksX5_day_8 11 rfl rfl)
theorem dX5_day_202 : decode cX5_day 202 = .ok (.iload_n 2, 1) := dk_28 (dk_at dksX5_day_8 13 rfl rfl)
theorem dX5_day_203 : decode cX5_day 203 = .ok (.iadd, 1) := dk_96 (dk_at dksX5_day_8 14 rfl rfl)
theorem dX5_day_204 : decode cX5_day 204 = .ok (.iaload, 1) := dk_46 (dk_at dksX5_day_8 15 rfl rfl)
theorem dX5_day_205 : decode cX5_day 205 = .ok (.iastore, 1) := dk_79 (dk_at dksX5_day_8 16 rfl rfl)
theorem dX5_day_206 : decode cX5_day 206 = .ok (.iinc 2 1, 3) := dk_132 2 1 (dk_at dksX5_day_8 17 rfl rfl)
theorem dX5_day_209 : decode cX5_day 209 = .ok (.goto (-27), 3) := dk_167 255 229 (dk_at dksX5_day_8 20 rfl rfl)
theorem dX5_day_212 : decode cX5_day 212 = .ok (.iconst 0, 1) := dk_3 (dk_at dksX5_day_8 23 rfl rfl)
theorem dX5_day_213 : decode cX5_day 213 = .ok (.ireturn, 1) := dk_172 (dk_at dksX5_day_9 0 rfl rfl)
abbrev cX5_readPegs : ByteArray := prog_23_method_33_code
def yX5_readPegs : MethodName := ⟨RX5, "readPegs", "()I"⟩
def dkwX5_readPegs_4 : List UInt8 := [60, 132, 2, 1, 167, 255, 162, 27, 172]
abbrev dktX5_readPegs_4 : List UInt8 := dkwX5_readPegs_4 ++ []
def dkwX5_readPegs_3 : List UInt8 := [158, 0, 19, 42, 89, 180, 0, 174, 4, 100, 181, 0, 174, 42, 21, 4, 182, 0, 183, 27, 4, 29, 120, 128]
abbrev dktX5_readPegs_3 : List UInt8 := dkwX5_readPegs_3 ++ dktX5_readPegs_4
def dkwX5_readPegs_2 : List UInt8 := [167, 0, 13, 28, 7, 160, 0, 7, 8, 167, 0, 4, 3, 54, 4, 42, 180, 0, 177, 154, 0, 24, 21, 4]
abbrev dktX5_readPegs_2 : List UInt8 := dkwX5_readPegs_2 ++ dktX5_readPegs_3
def dkwX5_readPegs_1 : List UInt8 := [5, 160, 0, 76, 42, 3, 16, 7, 182, 0, 195, 62, 27, 29, 122, 4, 126, 4, 160, 0, 7, 6]
abbrev dktX5_readPegs_1 : List UInt8 := dkwX5_readPegs_1 ++ dktX5_readPegs_2
def dkwX5_readPegs_0 : List UInt8 := [3, 60, 3, 61, 42, 180, 0, 177, 154, 0, 93, 28, 153, 0, 16, 42, 180, 0, 24, 42, 180, 0, 174, 46]
abbrev dktX5_readPegs_0 : List UInt8 := dkwX5_readPegs_0 ++ dktX5_readPegs_1
theorem dksX5_readPegs_0 : cX5_readPegs.data.toList.drop 0 = dktX5_readPegs_0 := by decide +kernel
theorem dksX5_readPegs_1 : cX5_readPegs.data.toList.drop 24 = dktX5_readPegs_1 := dk_seg dksX5_readPegs_0 24 rfl rfl
theorem dksX5_readPegs_2 : cX5_readPegs.data.toList.drop 46 = dktX5_readPegs_2 := dk_seg dksX5_readPegs_1 22 rfl rfl
theorem dksX5_readPegs_3 : cX5_readPegs.data.toList.drop 70 = dktX5_readPegs_3 := dk_seg dksX5_readPegs_2 24 rfl rfl
theorem dksX5_readPegs_4 : cX5_readPegs.data.toList.drop 94 = dktX5_readPegs_4 := dk_seg dksX5_readPegs_3 24 rfl rfl
theorem dX5_readPegs_0 : decode cX5_readPegs 0 = .ok (.iconst 0, 1) := dk_3 (dk_at dksX5_readPegs_0 0 rfl rfl)
theorem dX5_readPegs_1 : decode cX5_readPegs 1 = .ok (.istore_n 1, 1) := dk_60 (dk_at dksX5_readPegs_0 1 rfl rfl)
theorem dX5_readPegs_2 : decode cX5_readPegs 2 = .ok (.iconst 0, 1) := dk_3 (dk_at dksX5_readPegs_0 2 rfl rfl)
theorem dX5_readPegs_3 : decode cX5_readPegs 3 = .ok (.istore_n 2, 1) := dk_61 (dk_at dksX5_readPegs_0 3 rfl rfl)
theorem dX5_readPegs_4 : decode cX5_readPegs 4 = .ok (.aload_n 0, 1) := dk_42 (dk_at dksX5_readPegs_0 4 rfl rfl)
theorem dX5_readPegs_5 : decode cX5_readPegs 5 = .ok (.getfield 177, 3) := dk_180 0 177 (dk_at dksX5_readPegs_0 5 rfl rfl)
theorem dX5_readPegs_8 : decode cX5_readPegs 8 = .ok (.ifCond .ne 93, 3) := dk_154 0 93 (dk_at dksX5_readPegs_0 8 rfl rfl)
theorem dX5_readPegs_11 : decode cX5_readPegs 11 = .ok (.iload_n 2, 1) := dk_28 (dk_at dksX5_readPegs_0 11 rfl rfl)
theorem dX5_readPegs_12 : decode cX5_readPegs 12 = .ok (.ifCond .eq 16, 3) := dk_153 0 16 (dk_at dksX5_readPegs_0 12 rfl rfl)
theorem dX5_readPegs_15 : decode cX5_readPegs 15 = .ok (.aload_n 0, 1) := dk_42 (dk_at dksX5_readPegs_0 15 rfl rfl)
theorem dX5_readPegs_16 : decode cX5_readPegs 16 = .ok (.getfield 24, 3) := dk_180 0 24 (dk_at dksX5_readPegs_0 16 rfl rfl)
theorem dX5_readPegs_19 : decode cX5_readPegs 19 = .ok (.aload_n 0, 1) := dk_42 (dk_at dksX5_readPegs_0 19 rfl rfl)
theorem dX5_readPegs_20 : decode cX5_readPegs 20 = .ok (.getfield 174, 3) := dk_180 0 174 (dk_at dksX5_readPegs_0 20 rfl rfl)
theorem dX5_readPegs_23 : decode cX5_readPegs 23 = .ok (.iaload, 1) := dk_46 (dk_at dksX5_readPegs_0 23 rfl rfl)
theorem dX5_readPegs_24 : decode cX5_readPegs 24 = .ok (.iconst 2, 1) := dk_5 (dk_at dksX5_readPegs_1 0 rfl rfl)
theorem dX5_readPegs_25 : decode cX5_readPegs 25 = .ok (.if_icmp .ne 76, 3) := dk_160 0 76 (dk_at dksX5_readPegs_1 1 rfl rfl)
theorem dX5_readPegs_28 : decode cX5_readPegs 28 = .ok (.aload_n 0, 1) := dk_42 (dk_at dksX5_readPegs_1 4 rfl rfl)
theorem dX5_readPegs_29 : decode cX5_readPegs 29 = .ok (.iconst 0, 1) := dk_3 (dk_at dksX5_readPegs_1 5 rfl rfl)
theorem dX5_readPegs_30 : decode cX5_readPegs 30 = .ok (.bipush 7, 2) := dk_16 7 (dk_at dksX5_readPegs_1 6 rfl rfl)
theorem dX5_readPegs_32 : decode cX5_readPegs 32 = .ok (.invokevirtual 195, 3) := dk_182 0 195 (dk_at dksX5_readPegs_1 8 rfl rfl)
theorem dX5_readPegs_35 : decode cX5_readPegs 35 = .ok (.istore_n 3, 1) := dk_62 (dk_at dksX5_readPegs_1 11 rfl rfl)
theorem dX5_readPegs_36 : decode cX5_readPegs 36 = .ok (.iload_n 1, 1) := dk_27 (dk_at dksX5_readPegs_1 12 rfl rfl)
theorem dX5_readPegs_37 : decode cX5_readPegs 37 = .ok (.iload_n 3, 1) := dk_29 (dk_at dksX5_readPegs_1 13 rfl rfl)
theorem dX5_readPegs_38 : decode cX5_readPegs 38 = .ok (.ishr, 1) := dk_122 (dk_at dksX5_readPegs_1 14 rfl rfl)
theorem dX5_readPegs_39 : decode cX5_readPegs 39 = .ok (.iconst 1, 1) := dk_4 (dk_at dksX5_readPegs_1 15 rfl rfl)
theorem dX5_readPegs_40 : decode cX5_readPegs 40 = .ok (.iand, 1) := dk_126 (dk_at dksX5_readPegs_1 16 rfl rfl)
theorem dX5_readPegs_41 : decode cX5_readPegs 41 = .ok (.iconst 1, 1) := dk_4 (dk_at dksX5_readPegs_1 17 rfl rfl)
theorem dX5_readPegs_42 : decode cX5_readPegs 42 = .ok (.if_icmp .ne 7, 3) := dk_160 0 7 (dk_at dksX5_readPegs_1 18 rfl rfl)
theorem dX5_readPegs_45 : decode cX5_readPegs 45 = .ok (.iconst 3, 1) := dk_6 (dk_at dksX5_readPegs_1 21 rfl rfl)
theorem dX5_readPegs_46 : decode cX5_readPegs 46 = .ok (.goto 13, 3) := dk_167 0 13 (dk_at dksX5_readPegs_2 0 rfl rfl)
theorem dX5_readPegs_49 : decode cX5_readPegs 49 = .ok (.iload_n 2, 1) := dk_28 (dk_at dksX5_readPegs_2 3 rfl rfl)
theorem dX5_readPegs_50 : decode cX5_readPegs 50 = .ok (.iconst 4, 1) := dk_7 (dk_at dksX5_readPegs_2 4 rfl rfl)
theorem dX5_readPegs_51 : decode cX5_readPegs 51 = .ok (.if_icmp .ne 7, 3) := dk_160 0 7 (dk_at dksX5_readPegs_2 5 rfl rfl)
theorem dX5_readPegs_54 : decode cX5_readPegs 54 = .ok (.iconst 5, 1) := dk_8 (dk_at dksX5_readPegs_2 8 rfl rfl)
theorem dX5_readPegs_55 : decode cX5_readPegs 55 = .ok (.goto 4, 3) := dk_167 0 4 (dk_at dksX5_readPegs_2 9 rfl rfl)
theorem dX5_readPegs_58 : decode cX5_readPegs 58 = .ok (.iconst 0, 1) := dk_3 (dk_at dksX5_readPegs_2 12 rfl rfl)
theorem dX5_readPegs_59 : decode cX5_readPegs 59 = .ok (.istore 4, 2) := dk_54 4 (dk_at dksX5_readPegs_2 13 rfl rfl)
theorem dX5_readPegs_61 : decode cX5_readPegs 61 = .ok (.aload_n 0, 1) := dk_42 (dk_at dksX5_readPegs_2 15 rfl rfl)
theorem dX5_readPegs_62 : decode cX5_readPegs 62 = .ok (.getfield 177, 3) := dk_180 0 177 (dk_at dksX5_readPegs_2 16 rfl rfl)
theorem dX5_readPegs_65 : decode cX5_readPegs 65 = .ok (.ifCond .ne 24, 3) := dk_154 0 24 (dk_at dksX5_readPegs_2 19 rfl rfl)
theorem dX5_readPegs_68 : decode cX5_readPegs 68 = .ok (.iload 4, 2) := dk_21 4 (dk_at dksX5_readPegs_2 22 rfl rfl)
theorem dX5_readPegs_70 : decode cX5_readPegs 70 = .ok (.ifCond .le 19, 3) := dk_158 0 19 (dk_at dksX5_readPegs_3 0 rfl rfl)
theorem dX5_readPegs_73 : decode cX5_readPegs 73 = .ok (.aload_n 0, 1) := dk_42 (dk_at dksX5_readPegs_3 3 rfl rfl)
theorem dX5_readPegs_74 : decode cX5_readPegs 74 = .ok (.dup, 1) := dk_89 (dk_at dksX5_readPegs_3 4 rfl rfl)
theorem dX5_readPegs_75 : decode cX5_readPegs 75 = .ok (.getfield 174, 3) := dk_180 0 174 (dk_at dksX5_readPegs_3 5 rfl rfl)
theorem dX5_readPegs_78 : decode cX5_readPegs 78 = .ok (.iconst 1, 1) := dk_4 (dk_at dksX5_readPegs_3 8 rfl rfl)
theorem dX5_readPegs_79 : decode cX5_readPegs 79 = .ok (.isub, 1) := dk_100 (dk_at dksX5_readPegs_3 9 rfl rfl)
theorem dX5_readPegs_80 : decode cX5_readPegs 80 = .ok (.putfield 174, 3) := dk_181 0 174 (dk_at dksX5_readPegs_3 10 rfl rfl)
theorem dX5_readPegs_83 : decode cX5_readPegs 83 = .ok (.aload_n 0, 1) := dk_42 (dk_at dksX5_readPegs_3 13 rfl rfl)
theorem dX5_readPegs_84 : decode cX5_readPegs 84 = .ok (.iload 4, 2) := dk_21 4 (dk_at dksX5_readPegs_3 14 rfl rfl)
theorem dX5_readPegs_86 : decode cX5_readPegs 86 = .ok (.invokevirtual 183, 3) := dk_182 0 183 (dk_at dksX5_readPegs_3 16 rfl rfl)
theorem dX5_readPegs_89 : decode cX5_readPegs 89 = .ok (.iload_n 1, 1) := dk_27 (dk_at dksX5_readPegs_3 19 rfl rfl)
theorem dX5_readPegs_90 : decode cX5_readPegs 90 = .ok (.iconst 1, 1) := dk_4 (dk_at dksX5_readPegs_3 20 rfl rfl)
theorem dX5_readPegs_91 : decode cX5_readPegs 91 = .ok (.iload_n 3, 1) := dk_29 (dk_at dksX5_readPegs_3 21 rfl rfl)
theorem dX5_readPegs_92 : decode cX5_readPegs 92 = .ok (.ishl, 1) := dk_120 (dk_at dksX5_readPegs_3 22 rfl rfl)
theorem dX5_readPegs_93 : decode cX5_readPegs 93 = .ok (.ior, 1) := dk_128 (dk_at dksX5_readPegs_3 23 rfl rfl)
theorem dX5_readPegs_94 : decode cX5_readPegs 94 = .ok (.istore_n 1, 1) := dk_60 (dk_at dksX5_readPegs_4 0 rfl rfl)
theorem dX5_readPegs_95 : decode cX5_readPegs 95 = .ok (.iinc 2 1, 3) := dk_132 2 1 (dk_at dksX5_readPegs_4 1 rfl rfl)
theorem dX5_readPegs_98 : decode cX5_readPegs 98 = .ok (.goto (-94), 3) := dk_167 255 162 (dk_at dksX5_readPegs_4 4 rfl rfl)
theorem dX5_readPegs_101 : decode cX5_readPegs 101 = .ok (.iload_n 1, 1) := dk_27 (dk_at dksX5_readPegs_4 7 rfl rfl)
theorem dX5_readPegs_102 : decode cX5_readPegs 102 = .ok (.ireturn, 1) := dk_172 (dk_at dksX5_readPegs_4 8 rfl rfl)
abbrev cX5_cloth : ByteArray := prog_23_method_68_code
def yX5_cloth : MethodName := ⟨RX5, "cloth", "(II)I"⟩
def dkwX5_cloth_8 : List UInt8 := [182, 1, 76, 182, 1, 61, 172]
abbrev dktX5_cloth_8 : List UInt8 := dkwX5_cloth_8 ++ []
def dkwX5_cloth_7 : List UInt8 := [167, 0, 4, 3, 172, 42, 27, 42, 180, 0, 113, 5, 27, 96, 46, 42, 42, 180, 0, 113, 3, 46, 3]
abbrev dktX5_cloth_7 : List UInt8 := dkwX5_cloth_7 ++ dktX5_cloth_8
def dkwX5_cloth_6 : List UInt8 := [182, 1, 48, 153, 0, 23, 42, 27, 42, 180, 0, 113, 16, 14, 27, 96, 46, 184, 1, 42, 182, 1, 52]
abbrev dktX5_cloth_6 : List UInt8 := dkwX5_cloth_6 ++ dktX5_cloth_7
def dkwX5_cloth_5 : List UInt8 := [167, 0, 4, 3, 172, 42, 3, 27, 182, 1, 96, 153, 0, 7, 4, 167, 0, 4, 3, 172, 42, 3, 27]
abbrev dktX5_cloth_5 : List UInt8 := dkwX5_cloth_5 ++ dktX5_cloth_6
def dkwX5_cloth_4 : List UInt8 := [46, 172, 42, 180, 0, 113, 16, 14, 27, 96, 46, 172, 42, 3, 27, 182, 1, 87, 153, 0, 7, 4]
abbrev dktX5_cloth_4 : List UInt8 := dkwX5_cloth_4 ++ dktX5_cloth_5
def dkwX5_cloth_3 : List UInt8 := [42, 27, 3, 182, 1, 39, 172, 42, 180, 0, 113, 5, 27, 96, 46, 172, 42, 180, 0, 113, 16, 8, 27, 96]
abbrev dktX5_cloth_3 : List UInt8 := dkwX5_cloth_3 ++ dktX5_cloth_4
def dkwX5_cloth_2 : List UInt8 := [170, 0, 0, 0, 0, 139, 0, 0, 0, 0, 0, 0, 0, 6, 0, 0, 0, 42, 0, 0, 0, 49, 0, 0, 0, 58, 0, 0, 0, 68, 0, 0, 0, 78, 0, 0, 0, 93, 0, 0, 0, 108]
abbrev dktX5_cloth_2 : List UInt8 := dkwX5_cloth_2 ++ dktX5_cloth_3
def dkwX5_cloth_1 : List UInt8 := [172, 28]
abbrev dktX5_cloth_1 : List UInt8 := dkwX5_cloth_1 ++ dktX5_cloth_2
def dkwX5_cloth_0 : List UInt8 := [42, 3, 181, 0, 1, 42, 27, 182, 1, 90, 153, 0, 13, 28, 3, 16, 7, 184, 1, 93, 154, 0, 5, 2]
abbrev dktX5_cloth_0 : List UInt8 := dkwX5_cloth_0 ++ dktX5_cloth_1
theorem dksX5_cloth_0 : cX5_cloth.data.toList.drop 0 = dktX5_cloth_0 := by decide +kernel
theorem dksX5_cloth_1 : cX5_cloth.data.toList.drop 24 = dktX5_cloth_1 := dk_seg dksX5_cloth_0 24 rfl rfl
theorem dksX5_cloth_2 : cX5_cloth.data.toList.drop 26 = dktX5_cloth_2 := dk_seg dksX5_cloth_1 2 rfl rfl
theorem dksX5_cloth_3 : cX5_cloth.data.toList.drop 68 = dktX5_cloth_3 := dk_seg dksX5_cloth_2 42 rfl rfl
theorem dksX5_cloth_4 : cX5_cloth.data.toList.drop 92 = dktX5_cloth_4 := dk_seg dksX5_cloth_3 24 rfl rfl
theorem dksX5_cloth_5 : cX5_cloth.data.toList.drop 114 = dktX5_cloth_5 := dk_seg dksX5_cloth_4 22 rfl rfl
theorem dksX5_cloth_6 : cX5_cloth.data.toList.drop 137 = dktX5_cloth_6 := dk_seg dksX5_cloth_5 23 rfl rfl
theorem dksX5_cloth_7 : cX5_cloth.data.toList.drop 160 = dktX5_cloth_7 := dk_seg dksX5_cloth_6 23 rfl rfl
theorem dksX5_cloth_8 : cX5_cloth.data.toList.drop 183 = dktX5_cloth_8 := dk_seg dksX5_cloth_7 23 rfl rfl
theorem dX5_cloth_0 : decode cX5_cloth 0 = .ok (.aload_n 0, 1) := dk_42 (dk_at dksX5_cloth_0 0 rfl rfl)
theorem dX5_cloth_1 : decode cX5_cloth 1 = .ok (.iconst 0, 1) := dk_3 (dk_at dksX5_cloth_0 1 rfl rfl)
theorem dX5_cloth_2 : decode cX5_cloth 2 = .ok (.putfield 1, 3) := dk_181 0 1 (dk_at dksX5_cloth_0 2 rfl rfl)
theorem dX5_cloth_5 : decode cX5_cloth 5 = .ok (.aload_n 0, 1) := dk_42 (dk_at dksX5_cloth_0 5 rfl rfl)
theorem dX5_cloth_6 : decode cX5_cloth 6 = .ok (.iload_n 1, 1) := dk_27 (dk_at dksX5_cloth_0 6 rfl rfl)
theorem dX5_cloth_7 : decode cX5_cloth 7 = .ok (.invokevirtual 346, 3) := dk_182 1 90 (dk_at dksX5_cloth_0 7 rfl rfl)
theorem dX5_cloth_10 : decode cX5_cloth 10 = .ok (.ifCond .eq 13, 3) := dk_153 0 13 (dk_at dksX5_cloth_0 10 rfl rfl)
theorem dX5_cloth_13 : decode cX5_cloth 13 = .ok (.iload_n 2, 1) := dk_28 (dk_at dksX5_cloth_0 13 rfl rfl)
theorem dX5_cloth_14 : decode cX5_cloth 14 = .ok (.iconst 0, 1) := dk_3 (dk_at dksX5_cloth_0 14 rfl rfl)
theorem dX5_cloth_15 : decode cX5_cloth 15 = .ok (.bipush 7, 2) := dk_16 7 (dk_at dksX5_cloth_0 15 rfl rfl)
theorem dX5_cloth_17 : decode cX5_cloth 17 = .ok (.invokestatic 349, 3) := dk_184 1 93 (dk_at dksX5_cloth_0 17 rfl rfl)
theorem dX5_cloth_20 : decode cX5_cloth 20 = .ok (.ifCond .ne 5, 3) := dk_154 0 5 (dk_at dksX5_cloth_0 20 rfl rfl)
theorem dX5_cloth_23 : decode cX5_cloth 23 = .ok (.iconst (-1), 1) := dk_2 (dk_at dksX5_cloth_0 23 rfl rfl)
theorem dX5_cloth_24 : decode cX5_cloth 24 = .ok (.ireturn, 1) := dk_172 (dk_at dksX5_cloth_1 0 rfl rfl)
theorem dX5_cloth_25 : decode cX5_cloth 25 = .ok (.iload_n 2, 1) := dk_28 (dk_at dksX5_cloth_1 1 rfl rfl)
theorem dX5_cloth_26 : decode cX5_cloth 26 = .ok (.tableswitch 139 0 6 #[42, 49, 58, 68, 78, 93, 108], 42) := by decide +kernel
theorem dX5_cloth_68 : decode cX5_cloth 68 = .ok (.aload_n 0, 1) := dk_42 (dk_at dksX5_cloth_3 0 rfl rfl)
theorem dX5_cloth_69 : decode cX5_cloth 69 = .ok (.iload_n 1, 1) := dk_27 (dk_at dksX5_cloth_3 1 rfl rfl)
theorem dX5_cloth_70 : decode cX5_cloth 70 = .ok (.iconst 0, 1) := dk_3 (dk_at dksX5_cloth_3 2 rfl rfl)
theorem dX5_cloth_71 : decode cX5_cloth 71 = .ok (.invokevirtual 295, 3) := dk_182 1 39 (dk_at dksX5_cloth_3 3 rfl rfl)
theorem dX5_cloth_74 : decode cX5_cloth 74 = .ok (.ireturn, 1) := dk_172 (dk_at dksX5_cloth_3 6 rfl rfl)
theorem dX5_cloth_75 : decode cX5_cloth 75 = .ok (.aload_n 0, 1) := dk_42 (dk_at dksX5_cloth_3 7 rfl rfl)
theorem dX5_cloth_76 : decode cX5_cloth 76 = .ok (.getfield 113, 3) := dk_180 0 113 (dk_at dksX5_cloth_3 8 rfl rfl)
theorem dX5_cloth_79 : decode cX5_cloth 79 = .ok (.iconst 2, 1) := dk_5 (dk_at dksX5_cloth_3 11 rfl rfl)
theorem dX5_cloth_80 : decode cX5_cloth 80 = .ok (.iload_n 1, 1) := dk_27 (dk_at dksX5_cloth_3 12 rfl rfl)
theorem dX5_cloth_81 : decode cX5_cloth 81 = .ok (.iadd, 1) := dk_96 (dk_at dksX5_cloth_3 13 rfl rfl)
theorem dX5_cloth_82 : decode cX5_cloth 82 = .ok (.iaload, 1) := dk_46 (dk_at dksX5_cloth_3 14 rfl rfl)
theorem dX5_cloth_83 : decode cX5_cloth 83 = .ok (.ireturn, 1) := dk_172 (dk_at dksX5_cloth_3 15 rfl rfl)
theorem dX5_cloth_84 : decode cX5_cloth 84 = .ok (.aload_n 0, 1) := dk_42 (dk_at dksX5_cloth_3 16 rfl rfl)
theorem dX5_cloth_85 : decode cX5_cloth 85 = .ok (.getfield 113, 3) := dk_180 0 113 (dk_at dksX5_cloth_3 17 rfl rfl)
theorem dX5_cloth_88 : decode cX5_cloth 88 = .ok (.bipush 8, 2) := dk_16 8 (dk_at dksX5_cloth_3 20 rfl rfl)
theorem dX5_cloth_90 : decode cX5_cloth 90 = .ok (.iload_n 1, 1) := dk_27 (dk_at dksX5_cloth_3 22 rfl rfl)
theorem dX5_cloth_91 : decode cX5_cloth 91 = .ok (.iadd, 1) := dk_96 (dk_at dksX5_cloth_3 23 rfl rfl)
theorem dX5_cloth_92 : decode cX5_cloth 92 = .ok (.iaload, 1) := dk_46 (dk_at dksX5_cloth_4 0 rfl rfl)
theorem dX5_cloth_93 : decode cX5_cloth 93 = .ok (.ireturn, 1) := dk_172 (dk_at dksX5_cloth_4 1 rfl rfl)
theorem dX5_cloth_94 : decode cX5_cloth 94 = .ok (.aload_n 0, 1) := dk_42 (dk_at dksX5_cloth_4 2 rfl rfl)
theorem dX5_cloth_95 : decode cX5_cloth 95 = .ok (.getfield 113, 3) := dk_180 0 113 (dk_at dksX5_cloth_4 3 rfl rfl)
theorem dX5_cloth_98 : decode cX5_cloth 98 = .ok (.bipush 14, 2) := dk_16 14 (dk_at dksX5_cloth_4 6 rfl rfl)
theorem dX5_cloth_100 : decode cX5_cloth 100 = .ok (.iload_n 1, 1) := dk_27 (dk_at dksX5_cloth_4 8 rfl rfl)
theorem dX5_cloth_101 : decode cX5_cloth 101 = .ok (.iadd, 1) := dk_96 (dk_at dksX5_cloth_4 9 rfl rfl)
theorem dX5_cloth_102 : decode cX5_cloth 102 = .ok (.iaload, 1) := dk_46 (dk_at dksX5_cloth_4 10 rfl rfl)
theorem dX5_cloth_103 : decode cX5_cloth 103 = .ok (.ireturn, 1) := dk_172 (dk_at dksX5_cloth_4 11 rfl rfl)
theorem dX5_cloth_104 : decode cX5_cloth 104 = .ok (.aload_n 0, 1) := dk_42 (dk_at dksX5_cloth_4 12 rfl rfl)
theorem dX5_cloth_105 : decode cX5_cloth 105 = .ok (.iconst 0, 1) := dk_3 (dk_at dksX5_cloth_4 13 rfl rfl)
theorem dX5_cloth_106 : decode cX5_cloth 106 = .ok (.iload_n 1, 1) := dk_27 (dk_at dksX5_cloth_4 14 rfl rfl)
theorem dX5_cloth_107 : decode cX5_cloth 107 = .ok (.invokevirtual 343, 3) := dk_182 1 87 (dk_at dksX5_cloth_4 15 rfl rfl)
theorem dX5_cloth_110 : decode cX5_cloth 110 = .ok (.ifCond .eq 7, 3) := dk_153 0 7 (dk_at dksX5_cloth_4 18 rfl rfl)
theorem dX5_cloth_113 : decode cX5_cloth 113 = .ok (.iconst 1, 1) := dk_4 (dk_at dksX5_cloth_4 21 rfl rfl)
theorem dX5_cloth_114 : decode cX5_cloth 114 = .ok (.goto 4, 3) := dk_167 0 4 (dk_at dksX5_cloth_5 0 rfl rfl)
theorem dX5_cloth_117 : decode cX5_cloth 117 = .ok (.iconst 0, 1) := dk_3 (dk_at dksX5_cloth_5 3 rfl rfl)
theorem dX5_cloth_118 : decode cX5_cloth 118 = .ok (.ireturn, 1) := dk_172 (dk_at dksX5_cloth_5 4 rfl rfl)
theorem dX5_cloth_119 : decode cX5_cloth 119 = .ok (.aload_n 0, 1) := dk_42 (dk_at dksX5_cloth_5 5 rfl rfl)
theorem dX5_cloth_120 : decode cX5_cloth 120 = .ok (.iconst 0, 1) := dk_3 (dk_at dksX5_cloth_5 6 rfl rfl)
theorem dX5_cloth_121 : decode cX5_cloth 121 = .ok (.iload_n 1, 1) := dk_27 (dk_at dksX5_cloth_5 7 rfl rfl)
theorem dX5_cloth_122 : decode cX5_cloth 122 = .ok (.invokevirtual 352, 3) := dk_182 1 96 (dk_at dksX5_cloth_5 8 rfl rfl)
theorem dX5_cloth_125 : decode cX5_cloth 125 = .ok (.ifCond .eq 7, 3) := dk_153 0 7 (dk_at dksX5_cloth_5 11 rfl rfl)
theorem dX5_cloth_128 : decode cX5_cloth 128 = .ok (.iconst 1, 1) := dk_4 (dk_at dksX5_cloth_5 14 rfl rfl)
theorem dX5_cloth_129 : decode cX5_cloth 129 = .ok (.goto 4, 3) := dk_167 0 4 (dk_at dksX5_cloth_5 15 rfl rfl)
theorem dX5_cloth_132 : decode cX5_cloth 132 = .ok (.iconst 0, 1) := dk_3 (dk_at dksX5_cloth_5 18 rfl rfl)
theorem dX5_cloth_133 : decode cX5_cloth 133 = .ok (.ireturn, 1) := dk_172 (dk_at dksX5_cloth_5 19 rfl rfl)
theorem dX5_cloth_134 : decode cX5_cloth 134 = .ok (.aload_n 0, 1) := dk_42 (dk_at dksX5_cloth_5 20 rfl rfl)
theorem dX5_cloth_135 : decode cX5_cloth 135 = .ok (.iconst 0, 1) := dk_3 (dk_at dksX5_cloth_5 21 rfl rfl)
theorem dX5_cloth_136 : decode cX5_cloth 136 = .ok (.iload_n 1, 1) := dk_27 (dk_at dksX5_cloth_5 22 rfl rfl)
theorem dX5_cloth_137 : decode cX5_cloth 137 = .ok (.invokevirtual 304, 3) := dk_182 1 48 (dk_at dksX5_cloth_6 0 rfl rfl)
theorem dX5_cloth_140 : decode cX5_cloth 140 = .ok (.ifCond .eq 23, 3) := dk_153 0 23 (dk_at dksX5_cloth_6 3 rfl rfl)
theorem dX5_cloth_143 : decode cX5_cloth 143 = .ok (.aload_n 0, 1) := dk_42 (dk_at dksX5_cloth_6 6 rfl rfl)
theorem dX5_cloth_144 : decode cX5_cloth 144 = .ok (.iload_n 1, 1) := dk_27 (dk_at dksX5_cloth_6 7 rfl rfl)
theorem dX5_cloth_145 : decode cX5_cloth 145 = .ok (.aload_n 0, 1) := dk_42 (dk_at dksX5_cloth_6 8 rfl rfl)
theorem dX5_cloth_146 : decode cX5_cloth 146 = .ok (.getfield 113, 3) := dk_180 0 113 (dk_at dksX5_cloth_6 9 rfl rfl)
theorem dX5_cloth_149 : decode cX5_cloth 149 = .ok (.bipush 14, 2) := dk_16 14 (dk_at dksX5_cloth_6 12 rfl rfl)
theorem dX5_cloth_151 : decode cX5_cloth 151 = .ok (.iload_n 1, 1) := dk_27 (dk_at dksX5_cloth_6 14 rfl rfl)
theorem dX5_cloth_152 : decode cX5_cloth 152 = .ok (.iadd, 1) := dk_96 (dk_at dksX5_cloth_6 15 rfl rfl)
theorem dX5_cloth_153 : decode cX5_cloth 153 = .ok (.iaload, 1) := dk_46 (dk_at dksX5_cloth_6 16 rfl rfl)
theorem dX5_cloth_154 : decode cX5_cloth 154 = .ok (.invokestatic 298, 3) := dk_184 1 42 (dk_at dksX5_cloth_6 17 rfl rfl)
theorem dX5_cloth_157 : decode cX5_cloth 157 = .ok (.invokevirtual 308, 3) := dk_182 1 52 (dk_at dksX5_cloth_6 20 rfl rfl)
theorem dX5_cloth_160 : decode cX5_cloth 160 = .ok (.goto 4, 3) := dk_167 0 4 (dk_at dksX5_cloth_7 0 rfl rfl)
theorem dX5_cloth_163 : decode cX5_cloth 163 = .ok (.iconst 0, 1) := dk_3 (dk_at dksX5_cloth_7 3 rfl rfl)
theorem dX5_cloth_164 : decode cX5_cloth 164 = .ok (.ireturn, 1) := dk_172 (dk_at dksX5_cloth_7 4 rfl rfl)
theorem dX5_cloth_165 : decode cX5_cloth 165 = .ok (.aload_n 0, 1) := dk_42 (dk_at dksX5_cloth_7 5 rfl rfl)
theorem dX5_cloth_166 : decode cX5_cloth 166 = .ok (.iload_n 1, 1) := dk_27 (dk_at dksX5_cloth_7 6 rfl rfl)
theorem dX5_cloth_167 : decode cX5_cloth 167 = .ok (.aload_n 0, 1) := dk_42 (dk_at dksX5_cloth_7 7 rfl rfl)
theorem dX5_cloth_168 : decode cX5_cloth 168 = .ok (.getfield 113, 3) := dk_180 0 113 (dk_at dksX5_cloth_7 8 rfl rfl)
theorem dX5_cloth_171 : decode cX5_cloth 171 = .ok (.iconst 2, 1) := dk_5 (dk_at dksX5_cloth_7 11 rfl rfl)
theorem dX5_cloth_172 : decode cX5_cloth 172 = .ok (.iload_n 1, 1) := dk_27 (dk_at dksX5_cloth_7 12 rfl rfl)
theorem dX5_cloth_173 : decode cX5_cloth 173 = .ok (.iadd, 1) := dk_96 (dk_at dksX5_cloth_7 13 rfl rfl)
theorem dX5_cloth_174 : decode cX5_cloth 174 = .ok (.iaload, 1) := dk_46 (dk_at dksX5_cloth_7 14 rfl rfl)
theorem dX5_cloth_175 : decode cX5_cloth 175 = .ok (.aload_n 0, 1) := dk_42 (dk_at dksX5_cloth_7 15 rfl rfl)
theorem dX5_cloth_176 : decode cX5_cloth 176 = .ok (.aload_n 0, 1) := dk_42 (dk_at dksX5_cloth_7 16 rfl rfl)
theorem dX5_cloth_177 : decode cX5_cloth 177 = .ok (.getfield 113, 3) := dk_180 0 113 (dk_at dksX5_cloth_7 17 rfl rfl)
theorem dX5_cloth_180 : decode cX5_cloth 180 = .ok (.iconst 0, 1) := dk_3 (dk_at dksX5_cloth_7 20 rfl rfl)
theorem dX5_cloth_181 : decode cX5_cloth 181 = .ok (.iaload, 1) := dk_46 (dk_at dksX5_cloth_7 21 rfl rfl)
theorem dX5_cloth_182 : decode cX5_cloth 182 = .ok (.iconst 0, 1) := dk_3 (dk_at dksX5_cloth_7 22 rfl rfl)
theorem dX5_cloth_183 : decode cX5_cloth 183 = .ok (.invokevirtual 332, 3) := dk_182 1 76 (dk_at dksX5_cloth_8 0 rfl rfl)
theorem dX5_cloth_186 : decode cX5_cloth 186 = .ok (.invokevirtual 317, 3) := dk_182 1 61 (dk_at dksX5_cloth_8 3 rfl rfl)
theorem dX5_cloth_189 : decode cX5_cloth 189 = .ok (.ireturn, 1) := dk_172 (dk_at dksX5_cloth_8 6 rfl rfl)
abbrev cX5_isCloth : ByteArray := prog_23_method_48_code
def yX5_isCloth : MethodName := ⟨RX5, "isCloth", "(I)Z"⟩
def dkwX5_isCloth_0 : List UInt8 := [27, 155, 0, 15, 27, 42, 182, 1, 36, 162, 0, 7, 4, 167, 0, 4, 3, 172]
abbrev dktX5_isCloth_0 : List UInt8 := dkwX5_isCloth_0 ++ []
theorem dksX5_isCloth_0 : cX5_isCloth.data.toList.drop 0 = dktX5_isCloth_0 := by decide +kernel
theorem dX5_isCloth_0 : decode cX5_isCloth 0 = .ok (.iload_n 1, 1) := dk_27 (dk_at dksX5_isCloth_0 0 rfl rfl)
theorem dX5_isCloth_1 : decode cX5_isCloth 1 = .ok (.ifCond .lt 15, 3) := dk_155 0 15 (dk_at dksX5_isCloth_0 1 rfl rfl)
theorem dX5_isCloth_4 : decode cX5_isCloth 4 = .ok (.iload_n 1, 1) := dk_27 (dk_at dksX5_isCloth_0 4 rfl rfl)
theorem dX5_isCloth_5 : decode cX5_isCloth 5 = .ok (.aload_n 0, 1) := dk_42 (dk_at dksX5_isCloth_0 5 rfl rfl)
theorem dX5_isCloth_6 : decode cX5_isCloth 6 = .ok (.invokevirtual 292, 3) := dk_182 1 36 (dk_at dksX5_isCloth_0 6 rfl rfl)
theorem dX5_isCloth_9 : decode cX5_isCloth 9 = .ok (.if_icmp .ge 7, 3) := dk_162 0 7 (dk_at dksX5_isCloth_0 9 rfl rfl)
theorem dX5_isCloth_12 : decode cX5_isCloth 12 = .ok (.iconst 1, 1) := dk_4 (dk_at dksX5_isCloth_0 12 rfl rfl)
theorem dX5_isCloth_13 : decode cX5_isCloth 13 = .ok (.goto 4, 3) := dk_167 0 4 (dk_at dksX5_isCloth_0 13 rfl rfl)
theorem dX5_isCloth_16 : decode cX5_isCloth 16 = .ok (.iconst 0, 1) := dk_3 (dk_at dksX5_isCloth_0 16 rfl rfl)
theorem dX5_isCloth_17 : decode cX5_isCloth 17 = .ok (.ireturn, 1) := dk_172 (dk_at dksX5_isCloth_0 17 rfl rfl)
abbrev cX5_cloths : ByteArray := prog_23_method_46_code
def yX5_cloths : MethodName := ⟨RX5, "cloths", "()I"⟩
def dkwX5_cloths_0 : List UInt8 := [42, 180, 0, 89, 3, 46, 172]
abbrev dktX5_cloths_0 : List UInt8 := dkwX5_cloths_0 ++ []
theorem dksX5_cloths_0 : cX5_cloths.data.toList.drop 0 = dktX5_cloths_0 := by decide +kernel
theorem dX5_cloths_0 : decode cX5_cloths 0 = .ok (.aload_n 0, 1) := dk_42 (dk_at dksX5_cloths_0 0 rfl rfl)
theorem dX5_cloths_1 : decode cX5_cloths 1 = .ok (.getfield 89, 3) := dk_180 0 89 (dk_at dksX5_cloths_0 1 rfl rfl)
theorem dX5_cloths_4 : decode cX5_cloths 4 = .ok (.iconst 0, 1) := dk_3 (dk_at dksX5_cloths_0 4 rfl rfl)
theorem dX5_cloths_5 : decode cX5_cloths 5 = .ok (.iaload, 1) := dk_46 (dk_at dksX5_cloths_0 5 rfl rfl)
theorem dX5_cloths_6 : decode cX5_cloths 6 = .ok (.ireturn, 1) := dk_172 (dk_at dksX5_cloths_0 6 rfl rfl)
abbrev cX5_within : ByteArray := prog_23_method_17_code
def yX5_within : MethodName := ⟨RX5, "within", "(III)Z"⟩
def dkwX5_within_0 : List UInt8 := [26, 27, 161, 0, 12, 26, 28, 163, 0, 7, 4, 167, 0, 4, 3, 172]
abbrev dktX5_within_0 : List UInt8 := dkwX5_within_0 ++ []
theorem dksX5_within_0 : cX5_within.data.toList.drop 0 = dktX5_within_0 := by decide +kernel
theorem dX5_within_0 : decode cX5_within 0 = .ok (.iload_n 0, 1) := dk_26 (dk_at dksX5_within_0 0 rfl rfl)
theorem dX5_within_1 : decode cX5_within 1 = .ok (.iload_n 1, 1) := dk_27 (dk_at dksX5_within_0 1 rfl rfl)
theorem dX5_within_2 : decode cX5_within 2 = .ok (.if_icmp .lt 12, 3) := dk_161 0 12 (dk_at dksX5_within_0 2 rfl rfl)
theorem dX5_within_5 : decode cX5_within 5 = .ok (.iload_n 0, 1) := dk_26 (dk_at dksX5_within_0 5 rfl rfl)
theorem dX5_within_6 : decode cX5_within 6 = .ok (.iload_n 2, 1) := dk_28 (dk_at dksX5_within_0 6 rfl rfl)
theorem dX5_within_7 : decode cX5_within 7 = .ok (.if_icmp .gt 7, 3) := dk_163 0 7 (dk_at dksX5_within_0 7 rfl rfl)
theorem dX5_within_10 : decode cX5_within 10 = .ok (.iconst 1, 1) := dk_4 (dk_at dksX5_within_0 10 rfl rfl)
theorem dX5_within_11 : decode cX5_within 11 = .ok (.goto 4, 3) := dk_167 0 4 (dk_at dksX5_within_0 11 rfl rfl)
theorem dX5_within_14 : decode cX5_within 14 = .ok (.iconst 0, 1) := dk_3 (dk_at dksX5_within_0 14 rfl rfl)
theorem dX5_within_15 : decode cX5_within 15 = .ok (.ireturn, 1) := dk_172 (dk_at dksX5_within_0 15 rfl rfl)
abbrev cX5_clothOf : ByteArray := prog_23_method_47_code
def yX5_clothOf : MethodName := ⟨RX5, "clothOf", "(II)I"⟩
def dkwX5_clothOf_0 : List UInt8 := [42, 180, 0, 89, 16, 8, 7, 27, 104, 96, 28, 96, 46, 172]
abbrev dktX5_clothOf_0 : List UInt8 := dkwX5_clothOf_0 ++ []
theorem dksX5_clothOf_0 : cX5_clothOf.data.toList.drop 0 = dktX5_clothOf_0 := by decide +kernel
theorem dX5_clothOf_0 : decode cX5_clothOf 0 = .ok (.aload_n 0, 1) := dk_42 (dk_at dksX5_clothOf_0 0 rfl rfl)
theorem dX5_clothOf_1 : decode cX5_clothOf 1 = .ok (.getfield 89, 3) := dk_180 0 89 (dk_at dksX5_clothOf_0 1 rfl rfl)
theorem dX5_clothOf_4 : decode cX5_clothOf 4 = .ok (.bipush 8, 2) := dk_16 8 (dk_at dksX5_clothOf_0 4 rfl rfl)
theorem dX5_clothOf_6 : decode cX5_clothOf 6 = .ok (.iconst 4, 1) := dk_7 (dk_at dksX5_clothOf_0 6 rfl rfl)
theorem dX5_clothOf_7 : decode cX5_clothOf 7 = .ok (.iload_n 1, 1) := dk_27 (dk_at dksX5_clothOf_0 7 rfl rfl)
theorem dX5_clothOf_8 : decode cX5_clothOf 8 = .ok (.imul, 1) := dk_104 (dk_at dksX5_clothOf_0 8 rfl rfl)
theorem dX5_clothOf_9 : decode cX5_clothOf 9 = .ok (.iadd, 1) := dk_96 (dk_at dksX5_clothOf_0 9 rfl rfl)
theorem dX5_clothOf_10 : decode cX5_clothOf 10 = .ok (.iload_n 2, 1) := dk_28 (dk_at dksX5_clothOf_0 10 rfl rfl)
theorem dX5_clothOf_11 : decode cX5_clothOf 11 = .ok (.iadd, 1) := dk_96 (dk_at dksX5_clothOf_0 11 rfl rfl)
theorem dX5_clothOf_12 : decode cX5_clothOf 12 = .ok (.iaload, 1) := dk_46 (dk_at dksX5_clothOf_0 12 rfl rfl)
theorem dX5_clothOf_13 : decode cX5_clothOf 13 = .ok (.ireturn, 1) := dk_172 (dk_at dksX5_clothOf_0 13 rfl rfl)
abbrev cX5_isLaw : ByteArray := prog_23_method_52_code
def yX5_isLaw : MethodName := ⟨RX5, "isLaw", "(II)Z"⟩
def dkwX5_isLaw_1 : List UInt8 := [180, 0, 113, 27, 16, 8, 96, 28, 96, 46, 6, 162, 0, 7, 4, 167, 0, 4, 3, 172]
abbrev dktX5_isLaw_1 : List UInt8 := dkwX5_isLaw_1 ++ []
def dkwX5_isLaw_0 : List UInt8 := [42, 180, 0, 113, 27, 16, 14, 96, 28, 96, 46, 184, 1, 42, 42, 28, 182, 1, 45, 160, 0, 22, 42]
abbrev dktX5_isLaw_0 : List UInt8 := dkwX5_isLaw_0 ++ dktX5_isLaw_1
theorem dksX5_isLaw_0 : cX5_isLaw.data.toList.drop 0 = dktX5_isLaw_0 := by decide +kernel
theorem dksX5_isLaw_1 : cX5_isLaw.data.toList.drop 23 = dktX5_isLaw_1 := dk_seg dksX5_isLaw_0 23 rfl rfl
theorem dX5_isLaw_0 : decode cX5_isLaw 0 = .ok (.aload_n 0, 1) := dk_42 (dk_at dksX5_isLaw_0 0 rfl rfl)
theorem dX5_isLaw_1 : decode cX5_isLaw 1 = .ok (.getfield 113, 3) := dk_180 0 113 (dk_at dksX5_isLaw_0 1 rfl rfl)
theorem dX5_isLaw_4 : decode cX5_isLaw 4 = .ok (.iload_n 1, 1) := dk_27 (dk_at dksX5_isLaw_0 4 rfl rfl)
theorem dX5_isLaw_5 : decode cX5_isLaw 5 = .ok (.bipush 14, 2) := dk_16 14 (dk_at dksX5_isLaw_0 5 rfl rfl)
theorem dX5_isLaw_7 : decode cX5_isLaw 7 = .ok (.iadd, 1) := dk_96 (dk_at dksX5_isLaw_0 7 rfl rfl)
theorem dX5_isLaw_8 : decode cX5_isLaw 8 = .ok (.iload_n 2, 1) := dk_28 (dk_at dksX5_isLaw_0 8 rfl rfl)
theorem dX5_isLaw_9 : decode cX5_isLaw 9 = .ok (.iadd, 1) := dk_96 (dk_at dksX5_isLaw_0 9 rfl rfl)
theorem dX5_isLaw_10 : decode cX5_isLaw 10 = .ok (.iaload, 1) := dk_46 (dk_at dksX5_isLaw_0 10 rfl rfl)
theorem dX5_isLaw_11 : decode cX5_isLaw 11 = .ok (.invokestatic 298, 3) := dk_184 1 42 (dk_at dksX5_isLaw_0 11 rfl rfl)
theorem dX5_isLaw_14 : decode cX5_isLaw 14 = .ok (.aload_n 0, 1) := dk_42 (dk_at dksX5_isLaw_0 14 rfl rfl)
theorem dX5_isLaw_15 : decode cX5_isLaw 15 = .ok (.iload_n 2, 1) := dk_28 (dk_at dksX5_isLaw_0 15 rfl rfl)
theorem dX5_isLaw_16 : decode cX5_isLaw 16 = .ok (.invokevirtual 301, 3) := dk_182 1 45 (dk_at dksX5_isLaw_0 16 rfl rfl)
theorem dX5_isLaw_19 : decode cX5_isLaw 19 = .ok (.if_icmp .ne 22, 3) := dk_160 0 22 (dk_at dksX5_isLaw_0 19 rfl rfl)
theorem dX5_isLaw_22 : decode cX5_isLaw 22 = .ok (.aload_n 0, 1) := dk_42 (dk_at dksX5_isLaw_0 22 rfl rfl)
theorem dX5_isLaw_23 : decode cX5_isLaw 23 = .ok (.getfield 113, 3) := dk_180 0 113 (dk_at dksX5_isLaw_1 0 rfl rfl)
theorem dX5_isLaw_26 : decode cX5_isLaw 26 = .ok (.iload_n 1, 1) := dk_27 (dk_at dksX5_isLaw_1 3 rfl rfl)
theorem dX5_isLaw_27 : decode cX5_isLaw 27 = .ok (.bipush 8, 2) := dk_16 8 (dk_at dksX5_isLaw_1 4 rfl rfl)
theorem dX5_isLaw_29 : decode cX5_isLaw 29 = .ok (.iadd, 1) := dk_96 (dk_at dksX5_isLaw_1 6 rfl rfl)
theorem dX5_isLaw_30 : decode cX5_isLaw 30 = .ok (.iload_n 2, 1) := dk_28 (dk_at dksX5_isLaw_1 7 rfl rfl)
theorem dX5_isLaw_31 : decode cX5_isLaw 31 = .ok (.iadd, 1) := dk_96 (dk_at dksX5_isLaw_1 8 rfl rfl)
theorem dX5_isLaw_32 : decode cX5_isLaw 32 = .ok (.iaload, 1) := dk_46 (dk_at dksX5_isLaw_1 9 rfl rfl)
theorem dX5_isLaw_33 : decode cX5_isLaw 33 = .ok (.iconst 3, 1) := dk_6 (dk_at dksX5_isLaw_1 10 rfl rfl)
theorem dX5_isLaw_34 : decode cX5_isLaw 34 = .ok (.if_icmp .ge 7, 3) := dk_162 0 7 (dk_at dksX5_isLaw_1 11 rfl rfl)
theorem dX5_isLaw_37 : decode cX5_isLaw 37 = .ok (.iconst 1, 1) := dk_4 (dk_at dksX5_isLaw_1 14 rfl rfl)
theorem dX5_isLaw_38 : decode cX5_isLaw 38 = .ok (.goto 4, 3) := dk_167 0 4 (dk_at dksX5_isLaw_1 15 rfl rfl)
theorem dX5_isLaw_41 : decode cX5_isLaw 41 = .ok (.iconst 0, 1) := dk_3 (dk_at dksX5_isLaw_1 18 rfl rfl)
theorem dX5_isLaw_42 : decode cX5_isLaw 42 = .ok (.ireturn, 1) := dk_172 (dk_at dksX5_isLaw_1 19 rfl rfl)
abbrev cX5_bits : ByteArray := prog_23_method_49_code
def yX5_bits : MethodName := ⟨RX5, "bits", "(I)I"⟩
def dkwX5_bits_1 : List UInt8 := [27, 172]
abbrev dktX5_bits_1 : List UInt8 := dkwX5_bits_1 ++ []
def dkwX5_bits_0 : List UInt8 := [3, 60, 3, 61, 28, 16, 30, 162, 0, 17, 27, 26, 28, 122, 4, 126, 96, 60, 132, 2, 1, 167, 255, 239]
abbrev dktX5_bits_0 : List UInt8 := dkwX5_bits_0 ++ dktX5_bits_1
theorem dksX5_bits_0 : cX5_bits.data.toList.drop 0 = dktX5_bits_0 := by decide +kernel
theorem dksX5_bits_1 : cX5_bits.data.toList.drop 24 = dktX5_bits_1 := dk_seg dksX5_bits_0 24 rfl rfl
theorem dX5_bits_0 : decode cX5_bits 0 = .ok (.iconst 0, 1) := dk_3 (dk_at dksX5_bits_0 0 rfl rfl)
theorem dX5_bits_1 : decode cX5_bits 1 = .ok (.istore_n 1, 1) := dk_60 (dk_at dksX5_bits_0 1 rfl rfl)
theorem dX5_bits_2 : decode cX5_bits 2 = .ok (.iconst 0, 1) := dk_3 (dk_at dksX5_bits_0 2 rfl rfl)
theorem dX5_bits_3 : decode cX5_bits 3 = .ok (.istore_n 2, 1) := dk_61 (dk_at dksX5_bits_0 3 rfl rfl)
theorem dX5_bits_4 : decode cX5_bits 4 = .ok (.iload_n 2, 1) := dk_28 (dk_at dksX5_bits_0 4 rfl rfl)
theorem dX5_bits_5 : decode cX5_bits 5 = .ok (.bipush 30, 2) := dk_16 30 (dk_at dksX5_bits_0 5 rfl rfl)
theorem dX5_bits_7 : decode cX5_bits 7 = .ok (.if_icmp .ge 17, 3) := dk_162 0 17 (dk_at dksX5_bits_0 7 rfl rfl)
theorem dX5_bits_10 : decode cX5_bits 10 = .ok (.iload_n 1, 1) := dk_27 (dk_at dksX5_bits_0 10 rfl rfl)
theorem dX5_bits_11 : decode cX5_bits 11 = .ok (.iload_n 0, 1) := dk_26 (dk_at dksX5_bits_0 11 rfl rfl)
theorem dX5_bits_12 : decode cX5_bits 12 = .ok (.iload_n 2, 1) := dk_28 (dk_at dksX5_bits_0 12 rfl rfl)
theorem dX5_bits_13 : decode cX5_bits 13 = .ok (.ishr, 1) := dk_122 (dk_at dksX5_bits_0 13 rfl rfl)
theorem dX5_bits_14 : decode cX5_bits 14 = .ok (.iconst 1, 1) := dk_4 (dk_at dksX5_bits_0 14 rfl rfl)
theorem dX5_bits_15 : decode cX5_bits 15 = .ok (.iand, 1) := dk_126 (dk_at dksX5_bits_0 15 rfl rfl)
theorem dX5_bits_16 : decode cX5_bits 16 = .ok (.iadd, 1) := dk_96 (dk_at dksX5_bits_0 16 rfl rfl)
theorem dX5_bits_17 : decode cX5_bits 17 = .ok (.istore_n 1, 1) := dk_60 (dk_at dksX5_bits_0 17 rfl rfl)
theorem dX5_bits_18 : decode cX5_bits 18 = .ok (.iinc 2 1, 3) := dk_132 2 1 (dk_at dksX5_bits_0 18 rfl rfl)
theorem dX5_bits_21 : decode cX5_bits 21 = .ok (.goto (-17), 3) := dk_167 255 239 (dk_at dksX5_bits_0 21 rfl rfl)
theorem dX5_bits_24 : decode cX5_bits 24 = .ok (.iload_n 1, 1) := dk_27 (dk_at dksX5_bits_1 0 rfl rfl)
theorem dX5_bits_25 : decode cX5_bits 25 = .ok (.ireturn, 1) := dk_172 (dk_at dksX5_bits_1 1 rfl rfl)
abbrev cX5_needs : ByteArray := prog_23_method_50_code
def yX5_needs : MethodName := ⟨RX5, "needs", "(I)I"⟩
def dkwX5_needs_0 : List UInt8 := [42, 27, 3, 182, 1, 39, 4, 160, 0, 7, 7, 167, 0, 4, 5, 172]
abbrev dktX5_needs_0 : List UInt8 := dkwX5_needs_0 ++ []
theorem dksX5_needs_0 : cX5_needs.data.toList.drop 0 = dktX5_needs_0 := by decide +kernel
theorem dX5_needs_0 : decode cX5_needs 0 = .ok (.aload_n 0, 1) := dk_42 (dk_at dksX5_needs_0 0 rfl rfl)
theorem dX5_needs_1 : decode cX5_needs 1 = .ok (.iload_n 1, 1) := dk_27 (dk_at dksX5_needs_0 1 rfl rfl)
theorem dX5_needs_2 : decode cX5_needs 2 = .ok (.iconst 0, 1) := dk_3 (dk_at dksX5_needs_0 2 rfl rfl)
theorem dX5_needs_3 : decode cX5_needs 3 = .ok (.invokevirtual 295, 3) := dk_182 1 39 (dk_at dksX5_needs_0 3 rfl rfl)
theorem dX5_needs_6 : decode cX5_needs 6 = .ok (.iconst 1, 1) := dk_4 (dk_at dksX5_needs_0 6 rfl rfl)
theorem dX5_needs_7 : decode cX5_needs 7 = .ok (.if_icmp .ne 7, 3) := dk_160 0 7 (dk_at dksX5_needs_0 7 rfl rfl)
theorem dX5_needs_10 : decode cX5_needs 10 = .ok (.iconst 4, 1) := dk_7 (dk_at dksX5_needs_0 10 rfl rfl)
theorem dX5_needs_11 : decode cX5_needs 11 = .ok (.goto 4, 3) := dk_167 0 4 (dk_at dksX5_needs_0 11 rfl rfl)
theorem dX5_needs_14 : decode cX5_needs 14 = .ok (.iconst 2, 1) := dk_5 (dk_at dksX5_needs_0 14 rfl rfl)
theorem dX5_needs_15 : decode cX5_needs 15 = .ok (.ireturn, 1) := dk_172 (dk_at dksX5_needs_0 15 rfl rfl)
abbrev cX5_isTurned : ByteArray := prog_23_method_53_code
def yX5_isTurned : MethodName := ⟨RX5, "isTurned", "(II)Z"⟩
def dkwX5_isTurned_0 : List UInt8 := [42, 180, 0, 113, 27, 16, 14, 96, 28, 96, 46, 184, 1, 42, 4, 160, 0, 7, 4, 167, 0, 4, 3, 172]
abbrev dktX5_isTurned_0 : List UInt8 := dkwX5_isTurned_0 ++ []
theorem dksX5_isTurned_0 : cX5_isTurned.data.toList.drop 0 = dktX5_isTurned_0 := by decide +kernel
theorem dX5_isTurned_0 : decode cX5_isTurned 0 = .ok (.aload_n 0, 1) := dk_42 (dk_at dksX5_isTurned_0 0 rfl rfl)
theorem dX5_isTurned_1 : decode cX5_isTurned 1 = .ok (.getfield 113, 3) := dk_180 0 113 (dk_at dksX5_isTurned_0 1 rfl rfl)
theorem dX5_isTurned_4 : decode cX5_isTurned 4 = .ok (.iload_n 1, 1) := dk_27 (dk_at dksX5_isTurned_0 4 rfl rfl)
theorem dX5_isTurned_5 : decode cX5_isTurned 5 = .ok (.bipush 14, 2) := dk_16 14 (dk_at dksX5_isTurned_0 5 rfl rfl)
theorem dX5_isTurned_7 : decode cX5_isTurned 7 = .ok (.iadd, 1) := dk_96 (dk_at dksX5_isTurned_0 7 rfl rfl)
theorem dX5_isTurned_8 : decode cX5_isTurned 8 = .ok (.iload_n 2, 1) := dk_28 (dk_at dksX5_isTurned_0 8 rfl rfl)
theorem dX5_isTurned_9 : decode cX5_isTurned 9 = .ok (.iadd, 1) := dk_96 (dk_at dksX5_isTurned_0 9 rfl rfl)
theorem dX5_isTurned_10 : decode cX5_isTurned 10 = .ok (.iaload, 1) := dk_46 (dk_at dksX5_isTurned_0 10 rfl rfl)
theorem dX5_isTurned_11 : decode cX5_isTurned 11 = .ok (.invokestatic 298, 3) := dk_184 1 42 (dk_at dksX5_isTurned_0 11 rfl rfl)
theorem dX5_isTurned_14 : decode cX5_isTurned 14 = .ok (.iconst 1, 1) := dk_4 (dk_at dksX5_isTurned_0 14 rfl rfl)
theorem dX5_isTurned_15 : decode cX5_isTurned 15 = .ok (.if_icmp .ne 7, 3) := dk_160 0 7 (dk_at dksX5_isTurned_0 15 rfl rfl)
theorem dX5_isTurned_18 : decode cX5_isTurned 18 = .ok (.iconst 1, 1) := dk_4 (dk_at dksX5_isTurned_0 18 rfl rfl)
theorem dX5_isTurned_19 : decode cX5_isTurned 19 = .ok (.goto 4, 3) := dk_167 0 4 (dk_at dksX5_isTurned_0 19 rfl rfl)
theorem dX5_isTurned_22 : decode cX5_isTurned 22 = .ok (.iconst 0, 1) := dk_3 (dk_at dksX5_isTurned_0 22 rfl rfl)
theorem dX5_isTurned_23 : decode cX5_isTurned 23 = .ok (.ireturn, 1) := dk_172 (dk_at dksX5_isTurned_0 23 rfl rfl)
abbrev cX5_isHung : ByteArray := prog_23_method_51_code
def yX5_isHung : MethodName := ⟨RX5, "isHung", "(II)Z"⟩
def dkwX5_isHung_0 : List UInt8 := [42, 180, 0, 113, 27, 16, 14, 96, 28, 96, 46, 153, 0, 7, 4, 167, 0, 4, 3, 172]
abbrev dktX5_isHung_0 : List UInt8 := dkwX5_isHung_0 ++ []
theorem dksX5_isHung_0 : cX5_isHung.data.toList.drop 0 = dktX5_isHung_0 := by decide +kernel
theorem dX5_isHung_0 : decode cX5_isHung 0 = .ok (.aload_n 0, 1) := dk_42 (dk_at dksX5_isHung_0 0 rfl rfl)
theorem dX5_isHung_1 : decode cX5_isHung 1 = .ok (.getfield 113, 3) := dk_180 0 113 (dk_at dksX5_isHung_0 1 rfl rfl)
theorem dX5_isHung_4 : decode cX5_isHung 4 = .ok (.iload_n 1, 1) := dk_27 (dk_at dksX5_isHung_0 4 rfl rfl)
theorem dX5_isHung_5 : decode cX5_isHung 5 = .ok (.bipush 14, 2) := dk_16 14 (dk_at dksX5_isHung_0 5 rfl rfl)
theorem dX5_isHung_7 : decode cX5_isHung 7 = .ok (.iadd, 1) := dk_96 (dk_at dksX5_isHung_0 7 rfl rfl)
theorem dX5_isHung_8 : decode cX5_isHung 8 = .ok (.iload_n 2, 1) := dk_28 (dk_at dksX5_isHung_0 8 rfl rfl)
theorem dX5_isHung_9 : decode cX5_isHung 9 = .ok (.iadd, 1) := dk_96 (dk_at dksX5_isHung_0 9 rfl rfl)
theorem dX5_isHung_10 : decode cX5_isHung 10 = .ok (.iaload, 1) := dk_46 (dk_at dksX5_isHung_0 10 rfl rfl)
theorem dX5_isHung_11 : decode cX5_isHung 11 = .ok (.ifCond .eq 7, 3) := dk_153 0 7 (dk_at dksX5_isHung_0 11 rfl rfl)
theorem dX5_isHung_14 : decode cX5_isHung 14 = .ok (.iconst 1, 1) := dk_4 (dk_at dksX5_isHung_0 14 rfl rfl)
theorem dX5_isHung_15 : decode cX5_isHung 15 = .ok (.goto 4, 3) := dk_167 0 4 (dk_at dksX5_isHung_0 15 rfl rfl)
theorem dX5_isHung_18 : decode cX5_isHung 18 = .ok (.iconst 0, 1) := dk_3 (dk_at dksX5_isHung_0 18 rfl rfl)
theorem dX5_isHung_19 : decode cX5_isHung 19 = .ok (.ireturn, 1) := dk_172 (dk_at dksX5_isHung_0 19 rfl rfl)
abbrev cX5_roomBy : ByteArray := prog_23_method_54_code
def yX5_roomBy : MethodName := ⟨RX5, "roomBy", "(II)I"⟩
def dkwX5_roomBy_1 : List UInt8 := [172]
abbrev dktX5_roomBy_1 : List UInt8 := dkwX5_roomBy_1 ++ []
def dkwX5_roomBy_0 : List UInt8 := [28, 4, 160, 0, 16, 42, 27, 4, 182, 1, 39, 5, 108, 4, 96, 167, 0, 9, 42, 27, 4, 182, 1, 39]
abbrev dktX5_roomBy_0 : List UInt8 := dkwX5_roomBy_0 ++ dktX5_roomBy_1
theorem dksX5_roomBy_0 : cX5_roomBy.data.toList.drop 0 = dktX5_roomBy_0 := by decide +kernel
theorem dksX5_roomBy_1 : cX5_roomBy.data.toList.drop 24 = dktX5_roomBy_1 := dk_seg dksX5_roomBy_0 24 rfl rfl
theorem dX5_roomBy_0 : decode cX5_roomBy 0 = .ok (.iload_n 2, 1) := dk_28 (dk_at dksX5_roomBy_0 0 rfl rfl)
theorem dX5_roomBy_1 : decode cX5_roomBy 1 = .ok (.iconst 1, 1) := dk_4 (dk_at dksX5_roomBy_0 1 rfl rfl)
theorem dX5_roomBy_2 : decode cX5_roomBy 2 = .ok (.if_icmp .ne 16, 3) := dk_160 0 16 (dk_at dksX5_roomBy_0 2 rfl rfl)
theorem dX5_roomBy_5 : decode cX5_roomBy 5 = .ok (.aload_n 0, 1) := dk_42 (dk_at dksX5_roomBy_0 5 rfl rfl)
theorem dX5_roomBy_6 : decode cX5_roomBy 6 = .ok (.iload_n 1, 1) := dk_27 (dk_at dksX5_roomBy_0 6 rfl rfl)
theorem dX5_roomBy_7 : decode cX5_roomBy 7 = .ok (.iconst 1, 1) := dk_4 (dk_at dksX5_roomBy_0 7 rfl rfl)
theorem dX5_roomBy_8 : decode cX5_roomBy 8 = .ok (.invokevirtual 295, 3) := dk_182 1 39 (dk_at dksX5_roomBy_0 8 rfl rfl)
theorem dX5_roomBy_11 : decode cX5_roomBy 11 = .ok (.iconst 2, 1) := dk_5 (dk_at dksX5_roomBy_0 11 rfl rfl)
theorem dX5_roomBy_12 : decode cX5_roomBy 12 = .ok (.idiv, 1) := dk_108 (dk_at dksX5_roomBy_0 12 rfl rfl)
theorem dX5_roomBy_13 : decode cX5_roomBy 13 = .ok (.iconst 1, 1) := dk_4 (dk_at dksX5_roomBy_0 13 rfl rfl)
theorem dX5_roomBy_14 : decode cX5_roomBy 14 = .ok (.iadd, 1) := dk_96 (dk_at dksX5_roomBy_0 14 rfl rfl)
theorem dX5_roomBy_15 : decode cX5_roomBy 15 = .ok (.goto 9, 3) := dk_167 0 9 (dk_at dksX5_roomBy_0 15 rfl rfl)
theorem dX5_roomBy_18 : decode cX5_roomBy 18 = .ok (.aload_n 0, 1) := dk_42 (dk_at dksX5_roomBy_0 18 rfl rfl)
theorem dX5_roomBy_19 : decode cX5_roomBy 19 = .ok (.iload_n 1, 1) := dk_27 (dk_at dksX5_roomBy_0 19 rfl rfl)
theorem dX5_roomBy_20 : decode cX5_roomBy 20 = .ok (.iconst 1, 1) := dk_4 (dk_at dksX5_roomBy_0 20 rfl rfl)
theorem dX5_roomBy_21 : decode cX5_roomBy 21 = .ok (.invokevirtual 295, 3) := dk_182 1 39 (dk_at dksX5_roomBy_0 21 rfl rfl)
theorem dX5_roomBy_24 : decode cX5_roomBy 24 = .ok (.ireturn, 1) := dk_172 (dk_at dksX5_roomBy_1 0 rfl rfl)
abbrev cX5_windOf : ByteArray := prog_23_method_56_code
def yX5_windOf : MethodName := ⟨RX5, "windOf", "(IZ)I"⟩
def dkwX5_windOf_1 : List UInt8 := [3, 96, 172]
abbrev dktX5_windOf_1 : List UInt8 := dkwX5_windOf_1 ++ []
def dkwX5_windOf_0 : List UInt8 := [42, 180, 0, 89, 16, 76, 27, 42, 180, 0, 89, 5, 46, 112, 96, 46, 28, 153, 0, 7, 6, 167, 0, 4]
abbrev dktX5_windOf_0 : List UInt8 := dkwX5_windOf_0 ++ dktX5_windOf_1
theorem dksX5_windOf_0 : cX5_windOf.data.toList.drop 0 = dktX5_windOf_0 := by decide +kernel
theorem dksX5_windOf_1 : cX5_windOf.data.toList.drop 24 = dktX5_windOf_1 := dk_seg dksX5_windOf_0 24 rfl rfl
theorem dX5_windOf_0 : decode cX5_windOf 0 = .ok (.aload_n 0, 1) := dk_42 (dk_at dksX5_windOf_0 0 rfl rfl)
theorem dX5_windOf_1 : decode cX5_windOf 1 = .ok (.getfield 89, 3) := dk_180 0 89 (dk_at dksX5_windOf_0 1 rfl rfl)
theorem dX5_windOf_4 : decode cX5_windOf 4 = .ok (.bipush 76, 2) := dk_16 76 (dk_at dksX5_windOf_0 4 rfl rfl)
theorem dX5_windOf_6 : decode cX5_windOf 6 = .ok (.iload_n 1, 1) := dk_27 (dk_at dksX5_windOf_0 6 rfl rfl)
theorem dX5_windOf_7 : decode cX5_windOf 7 = .ok (.aload_n 0, 1) := dk_42 (dk_at dksX5_windOf_0 7 rfl rfl)
theorem dX5_windOf_8 : decode cX5_windOf 8 = .ok (.getfield 89, 3) := dk_180 0 89 (dk_at dksX5_windOf_0 8 rfl rfl)
theorem dX5_windOf_11 : decode cX5_windOf 11 = .ok (.iconst 2, 1) := dk_5 (dk_at dksX5_windOf_0 11 rfl rfl)
theorem dX5_windOf_12 : decode cX5_windOf 12 = .ok (.iaload, 1) := dk_46 (dk_at dksX5_windOf_0 12 rfl rfl)
theorem dX5_windOf_13 : decode cX5_windOf 13 = .ok (.irem, 1) := dk_112 (dk_at dksX5_windOf_0 13 rfl rfl)
theorem dX5_windOf_14 : decode cX5_windOf 14 = .ok (.iadd, 1) := dk_96 (dk_at dksX5_windOf_0 14 rfl rfl)
theorem dX5_windOf_15 : decode cX5_windOf 15 = .ok (.iaload, 1) := dk_46 (dk_at dksX5_windOf_0 15 rfl rfl)
theorem dX5_windOf_16 : decode cX5_windOf 16 = .ok (.iload_n 2, 1) := dk_28 (dk_at dksX5_windOf_0 16 rfl rfl)
theorem dX5_windOf_17 : decode cX5_windOf 17 = .ok (.ifCond .eq 7, 3) := dk_153 0 7 (dk_at dksX5_windOf_0 17 rfl rfl)
theorem dX5_windOf_20 : decode cX5_windOf 20 = .ok (.iconst 3, 1) := dk_6 (dk_at dksX5_windOf_0 20 rfl rfl)
theorem dX5_windOf_21 : decode cX5_windOf 21 = .ok (.goto 4, 3) := dk_167 0 4 (dk_at dksX5_windOf_0 21 rfl rfl)
theorem dX5_windOf_24 : decode cX5_windOf 24 = .ok (.iconst 0, 1) := dk_3 (dk_at dksX5_windOf_1 0 rfl rfl)
theorem dX5_windOf_25 : decode cX5_windOf 25 = .ok (.iadd, 1) := dk_96 (dk_at dksX5_windOf_1 1 rfl rfl)
theorem dX5_windOf_26 : decode cX5_windOf 26 = .ok (.ireturn, 1) := dk_172 (dk_at dksX5_windOf_1 2 rfl rfl)
abbrev cX5_pullOf : ByteArray := prog_23_method_58_code
def yX5_pullOf : MethodName := ⟨RX5, "pullOf", "(III)I"⟩
def dkwX5_pullOf_4 : List UInt8 := [21, 4, 172]
abbrev dktX5_pullOf_4 : List UInt8 := dkwX5_pullOf_4 ++ []
def dkwX5_pullOf_3 : List UInt8 := [167, 0, 5, 21, 4, 54, 4, 42, 27, 3, 182, 1, 39, 5, 160, 0, 10, 5, 21, 4, 104, 167, 0, 5]
abbrev dktX5_pullOf_3 : List UInt8 := dkwX5_pullOf_3 ++ dktX5_pullOf_4
def dkwX5_pullOf_2 : List UInt8 := [182, 1, 58, 54, 4, 21, 4, 156, 0, 7, 3, 167, 0, 17, 21, 4, 16, 99, 164, 0, 8, 16, 99]
abbrev dktX5_pullOf_2 : List UInt8 := dkwX5_pullOf_2 ++ dktX5_pullOf_3
def dkwX5_pullOf_1 : List UInt8 := [180, 0, 107, 5, 46, 96, 42, 180, 0, 107, 4, 46, 100, 167, 0, 14, 42, 42, 180, 0, 89, 16, 6, 46]
abbrev dktX5_pullOf_1 : List UInt8 := dkwX5_pullOf_1 ++ dktX5_pullOf_2
def dkwX5_pullOf_0 : List UInt8 := [42, 27, 28, 29, 182, 1, 55, 42, 180, 0, 89, 16, 6, 46, 156, 0, 26, 42, 180, 0, 107, 3, 46, 42]
abbrev dktX5_pullOf_0 : List UInt8 := dkwX5_pullOf_0 ++ dktX5_pullOf_1
theorem dksX5_pullOf_0 : cX5_pullOf.data.toList.drop 0 = dktX5_pullOf_0 := by decide +kernel
theorem dksX5_pullOf_1 : cX5_pullOf.data.toList.drop 24 = dktX5_pullOf_1 := dk_seg dksX5_pullOf_0 24 rfl rfl
theorem dksX5_pullOf_2 : cX5_pullOf.data.toList.drop 48 = dktX5_pullOf_2 := dk_seg dksX5_pullOf_1 24 rfl rfl
theorem dksX5_pullOf_3 : cX5_pullOf.data.toList.drop 71 = dktX5_pullOf_3 := dk_seg dksX5_pullOf_2 23 rfl rfl
theorem dksX5_pullOf_4 : cX5_pullOf.data.toList.drop 95 = dktX5_pullOf_4 := dk_seg dksX5_pullOf_3 24 rfl rfl
theorem dX5_pullOf_0 : decode cX5_pullOf 0 = .ok (.aload_n 0, 1) := dk_42 (dk_at dksX5_pullOf_0 0 rfl rfl)
theorem dX5_pullOf_1 : decode cX5_pullOf 1 = .ok (.iload_n 1, 1) := dk_27 (dk_at dksX5_pullOf_0 1 rfl rfl)
theorem dX5_pullOf_2 : decode cX5_pullOf 2 = .ok (.iload_n 2, 1) := dk_28 (dk_at dksX5_pullOf_0 2 rfl rfl)
theorem dX5_pullOf_3 : decode cX5_pullOf 3 = .ok (.iload_n 3, 1) := dk_29 (dk_at dksX5_pullOf_0 3 rfl rfl)
theorem dX5_pullOf_4 : decode cX5_pullOf 4 = .ok (.invokevirtual 311, 3) := dk_182 1 55 (dk_at dksX5_pullOf_0 4 rfl rfl)
theorem dX5_pullOf_7 : decode cX5_pullOf 7 = .ok (.aload_n 0, 1) := dk_42 (dk_at dksX5_pullOf_0 7 rfl rfl)
theorem dX5_pullOf_8 : decode cX5_pullOf 8 = .ok (.getfield 89, 3) := dk_180 0 89 (dk_at dksX5_pullOf_0 8 rfl rfl)
theorem dX5_pullOf_11 : decode cX5_pullOf 11 = .ok (.bipush 6, 2) := dk_16 6 (dk_at dksX5_pullOf_0 11 rfl rfl)
theorem dX5_pullOf_13 : decode cX5_pullOf 13 = .ok (.iaload, 1) := dk_46 (dk_at dksX5_pullOf_0 13 rfl rfl)
theorem dX5_pullOf_14 : decode cX5_pullOf 14 = .ok (.ifCond .ge 26, 3) := dk_156 0 26 (dk_at dksX5_pullOf_0 14 rfl rfl)
theorem dX5_pullOf_17 : decode cX5_pullOf 17 = .ok (.aload_n 0, 1) := dk_42 (dk_at dksX5_pullOf_0 17 rfl rfl)
theorem dX5_pullOf_18 : decode cX5_pullOf 18 = .ok (.getfield 107, 3) := dk_180 0 107 (dk_at dksX5_pullOf_0 18 rfl rfl)
theorem dX5_pullOf_21 : decode cX5_pullOf 21 = .ok (.iconst 0, 1) := dk_3 (dk_at dksX5_pullOf_0 21 rfl rfl)
theorem dX5_pullOf_22 : decode cX5_pullOf 22 = .ok (.iaload, 1) := dk_46 (dk_at dksX5_pullOf_0 22 rfl rfl)
theorem dX5_pullOf_23 : decode cX5_pullOf 23 = .ok (.aload_n 0, 1) := dk_42 (dk_at dksX5_pullOf_0 23 rfl rfl)
theorem dX5_pullOf_24 : decode cX5_pullOf 24 = .ok (.getfield 107, 3) := dk_180 0 107 (dk_at dksX5_pullOf_1 0 rfl rfl)
theorem dX5_pullOf_27 : decode cX5_pullOf 27 = .ok (.iconst 2, 1) := dk_5 (dk_at dksX5_pullOf_1 3 rfl rfl)
theorem dX5_pullOf_28 : decode cX5_pullOf 28 = .ok (.iaload, 1) := dk_46 (dk_at dksX5_pullOf_1 4 rfl rfl)
theorem dX5_pullOf_29 : decode cX5_pullOf 29 = .ok (.iadd, 1) := dk_96 (dk_at dksX5_pullOf_1 5 rfl rfl)
theorem dX5_pullOf_30 : decode cX5_pullOf 30 = .ok (.aload_n 0, 1) := dk_42 (dk_at dksX5_pullOf_1 6 rfl rfl)
theorem dX5_pullOf_31 : decode cX5_pullOf 31 = .ok (.getfield 107, 3) := dk_180 0 107 (dk_at dksX5_pullOf_1 7 rfl rfl)
theorem dX5_pullOf_34 : decode cX5_pullOf 34 = .ok (.iconst 1, 1) := dk_4 (dk_at dksX5_pullOf_1 10 rfl rfl)
theorem dX5_pullOf_35 : decode cX5_pullOf 35 = .ok (.iaload, 1) := dk_46 (dk_at dksX5_pullOf_1 11 rfl rfl)
theorem dX5_pullOf_36 : decode cX5_pullOf 36 = .ok (.isub, 1) := dk_100 (dk_at dksX5_pullOf_1 12 rfl rfl)
theorem dX5_pullOf_37 : decode cX5_pullOf 37 = .ok (.goto 14, 3) := dk_167 0 14 (dk_at dksX5_pullOf_1 13 rfl rfl)
theorem dX5_pullOf_40 : decode cX5_pullOf 40 = .ok (.aload_n 0, 1) := dk_42 (dk_at dksX5_pullOf_1 16 rfl rfl)
theorem dX5_pullOf_41 : decode cX5_pullOf 41 = .ok (.aload_n 0, 1) := dk_42 (dk_at dksX5_pullOf_1 17 rfl rfl)
theorem dX5_pullOf_42 : decode cX5_pullOf 42 = .ok (.getfield 89, 3) := dk_180 0 89 (dk_at dksX5_pullOf_1 18 rfl rfl)
theorem dX5_pullOf_45 : decode cX5_pullOf 45 = .ok (.bipush 6, 2) := dk_16 6 (dk_at dksX5_pullOf_1 21 rfl rfl)
theorem dX5_pullOf_47 : decode cX5_pullOf 47 = .ok (.iaload, 1) := dk_46 (dk_at dksX5_pullOf_1 23 rfl rfl)
theorem dX5_pullOf_48 : decode cX5_pullOf 48 = .ok (.invokevirtual 314, 3) := dk_182 1 58 (dk_at dksX5_pullOf_2 0 rfl rfl)
theorem dX5_pullOf_51 : decode cX5_pullOf 51 = .ok (.istore 4, 2) := dk_54 4 (dk_at dksX5_pullOf_2 3 rfl rfl)
theorem dX5_pullOf_53 : decode cX5_pullOf 53 = .ok (.iload 4, 2) := dk_21 4 (dk_at dksX5_pullOf_2 5 rfl rfl)
theorem dX5_pullOf_55 : decode cX5_pullOf 55 = .ok (.ifCond .ge 7, 3) := dk_156 0 7 (dk_at dksX5_pullOf_2 7 rfl rfl)
theorem dX5_pullOf_58 : decode cX5_pullOf 58 = .ok (.iconst 0, 1) := dk_3 (dk_at dksX5_pullOf_2 10 rfl rfl)
theorem dX5_pullOf_59 : decode cX5_pullOf 59 = .ok (.goto 17, 3) := dk_167 0 17 (dk_at dksX5_pullOf_2 11 rfl rfl)
theorem dX5_pullOf_62 : decode cX5_pullOf 62 = .ok (.iload 4, 2) := dk_21 4 (dk_at dksX5_pullOf_2 14 rfl rfl)
theorem dX5_pullOf_64 : decode cX5_pullOf 64 = .ok (.bipush 99, 2) := dk_16 99 (dk_at dksX5_pullOf_2 16 rfl rfl)
theorem dX5_pullOf_66 : decode cX5_pullOf 66 = .ok (.if_icmp .le 8, 3) := dk_164 0 8 (dk_at dksX5_pullOf_2 18 rfl rfl)
theorem dX5_pullOf_69 : decode cX5_pullOf 69 = .ok (.bipush 99, 2) := dk_16 99 (dk_at dksX5_pullOf_2 21 rfl rfl)
theorem dX5_pullOf_71 : decode cX5_pullOf 71 = .ok (.goto 5, 3) := dk_167 0 5 (dk_at dksX5_pullOf_3 0 rfl rfl)
theorem dX5_pullOf_74 : decode cX5_pullOf 74 = .ok (.iload 4, 2) := dk_21 4 (dk_at dksX5_pullOf_3 3 rfl rfl)
theorem dX5_pullOf_76 : decode cX5_pullOf 76 = .ok (.istore 4, 2) := dk_54 4 (dk_at dksX5_pullOf_3 5 rfl rfl)
theorem dX5_pullOf_78 : decode cX5_pullOf 78 = .ok (.aload_n 0, 1) := dk_42 (dk_at dksX5_pullOf_3 7 rfl rfl)
theorem dX5_pullOf_79 : decode cX5_pullOf 79 = .ok (.iload_n 1, 1) := dk_27 (dk_at dksX5_pullOf_3 8 rfl rfl)
theorem dX5_pullOf_80 : decode cX5_pullOf 80 = .ok (.iconst 0, 1) := dk_3 (dk_at dksX5_pullOf_3 9 rfl rfl)
theorem dX5_pullOf_81 : decode cX5_pullOf 81 = .ok (.invokevirtual 295, 3) := dk_182 1 39 (dk_at dksX5_pullOf_3 10 rfl rfl)
theorem dX5_pullOf_84 : decode cX5_pullOf 84 = .ok (.iconst 2, 1) := dk_5 (dk_at dksX5_pullOf_3 13 rfl rfl)
theorem dX5_pullOf_85 : decode cX5_pullOf 85 = .ok (.if_icmp .ne 10, 3) := dk_160 0 10 (dk_at dksX5_pullOf_3 14 rfl rfl)
theorem dX5_pullOf_88 : decode cX5_pullOf 88 = .ok (.iconst 2, 1) := dk_5 (dk_at dksX5_pullOf_3 17 rfl rfl)
theorem dX5_pullOf_89 : decode cX5_pullOf 89 = .ok (.iload 4, 2) := dk_21 4 (dk_at dksX5_pullOf_3 18 rfl rfl)
theorem dX5_pullOf_91 : decode cX5_pullOf 91 = .ok (.imul, 1) := dk_104 (dk_at dksX5_pullOf_3 20 rfl rfl)
theorem dX5_pullOf_92 : decode cX5_pullOf 92 = .ok (.goto 5, 3) := dk_167 0 5 (dk_at dksX5_pullOf_3 21 rfl rfl)
theorem dX5_pullOf_95 : decode cX5_pullOf 95 = .ok (.iload 4, 2) := dk_21 4 (dk_at dksX5_pullOf_4 0 rfl rfl)
theorem dX5_pullOf_97 : decode cX5_pullOf 97 = .ok (.ireturn, 1) := dk_172 (dk_at dksX5_pullOf_4 2 rfl rfl)
abbrev cX5_laysFacts : ByteArray := prog_23_method_57_code
def yX5_laysFacts : MethodName := ⟨RX5, "laysFacts", "(III)V"⟩
def dkwX5_laysFacts_2 : List UInt8 := [79, 177]
abbrev dktX5_laysFacts_2 : List UInt8 := dkwX5_laysFacts_2 ++ []
def dkwX5_laysFacts_1 : List UInt8 := [6, 160, 0, 9, 5, 28, 104, 167, 0, 4, 28, 96, 79, 42, 180, 0, 107, 5, 42, 27, 4, 182, 1, 39]
abbrev dktX5_laysFacts_1 : List UInt8 := dkwX5_laysFacts_1 ++ dktX5_laysFacts_2
def dkwX5_laysFacts_0 : List UInt8 := [42, 180, 0, 107, 3, 29, 79, 42, 180, 0, 107, 4, 42, 27, 5, 182, 1, 39, 42, 27, 3, 182, 1, 39]
abbrev dktX5_laysFacts_0 : List UInt8 := dkwX5_laysFacts_0 ++ dktX5_laysFacts_1
theorem dksX5_laysFacts_0 : cX5_laysFacts.data.toList.drop 0 = dktX5_laysFacts_0 := by decide +kernel
theorem dksX5_laysFacts_1 : cX5_laysFacts.data.toList.drop 24 = dktX5_laysFacts_1 := dk_seg dksX5_laysFacts_0 24 rfl rfl
theorem dksX5_laysFacts_2 : cX5_laysFacts.data.toList.drop 48 = dktX5_laysFacts_2 := dk_seg dksX5_laysFacts_1 24 rfl rfl
theorem dX5_laysFacts_0 : decode cX5_laysFacts 0 = .ok (.aload_n 0, 1) := dk_42 (dk_at dksX5_laysFacts_0 0 rfl rfl)
theorem dX5_laysFacts_1 : decode cX5_laysFacts 1 = .ok (.getfield 107, 3) := dk_180 0 107 (dk_at dksX5_laysFacts_0 1 rfl rfl)
theorem dX5_laysFacts_4 : decode cX5_laysFacts 4 = .ok (.iconst 0, 1) := dk_3 (dk_at dksX5_laysFacts_0 4 rfl rfl)
theorem dX5_laysFacts_5 : decode cX5_laysFacts 5 = .ok (.iload_n 3, 1) := dk_29 (dk_at dksX5_laysFacts_0 5 rfl rfl)
theorem dX5_laysFacts_6 : decode cX5_laysFacts 6 = .ok (.iastore, 1) := dk_79 (dk_at dksX5_laysFacts_0 6 rfl rfl)
theorem dX5_laysFacts_7 : decode cX5_laysFacts 7 = .ok (.aload_n 0, 1) := dk_42 (dk_at dksX5_laysFacts_0 7 rfl rfl)
theorem dX5_laysFacts_8 : decode cX5_laysFacts 8 = .ok (.getfield 107, 3) := dk_180 0 107 (dk_at dksX5_laysFacts_0 8 rfl rfl)
theorem dX5_laysFacts_11 : decode cX5_laysFacts 11 = .ok (.iconst 1, 1) := dk_4 (dk_at dksX5_laysFacts_0 11 rfl rfl)
theorem dX5_laysFacts_12 : decode cX5_laysFacts 12 = .ok (.aload_n 0, 1) := dk_42 (dk_at dksX5_laysFacts_0 12 rfl rfl)
theorem dX5_laysFacts_13 : decode cX5_laysFacts 13 = .ok (.iload_n 1, 1) := dk_27 (dk_at dksX5_laysFacts_0 13 rfl rfl)
theorem dX5_laysFacts_14 : decode cX5_laysFacts 14 = .ok (.iconst 2, 1) := dk_5 (dk_at dksX5_laysFacts_0 14 rfl rfl)
theorem dX5_laysFacts_15 : decode cX5_laysFacts 15 = .ok (.invokevirtual 295, 3) := dk_182 1 39 (dk_at dksX5_laysFacts_0 15 rfl rfl)
theorem dX5_laysFacts_18 : decode cX5_laysFacts 18 = .ok (.aload_n 0, 1) := dk_42 (dk_at dksX5_laysFacts_0 18 rfl rfl)
theorem dX5_laysFacts_19 : decode cX5_laysFacts 19 = .ok (.iload_n 1, 1) := dk_27 (dk_at dksX5_laysFacts_0 19 rfl rfl)
theorem dX5_laysFacts_20 : decode cX5_laysFacts 20 = .ok (.iconst 0, 1) := dk_3 (dk_at dksX5_laysFacts_0 20 rfl rfl)
theorem dX5_laysFacts_21 : decode cX5_laysFacts 21 = .ok (.invokevirtual 295, 3) := dk_182 1 39 (dk_at dksX5_laysFacts_0 21 rfl rfl)
theorem dX5_laysFacts_24 : decode cX5_laysFacts 24 = .ok (.iconst 3, 1) := dk_6 (dk_at dksX5_laysFacts_1 0 rfl rfl)
theorem dX5_laysFacts_25 : decode cX5_laysFacts 25 = .ok (.if_icmp .ne 9, 3) := dk_160 0 9 (dk_at dksX5_laysFacts_1 1 rfl rfl)
theorem dX5_laysFacts_28 : decode cX5_laysFacts 28 = .ok (.iconst 2, 1) := dk_5 (dk_at dksX5_laysFacts_1 4 rfl rfl)
theorem dX5_laysFacts_29 : decode cX5_laysFacts 29 = .ok (.iload_n 2, 1) := dk_28 (dk_at dksX5_laysFacts_1 5 rfl rfl)
theorem dX5_laysFacts_30 : decode cX5_laysFacts 30 = .ok (.imul, 1) := dk_104 (dk_at dksX5_laysFacts_1 6 rfl rfl)
theorem dX5_laysFacts_31 : decode cX5_laysFacts 31 = .ok (.goto 4, 3) := dk_167 0 4 (dk_at dksX5_laysFacts_1 7 rfl rfl)
theorem dX5_laysFacts_34 : decode cX5_laysFacts 34 = .ok (.iload_n 2, 1) := dk_28 (dk_at dksX5_laysFacts_1 10 rfl rfl)
theorem dX5_laysFacts_35 : decode cX5_laysFacts 35 = .ok (.iadd, 1) := dk_96 (dk_at dksX5_laysFacts_1 11 rfl rfl)
theorem dX5_laysFacts_36 : decode cX5_laysFacts 36 = .ok (.iastore, 1) := dk_79 (dk_at dksX5_laysFacts_1 12 rfl rfl)
theorem dX5_laysFacts_37 : decode cX5_laysFacts 37 = .ok (.aload_n 0, 1) := dk_42 (dk_at dksX5_laysFacts_1 13 rfl rfl)
theorem dX5_laysFacts_38 : decode cX5_laysFacts 38 = .ok (.getfield 107, 3) := dk_180 0 107 (dk_at dksX5_laysFacts_1 14 rfl rfl)
theorem dX5_laysFacts_41 : decode cX5_laysFacts 41 = .ok (.iconst 2, 1) := dk_5 (dk_at dksX5_laysFacts_1 17 rfl rfl)
theorem dX5_laysFacts_42 : decode cX5_laysFacts 42 = .ok (.aload_n 0, 1) := dk_42 (dk_at dksX5_laysFacts_1 18 rfl rfl)
theorem dX5_laysFacts_43 : decode cX5_laysFacts 43 = .ok (.iload_n 1, 1) := dk_27 (dk_at dksX5_laysFacts_1 19 rfl rfl)
theorem dX5_laysFacts_44 : decode cX5_laysFacts 44 = .ok (.iconst 1, 1) := dk_4 (dk_at dksX5_laysFacts_1 20 rfl rfl)
theorem dX5_laysFacts_45 : decode cX5_laysFacts 45 = .ok (.invokevirtual 295, 3) := dk_182 1 39 (dk_at dksX5_laysFacts_1 21 rfl rfl)
theorem dX5_laysFacts_48 : decode cX5_laysFacts 48 = .ok (.iastore, 1) := dk_79 (dk_at dksX5_laysFacts_2 0 rfl rfl)
theorem dX5_laysFacts_49 : decode cX5_laysFacts 49 = .ok (.return_, 1) := dk_177 (dk_at dksX5_laysFacts_2 1 rfl rfl)
abbrev cX5_worthAt : ByteArray := prog_23_method_40_code
def yX5_worthAt : MethodName := ⟨RX5, "worthAt", "(I)I"⟩
def dkwX5_worthAt_6 : List UInt8 := [180, 0, 110, 3, 46, 172]
abbrev dktX5_worthAt_6 : List UInt8 := dkwX5_worthAt_6 ++ []
def dkwX5_worthAt_5 : List UInt8 := [180, 0, 110, 28, 4, 100, 46, 42, 180, 0, 110, 28, 46, 184, 1, 23, 79, 132, 3, 1, 167, 255, 123, 42]
abbrev dktX5_worthAt_5 : List UInt8 := dkwX5_worthAt_5 ++ dktX5_worthAt_6
def dkwX5_worthAt_4 : List UInt8 := [4, 167, 0, 4, 3, 79, 167, 0, 33, 132, 2, 255, 42, 180, 0, 110, 28, 4, 100, 21, 4, 42]
abbrev dktX5_worthAt_4 : List UInt8 := dkwX5_worthAt_4 ++ dktX5_worthAt_5
def dkwX5_worthAt_3 : List UInt8 := [21, 4, 6, 160, 0, 30, 42, 180, 0, 110, 28, 4, 100, 42, 180, 0, 110, 28, 4, 100, 46, 154, 0, 7]
abbrev dktX5_worthAt_3 : List UInt8 := dkwX5_worthAt_3 ++ dktX5_worthAt_4
def dkwX5_worthAt_2 : List UInt8 := [29, 46, 167, 0, 14, 42, 180, 0, 107, 42, 180, 0, 95, 29, 46, 46, 79, 132, 2, 1, 167, 0, 66]
abbrev dktX5_worthAt_2 : List UInt8 := dkwX5_worthAt_2 ++ dktX5_worthAt_3
def dkwX5_worthAt_1 : List UInt8 := [159, 0, 9, 21, 4, 5, 160, 0, 41, 42, 180, 0, 110, 28, 21, 4, 4, 160, 0, 12, 42, 180, 0, 95]
abbrev dktX5_worthAt_1 : List UInt8 := dkwX5_worthAt_1 ++ dktX5_worthAt_2
def dkwX5_worthAt_0 : List UInt8 := [3, 61, 27, 62, 42, 180, 0, 92, 29, 46, 153, 0, 130, 42, 180, 0, 92, 29, 46, 54, 4, 21, 4, 4]
abbrev dktX5_worthAt_0 : List UInt8 := dkwX5_worthAt_0 ++ dktX5_worthAt_1
theorem dksX5_worthAt_0 : cX5_worthAt.data.toList.drop 0 = dktX5_worthAt_0 := by decide +kernel
theorem dksX5_worthAt_1 : cX5_worthAt.data.toList.drop 24 = dktX5_worthAt_1 := dk_seg dksX5_worthAt_0 24 rfl rfl
theorem dksX5_worthAt_2 : cX5_worthAt.data.toList.drop 48 = dktX5_worthAt_2 := dk_seg dksX5_worthAt_1 24 rfl rfl
theorem dksX5_worthAt_3 : cX5_worthAt.data.toList.drop 71 = dktX5_worthAt_3 := dk_seg dksX5_worthAt_2 23 rfl rfl
theorem dksX5_worthAt_4 : cX5_worthAt.data.toList.drop 95 = dktX5_worthAt_4 := dk_seg dksX5_worthAt_3 24 rfl rfl
theorem dksX5_worthAt_5 : cX5_worthAt.data.toList.drop 117 = dktX5_worthAt_5 := dk_seg dksX5_worthAt_4 22 rfl rfl
theorem dksX5_worthAt_6 : cX5_worthAt.data.toList.drop 141 = dktX5_worthAt_6 := dk_seg dksX5_worthAt_5 24 rfl rfl
theorem dX5_worthAt_0 : decode cX5_worthAt 0 = .ok (.iconst 0, 1) := dk_3 (dk_at dksX5_worthAt_0 0 rfl rfl)
theorem dX5_worthAt_1 : decode cX5_worthAt 1 = .ok (.istore_n 2, 1) := dk_61 (dk_at dksX5_worthAt_0 1 rfl rfl)
theorem dX5_worthAt_2 : decode cX5_worthAt 2 = .ok (.iload_n 1, 1) := dk_27 (dk_at dksX5_worthAt_0 2 rfl rfl)
theorem dX5_worthAt_3 : decode cX5_worthAt 3 = .ok (.istore_n 3, 1) := dk_62 (dk_at dksX5_worthAt_0 3 rfl rfl)
theorem dX5_worthAt_4 : decode cX5_worthAt 4 = .ok (.aload_n 0, 1) := dk_42 (dk_at dksX5_worthAt_0 4 rfl rfl)
theorem dX5_worthAt_5 : decode cX5_worthAt 5 = .ok (.getfield 92, 3) := dk_180 0 92 (dk_at dksX5_worthAt_0 5 rfl rfl)
theorem dX5_worthAt_8 : decode cX5_worthAt 8 = .ok (.iload_n 3, 1) := dk_29 (dk_at dksX5_worthAt_0 8 rfl rfl)
theorem dX5_worthAt_9 : decode cX5_worthAt 9 = .ok (.iaload, 1) := dk_46 (dk_at dksX5_worthAt_0 9 rfl rfl)
theorem dX5_worthAt_10 : decode cX5_worthAt 10 = .ok (.ifCond .eq 130, 3) := dk_153 0 130 (dk_at dksX5_worthAt_0 10 rfl rfl)
theorem dX5_worthAt_13 : decode cX5_worthAt 13 = .ok (.aload_n 0, 1) := dk_42 (dk_at dksX5_worthAt_0 13 rfl rfl)
theorem dX5_worthAt_14 : decode cX5_worthAt 14 = .ok (.getfield 92, 3) := dk_180 0 92 (dk_at dksX5_worthAt_0 14 rfl rfl)
theorem dX5_worthAt_17 : decode cX5_worthAt 17 = .ok (.iload_n 3, 1) := dk_29 (dk_at dksX5_worthAt_0 17 rfl rfl)
theorem dX5_worthAt_18 : decode cX5_worthAt 18 = .ok (.iaload, 1) := dk_46 (dk_at dksX5_worthAt_0 18 rfl rfl)
theorem dX5_worthAt_19 : decode cX5_worthAt 19 = .ok (.istore 4, 2) := dk_54 4 (dk_at dksX5_worthAt_0 19 rfl rfl)
theorem dX5_worthAt_21 : decode cX5_worthAt 21 = .ok (.iload 4, 2) := dk_21 4 (dk_at dksX5_worthAt_0 21 rfl rfl)
theorem dX5_worthAt_23 : decode cX5_worthAt 23 = .ok (.iconst 1, 1) := dk_4 (dk_at dksX5_worthAt_0 23 rfl rfl)
theorem dX5_worthAt_24 : decode cX5_worthAt 24 = .ok (.if_icmp .eq 9, 3) := dk_159 0 9 (dk_at dksX5_worthAt_1 0 rfl rfl)
theorem dX5_worthAt_27 : decode cX5_worthAt 27 = .ok (.iload 4, 2) := dk_21 4 (dk_at dksX5_worthAt_1 3 rfl rfl)
theorem dX5_worthAt_29 : decode cX5_worthAt 29 = .ok (.iconst 2, 1) := dk_5 (dk_at dksX5_worthAt_1 5 rfl rfl)
theorem dX5_worthAt_30 : decode cX5_worthAt 30 = .ok (.if_icmp .ne 41, 3) := dk_160 0 41 (dk_at dksX5_worthAt_1 6 rfl rfl)
theorem dX5_worthAt_33 : decode cX5_worthAt 33 = .ok (.aload_n 0, 1) := dk_42 (dk_at dksX5_worthAt_1 9 rfl rfl)
theorem dX5_worthAt_34 : decode cX5_worthAt 34 = .ok (.getfield 110, 3) := dk_180 0 110 (dk_at dksX5_worthAt_1 10 rfl rfl)
theorem dX5_worthAt_37 : decode cX5_worthAt 37 = .ok (.iload_n 2, 1) := dk_28 (dk_at dksX5_worthAt_1 13 rfl rfl)
theorem dX5_worthAt_38 : decode cX5_worthAt 38 = .ok (.iload 4, 2) := dk_21 4 (dk_at dksX5_worthAt_1 14 rfl rfl)
theorem dX5_worthAt_40 : decode cX5_worthAt 40 = .ok (.iconst 1, 1) := dk_4 (dk_at dksX5_worthAt_1 16 rfl rfl)
theorem dX5_worthAt_41 : decode cX5_worthAt 41 = .ok (.if_icmp .ne 12, 3) := dk_160 0 12 (dk_at dksX5_worthAt_1 17 rfl rfl)
theorem dX5_worthAt_44 : decode cX5_worthAt 44 = .ok (.aload_n 0, 1) := dk_42 (dk_at dksX5_worthAt_1 20 rfl rfl)
theorem dX5_worthAt_45 : decode cX5_worthAt 45 = .ok (.getfield 95, 3) := dk_180 0 95 (dk_at dksX5_worthAt_1 21 rfl rfl)
theorem dX5_worthAt_48 : decode cX5_worthAt 48 = .ok (.iload_n 3, 1) := dk_29 (dk_at dksX5_worthAt_2 0 rfl rfl)
theorem dX5_worthAt_49 : decode cX5_worthAt 49 = .ok (.iaload, 1) := dk_46 (dk_at dksX5_worthAt_2 1 rfl rfl)
theorem dX5_worthAt_50 : decode cX5_worthAt 50 = .ok (.goto 14, 3) := dk_167 0 14 (dk_at dksX5_worthAt_2 2 rfl rfl)
theorem dX5_worthAt_53 : decode cX5_worthAt 53 = .ok (.aload_n 0, 1) := dk_42 (dk_at dksX5_worthAt_2 5 rfl rfl)
theorem dX5_worthAt_54 : decode cX5_worthAt 54 = .ok (.getfield 107, 3) := dk_180 0 107 (dk_at dksX5_worthAt_2 6 rfl rfl)
theorem dX5_worthAt_57 : decode cX5_worthAt 57 = .ok (.aload_n 0, 1) := dk_42 (dk_at dksX5_worthAt_2 9 rfl rfl)
theorem dX5_worthAt_58 : decode cX5_worthAt 58 = .ok (.getfield 95, 3) := dk_180 0 95 (dk_at dksX5_worthAt_2 10 rfl rfl)
theorem dX5_worthAt_61 : decode cX5_worthAt 61 = .ok (.iload_n 3, 1) := dk_29 (dk_at dksX5_worthAt_2 13 rfl rfl)
theorem dX5_worthAt_62 : decode cX5_worthAt 62 = .ok (.iaload, 1) := dk_46 (dk_at dksX5_worthAt_2 14 rfl rfl)
theorem dX5_worthAt_63 : decode cX5_worthAt 63 = .ok (.iaload, 1) := dk_46 (dk_at dksX5_worthAt_2 15 rfl rfl)
theorem dX5_worthAt_64 : decode cX5_worthAt 64 = .ok (.iastore, 1) := dk_79 (dk_at dksX5_worthAt_2 16 rfl rfl)
theorem dX5_worthAt_65 : decode cX5_worthAt 65 = .ok (.iinc 2 1, 3) := dk_132 2 1 (dk_at dksX5_worthAt_2 17 rfl rfl)
theorem dX5_worthAt_68 : decode cX5_worthAt 68 = .ok (.goto 66, 3) := dk_167 0 66 (dk_at dksX5_worthAt_2 20 rfl rfl)
theorem dX5_worthAt_71 : decode cX5_worthAt 71 = .ok (.iload 4, 2) := dk_21 4 (dk_at dksX5_worthAt_3 0 rfl rfl)
theorem dX5_worthAt_73 : decode cX5_worthAt 73 = .ok (.iconst 3, 1) := dk_6 (dk_at dksX5_worthAt_3 2 rfl rfl)
theorem dX5_worthAt_74 : decode cX5_worthAt 74 = .ok (.if_icmp .ne 30, 3) := dk_160 0 30 (dk_at dksX5_worthAt_3 3 rfl rfl)
theorem dX5_worthAt_77 : decode cX5_worthAt 77 = .ok (.aload_n 0, 1) := dk_42 (dk_at dksX5_worthAt_3 6 rfl rfl)
theorem dX5_worthAt_78 : decode cX5_worthAt 78 = .ok (.getfield 110, 3) := dk_180 0 110 (dk_at dksX5_worthAt_3 7 rfl rfl)
theorem dX5_worthAt_81 : decode cX5_worthAt 81 = .ok (.iload_n 2, 1) := dk_28 (dk_at dksX5_worthAt_3 10 rfl rfl)
theorem dX5_worthAt_82 : decode cX5_worthAt 82 = .ok (.iconst 1, 1) := dk_4 (dk_at dksX5_worthAt_3 11 rfl rfl)
theorem dX5_worthAt_83 : decode cX5_worthAt 83 = .ok (.isub, 1) := dk_100 (dk_at dksX5_worthAt_3 12 rfl rfl)
theorem dX5_worthAt_84 : decode cX5_worthAt 84 = .ok (.aload_n 0, 1) := dk_42 (dk_at dksX5_worthAt_3 13 rfl rfl)
theorem dX5_worthAt_85 : decode cX5_worthAt 85 = .ok (.getfield 110, 3) := dk_180 0 110 (dk_at dksX5_worthAt_3 14 rfl rfl)
theorem dX5_worthAt_88 : decode cX5_worthAt 88 = .ok (.iload_n 2, 1) := dk_28 (dk_at dksX5_worthAt_3 17 rfl rfl)
theorem dX5_worthAt_89 : decode cX5_worthAt 89 = .ok (.iconst 1, 1) := dk_4 (dk_at dksX5_worthAt_3 18 rfl rfl)
theorem dX5_worthAt_90 : decode cX5_worthAt 90 = .ok (.isub, 1) := dk_100 (dk_at dksX5_worthAt_3 19 rfl rfl)
theorem dX5_worthAt_91 : decode cX5_worthAt 91 = .ok (.iaload, 1) := dk_46 (dk_at dksX5_worthAt_3 20 rfl rfl)
theorem dX5_worthAt_92 : decode cX5_worthAt 92 = .ok (.ifCond .ne 7, 3) := dk_154 0 7 (dk_at dksX5_worthAt_3 21 rfl rfl)
theorem dX5_worthAt_95 : decode cX5_worthAt 95 = .ok (.iconst 1, 1) := dk_4 (dk_at dksX5_worthAt_4 0 rfl rfl)
theorem dX5_worthAt_96 : decode cX5_worthAt 96 = .ok (.goto 4, 3) := dk_167 0 4 (dk_at dksX5_worthAt_4 1 rfl rfl)
theorem dX5_worthAt_99 : decode cX5_worthAt 99 = .ok (.iconst 0, 1) := dk_3 (dk_at dksX5_worthAt_4 4 rfl rfl)
theorem dX5_worthAt_100 : decode cX5_worthAt 100 = .ok (.iastore, 1) := dk_79 (dk_at dksX5_worthAt_4 5 rfl rfl)
theorem dX5_worthAt_101 : decode cX5_worthAt 101 = .ok (.goto 33, 3) := dk_167 0 33 (dk_at dksX5_worthAt_4 6 rfl rfl)
theorem dX5_worthAt_104 : decode cX5_worthAt 104 = .ok (.iinc 2 (-1), 3) := dk_132 2 255 (dk_at dksX5_worthAt_4 9 rfl rfl)
theorem dX5_worthAt_107 : decode cX5_worthAt 107 = .ok (.aload_n 0, 1) := dk_42 (dk_at dksX5_worthAt_4 12 rfl rfl)
theorem dX5_worthAt_108 : decode cX5_worthAt 108 = .ok (.getfield 110, 3) := dk_180 0 110 (dk_at dksX5_worthAt_4 13 rfl rfl)
theorem dX5_worthAt_111 : decode cX5_worthAt 111 = .ok (.iload_n 2, 1) := dk_28 (dk_at dksX5_worthAt_4 16 rfl rfl)
theorem dX5_worthAt_112 : decode cX5_worthAt 112 = .ok (.iconst 1, 1) := dk_4 (dk_at dksX5_worthAt_4 17 rfl rfl)
theorem dX5_worthAt_113 : decode cX5_worthAt 113 = .ok (.isub, 1) := dk_100 (dk_at dksX5_worthAt_4 18 rfl rfl)
theorem dX5_worthAt_114 : decode cX5_worthAt 114 = .ok (.iload 4, 2) := dk_21 4 (dk_at dksX5_worthAt_4 19 rfl rfl)
theorem dX5_worthAt_116 : decode cX5_worthAt 116 = .ok (.aload_n 0, 1) := dk_42 (dk_at dksX5_worthAt_4 21 rfl rfl)
theorem dX5_worthAt_117 : decode cX5_worthAt 117 = .ok (.getfield 110, 3) := dk_180 0 110 (dk_at dksX5_worthAt_5 0 rfl rfl)
theorem dX5_worthAt_120 : decode cX5_worthAt 120 = .ok (.iload_n 2, 1) := dk_28 (dk_at dksX5_worthAt_5 3 rfl rfl)
theorem dX5_worthAt_121 : decode cX5_worthAt 121 = .ok (.iconst 1, 1) := dk_4 (dk_at dksX5_worthAt_5 4 rfl rfl)
theorem dX5_worthAt_122 : decode cX5_worthAt 122 = .ok (.isub, 1) := dk_100 (dk_at dksX5_worthAt_5 5 rfl rfl)
theorem dX5_worthAt_123 : decode cX5_worthAt 123 = .ok (.iaload, 1) := dk_46 (dk_at dksX5_worthAt_5 6 rfl rfl)
theorem dX5_worthAt_124 : decode cX5_worthAt 124 = .ok (.aload_n 0, 1) := dk_42 (dk_at dksX5_worthAt_5 7 rfl rfl)
theorem dX5_worthAt_125 : decode cX5_worthAt 125 = .ok (.getfield 110, 3) := dk_180 0 110 (dk_at dksX5_worthAt_5 8 rfl rfl)
theorem dX5_worthAt_128 : decode cX5_worthAt 128 = .ok (.iload_n 2, 1) := dk_28 (dk_at dksX5_worthAt_5 11 rfl rfl)
theorem dX5_worthAt_129 : decode cX5_worthAt 129 = .ok (.iaload, 1) := dk_46 (dk_at dksX5_worthAt_5 12 rfl rfl)
theorem dX5_worthAt_130 : decode cX5_worthAt 130 = .ok (.invokestatic 279, 3) := dk_184 1 23 (dk_at dksX5_worthAt_5 13 rfl rfl)
theorem dX5_worthAt_133 : decode cX5_worthAt 133 = .ok (.iastore, 1) := dk_79 (dk_at dksX5_worthAt_5 16 rfl rfl)
theorem dX5_worthAt_134 : decode cX5_worthAt 134 = .ok (.iinc 3 1, 3) := dk_132 3 1 (dk_at dksX5_worthAt_5 17 rfl rfl)
theorem dX5_worthAt_137 : decode cX5_worthAt 137 = .ok (.goto (-133), 3) := dk_167 255 123 (dk_at dksX5_worthAt_5 20 rfl rfl)
theorem dX5_worthAt_140 : decode cX5_worthAt 140 = .ok (.aload_n 0, 1) := dk_42 (dk_at dksX5_worthAt_5 23 rfl rfl)
theorem dX5_worthAt_141 : decode cX5_worthAt 141 = .ok (.getfield 110, 3) := dk_180 0 110 (dk_at dksX5_worthAt_6 0 rfl rfl)
theorem dX5_worthAt_144 : decode cX5_worthAt 144 = .ok (.iconst 0, 1) := dk_3 (dk_at dksX5_worthAt_6 3 rfl rfl)
theorem dX5_worthAt_145 : decode cX5_worthAt 145 = .ok (.iaload, 1) := dk_46 (dk_at dksX5_worthAt_6 4 rfl rfl)
theorem dX5_worthAt_146 : decode cX5_worthAt 146 = .ok (.ireturn, 1) := dk_172 (dk_at dksX5_worthAt_6 5 rfl rfl)
abbrev cX5_both : ByteArray := prog_23_method_41_code
def yX5_both : MethodName := ⟨RX5, "both", "(III)I"⟩
def dkwX5_both_4 : List UInt8 := [27, 154, 0, 7, 28, 153, 0, 7, 4, 167, 0, 4, 3, 172]
abbrev dktX5_both_4 : List UInt8 := dkwX5_both_4 ++ []
def dkwX5_both_3 : List UInt8 := [28, 160, 0, 7, 4, 167, 0, 4, 3, 172, 27, 153, 0, 11, 28, 153, 0, 7, 4, 167, 0, 4, 3, 172]
abbrev dktX5_both_3 : List UInt8 := dkwX5_both_3 ++ dktX5_both_4
def dkwX5_both_2 : List UInt8 := [27, 28, 96, 172, 27, 28, 100, 172, 27, 28, 104, 172, 27, 28, 162, 0, 7, 4, 167, 0, 4, 3, 172, 27]
abbrev dktX5_both_2 : List UInt8 := dkwX5_both_2 ++ dktX5_both_3
def dkwX5_both_1 : List UInt8 := [170, 0, 0, 0, 0, 0, 87, 0, 0, 0, 4, 0, 0, 0, 9, 0, 0, 0, 39, 0, 0, 0, 43, 0, 0, 0, 47, 0, 0, 0, 51, 0, 0, 0, 62, 0, 0, 0, 73]
abbrev dktX5_both_1 : List UInt8 := dkwX5_both_1 ++ dktX5_both_2
def dkwX5_both_0 : List UInt8 := [26]
abbrev dktX5_both_0 : List UInt8 := dkwX5_both_0 ++ dktX5_both_1
theorem dksX5_both_0 : cX5_both.data.toList.drop 0 = dktX5_both_0 := by decide +kernel
theorem dksX5_both_1 : cX5_both.data.toList.drop 1 = dktX5_both_1 := dk_seg dksX5_both_0 1 rfl rfl
theorem dksX5_both_2 : cX5_both.data.toList.drop 40 = dktX5_both_2 := dk_seg dksX5_both_1 39 rfl rfl
theorem dksX5_both_3 : cX5_both.data.toList.drop 64 = dktX5_both_3 := dk_seg dksX5_both_2 24 rfl rfl
theorem dksX5_both_4 : cX5_both.data.toList.drop 88 = dktX5_both_4 := dk_seg dksX5_both_3 24 rfl rfl
theorem dX5_both_0 : decode cX5_both 0 = .ok (.iload_n 0, 1) := dk_26 (dk_at dksX5_both_0 0 rfl rfl)
theorem dX5_both_1 : decode cX5_both 1 = .ok (.tableswitch 87 4 9 #[39, 43, 47, 51, 62, 73], 39) := by decide +kernel
theorem dX5_both_40 : decode cX5_both 40 = .ok (.iload_n 1, 1) := dk_27 (dk_at dksX5_both_2 0 rfl rfl)
theorem dX5_both_41 : decode cX5_both 41 = .ok (.iload_n 2, 1) := dk_28 (dk_at dksX5_both_2 1 rfl rfl)
theorem dX5_both_42 : decode cX5_both 42 = .ok (.iadd, 1) := dk_96 (dk_at dksX5_both_2 2 rfl rfl)
theorem dX5_both_43 : decode cX5_both 43 = .ok (.ireturn, 1) := dk_172 (dk_at dksX5_both_2 3 rfl rfl)
theorem dX5_both_44 : decode cX5_both 44 = .ok (.iload_n 1, 1) := dk_27 (dk_at dksX5_both_2 4 rfl rfl)
theorem dX5_both_45 : decode cX5_both 45 = .ok (.iload_n 2, 1) := dk_28 (dk_at dksX5_both_2 5 rfl rfl)
theorem dX5_both_46 : decode cX5_both 46 = .ok (.isub, 1) := dk_100 (dk_at dksX5_both_2 6 rfl rfl)
theorem dX5_both_47 : decode cX5_both 47 = .ok (.ireturn, 1) := dk_172 (dk_at dksX5_both_2 7 rfl rfl)
theorem dX5_both_48 : decode cX5_both 48 = .ok (.iload_n 1, 1) := dk_27 (dk_at dksX5_both_2 8 rfl rfl)
theorem dX5_both_49 : decode cX5_both 49 = .ok (.iload_n 2, 1) := dk_28 (dk_at dksX5_both_2 9 rfl rfl)
theorem dX5_both_50 : decode cX5_both 50 = .ok (.imul, 1) := dk_104 (dk_at dksX5_both_2 10 rfl rfl)
theorem dX5_both_51 : decode cX5_both 51 = .ok (.ireturn, 1) := dk_172 (dk_at dksX5_both_2 11 rfl rfl)
theorem dX5_both_52 : decode cX5_both 52 = .ok (.iload_n 1, 1) := dk_27 (dk_at dksX5_both_2 12 rfl rfl)
theorem dX5_both_53 : decode cX5_both 53 = .ok (.iload_n 2, 1) := dk_28 (dk_at dksX5_both_2 13 rfl rfl)
theorem dX5_both_54 : decode cX5_both 54 = .ok (.if_icmp .ge 7, 3) := dk_162 0 7 (dk_at dksX5_both_2 14 rfl rfl)
theorem dX5_both_57 : decode cX5_both 57 = .ok (.iconst 1, 1) := dk_4 (dk_at dksX5_both_2 17 rfl rfl)
theorem dX5_both_58 : decode cX5_both 58 = .ok (.goto 4, 3) := dk_167 0 4 (dk_at dksX5_both_2 18 rfl rfl)
theorem dX5_both_61 : decode cX5_both 61 = .ok (.iconst 0, 1) := dk_3 (dk_at dksX5_both_2 21 rfl rfl)
theorem dX5_both_62 : decode cX5_both 62 = .ok (.ireturn, 1) := dk_172 (dk_at dksX5_both_2 22 rfl rfl)
theorem dX5_both_63 : decode cX5_both 63 = .ok (.iload_n 1, 1) := dk_27 (dk_at dksX5_both_2 23 rfl rfl)
theorem dX5_both_64 : decode cX5_both 64 = .ok (.iload_n 2, 1) := dk_28 (dk_at dksX5_both_3 0 rfl rfl)
theorem dX5_both_65 : decode cX5_both 65 = .ok (.if_icmp .ne 7, 3) := dk_160 0 7 (dk_at dksX5_both_3 1 rfl rfl)
theorem dX5_both_68 : decode cX5_both 68 = .ok (.iconst 1, 1) := dk_4 (dk_at dksX5_both_3 4 rfl rfl)
theorem dX5_both_69 : decode cX5_both 69 = .ok (.goto 4, 3) := dk_167 0 4 (dk_at dksX5_both_3 5 rfl rfl)
theorem dX5_both_72 : decode cX5_both 72 = .ok (.iconst 0, 1) := dk_3 (dk_at dksX5_both_3 8 rfl rfl)
theorem dX5_both_73 : decode cX5_both 73 = .ok (.ireturn, 1) := dk_172 (dk_at dksX5_both_3 9 rfl rfl)
theorem dX5_both_74 : decode cX5_both 74 = .ok (.iload_n 1, 1) := dk_27 (dk_at dksX5_both_3 10 rfl rfl)
theorem dX5_both_75 : decode cX5_both 75 = .ok (.ifCond .eq 11, 3) := dk_153 0 11 (dk_at dksX5_both_3 11 rfl rfl)
theorem dX5_both_78 : decode cX5_both 78 = .ok (.iload_n 2, 1) := dk_28 (dk_at dksX5_both_3 14 rfl rfl)
theorem dX5_both_79 : decode cX5_both 79 = .ok (.ifCond .eq 7, 3) := dk_153 0 7 (dk_at dksX5_both_3 15 rfl rfl)
theorem dX5_both_82 : decode cX5_both 82 = .ok (.iconst 1, 1) := dk_4 (dk_at dksX5_both_3 18 rfl rfl)
theorem dX5_both_83 : decode cX5_both 83 = .ok (.goto 4, 3) := dk_167 0 4 (dk_at dksX5_both_3 19 rfl rfl)
theorem dX5_both_86 : decode cX5_both 86 = .ok (.iconst 0, 1) := dk_3 (dk_at dksX5_both_3 22 rfl rfl)
theorem dX5_both_87 : decode cX5_both 87 = .ok (.ireturn, 1) := dk_172 (dk_at dksX5_both_3 23 rfl rfl)
theorem dX5_both_88 : decode cX5_both 88 = .ok (.iload_n 1, 1) := dk_27 (dk_at dksX5_both_4 0 rfl rfl)
theorem dX5_both_89 : decode cX5_both 89 = .ok (.ifCond .ne 7, 3) := dk_154 0 7 (dk_at dksX5_both_4 1 rfl rfl)
theorem dX5_both_92 : decode cX5_both 92 = .ok (.iload_n 2, 1) := dk_28 (dk_at dksX5_both_4 4 rfl rfl)
theorem dX5_both_93 : decode cX5_both 93 = .ok (.ifCond .eq 7, 3) := dk_153 0 7 (dk_at dksX5_both_4 5 rfl rfl)
theorem dX5_both_96 : decode cX5_both 96 = .ok (.iconst 1, 1) := dk_4 (dk_at dksX5_both_4 8 rfl rfl)
theorem dX5_both_97 : decode cX5_both 97 = .ok (.goto 4, 3) := dk_167 0 4 (dk_at dksX5_both_4 9 rfl rfl)
theorem dX5_both_100 : decode cX5_both 100 = .ok (.iconst 0, 1) := dk_3 (dk_at dksX5_both_4 12 rfl rfl)
theorem dX5_both_101 : decode cX5_both 101 = .ok (.ireturn, 1) := dk_172 (dk_at dksX5_both_4 13 rfl rfl)
abbrev cX5_peg : ByteArray := prog_23_method_70_code
def yX5_peg : MethodName := ⟨RX5, "peg", "(II)I"⟩
def dkwX5_peg_2 : List UInt8 := [167, 0, 9, 42, 3, 27, 182, 1, 99, 172]
abbrev dktX5_peg_2 : List UInt8 := dkwX5_peg_2 ++ []
def dkwX5_peg_1 : List UInt8 := [184, 1, 93, 154, 0, 6, 16, 254, 172, 28, 154, 0, 15, 42, 180, 0, 113, 16, 20, 27, 96, 46]
abbrev dktX5_peg_1 : List UInt8 := dkwX5_peg_1 ++ dktX5_peg_2
def dkwX5_peg_0 : List UInt8 := [42, 3, 181, 0, 1, 27, 155, 0, 22, 27, 42, 180, 0, 113, 4, 46, 162, 0, 12, 28, 3, 4]
abbrev dktX5_peg_0 : List UInt8 := dkwX5_peg_0 ++ dktX5_peg_1
theorem dksX5_peg_0 : cX5_peg.data.toList.drop 0 = dktX5_peg_0 := by decide +kernel
theorem dksX5_peg_1 : cX5_peg.data.toList.drop 22 = dktX5_peg_1 := dk_seg dksX5_peg_0 22 rfl rfl
theorem dksX5_peg_2 : cX5_peg.data.toList.drop 44 = dktX5_peg_2 := dk_seg dksX5_peg_1 22 rfl rfl
theorem dX5_peg_0 : decode cX5_peg 0 = .ok (.aload_n 0, 1) := dk_42 (dk_at dksX5_peg_0 0 rfl rfl)
theorem dX5_peg_1 : decode cX5_peg 1 = .ok (.iconst 0, 1) := dk_3 (dk_at dksX5_peg_0 1 rfl rfl)
theorem dX5_peg_2 : decode cX5_peg 2 = .ok (.putfield 1, 3) := dk_181 0 1 (dk_at dksX5_peg_0 2 rfl rfl)
theorem dX5_peg_5 : decode cX5_peg 5 = .ok (.iload_n 1, 1) := dk_27 (dk_at dksX5_peg_0 5 rfl rfl)
theorem dX5_peg_6 : decode cX5_peg 6 = .ok (.ifCond .lt 22, 3) := dk_155 0 22 (dk_at dksX5_peg_0 6 rfl rfl)
theorem dX5_peg_9 : decode cX5_peg 9 = .ok (.iload_n 1, 1) := dk_27 (dk_at dksX5_peg_0 9 rfl rfl)
theorem dX5_peg_10 : decode cX5_peg 10 = .ok (.aload_n 0, 1) := dk_42 (dk_at dksX5_peg_0 10 rfl rfl)
theorem dX5_peg_11 : decode cX5_peg 11 = .ok (.getfield 113, 3) := dk_180 0 113 (dk_at dksX5_peg_0 11 rfl rfl)
theorem dX5_peg_14 : decode cX5_peg 14 = .ok (.iconst 1, 1) := dk_4 (dk_at dksX5_peg_0 14 rfl rfl)
theorem dX5_peg_15 : decode cX5_peg 15 = .ok (.iaload, 1) := dk_46 (dk_at dksX5_peg_0 15 rfl rfl)
theorem dX5_peg_16 : decode cX5_peg 16 = .ok (.if_icmp .ge 12, 3) := dk_162 0 12 (dk_at dksX5_peg_0 16 rfl rfl)
theorem dX5_peg_19 : decode cX5_peg 19 = .ok (.iload_n 2, 1) := dk_28 (dk_at dksX5_peg_0 19 rfl rfl)
theorem dX5_peg_20 : decode cX5_peg 20 = .ok (.iconst 0, 1) := dk_3 (dk_at dksX5_peg_0 20 rfl rfl)
theorem dX5_peg_21 : decode cX5_peg 21 = .ok (.iconst 1, 1) := dk_4 (dk_at dksX5_peg_0 21 rfl rfl)
theorem dX5_peg_22 : decode cX5_peg 22 = .ok (.invokestatic 349, 3) := dk_184 1 93 (dk_at dksX5_peg_1 0 rfl rfl)
theorem dX5_peg_25 : decode cX5_peg 25 = .ok (.ifCond .ne 6, 3) := dk_154 0 6 (dk_at dksX5_peg_1 3 rfl rfl)
theorem dX5_peg_28 : decode cX5_peg 28 = .ok (.bipush (-2), 2) := dk_16 254 (dk_at dksX5_peg_1 6 rfl rfl)
theorem dX5_peg_30 : decode cX5_peg 30 = .ok (.ireturn, 1) := dk_172 (dk_at dksX5_peg_1 8 rfl rfl)
theorem dX5_peg_31 : decode cX5_peg 31 = .ok (.iload_n 2, 1) := dk_28 (dk_at dksX5_peg_1 9 rfl rfl)
theorem dX5_peg_32 : decode cX5_peg 32 = .ok (.ifCond .ne 15, 3) := dk_154 0 15 (dk_at dksX5_peg_1 10 rfl rfl)
theorem dX5_peg_35 : decode cX5_peg 35 = .ok (.aload_n 0, 1) := dk_42 (dk_at dksX5_peg_1 13 rfl rfl)
theorem dX5_peg_36 : decode cX5_peg 36 = .ok (.getfield 113, 3) := dk_180 0 113 (dk_at dksX5_peg_1 14 rfl rfl)
theorem dX5_peg_39 : decode cX5_peg 39 = .ok (.bipush 20, 2) := dk_16 20 (dk_at dksX5_peg_1 17 rfl rfl)
theorem dX5_peg_41 : decode cX5_peg 41 = .ok (.iload_n 1, 1) := dk_27 (dk_at dksX5_peg_1 19 rfl rfl)
theorem dX5_peg_42 : decode cX5_peg 42 = .ok (.iadd, 1) := dk_96 (dk_at dksX5_peg_1 20 rfl rfl)
theorem dX5_peg_43 : decode cX5_peg 43 = .ok (.iaload, 1) := dk_46 (dk_at dksX5_peg_1 21 rfl rfl)
theorem dX5_peg_44 : decode cX5_peg 44 = .ok (.goto 9, 3) := dk_167 0 9 (dk_at dksX5_peg_2 0 rfl rfl)
theorem dX5_peg_47 : decode cX5_peg 47 = .ok (.aload_n 0, 1) := dk_42 (dk_at dksX5_peg_2 3 rfl rfl)
theorem dX5_peg_48 : decode cX5_peg 48 = .ok (.iconst 0, 1) := dk_3 (dk_at dksX5_peg_2 4 rfl rfl)
theorem dX5_peg_49 : decode cX5_peg 49 = .ok (.iload_n 1, 1) := dk_27 (dk_at dksX5_peg_2 5 rfl rfl)
theorem dX5_peg_50 : decode cX5_peg 50 = .ok (.invokevirtual 355, 3) := dk_182 1 99 (dk_at dksX5_peg_2 6 rfl rfl)
theorem dX5_peg_53 : decode cX5_peg 53 = .ok (.ireturn, 1) := dk_172 (dk_at dksX5_peg_2 9 rfl rfl)
abbrev cX5_heldBy : ByteArray := prog_23_method_69_code
def yX5_heldBy : MethodName := ⟨RX5, "heldBy", "(II)I"⟩
def dkwX5_heldBy_2 : List UInt8 := [172]
abbrev dktX5_heldBy_2 : List UInt8 := dkwX5_heldBy_2 ++ []
def dkwX5_heldBy_1 : List UInt8 := [96, 46, 28, 122, 4, 126, 4, 160, 0, 8, 21, 4, 167, 0, 4, 29, 62, 132, 4, 1, 167, 255, 217, 29]
abbrev dktX5_heldBy_1 : List UInt8 := dkwX5_heldBy_1 ++ dktX5_heldBy_2
def dkwX5_heldBy_0 : List UInt8 := [2, 62, 3, 54, 4, 21, 4, 42, 182, 1, 36, 162, 0, 36, 42, 180, 0, 113, 27, 16, 14, 96, 21, 4]
abbrev dktX5_heldBy_0 : List UInt8 := dkwX5_heldBy_0 ++ dktX5_heldBy_1
theorem dksX5_heldBy_0 : cX5_heldBy.data.toList.drop 0 = dktX5_heldBy_0 := by decide +kernel
theorem dksX5_heldBy_1 : cX5_heldBy.data.toList.drop 24 = dktX5_heldBy_1 := dk_seg dksX5_heldBy_0 24 rfl rfl
theorem dksX5_heldBy_2 : cX5_heldBy.data.toList.drop 48 = dktX5_heldBy_2 := dk_seg dksX5_heldBy_1 24 rfl rfl
theorem dX5_heldBy_0 : decode cX5_heldBy 0 = .ok (.iconst (-1), 1) := dk_2 (dk_at dksX5_heldBy_0 0 rfl rfl)
theorem dX5_heldBy_1 : decode cX5_heldBy 1 = .ok (.istore_n 3, 1) := dk_62 (dk_at dksX5_heldBy_0 1 rfl rfl)
theorem dX5_heldBy_2 : decode cX5_heldBy 2 = .ok (.iconst 0, 1) := dk_3 (dk_at dksX5_heldBy_0 2 rfl rfl)
theorem dX5_heldBy_3 : decode cX5_heldBy 3 = .ok (.istore 4, 2) := dk_54 4 (dk_at dksX5_heldBy_0 3 rfl rfl)
theorem dX5_heldBy_5 : decode cX5_heldBy 5 = .ok (.iload 4, 2) := dk_21 4 (dk_at dksX5_heldBy_0 5 rfl rfl)
theorem dX5_heldBy_7 : decode cX5_heldBy 7 = .ok (.aload_n 0, 1) := dk_42 (dk_at dksX5_heldBy_0 7 rfl rfl)
theorem dX5_heldBy_8 : decode cX5_heldBy 8 = .ok (.invokevirtual 292, 3) := dk_182 1 36 (dk_at dksX5_heldBy_0 8 rfl rfl)
theorem dX5_heldBy_11 : decode cX5_heldBy 11 = .ok (.if_icmp .ge 36, 3) := dk_162 0 36 (dk_at dksX5_heldBy_0 11 rfl rfl)
theorem dX5_heldBy_14 : decode cX5_heldBy 14 = .ok (.aload_n 0, 1) := dk_42 (dk_at dksX5_heldBy_0 14 rfl rfl)
theorem dX5_heldBy_15 : decode cX5_heldBy 15 = .ok (.getfield 113, 3) := dk_180 0 113 (dk_at dksX5_heldBy_0 15 rfl rfl)
theorem dX5_heldBy_18 : decode cX5_heldBy 18 = .ok (.iload_n 1, 1) := dk_27 (dk_at dksX5_heldBy_0 18 rfl rfl)
theorem dX5_heldBy_19 : decode cX5_heldBy 19 = .ok (.bipush 14, 2) := dk_16 14 (dk_at dksX5_heldBy_0 19 rfl rfl)
theorem dX5_heldBy_21 : decode cX5_heldBy 21 = .ok (.iadd, 1) := dk_96 (dk_at dksX5_heldBy_0 21 rfl rfl)
theorem dX5_heldBy_22 : decode cX5_heldBy 22 = .ok (.iload 4, 2) := dk_21 4 (dk_at dksX5_heldBy_0 22 rfl rfl)
theorem dX5_heldBy_24 : decode cX5_heldBy 24 = .ok (.iadd, 1) := dk_96 (dk_at dksX5_heldBy_1 0 rfl rfl)
theorem dX5_heldBy_25 : decode cX5_heldBy 25 = .ok (.iaload, 1) := dk_46 (dk_at dksX5_heldBy_1 1 rfl rfl)
theorem dX5_heldBy_26 : decode cX5_heldBy 26 = .ok (.iload_n 2, 1) := dk_28 (dk_at dksX5_heldBy_1 2 rfl rfl)
theorem dX5_heldBy_27 : decode cX5_heldBy 27 = .ok (.ishr, 1) := dk_122 (dk_at dksX5_heldBy_1 3 rfl rfl)
theorem dX5_heldBy_28 : decode cX5_heldBy 28 = .ok (.iconst 1, 1) := dk_4 (dk_at dksX5_heldBy_1 4 rfl rfl)
theorem dX5_heldBy_29 : decode cX5_heldBy 29 = .ok (.iand, 1) := dk_126 (dk_at dksX5_heldBy_1 5 rfl rfl)
theorem dX5_heldBy_30 : decode cX5_heldBy 30 = .ok (.iconst 1, 1) := dk_4 (dk_at dksX5_heldBy_1 6 rfl rfl)
theorem dX5_heldBy_31 : decode cX5_heldBy 31 = .ok (.if_icmp .ne 8, 3) := dk_160 0 8 (dk_at dksX5_heldBy_1 7 rfl rfl)
theorem dX5_heldBy_34 : decode cX5_heldBy 34 = .ok (.iload 4, 2) := dk_21 4 (dk_at dksX5_heldBy_1 10 rfl rfl)
theorem dX5_heldBy_36 : decode cX5_heldBy 36 = .ok (.goto 4, 3) := dk_167 0 4 (dk_at dksX5_heldBy_1 12 rfl rfl)
theorem dX5_heldBy_39 : decode cX5_heldBy 39 = .ok (.iload_n 3, 1) := dk_29 (dk_at dksX5_heldBy_1 15 rfl rfl)
theorem dX5_heldBy_40 : decode cX5_heldBy 40 = .ok (.istore_n 3, 1) := dk_62 (dk_at dksX5_heldBy_1 16 rfl rfl)
theorem dX5_heldBy_41 : decode cX5_heldBy 41 = .ok (.iinc 4 1, 3) := dk_132 4 1 (dk_at dksX5_heldBy_1 17 rfl rfl)
theorem dX5_heldBy_44 : decode cX5_heldBy 44 = .ok (.goto (-39), 3) := dk_167 255 217 (dk_at dksX5_heldBy_1 20 rfl rfl)
theorem dX5_heldBy_47 : decode cX5_heldBy 47 = .ok (.iload_n 3, 1) := dk_29 (dk_at dksX5_heldBy_1 23 rfl rfl)
theorem dX5_heldBy_48 : decode cX5_heldBy 48 = .ok (.ireturn, 1) := dk_172 (dk_at dksX5_heldBy_2 0 rfl rfl)
abbrev cX5_laws : ByteArray := prog_23_method_71_code
def yX5_laws : MethodName := ⟨RX5, "laws", "()I"⟩
def dkwX5_laws_0 : List UInt8 := [42, 3, 181, 0, 1, 42, 3, 182, 1, 102, 172]
abbrev dktX5_laws_0 : List UInt8 := dkwX5_laws_0 ++ []
theorem dksX5_laws_0 : cX5_laws.data.toList.drop 0 = dktX5_laws_0 := by decide +kernel
theorem dX5_laws_0 : decode cX5_laws 0 = .ok (.aload_n 0, 1) := dk_42 (dk_at dksX5_laws_0 0 rfl rfl)
theorem dX5_laws_1 : decode cX5_laws 1 = .ok (.iconst 0, 1) := dk_3 (dk_at dksX5_laws_0 1 rfl rfl)
theorem dX5_laws_2 : decode cX5_laws 2 = .ok (.putfield 1, 3) := dk_181 0 1 (dk_at dksX5_laws_0 2 rfl rfl)
theorem dX5_laws_5 : decode cX5_laws 5 = .ok (.aload_n 0, 1) := dk_42 (dk_at dksX5_laws_0 5 rfl rfl)
theorem dX5_laws_6 : decode cX5_laws 6 = .ok (.iconst 0, 1) := dk_3 (dk_at dksX5_laws_0 6 rfl rfl)
theorem dX5_laws_7 : decode cX5_laws 7 = .ok (.invokevirtual 358, 3) := dk_182 1 102 (dk_at dksX5_laws_0 7 rfl rfl)
theorem dX5_laws_10 : decode cX5_laws 10 = .ok (.ireturn, 1) := dk_172 (dk_at dksX5_laws_0 10 rfl rfl)
abbrev cX5_lawsOf : ByteArray := prog_23_method_66_code
def yX5_lawsOf : MethodName := ⟨RX5, "lawsOf", "(I)I"⟩
def dkwX5_lawsOf_1 : List UInt8 := [120, 167, 0, 4, 3, 128, 61, 132, 3, 1, 167, 255, 226, 28, 172]
abbrev dktX5_lawsOf_1 : List UInt8 := dkwX5_lawsOf_1 ++ []
def dkwX5_lawsOf_0 : List UInt8 := [3, 61, 3, 62, 29, 42, 182, 1, 36, 162, 0, 28, 28, 42, 27, 29, 182, 1, 87, 153, 0, 9, 4, 29]
abbrev dktX5_lawsOf_0 : List UInt8 := dkwX5_lawsOf_0 ++ dktX5_lawsOf_1
theorem dksX5_lawsOf_0 : cX5_lawsOf.data.toList.drop 0 = dktX5_lawsOf_0 := by decide +kernel
theorem dksX5_lawsOf_1 : cX5_lawsOf.data.toList.drop 24 = dktX5_lawsOf_1 := dk_seg dksX5_lawsOf_0 24 rfl rfl
theorem dX5_lawsOf_0 : decode cX5_lawsOf 0 = .ok (.iconst 0, 1) := dk_3 (dk_at dksX5_lawsOf_0 0 rfl rfl)
theorem dX5_lawsOf_1 : decode cX5_lawsOf 1 = .ok (.istore_n 2, 1) := dk_61 (dk_at dksX5_lawsOf_0 1 rfl rfl)
theorem dX5_lawsOf_2 : decode cX5_lawsOf 2 = .ok (.iconst 0, 1) := dk_3 (dk_at dksX5_lawsOf_0 2 rfl rfl)
theorem dX5_lawsOf_3 : decode cX5_lawsOf 3 = .ok (.istore_n 3, 1) := dk_62 (dk_at dksX5_lawsOf_0 3 rfl rfl)
theorem dX5_lawsOf_4 : decode cX5_lawsOf 4 = .ok (.iload_n 3, 1) := dk_29 (dk_at dksX5_lawsOf_0 4 rfl rfl)
theorem dX5_lawsOf_5 : decode cX5_lawsOf 5 = .ok (.aload_n 0, 1) := dk_42 (dk_at dksX5_lawsOf_0 5 rfl rfl)
theorem dX5_lawsOf_6 : decode cX5_lawsOf 6 = .ok (.invokevirtual 292, 3) := dk_182 1 36 (dk_at dksX5_lawsOf_0 6 rfl rfl)
theorem dX5_lawsOf_9 : decode cX5_lawsOf 9 = .ok (.if_icmp .ge 28, 3) := dk_162 0 28 (dk_at dksX5_lawsOf_0 9 rfl rfl)
theorem dX5_lawsOf_12 : decode cX5_lawsOf 12 = .ok (.iload_n 2, 1) := dk_28 (dk_at dksX5_lawsOf_0 12 rfl rfl)
theorem dX5_lawsOf_13 : decode cX5_lawsOf 13 = .ok (.aload_n 0, 1) := dk_42 (dk_at dksX5_lawsOf_0 13 rfl rfl)
theorem dX5_lawsOf_14 : decode cX5_lawsOf 14 = .ok (.iload_n 1, 1) := dk_27 (dk_at dksX5_lawsOf_0 14 rfl rfl)
theorem dX5_lawsOf_15 : decode cX5_lawsOf 15 = .ok (.iload_n 3, 1) := dk_29 (dk_at dksX5_lawsOf_0 15 rfl rfl)
theorem dX5_lawsOf_16 : decode cX5_lawsOf 16 = .ok (.invokevirtual 343, 3) := dk_182 1 87 (dk_at dksX5_lawsOf_0 16 rfl rfl)
theorem dX5_lawsOf_19 : decode cX5_lawsOf 19 = .ok (.ifCond .eq 9, 3) := dk_153 0 9 (dk_at dksX5_lawsOf_0 19 rfl rfl)
theorem dX5_lawsOf_22 : decode cX5_lawsOf 22 = .ok (.iconst 1, 1) := dk_4 (dk_at dksX5_lawsOf_0 22 rfl rfl)
theorem dX5_lawsOf_23 : decode cX5_lawsOf 23 = .ok (.iload_n 3, 1) := dk_29 (dk_at dksX5_lawsOf_0 23 rfl rfl)
theorem dX5_lawsOf_24 : decode cX5_lawsOf 24 = .ok (.ishl, 1) := dk_120 (dk_at dksX5_lawsOf_1 0 rfl rfl)
theorem dX5_lawsOf_25 : decode cX5_lawsOf 25 = .ok (.goto 4, 3) := dk_167 0 4 (dk_at dksX5_lawsOf_1 1 rfl rfl)
theorem dX5_lawsOf_28 : decode cX5_lawsOf 28 = .ok (.iconst 0, 1) := dk_3 (dk_at dksX5_lawsOf_1 4 rfl rfl)
theorem dX5_lawsOf_29 : decode cX5_lawsOf 29 = .ok (.ior, 1) := dk_128 (dk_at dksX5_lawsOf_1 5 rfl rfl)
theorem dX5_lawsOf_30 : decode cX5_lawsOf 30 = .ok (.istore_n 2, 1) := dk_61 (dk_at dksX5_lawsOf_1 6 rfl rfl)
theorem dX5_lawsOf_31 : decode cX5_lawsOf 31 = .ok (.iinc 3 1, 3) := dk_132 3 1 (dk_at dksX5_lawsOf_1 7 rfl rfl)
theorem dX5_lawsOf_34 : decode cX5_lawsOf 34 = .ok (.goto (-30), 3) := dk_167 255 226 (dk_at dksX5_lawsOf_1 10 rfl rfl)
theorem dX5_lawsOf_37 : decode cX5_lawsOf 37 = .ok (.iload_n 2, 1) := dk_28 (dk_at dksX5_lawsOf_1 13 rfl rfl)
theorem dX5_lawsOf_38 : decode cX5_lawsOf 38 = .ok (.ireturn, 1) := dk_172 (dk_at dksX5_lawsOf_1 14 rfl rfl)
abbrev cX5_free : ByteArray := prog_23_method_73_code
def yX5_free : MethodName := ⟨RX5, "free", "()I"⟩
def dkwX5_free_0 : List UInt8 := [42, 3, 181, 0, 1, 42, 3, 182, 1, 105, 172]
abbrev dktX5_free_0 : List UInt8 := dkwX5_free_0 ++ []
theorem dksX5_free_0 : cX5_free.data.toList.drop 0 = dktX5_free_0 := by decide +kernel
theorem dX5_free_0 : decode cX5_free 0 = .ok (.aload_n 0, 1) := dk_42 (dk_at dksX5_free_0 0 rfl rfl)
theorem dX5_free_1 : decode cX5_free 1 = .ok (.iconst 0, 1) := dk_3 (dk_at dksX5_free_0 1 rfl rfl)
theorem dX5_free_2 : decode cX5_free 2 = .ok (.putfield 1, 3) := dk_181 0 1 (dk_at dksX5_free_0 2 rfl rfl)
theorem dX5_free_5 : decode cX5_free 5 = .ok (.aload_n 0, 1) := dk_42 (dk_at dksX5_free_0 5 rfl rfl)
theorem dX5_free_6 : decode cX5_free 6 = .ok (.iconst 0, 1) := dk_3 (dk_at dksX5_free_0 6 rfl rfl)
theorem dX5_free_7 : decode cX5_free 7 = .ok (.invokevirtual 361, 3) := dk_182 1 105 (dk_at dksX5_free_0 7 rfl rfl)
theorem dX5_free_10 : decode cX5_free 10 = .ok (.ireturn, 1) := dk_172 (dk_at dksX5_free_0 10 rfl rfl)
abbrev cX5_freePegs : ByteArray := prog_23_method_72_code
def yX5_freePegs : MethodName := ⟨RX5, "freePegs", "(I)I"⟩
def dkwX5_freePegs_2 : List UInt8 := [61, 132, 3, 1, 167, 255, 208, 28, 172]
abbrev dktX5_freePegs_2 : List UInt8 := dkwX5_freePegs_2 ++ []
def dkwX5_freePegs_1 : List UInt8 := [96, 29, 96, 46, 158, 0, 18, 42, 27, 29, 182, 1, 99, 156, 0, 9, 4, 29, 120, 167, 0, 4, 3, 128]
abbrev dktX5_freePegs_1 : List UInt8 := dkwX5_freePegs_1 ++ dktX5_freePegs_2
def dkwX5_freePegs_0 : List UInt8 := [3, 61, 3, 62, 29, 42, 180, 0, 113, 27, 4, 96, 46, 162, 0, 42, 28, 42, 180, 0, 113, 27, 16, 20]
abbrev dktX5_freePegs_0 : List UInt8 := dkwX5_freePegs_0 ++ dktX5_freePegs_1
theorem dksX5_freePegs_0 : cX5_freePegs.data.toList.drop 0 = dktX5_freePegs_0 := by decide +kernel
theorem dksX5_freePegs_1 : cX5_freePegs.data.toList.drop 24 = dktX5_freePegs_1 := dk_seg dksX5_freePegs_0 24 rfl rfl
theorem dksX5_freePegs_2 : cX5_freePegs.data.toList.drop 48 = dktX5_freePegs_2 := dk_seg dksX5_freePegs_1 24 rfl rfl
theorem dX5_freePegs_0 : decode cX5_freePegs 0 = .ok (.iconst 0, 1) := dk_3 (dk_at dksX5_freePegs_0 0 rfl rfl)
theorem dX5_freePegs_1 : decode cX5_freePegs 1 = .ok (.istore_n 2, 1) := dk_61 (dk_at dksX5_freePegs_0 1 rfl rfl)
theorem dX5_freePegs_2 : decode cX5_freePegs 2 = .ok (.iconst 0, 1) := dk_3 (dk_at dksX5_freePegs_0 2 rfl rfl)
theorem dX5_freePegs_3 : decode cX5_freePegs 3 = .ok (.istore_n 3, 1) := dk_62 (dk_at dksX5_freePegs_0 3 rfl rfl)
theorem dX5_freePegs_4 : decode cX5_freePegs 4 = .ok (.iload_n 3, 1) := dk_29 (dk_at dksX5_freePegs_0 4 rfl rfl)
theorem dX5_freePegs_5 : decode cX5_freePegs 5 = .ok (.aload_n 0, 1) := dk_42 (dk_at dksX5_freePegs_0 5 rfl rfl)
theorem dX5_freePegs_6 : decode cX5_freePegs 6 = .ok (.getfield 113, 3) := dk_180 0 113 (dk_at dksX5_freePegs_0 6 rfl rfl)
theorem dX5_freePegs_9 : decode cX5_freePegs 9 = .ok (.iload_n 1, 1) := dk_27 (dk_at dksX5_freePegs_0 9 rfl rfl)
theorem dX5_freePegs_10 : decode cX5_freePegs 10 = .ok (.iconst 1, 1) := dk_4 (dk_at dksX5_freePegs_0 10 rfl rfl)
theorem dX5_freePegs_11 : decode cX5_freePegs 11 = .ok (.iadd, 1) := dk_96 (dk_at dksX5_freePegs_0 11 rfl rfl)
theorem dX5_freePegs_12 : decode cX5_freePegs 12 = .ok (.iaload, 1) := dk_46 (dk_at dksX5_freePegs_0 12 rfl rfl)
theorem dX5_freePegs_13 : decode cX5_freePegs 13 = .ok (.if_icmp .ge 42, 3) := dk_162 0 42 (dk_at dksX5_freePegs_0 13 rfl rfl)
theorem dX5_freePegs_16 : decode cX5_freePegs 16 = .ok (.iload_n 2, 1) := dk_28 (dk_at dksX5_freePegs_0 16 rfl rfl)
theorem dX5_freePegs_17 : decode cX5_freePegs 17 = .ok (.aload_n 0, 1) := dk_42 (dk_at dksX5_freePegs_0 17 rfl rfl)
theorem dX5_freePegs_18 : decode cX5_freePegs 18 = .ok (.getfield 113, 3) := dk_180 0 113 (dk_at dksX5_freePegs_0 18 rfl rfl)
theorem dX5_freePegs_21 : decode cX5_freePegs 21 = .ok (.iload_n 1, 1) := dk_27 (dk_at dksX5_freePegs_0 21 rfl rfl)
theorem dX5_freePegs_22 : decode cX5_freePegs 22 = .ok (.bipush 20, 2) := dk_16 20 (dk_at dksX5_freePegs_0 22 rfl rfl)
theorem dX5_freePegs_24 : decode cX5_freePegs 24 = .ok (.iadd, 1) := dk_96 (dk_at dksX5_freePegs_1 0 rfl rfl)
theorem dX5_freePegs_25 : decode cX5_freePegs 25 = .ok (.iload_n 3, 1) := dk_29 (dk_at dksX5_freePegs_1 1 rfl rfl)
theorem dX5_freePegs_26 : decode cX5_freePegs 26 = .ok (.iadd, 1) := dk_96 (dk_at dksX5_freePegs_1 2 rfl rfl)
theorem dX5_freePegs_27 : decode cX5_freePegs 27 = .ok (.iaload, 1) := dk_46 (dk_at dksX5_freePegs_1 3 rfl rfl)
theorem dX5_freePegs_28 : decode cX5_freePegs 28 = .ok (.ifCond .le 18, 3) := dk_158 0 18 (dk_at dksX5_freePegs_1 4 rfl rfl)
theorem dX5_freePegs_31 : decode cX5_freePegs 31 = .ok (.aload_n 0, 1) := dk_42 (dk_at dksX5_freePegs_1 7 rfl rfl)
theorem dX5_freePegs_32 : decode cX5_freePegs 32 = .ok (.iload_n 1, 1) := dk_27 (dk_at dksX5_freePegs_1 8 rfl rfl)
theorem dX5_freePegs_33 : decode cX5_freePegs 33 = .ok (.iload_n 3, 1) := dk_29 (dk_at dksX5_freePegs_1 9 rfl rfl)
theorem dX5_freePegs_34 : decode cX5_freePegs 34 = .ok (.invokevirtual 355, 3) := dk_182 1 99 (dk_at dksX5_freePegs_1 10 rfl rfl)
theorem dX5_freePegs_37 : decode cX5_freePegs 37 = .ok (.ifCond .ge 9, 3) := dk_156 0 9 (dk_at dksX5_freePegs_1 13 rfl rfl)
theorem dX5_freePegs_40 : decode cX5_freePegs 40 = .ok (.iconst 1, 1) := dk_4 (dk_at dksX5_freePegs_1 16 rfl rfl)
theorem dX5_freePegs_41 : decode cX5_freePegs 41 = .ok (.iload_n 3, 1) := dk_29 (dk_at dksX5_freePegs_1 17 rfl rfl)
theorem dX5_freePegs_42 : decode cX5_freePegs 42 = .ok (.ishl, 1) := dk_120 (dk_at dksX5_freePegs_1 18 rfl rfl)
theorem dX5_freePegs_43 : decode cX5_freePegs 43 = .ok (.goto 4, 3) := dk_167 0 4 (dk_at dksX5_freePegs_1 19 rfl rfl)
theorem dX5_freePegs_46 : decode cX5_freePegs 46 = .ok (.iconst 0, 1) := dk_3 (dk_at dksX5_freePegs_1 22 rfl rfl)
theorem dX5_freePegs_47 : decode cX5_freePegs 47 = .ok (.ior, 1) := dk_128 (dk_at dksX5_freePegs_1 23 rfl rfl)
theorem dX5_freePegs_48 : decode cX5_freePegs 48 = .ok (.istore_n 2, 1) := dk_61 (dk_at dksX5_freePegs_2 0 rfl rfl)
theorem dX5_freePegs_49 : decode cX5_freePegs 49 = .ok (.iinc 3 1, 3) := dk_132 3 1 (dk_at dksX5_freePegs_2 1 rfl rfl)
theorem dX5_freePegs_52 : decode cX5_freePegs 52 = .ok (.goto (-48), 3) := dk_167 255 208 (dk_at dksX5_freePegs_2 4 rfl rfl)
theorem dX5_freePegs_55 : decode cX5_freePegs 55 = .ok (.iload_n 2, 1) := dk_28 (dk_at dksX5_freePegs_2 7 rfl rfl)
theorem dX5_freePegs_56 : decode cX5_freePegs 56 = .ok (.ireturn, 1) := dk_172 (dk_at dksX5_freePegs_2 8 rfl rfl)
abbrev cX5_hang : ByteArray := prog_23_method_75_code
def yX5_hang : MethodName := ⟨RX5, "hang", "(II)I"⟩
def dkwX5_hang_2 : List UInt8 := [28, 79, 42, 3, 182, 1, 108, 172]
abbrev dktX5_hang_2 : List UInt8 := dkwX5_hang_2 ++ []
def dkwX5_hang_1 : List UInt8 := [42, 3, 27, 28, 182, 1, 111, 154, 0, 5, 2, 172, 42, 182, 1, 114, 42, 180, 0, 113, 16, 14, 27, 96]
abbrev dktX5_hang_1 : List UInt8 := dkwX5_hang_1 ++ dktX5_hang_2
def dkwX5_hang_0 : List UInt8 := [42, 3, 181, 0, 1, 42, 27, 182, 1, 90, 153, 0, 24, 28, 4, 17, 0, 255, 184, 1, 93, 153, 0, 13]
abbrev dktX5_hang_0 : List UInt8 := dkwX5_hang_0 ++ dktX5_hang_1
theorem dksX5_hang_0 : cX5_hang.data.toList.drop 0 = dktX5_hang_0 := by decide +kernel
theorem dksX5_hang_1 : cX5_hang.data.toList.drop 24 = dktX5_hang_1 := dk_seg dksX5_hang_0 24 rfl rfl
theorem dksX5_hang_2 : cX5_hang.data.toList.drop 48 = dktX5_hang_2 := dk_seg dksX5_hang_1 24 rfl rfl
theorem dX5_hang_0 : decode cX5_hang 0 = .ok (.aload_n 0, 1) := dk_42 (dk_at dksX5_hang_0 0 rfl rfl)
theorem dX5_hang_1 : decode cX5_hang 1 = .ok (.iconst 0, 1) := dk_3 (dk_at dksX5_hang_0 1 rfl rfl)
theorem dX5_hang_2 : decode cX5_hang 2 = .ok (.putfield 1, 3) := dk_181 0 1 (dk_at dksX5_hang_0 2 rfl rfl)
theorem dX5_hang_5 : decode cX5_hang 5 = .ok (.aload_n 0, 1) := dk_42 (dk_at dksX5_hang_0 5 rfl rfl)
theorem dX5_hang_6 : decode cX5_hang 6 = .ok (.iload_n 1, 1) := dk_27 (dk_at dksX5_hang_0 6 rfl rfl)
theorem dX5_hang_7 : decode cX5_hang 7 = .ok (.invokevirtual 346, 3) := dk_182 1 90 (dk_at dksX5_hang_0 7 rfl rfl)
theorem dX5_hang_10 : decode cX5_hang 10 = .ok (.ifCond .eq 24, 3) := dk_153 0 24 (dk_at dksX5_hang_0 10 rfl rfl)
theorem dX5_hang_13 : decode cX5_hang 13 = .ok (.iload_n 2, 1) := dk_28 (dk_at dksX5_hang_0 13 rfl rfl)
theorem dX5_hang_14 : decode cX5_hang 14 = .ok (.iconst 1, 1) := dk_4 (dk_at dksX5_hang_0 14 rfl rfl)
theorem dX5_hang_15 : decode cX5_hang 15 = .ok (.sipush 255, 3) := dk_17 0 255 (dk_at dksX5_hang_0 15 rfl rfl)
theorem dX5_hang_18 : decode cX5_hang 18 = .ok (.invokestatic 349, 3) := dk_184 1 93 (dk_at dksX5_hang_0 18 rfl rfl)
theorem dX5_hang_21 : decode cX5_hang 21 = .ok (.ifCond .eq 13, 3) := dk_153 0 13 (dk_at dksX5_hang_0 21 rfl rfl)
theorem dX5_hang_24 : decode cX5_hang 24 = .ok (.aload_n 0, 1) := dk_42 (dk_at dksX5_hang_1 0 rfl rfl)
theorem dX5_hang_25 : decode cX5_hang 25 = .ok (.iconst 0, 1) := dk_3 (dk_at dksX5_hang_1 1 rfl rfl)
theorem dX5_hang_26 : decode cX5_hang 26 = .ok (.iload_n 1, 1) := dk_27 (dk_at dksX5_hang_1 2 rfl rfl)
theorem dX5_hang_27 : decode cX5_hang 27 = .ok (.iload_n 2, 1) := dk_28 (dk_at dksX5_hang_1 3 rfl rfl)
theorem dX5_hang_28 : decode cX5_hang 28 = .ok (.invokevirtual 367, 3) := dk_182 1 111 (dk_at dksX5_hang_1 4 rfl rfl)
theorem dX5_hang_31 : decode cX5_hang 31 = .ok (.ifCond .ne 5, 3) := dk_154 0 5 (dk_at dksX5_hang_1 7 rfl rfl)
theorem dX5_hang_34 : decode cX5_hang 34 = .ok (.iconst (-1), 1) := dk_2 (dk_at dksX5_hang_1 10 rfl rfl)
theorem dX5_hang_35 : decode cX5_hang 35 = .ok (.ireturn, 1) := dk_172 (dk_at dksX5_hang_1 11 rfl rfl)
theorem dX5_hang_36 : decode cX5_hang 36 = .ok (.aload_n 0, 1) := dk_42 (dk_at dksX5_hang_1 12 rfl rfl)
theorem dX5_hang_37 : decode cX5_hang 37 = .ok (.invokevirtual 370, 3) := dk_182 1 114 (dk_at dksX5_hang_1 13 rfl rfl)
theorem dX5_hang_40 : decode cX5_hang 40 = .ok (.aload_n 0, 1) := dk_42 (dk_at dksX5_hang_1 16 rfl rfl)
theorem dX5_hang_41 : decode cX5_hang 41 = .ok (.getfield 113, 3) := dk_180 0 113 (dk_at dksX5_hang_1 17 rfl rfl)
theorem dX5_hang_44 : decode cX5_hang 44 = .ok (.bipush 14, 2) := dk_16 14 (dk_at dksX5_hang_1 20 rfl rfl)
theorem dX5_hang_46 : decode cX5_hang 46 = .ok (.iload_n 1, 1) := dk_27 (dk_at dksX5_hang_1 22 rfl rfl)
theorem dX5_hang_47 : decode cX5_hang 47 = .ok (.iadd, 1) := dk_96 (dk_at dksX5_hang_1 23 rfl rfl)
theorem dX5_hang_48 : decode cX5_hang 48 = .ok (.iload_n 2, 1) := dk_28 (dk_at dksX5_hang_2 0 rfl rfl)
theorem dX5_hang_49 : decode cX5_hang 49 = .ok (.iastore, 1) := dk_79 (dk_at dksX5_hang_2 1 rfl rfl)
theorem dX5_hang_50 : decode cX5_hang 50 = .ok (.aload_n 0, 1) := dk_42 (dk_at dksX5_hang_2 2 rfl rfl)
theorem dX5_hang_51 : decode cX5_hang 51 = .ok (.iconst 0, 1) := dk_3 (dk_at dksX5_hang_2 3 rfl rfl)
theorem dX5_hang_52 : decode cX5_hang 52 = .ok (.invokevirtual 364, 3) := dk_182 1 108 (dk_at dksX5_hang_2 4 rfl rfl)
theorem dX5_hang_55 : decode cX5_hang 55 = .ok (.ireturn, 1) := dk_172 (dk_at dksX5_hang_2 7 rfl rfl)
abbrev cX5_mayHang : ByteArray := prog_23_method_74_code
def yX5_mayHang : MethodName := ⟨RX5, "mayHang", "(III)Z"⟩
def dkwX5_mayHang_3 : List UInt8 := [167, 0, 4, 3, 172]
abbrev dktX5_mayHang_3 : List UInt8 := dkwX5_mayHang_3 ++ []
def dkwX5_mayHang_2 : List UInt8 := [54, 5, 21, 5, 153, 0, 22, 42, 28, 21, 4, 182, 1, 52, 42, 27, 182, 1, 108, 163, 0, 7, 4]
abbrev dktX5_mayHang_2 : List UInt8 := dkwX5_mayHang_2 ++ dktX5_mayHang_3
def dkwX5_mayHang_1 : List UInt8 := [154, 0, 23, 21, 4, 42, 28, 182, 1, 45, 159, 0, 9, 21, 4, 4, 160, 0, 7, 4, 167, 0, 4, 3]
abbrev dktX5_mayHang_1 : List UInt8 := dkwX5_mayHang_1 ++ dktX5_mayHang_2
def dkwX5_mayHang_0 : List UInt8 := [29, 184, 1, 42, 54, 4, 42, 27, 28, 182, 1, 48, 154, 0, 35, 29, 42, 27, 182, 1, 105, 2, 130, 126]
abbrev dktX5_mayHang_0 : List UInt8 := dkwX5_mayHang_0 ++ dktX5_mayHang_1
theorem dksX5_mayHang_0 : cX5_mayHang.data.toList.drop 0 = dktX5_mayHang_0 := by decide +kernel
theorem dksX5_mayHang_1 : cX5_mayHang.data.toList.drop 24 = dktX5_mayHang_1 := dk_seg dksX5_mayHang_0 24 rfl rfl
theorem dksX5_mayHang_2 : cX5_mayHang.data.toList.drop 48 = dktX5_mayHang_2 := dk_seg dksX5_mayHang_1 24 rfl rfl
theorem dksX5_mayHang_3 : cX5_mayHang.data.toList.drop 71 = dktX5_mayHang_3 := dk_seg dksX5_mayHang_2 23 rfl rfl
theorem dX5_mayHang_0 : decode cX5_mayHang 0 = .ok (.iload_n 3, 1) := dk_29 (dk_at dksX5_mayHang_0 0 rfl rfl)
theorem dX5_mayHang_1 : decode cX5_mayHang 1 = .ok (.invokestatic 298, 3) := dk_184 1 42 (dk_at dksX5_mayHang_0 1 rfl rfl)
theorem dX5_mayHang_4 : decode cX5_mayHang 4 = .ok (.istore 4, 2) := dk_54 4 (dk_at dksX5_mayHang_0 4 rfl rfl)
theorem dX5_mayHang_6 : decode cX5_mayHang 6 = .ok (.aload_n 0, 1) := dk_42 (dk_at dksX5_mayHang_0 6 rfl rfl)
theorem dX5_mayHang_7 : decode cX5_mayHang 7 = .ok (.iload_n 1, 1) := dk_27 (dk_at dksX5_mayHang_0 7 rfl rfl)
theorem dX5_mayHang_8 : decode cX5_mayHang 8 = .ok (.iload_n 2, 1) := dk_28 (dk_at dksX5_mayHang_0 8 rfl rfl)
theorem dX5_mayHang_9 : decode cX5_mayHang 9 = .ok (.invokevirtual 304, 3) := dk_182 1 48 (dk_at dksX5_mayHang_0 9 rfl rfl)
theorem dX5_mayHang_12 : decode cX5_mayHang 12 = .ok (.ifCond .ne 35, 3) := dk_154 0 35 (dk_at dksX5_mayHang_0 12 rfl rfl)
theorem dX5_mayHang_15 : decode cX5_mayHang 15 = .ok (.iload_n 3, 1) := dk_29 (dk_at dksX5_mayHang_0 15 rfl rfl)
theorem dX5_mayHang_16 : decode cX5_mayHang 16 = .ok (.aload_n 0, 1) := dk_42 (dk_at dksX5_mayHang_0 16 rfl rfl)
theorem dX5_mayHang_17 : decode cX5_mayHang 17 = .ok (.iload_n 1, 1) := dk_27 (dk_at dksX5_mayHang_0 17 rfl rfl)
theorem dX5_mayHang_18 : decode cX5_mayHang 18 = .ok (.invokevirtual 361, 3) := dk_182 1 105 (dk_at dksX5_mayHang_0 18 rfl rfl)
theorem dX5_mayHang_21 : decode cX5_mayHang 21 = .ok (.iconst (-1), 1) := dk_2 (dk_at dksX5_mayHang_0 21 rfl rfl)
theorem dX5_mayHang_22 : decode cX5_mayHang 22 = .ok (.ixor, 1) := dk_130 (dk_at dksX5_mayHang_0 22 rfl rfl)
theorem dX5_mayHang_23 : decode cX5_mayHang 23 = .ok (.iand, 1) := dk_126 (dk_at dksX5_mayHang_0 23 rfl rfl)
theorem dX5_mayHang_24 : decode cX5_mayHang 24 = .ok (.ifCond .ne 23, 3) := dk_154 0 23 (dk_at dksX5_mayHang_1 0 rfl rfl)
theorem dX5_mayHang_27 : decode cX5_mayHang 27 = .ok (.iload 4, 2) := dk_21 4 (dk_at dksX5_mayHang_1 3 rfl rfl)
theorem dX5_mayHang_29 : decode cX5_mayHang 29 = .ok (.aload_n 0, 1) := dk_42 (dk_at dksX5_mayHang_1 5 rfl rfl)
theorem dX5_mayHang_30 : decode cX5_mayHang 30 = .ok (.iload_n 2, 1) := dk_28 (dk_at dksX5_mayHang_1 6 rfl rfl)
theorem dX5_mayHang_31 : decode cX5_mayHang 31 = .ok (.invokevirtual 301, 3) := dk_182 1 45 (dk_at dksX5_mayHang_1 7 rfl rfl)
theorem dX5_mayHang_34 : decode cX5_mayHang 34 = .ok (.if_icmp .eq 9, 3) := dk_159 0 9 (dk_at dksX5_mayHang_1 10 rfl rfl)
theorem dX5_mayHang_37 : decode cX5_mayHang 37 = .ok (.iload 4, 2) := dk_21 4 (dk_at dksX5_mayHang_1 13 rfl rfl)
theorem dX5_mayHang_39 : decode cX5_mayHang 39 = .ok (.iconst 1, 1) := dk_4 (dk_at dksX5_mayHang_1 15 rfl rfl)
theorem dX5_mayHang_40 : decode cX5_mayHang 40 = .ok (.if_icmp .ne 7, 3) := dk_160 0 7 (dk_at dksX5_mayHang_1 16 rfl rfl)
theorem dX5_mayHang_43 : decode cX5_mayHang 43 = .ok (.iconst 1, 1) := dk_4 (dk_at dksX5_mayHang_1 19 rfl rfl)
theorem dX5_mayHang_44 : decode cX5_mayHang 44 = .ok (.goto 4, 3) := dk_167 0 4 (dk_at dksX5_mayHang_1 20 rfl rfl)
theorem dX5_mayHang_47 : decode cX5_mayHang 47 = .ok (.iconst 0, 1) := dk_3 (dk_at dksX5_mayHang_1 23 rfl rfl)
theorem dX5_mayHang_48 : decode cX5_mayHang 48 = .ok (.istore 5, 2) := dk_54 5 (dk_at dksX5_mayHang_2 0 rfl rfl)
theorem dX5_mayHang_50 : decode cX5_mayHang 50 = .ok (.iload 5, 2) := dk_21 5 (dk_at dksX5_mayHang_2 2 rfl rfl)
theorem dX5_mayHang_52 : decode cX5_mayHang 52 = .ok (.ifCond .eq 22, 3) := dk_153 0 22 (dk_at dksX5_mayHang_2 4 rfl rfl)
theorem dX5_mayHang_55 : decode cX5_mayHang 55 = .ok (.aload_n 0, 1) := dk_42 (dk_at dksX5_mayHang_2 7 rfl rfl)
theorem dX5_mayHang_56 : decode cX5_mayHang 56 = .ok (.iload_n 2, 1) := dk_28 (dk_at dksX5_mayHang_2 8 rfl rfl)
theorem dX5_mayHang_57 : decode cX5_mayHang 57 = .ok (.iload 4, 2) := dk_21 4 (dk_at dksX5_mayHang_2 9 rfl rfl)
theorem dX5_mayHang_59 : decode cX5_mayHang 59 = .ok (.invokevirtual 308, 3) := dk_182 1 52 (dk_at dksX5_mayHang_2 11 rfl rfl)
theorem dX5_mayHang_62 : decode cX5_mayHang 62 = .ok (.aload_n 0, 1) := dk_42 (dk_at dksX5_mayHang_2 14 rfl rfl)
theorem dX5_mayHang_63 : decode cX5_mayHang 63 = .ok (.iload_n 1, 1) := dk_27 (dk_at dksX5_mayHang_2 15 rfl rfl)
theorem dX5_mayHang_64 : decode cX5_mayHang 64 = .ok (.invokevirtual 364, 3) := dk_182 1 108 (dk_at dksX5_mayHang_2 16 rfl rfl)
theorem dX5_mayHang_67 : decode cX5_mayHang 67 = .ok (.if_icmp .gt 7, 3) := dk_163 0 7 (dk_at dksX5_mayHang_2 19 rfl rfl)
theorem dX5_mayHang_70 : decode cX5_mayHang 70 = .ok (.iconst 1, 1) := dk_4 (dk_at dksX5_mayHang_2 22 rfl rfl)
theorem dX5_mayHang_71 : decode cX5_mayHang 71 = .ok (.goto 4, 3) := dk_167 0 4 (dk_at dksX5_mayHang_3 0 rfl rfl)
theorem dX5_mayHang_74 : decode cX5_mayHang 74 = .ok (.iconst 0, 1) := dk_3 (dk_at dksX5_mayHang_3 3 rfl rfl)
theorem dX5_mayHang_75 : decode cX5_mayHang 75 = .ok (.ireturn, 1) := dk_172 (dk_at dksX5_mayHang_3 4 rfl rfl)
abbrev cX5_roomLeft : ByteArray := prog_23_method_55_code
def yX5_roomLeft : MethodName := ⟨RX5, "roomLeft", "(I)I"⟩
def dkwX5_roomLeft_2 : List UInt8 := [167, 0, 4, 3, 100, 61, 132, 3, 1, 167, 255, 210, 28, 172]
abbrev dktX5_roomLeft_2 : List UInt8 := dkwX5_roomLeft_2 ++ []
def dkwX5_roomLeft_1 : List UInt8 := [153, 0, 25, 42, 29, 42, 180, 0, 113, 27, 16, 14, 96, 29, 96, 46, 184, 1, 42, 182, 1, 52]
abbrev dktX5_roomLeft_1 : List UInt8 := dkwX5_roomLeft_1 ++ dktX5_roomLeft_2
def dkwX5_roomLeft_0 : List UInt8 := [42, 180, 0, 89, 6, 46, 61, 3, 62, 29, 42, 182, 1, 36, 162, 0, 44, 28, 42, 27, 29, 182, 1, 48]
abbrev dktX5_roomLeft_0 : List UInt8 := dkwX5_roomLeft_0 ++ dktX5_roomLeft_1
theorem dksX5_roomLeft_0 : cX5_roomLeft.data.toList.drop 0 = dktX5_roomLeft_0 := by decide +kernel
theorem dksX5_roomLeft_1 : cX5_roomLeft.data.toList.drop 24 = dktX5_roomLeft_1 := dk_seg dksX5_roomLeft_0 24 rfl rfl
theorem dksX5_roomLeft_2 : cX5_roomLeft.data.toList.drop 46 = dktX5_roomLeft_2 := dk_seg dksX5_roomLeft_1 22 rfl rfl
theorem dX5_roomLeft_0 : decode cX5_roomLeft 0 = .ok (.aload_n 0, 1) := dk_42 (dk_at dksX5_roomLeft_0 0 rfl rfl)
theorem dX5_roomLeft_1 : decode cX5_roomLeft 1 = .ok (.getfield 89, 3) := dk_180 0 89 (dk_at dksX5_roomLeft_0 1 rfl rfl)
theorem dX5_roomLeft_4 : decode cX5_roomLeft 4 = .ok (.iconst 3, 1) := dk_6 (dk_at dksX5_roomLeft_0 4 rfl rfl)
theorem dX5_roomLeft_5 : decode cX5_roomLeft 5 = .ok (.iaload, 1) := dk_46 (dk_at dksX5_roomLeft_0 5 rfl rfl)
theorem dX5_roomLeft_6 : decode cX5_roomLeft 6 = .ok (.istore_n 2, 1) := dk_61 (dk_at dksX5_roomLeft_0 6 rfl rfl)
theorem dX5_roomLeft_7 : decode cX5_roomLeft 7 = .ok (.iconst 0, 1) := dk_3 (dk_at dksX5_roomLeft_0 7 rfl rfl)
theorem dX5_roomLeft_8 : decode cX5_roomLeft 8 = .ok (.istore_n 3, 1) := dk_62 (dk_at dksX5_roomLeft_0 8 rfl rfl)
theorem dX5_roomLeft_9 : decode cX5_roomLeft 9 = .ok (.iload_n 3, 1) := dk_29 (dk_at dksX5_roomLeft_0 9 rfl rfl)
theorem dX5_roomLeft_10 : decode cX5_roomLeft 10 = .ok (.aload_n 0, 1) := dk_42 (dk_at dksX5_roomLeft_0 10 rfl rfl)
theorem dX5_roomLeft_11 : decode cX5_roomLeft 11 = .ok (.invokevirtual 292, 3) := dk_182 1 36 (dk_at dksX5_roomLeft_0 11 rfl rfl)
theorem dX5_roomLeft_14 : decode cX5_roomLeft 14 = .ok (.if_icmp .ge 44, 3) := dk_162 0 44 (dk_at dksX5_roomLeft_0 14 rfl rfl)
theorem dX5_roomLeft_17 : decode cX5_roomLeft 17 = .ok (.iload_n 2, 1) := dk_28 (dk_at dksX5_roomLeft_0 17 rfl rfl)
theorem dX5_roomLeft_18 : decode cX5_roomLeft 18 = .ok (.aload_n 0, 1) := dk_42 (dk_at dksX5_roomLeft_0 18 rfl rfl)
theorem dX5_roomLeft_19 : decode cX5_roomLeft 19 = .ok (.iload_n 1, 1) := dk_27 (dk_at dksX5_roomLeft_0 19 rfl rfl)
theorem dX5_roomLeft_20 : decode cX5_roomLeft 20 = .ok (.iload_n 3, 1) := dk_29 (dk_at dksX5_roomLeft_0 20 rfl rfl)
theorem dX5_roomLeft_21 : decode cX5_roomLeft 21 = .ok (.invokevirtual 304, 3) := dk_182 1 48 (dk_at dksX5_roomLeft_0 21 rfl rfl)
theorem dX5_roomLeft_24 : decode cX5_roomLeft 24 = .ok (.ifCond .eq 25, 3) := dk_153 0 25 (dk_at dksX5_roomLeft_1 0 rfl rfl)
theorem dX5_roomLeft_27 : decode cX5_roomLeft 27 = .ok (.aload_n 0, 1) := dk_42 (dk_at dksX5_roomLeft_1 3 rfl rfl)
theorem dX5_roomLeft_28 : decode cX5_roomLeft 28 = .ok (.iload_n 3, 1) := dk_29 (dk_at dksX5_roomLeft_1 4 rfl rfl)
theorem dX5_roomLeft_29 : decode cX5_roomLeft 29 = .ok (.aload_n 0, 1) := dk_42 (dk_at dksX5_roomLeft_1 5 rfl rfl)
theorem dX5_roomLeft_30 : decode cX5_roomLeft 30 = .ok (.getfield 113, 3) := dk_180 0 113 (dk_at dksX5_roomLeft_1 6 rfl rfl)
theorem dX5_roomLeft_33 : decode cX5_roomLeft 33 = .ok (.iload_n 1, 1) := dk_27 (dk_at dksX5_roomLeft_1 9 rfl rfl)
theorem dX5_roomLeft_34 : decode cX5_roomLeft 34 = .ok (.bipush 14, 2) := dk_16 14 (dk_at dksX5_roomLeft_1 10 rfl rfl)
theorem dX5_roomLeft_36 : decode cX5_roomLeft 36 = .ok (.iadd, 1) := dk_96 (dk_at dksX5_roomLeft_1 12 rfl rfl)
theorem dX5_roomLeft_37 : decode cX5_roomLeft 37 = .ok (.iload_n 3, 1) := dk_29 (dk_at dksX5_roomLeft_1 13 rfl rfl)
theorem dX5_roomLeft_38 : decode cX5_roomLeft 38 = .ok (.iadd, 1) := dk_96 (dk_at dksX5_roomLeft_1 14 rfl rfl)
theorem dX5_roomLeft_39 : decode cX5_roomLeft 39 = .ok (.iaload, 1) := dk_46 (dk_at dksX5_roomLeft_1 15 rfl rfl)
theorem dX5_roomLeft_40 : decode cX5_roomLeft 40 = .ok (.invokestatic 298, 3) := dk_184 1 42 (dk_at dksX5_roomLeft_1 16 rfl rfl)
theorem dX5_roomLeft_43 : decode cX5_roomLeft 43 = .ok (.invokevirtual 308, 3) := dk_182 1 52 (dk_at dksX5_roomLeft_1 19 rfl rfl)
theorem dX5_roomLeft_46 : decode cX5_roomLeft 46 = .ok (.goto 4, 3) := dk_167 0 4 (dk_at dksX5_roomLeft_2 0 rfl rfl)
theorem dX5_roomLeft_49 : decode cX5_roomLeft 49 = .ok (.iconst 0, 1) := dk_3 (dk_at dksX5_roomLeft_2 3 rfl rfl)
theorem dX5_roomLeft_50 : decode cX5_roomLeft 50 = .ok (.isub, 1) := dk_100 (dk_at dksX5_roomLeft_2 4 rfl rfl)
theorem dX5_roomLeft_51 : decode cX5_roomLeft 51 = .ok (.istore_n 2, 1) := dk_61 (dk_at dksX5_roomLeft_2 5 rfl rfl)
theorem dX5_roomLeft_52 : decode cX5_roomLeft 52 = .ok (.iinc 3 1, 3) := dk_132 3 1 (dk_at dksX5_roomLeft_2 6 rfl rfl)
theorem dX5_roomLeft_55 : decode cX5_roomLeft 55 = .ok (.goto (-46), 3) := dk_167 255 210 (dk_at dksX5_roomLeft_2 9 rfl rfl)
theorem dX5_roomLeft_58 : decode cX5_roomLeft 58 = .ok (.iload_n 2, 1) := dk_28 (dk_at dksX5_roomLeft_2 12 rfl rfl)
theorem dX5_roomLeft_59 : decode cX5_roomLeft 59 = .ok (.ireturn, 1) := dk_172 (dk_at dksX5_roomLeft_2 13 rfl rfl)
abbrev cX5_keeps : ByteArray := prog_23_method_45_code
def yX5_keeps : MethodName := ⟨RX5, "keeps", "()V"⟩
def dkwX5_keeps_3 : List UInt8 := [180, 1, 29, 4, 96, 181, 1, 29, 177]
abbrev dktX5_keeps_3 : List UInt8 := dkwX5_keeps_3 ++ []
def dkwX5_keeps_2 : List UInt8 := [4, 100, 181, 1, 29, 42, 3, 16, 54, 8, 42, 180, 1, 29, 96, 104, 16, 28, 182, 1, 32, 42, 89]
abbrev dktX5_keeps_2 : List UInt8 := dkwX5_keeps_2 ++ dktX5_keeps_3
def dkwX5_keeps_1 : List UInt8 := [16, 54, 8, 27, 96, 4, 100, 104, 16, 28, 182, 1, 32, 132, 1, 1, 167, 255, 227, 42, 89, 180, 1, 29]
abbrev dktX5_keeps_1 : List UInt8 := dkwX5_keeps_1 ++ dktX5_keeps_2
def dkwX5_keeps_0 : List UInt8 := [42, 180, 1, 29, 16, 16, 160, 0, 47, 4, 60, 27, 16, 16, 162, 0, 29, 42, 16, 54, 8, 27, 96, 104]
abbrev dktX5_keeps_0 : List UInt8 := dkwX5_keeps_0 ++ dktX5_keeps_1
theorem dksX5_keeps_0 : cX5_keeps.data.toList.drop 0 = dktX5_keeps_0 := by decide +kernel
theorem dksX5_keeps_1 : cX5_keeps.data.toList.drop 24 = dktX5_keeps_1 := dk_seg dksX5_keeps_0 24 rfl rfl
theorem dksX5_keeps_2 : cX5_keeps.data.toList.drop 48 = dktX5_keeps_2 := dk_seg dksX5_keeps_1 24 rfl rfl
theorem dksX5_keeps_3 : cX5_keeps.data.toList.drop 71 = dktX5_keeps_3 := dk_seg dksX5_keeps_2 23 rfl rfl
theorem dX5_keeps_0 : decode cX5_keeps 0 = .ok (.aload_n 0, 1) := dk_42 (dk_at dksX5_keeps_0 0 rfl rfl)
theorem dX5_keeps_1 : decode cX5_keeps 1 = .ok (.getfield 285, 3) := dk_180 1 29 (dk_at dksX5_keeps_0 1 rfl rfl)
theorem dX5_keeps_4 : decode cX5_keeps 4 = .ok (.bipush 16, 2) := dk_16 16 (dk_at dksX5_keeps_0 4 rfl rfl)
theorem dX5_keeps_6 : decode cX5_keeps 6 = .ok (.if_icmp .ne 47, 3) := dk_160 0 47 (dk_at dksX5_keeps_0 6 rfl rfl)
theorem dX5_keeps_9 : decode cX5_keeps 9 = .ok (.iconst 1, 1) := dk_4 (dk_at dksX5_keeps_0 9 rfl rfl)
theorem dX5_keeps_10 : decode cX5_keeps 10 = .ok (.istore_n 1, 1) := dk_60 (dk_at dksX5_keeps_0 10 rfl rfl)
theorem dX5_keeps_11 : decode cX5_keeps 11 = .ok (.iload_n 1, 1) := dk_27 (dk_at dksX5_keeps_0 11 rfl rfl)
theorem dX5_keeps_12 : decode cX5_keeps 12 = .ok (.bipush 16, 2) := dk_16 16 (dk_at dksX5_keeps_0 12 rfl rfl)
theorem dX5_keeps_14 : decode cX5_keeps 14 = .ok (.if_icmp .ge 29, 3) := dk_162 0 29 (dk_at dksX5_keeps_0 14 rfl rfl)
theorem dX5_keeps_17 : decode cX5_keeps 17 = .ok (.aload_n 0, 1) := dk_42 (dk_at dksX5_keeps_0 17 rfl rfl)
theorem dX5_keeps_18 : decode cX5_keeps 18 = .ok (.bipush 54, 2) := dk_16 54 (dk_at dksX5_keeps_0 18 rfl rfl)
theorem dX5_keeps_20 : decode cX5_keeps 20 = .ok (.iconst 5, 1) := dk_8 (dk_at dksX5_keeps_0 20 rfl rfl)
theorem dX5_keeps_21 : decode cX5_keeps 21 = .ok (.iload_n 1, 1) := dk_27 (dk_at dksX5_keeps_0 21 rfl rfl)
theorem dX5_keeps_22 : decode cX5_keeps 22 = .ok (.iadd, 1) := dk_96 (dk_at dksX5_keeps_0 22 rfl rfl)
theorem dX5_keeps_23 : decode cX5_keeps 23 = .ok (.imul, 1) := dk_104 (dk_at dksX5_keeps_0 23 rfl rfl)
theorem dX5_keeps_24 : decode cX5_keeps 24 = .ok (.bipush 54, 2) := dk_16 54 (dk_at dksX5_keeps_1 0 rfl rfl)
theorem dX5_keeps_26 : decode cX5_keeps 26 = .ok (.iconst 5, 1) := dk_8 (dk_at dksX5_keeps_1 2 rfl rfl)
theorem dX5_keeps_27 : decode cX5_keeps 27 = .ok (.iload_n 1, 1) := dk_27 (dk_at dksX5_keeps_1 3 rfl rfl)
theorem dX5_keeps_28 : decode cX5_keeps 28 = .ok (.iadd, 1) := dk_96 (dk_at dksX5_keeps_1 4 rfl rfl)
theorem dX5_keeps_29 : decode cX5_keeps 29 = .ok (.iconst 1, 1) := dk_4 (dk_at dksX5_keeps_1 5 rfl rfl)
theorem dX5_keeps_30 : decode cX5_keeps 30 = .ok (.isub, 1) := dk_100 (dk_at dksX5_keeps_1 6 rfl rfl)
theorem dX5_keeps_31 : decode cX5_keeps 31 = .ok (.imul, 1) := dk_104 (dk_at dksX5_keeps_1 7 rfl rfl)
theorem dX5_keeps_32 : decode cX5_keeps 32 = .ok (.bipush 28, 2) := dk_16 28 (dk_at dksX5_keeps_1 8 rfl rfl)
theorem dX5_keeps_34 : decode cX5_keeps 34 = .ok (.invokevirtual 288, 3) := dk_182 1 32 (dk_at dksX5_keeps_1 10 rfl rfl)
theorem dX5_keeps_37 : decode cX5_keeps 37 = .ok (.iinc 1 1, 3) := dk_132 1 1 (dk_at dksX5_keeps_1 13 rfl rfl)
theorem dX5_keeps_40 : decode cX5_keeps 40 = .ok (.goto (-29), 3) := dk_167 255 227 (dk_at dksX5_keeps_1 16 rfl rfl)
theorem dX5_keeps_43 : decode cX5_keeps 43 = .ok (.aload_n 0, 1) := dk_42 (dk_at dksX5_keeps_1 19 rfl rfl)
theorem dX5_keeps_44 : decode cX5_keeps 44 = .ok (.dup, 1) := dk_89 (dk_at dksX5_keeps_1 20 rfl rfl)
theorem dX5_keeps_45 : decode cX5_keeps 45 = .ok (.getfield 285, 3) := dk_180 1 29 (dk_at dksX5_keeps_1 21 rfl rfl)
theorem dX5_keeps_48 : decode cX5_keeps 48 = .ok (.iconst 1, 1) := dk_4 (dk_at dksX5_keeps_2 0 rfl rfl)
theorem dX5_keeps_49 : decode cX5_keeps 49 = .ok (.isub, 1) := dk_100 (dk_at dksX5_keeps_2 1 rfl rfl)
theorem dX5_keeps_50 : decode cX5_keeps 50 = .ok (.putfield 285, 3) := dk_181 1 29 (dk_at dksX5_keeps_2 2 rfl rfl)
theorem dX5_keeps_53 : decode cX5_keeps 53 = .ok (.aload_n 0, 1) := dk_42 (dk_at dksX5_keeps_2 5 rfl rfl)
theorem dX5_keeps_54 : decode cX5_keeps 54 = .ok (.iconst 0, 1) := dk_3 (dk_at dksX5_keeps_2 6 rfl rfl)
theorem dX5_keeps_55 : decode cX5_keeps 55 = .ok (.bipush 54, 2) := dk_16 54 (dk_at dksX5_keeps_2 7 rfl rfl)
theorem dX5_keeps_57 : decode cX5_keeps 57 = .ok (.iconst 5, 1) := dk_8 (dk_at dksX5_keeps_2 9 rfl rfl)
theorem dX5_keeps_58 : decode cX5_keeps 58 = .ok (.aload_n 0, 1) := dk_42 (dk_at dksX5_keeps_2 10 rfl rfl)
theorem dX5_keeps_59 : decode cX5_keeps 59 = .ok (.getfield 285, 3) := dk_180 1 29 (dk_at dksX5_keeps_2 11 rfl rfl)
theorem dX5_keeps_62 : decode cX5_keeps 62 = .ok (.iadd, 1) := dk_96 (dk_at dksX5_keeps_2 14 rfl rfl)
theorem dX5_keeps_63 : decode cX5_keeps 63 = .ok (.imul, 1) := dk_104 (dk_at dksX5_keeps_2 15 rfl rfl)
theorem dX5_keeps_64 : decode cX5_keeps 64 = .ok (.bipush 28, 2) := dk_16 28 (dk_at dksX5_keeps_2 16 rfl rfl)
theorem dX5_keeps_66 : decode cX5_keeps 66 = .ok (.invokevirtual 288, 3) := dk_182 1 32 (dk_at dksX5_keeps_2 18 rfl rfl)
theorem dX5_keeps_69 : decode cX5_keeps 69 = .ok (.aload_n 0, 1) := dk_42 (dk_at dksX5_keeps_2 21 rfl rfl)
theorem dX5_keeps_70 : decode cX5_keeps 70 = .ok (.dup, 1) := dk_89 (dk_at dksX5_keeps_2 22 rfl rfl)
theorem dX5_keeps_71 : decode cX5_keeps 71 = .ok (.getfield 285, 3) := dk_180 1 29 (dk_at dksX5_keeps_3 0 rfl rfl)
theorem dX5_keeps_74 : decode cX5_keeps 74 = .ok (.iconst 1, 1) := dk_4 (dk_at dksX5_keeps_3 3 rfl rfl)
theorem dX5_keeps_75 : decode cX5_keeps 75 = .ok (.iadd, 1) := dk_96 (dk_at dksX5_keeps_3 4 rfl rfl)
theorem dX5_keeps_76 : decode cX5_keeps 76 = .ok (.putfield 285, 3) := dk_181 1 29 (dk_at dksX5_keeps_3 5 rfl rfl)
theorem dX5_keeps_79 : decode cX5_keeps 79 = .ok (.return_, 1) := dk_177 (dk_at dksX5_keeps_3 8 rfl rfl)
abbrev cX5_copies : ByteArray := prog_23_method_42_code
def yX5_copies : MethodName := ⟨RX5, "copies", "(III)V"⟩
def dkwX5_copies_1 : List UInt8 := [96, 46, 79, 132, 4, 1, 167, 255, 229, 177]
abbrev dktX5_copies_1 : List UInt8 := dkwX5_copies_1 ++ []
def dkwX5_copies_0 : List UInt8 := [3, 54, 4, 21, 4, 29, 162, 0, 27, 42, 180, 0, 113, 28, 21, 4, 96, 42, 180, 0, 113, 27, 21, 4]
abbrev dktX5_copies_0 : List UInt8 := dkwX5_copies_0 ++ dktX5_copies_1
theorem dksX5_copies_0 : cX5_copies.data.toList.drop 0 = dktX5_copies_0 := by decide +kernel
theorem dksX5_copies_1 : cX5_copies.data.toList.drop 24 = dktX5_copies_1 := dk_seg dksX5_copies_0 24 rfl rfl
theorem dX5_copies_0 : decode cX5_copies 0 = .ok (.iconst 0, 1) := dk_3 (dk_at dksX5_copies_0 0 rfl rfl)
theorem dX5_copies_1 : decode cX5_copies 1 = .ok (.istore 4, 2) := dk_54 4 (dk_at dksX5_copies_0 1 rfl rfl)
theorem dX5_copies_3 : decode cX5_copies 3 = .ok (.iload 4, 2) := dk_21 4 (dk_at dksX5_copies_0 3 rfl rfl)
theorem dX5_copies_5 : decode cX5_copies 5 = .ok (.iload_n 3, 1) := dk_29 (dk_at dksX5_copies_0 5 rfl rfl)
theorem dX5_copies_6 : decode cX5_copies 6 = .ok (.if_icmp .ge 27, 3) := dk_162 0 27 (dk_at dksX5_copies_0 6 rfl rfl)
theorem dX5_copies_9 : decode cX5_copies 9 = .ok (.aload_n 0, 1) := dk_42 (dk_at dksX5_copies_0 9 rfl rfl)
theorem dX5_copies_10 : decode cX5_copies 10 = .ok (.getfield 113, 3) := dk_180 0 113 (dk_at dksX5_copies_0 10 rfl rfl)
theorem dX5_copies_13 : decode cX5_copies 13 = .ok (.iload_n 2, 1) := dk_28 (dk_at dksX5_copies_0 13 rfl rfl)
theorem dX5_copies_14 : decode cX5_copies 14 = .ok (.iload 4, 2) := dk_21 4 (dk_at dksX5_copies_0 14 rfl rfl)
theorem dX5_copies_16 : decode cX5_copies 16 = .ok (.iadd, 1) := dk_96 (dk_at dksX5_copies_0 16 rfl rfl)
theorem dX5_copies_17 : decode cX5_copies 17 = .ok (.aload_n 0, 1) := dk_42 (dk_at dksX5_copies_0 17 rfl rfl)
theorem dX5_copies_18 : decode cX5_copies 18 = .ok (.getfield 113, 3) := dk_180 0 113 (dk_at dksX5_copies_0 18 rfl rfl)
theorem dX5_copies_21 : decode cX5_copies 21 = .ok (.iload_n 1, 1) := dk_27 (dk_at dksX5_copies_0 21 rfl rfl)
theorem dX5_copies_22 : decode cX5_copies 22 = .ok (.iload 4, 2) := dk_21 4 (dk_at dksX5_copies_0 22 rfl rfl)
theorem dX5_copies_24 : decode cX5_copies 24 = .ok (.iadd, 1) := dk_96 (dk_at dksX5_copies_1 0 rfl rfl)
theorem dX5_copies_25 : decode cX5_copies 25 = .ok (.iaload, 1) := dk_46 (dk_at dksX5_copies_1 1 rfl rfl)
theorem dX5_copies_26 : decode cX5_copies 26 = .ok (.iastore, 1) := dk_79 (dk_at dksX5_copies_1 2 rfl rfl)
theorem dX5_copies_27 : decode cX5_copies 27 = .ok (.iinc 4 1, 3) := dk_132 4 1 (dk_at dksX5_copies_1 3 rfl rfl)
theorem dX5_copies_30 : decode cX5_copies 30 = .ok (.goto (-27), 3) := dk_167 255 229 (dk_at dksX5_copies_1 6 rfl rfl)
theorem dX5_copies_33 : decode cX5_copies 33 = .ok (.return_, 1) := dk_177 (dk_at dksX5_copies_1 9 rfl rfl)
abbrev cX5_take : ByteArray := prog_23_method_76_code
def yX5_take : MethodName := ⟨RX5, "take", "(I)Z"⟩
def dkwX5_take_1 : List UInt8 := [42, 182, 1, 114, 42, 180, 0, 113, 16, 14, 27, 96, 3, 79, 4, 172]
abbrev dktX5_take_1 : List UInt8 := dkwX5_take_1 ++ []
def dkwX5_take_0 : List UInt8 := [42, 3, 181, 0, 1, 42, 27, 182, 1, 90, 153, 0, 12, 42, 3, 27, 182, 1, 48, 154, 0, 5, 3, 172]
abbrev dktX5_take_0 : List UInt8 := dkwX5_take_0 ++ dktX5_take_1
theorem dksX5_take_0 : cX5_take.data.toList.drop 0 = dktX5_take_0 := by decide +kernel
theorem dksX5_take_1 : cX5_take.data.toList.drop 24 = dktX5_take_1 := dk_seg dksX5_take_0 24 rfl rfl
theorem dX5_take_0 : decode cX5_take 0 = .ok (.aload_n 0, 1) := dk_42 (dk_at dksX5_take_0 0 rfl rfl)
theorem dX5_take_1 : decode cX5_take 1 = .ok (.iconst 0, 1) := dk_3 (dk_at dksX5_take_0 1 rfl rfl)
theorem dX5_take_2 : decode cX5_take 2 = .ok (.putfield 1, 3) := dk_181 0 1 (dk_at dksX5_take_0 2 rfl rfl)
theorem dX5_take_5 : decode cX5_take 5 = .ok (.aload_n 0, 1) := dk_42 (dk_at dksX5_take_0 5 rfl rfl)
theorem dX5_take_6 : decode cX5_take 6 = .ok (.iload_n 1, 1) := dk_27 (dk_at dksX5_take_0 6 rfl rfl)
theorem dX5_take_7 : decode cX5_take 7 = .ok (.invokevirtual 346, 3) := dk_182 1 90 (dk_at dksX5_take_0 7 rfl rfl)
theorem dX5_take_10 : decode cX5_take 10 = .ok (.ifCond .eq 12, 3) := dk_153 0 12 (dk_at dksX5_take_0 10 rfl rfl)
theorem dX5_take_13 : decode cX5_take 13 = .ok (.aload_n 0, 1) := dk_42 (dk_at dksX5_take_0 13 rfl rfl)
theorem dX5_take_14 : decode cX5_take 14 = .ok (.iconst 0, 1) := dk_3 (dk_at dksX5_take_0 14 rfl rfl)
theorem dX5_take_15 : decode cX5_take 15 = .ok (.iload_n 1, 1) := dk_27 (dk_at dksX5_take_0 15 rfl rfl)
theorem dX5_take_16 : decode cX5_take 16 = .ok (.invokevirtual 304, 3) := dk_182 1 48 (dk_at dksX5_take_0 16 rfl rfl)
theorem dX5_take_19 : decode cX5_take 19 = .ok (.ifCond .ne 5, 3) := dk_154 0 5 (dk_at dksX5_take_0 19 rfl rfl)
theorem dX5_take_22 : decode cX5_take 22 = .ok (.iconst 0, 1) := dk_3 (dk_at dksX5_take_0 22 rfl rfl)
theorem dX5_take_23 : decode cX5_take 23 = .ok (.ireturn, 1) := dk_172 (dk_at dksX5_take_0 23 rfl rfl)
theorem dX5_take_24 : decode cX5_take 24 = .ok (.aload_n 0, 1) := dk_42 (dk_at dksX5_take_1 0 rfl rfl)
theorem dX5_take_25 : decode cX5_take 25 = .ok (.invokevirtual 370, 3) := dk_182 1 114 (dk_at dksX5_take_1 1 rfl rfl)
theorem dX5_take_28 : decode cX5_take 28 = .ok (.aload_n 0, 1) := dk_42 (dk_at dksX5_take_1 4 rfl rfl)
theorem dX5_take_29 : decode cX5_take 29 = .ok (.getfield 113, 3) := dk_180 0 113 (dk_at dksX5_take_1 5 rfl rfl)
theorem dX5_take_32 : decode cX5_take 32 = .ok (.bipush 14, 2) := dk_16 14 (dk_at dksX5_take_1 8 rfl rfl)
theorem dX5_take_34 : decode cX5_take 34 = .ok (.iload_n 1, 1) := dk_27 (dk_at dksX5_take_1 10 rfl rfl)
theorem dX5_take_35 : decode cX5_take 35 = .ok (.iadd, 1) := dk_96 (dk_at dksX5_take_1 11 rfl rfl)
theorem dX5_take_36 : decode cX5_take 36 = .ok (.iconst 0, 1) := dk_3 (dk_at dksX5_take_1 12 rfl rfl)
theorem dX5_take_37 : decode cX5_take 37 = .ok (.iastore, 1) := dk_79 (dk_at dksX5_take_1 13 rfl rfl)
theorem dX5_take_38 : decode cX5_take 38 = .ok (.iconst 1, 1) := dk_4 (dk_at dksX5_take_1 14 rfl rfl)
theorem dX5_take_39 : decode cX5_take 39 = .ok (.ireturn, 1) := dk_172 (dk_at dksX5_take_1 15 rfl rfl)
abbrev cX5_wash : ByteArray := prog_23_method_78_code
def yX5_wash : MethodName := ⟨RX5, "wash", "(I)I"⟩
def dkwX5_wash_1 : List UInt8 := [42, 182, 1, 114, 42, 3, 27, 182, 1, 117, 172]
abbrev dktX5_wash_1 : List UInt8 := dkwX5_wash_1 ++ []
def dkwX5_wash_0 : List UInt8 := [42, 3, 181, 0, 1, 42, 27, 182, 1, 90, 153, 0, 12, 42, 3, 27, 182, 1, 48, 153, 0, 5, 2, 172]
abbrev dktX5_wash_0 : List UInt8 := dkwX5_wash_0 ++ dktX5_wash_1
theorem dksX5_wash_0 : cX5_wash.data.toList.drop 0 = dktX5_wash_0 := by decide +kernel
theorem dksX5_wash_1 : cX5_wash.data.toList.drop 24 = dktX5_wash_1 := dk_seg dksX5_wash_0 24 rfl rfl
theorem dX5_wash_0 : decode cX5_wash 0 = .ok (.aload_n 0, 1) := dk_42 (dk_at dksX5_wash_0 0 rfl rfl)
theorem dX5_wash_1 : decode cX5_wash 1 = .ok (.iconst 0, 1) := dk_3 (dk_at dksX5_wash_0 1 rfl rfl)
theorem dX5_wash_2 : decode cX5_wash 2 = .ok (.putfield 1, 3) := dk_181 0 1 (dk_at dksX5_wash_0 2 rfl rfl)
theorem dX5_wash_5 : decode cX5_wash 5 = .ok (.aload_n 0, 1) := dk_42 (dk_at dksX5_wash_0 5 rfl rfl)
theorem dX5_wash_6 : decode cX5_wash 6 = .ok (.iload_n 1, 1) := dk_27 (dk_at dksX5_wash_0 6 rfl rfl)
theorem dX5_wash_7 : decode cX5_wash 7 = .ok (.invokevirtual 346, 3) := dk_182 1 90 (dk_at dksX5_wash_0 7 rfl rfl)
theorem dX5_wash_10 : decode cX5_wash 10 = .ok (.ifCond .eq 12, 3) := dk_153 0 12 (dk_at dksX5_wash_0 10 rfl rfl)
theorem dX5_wash_13 : decode cX5_wash 13 = .ok (.aload_n 0, 1) := dk_42 (dk_at dksX5_wash_0 13 rfl rfl)
theorem dX5_wash_14 : decode cX5_wash 14 = .ok (.iconst 0, 1) := dk_3 (dk_at dksX5_wash_0 14 rfl rfl)
theorem dX5_wash_15 : decode cX5_wash 15 = .ok (.iload_n 1, 1) := dk_27 (dk_at dksX5_wash_0 15 rfl rfl)
theorem dX5_wash_16 : decode cX5_wash 16 = .ok (.invokevirtual 304, 3) := dk_182 1 48 (dk_at dksX5_wash_0 16 rfl rfl)
theorem dX5_wash_19 : decode cX5_wash 19 = .ok (.ifCond .eq 5, 3) := dk_153 0 5 (dk_at dksX5_wash_0 19 rfl rfl)
theorem dX5_wash_22 : decode cX5_wash 22 = .ok (.iconst (-1), 1) := dk_2 (dk_at dksX5_wash_0 22 rfl rfl)
theorem dX5_wash_23 : decode cX5_wash 23 = .ok (.ireturn, 1) := dk_172 (dk_at dksX5_wash_0 23 rfl rfl)
theorem dX5_wash_24 : decode cX5_wash 24 = .ok (.aload_n 0, 1) := dk_42 (dk_at dksX5_wash_1 0 rfl rfl)
theorem dX5_wash_25 : decode cX5_wash 25 = .ok (.invokevirtual 370, 3) := dk_182 1 114 (dk_at dksX5_wash_1 1 rfl rfl)
theorem dX5_wash_28 : decode cX5_wash 28 = .ok (.aload_n 0, 1) := dk_42 (dk_at dksX5_wash_1 4 rfl rfl)
theorem dX5_wash_29 : decode cX5_wash 29 = .ok (.iconst 0, 1) := dk_3 (dk_at dksX5_wash_1 5 rfl rfl)
theorem dX5_wash_30 : decode cX5_wash 30 = .ok (.iload_n 1, 1) := dk_27 (dk_at dksX5_wash_1 6 rfl rfl)
theorem dX5_wash_31 : decode cX5_wash 31 = .ok (.invokevirtual 373, 3) := dk_182 1 117 (dk_at dksX5_wash_1 7 rfl rfl)
theorem dX5_wash_34 : decode cX5_wash 34 = .ok (.ireturn, 1) := dk_172 (dk_at dksX5_wash_1 10 rfl rfl)
abbrev cX5_washes : ByteArray := prog_23_method_77_code
def yX5_washes : MethodName := ⟨RX5, "washes", "(II)I"⟩
def dkwX5_washes_1 : List UInt8 := [42, 180, 0, 113, 27, 5, 96, 28, 96, 16, 9, 79, 29, 172]
abbrev dktX5_washes_1 : List UInt8 := dkwX5_washes_1 ++ []
def dkwX5_washes_0 : List UInt8 := [42, 180, 0, 113, 27, 16, 8, 96, 28, 96, 46, 62, 42, 180, 0, 113, 27, 16, 8, 96, 28, 96, 3, 79]
abbrev dktX5_washes_0 : List UInt8 := dkwX5_washes_0 ++ dktX5_washes_1
theorem dksX5_washes_0 : cX5_washes.data.toList.drop 0 = dktX5_washes_0 := by decide +kernel
theorem dksX5_washes_1 : cX5_washes.data.toList.drop 24 = dktX5_washes_1 := dk_seg dksX5_washes_0 24 rfl rfl
theorem dX5_washes_0 : decode cX5_washes 0 = .ok (.aload_n 0, 1) := dk_42 (dk_at dksX5_washes_0 0 rfl rfl)
theorem dX5_washes_1 : decode cX5_washes 1 = .ok (.getfield 113, 3) := dk_180 0 113 (dk_at dksX5_washes_0 1 rfl rfl)
theorem dX5_washes_4 : decode cX5_washes 4 = .ok (.iload_n 1, 1) := dk_27 (dk_at dksX5_washes_0 4 rfl rfl)
theorem dX5_washes_5 : decode cX5_washes 5 = .ok (.bipush 8, 2) := dk_16 8 (dk_at dksX5_washes_0 5 rfl rfl)
theorem dX5_washes_7 : decode cX5_washes 7 = .ok (.iadd, 1) := dk_96 (dk_at dksX5_washes_0 7 rfl rfl)
theorem dX5_washes_8 : decode cX5_washes 8 = .ok (.iload_n 2, 1) := dk_28 (dk_at dksX5_washes_0 8 rfl rfl)
theorem dX5_washes_9 : decode cX5_washes 9 = .ok (.iadd, 1) := dk_96 (dk_at dksX5_washes_0 9 rfl rfl)
theorem dX5_washes_10 : decode cX5_washes 10 = .ok (.iaload, 1) := dk_46 (dk_at dksX5_washes_0 10 rfl rfl)
theorem dX5_washes_11 : decode cX5_washes 11 = .ok (.istore_n 3, 1) := dk_62 (dk_at dksX5_washes_0 11 rfl rfl)
theorem dX5_washes_12 : decode cX5_washes 12 = .ok (.aload_n 0, 1) := dk_42 (dk_at dksX5_washes_0 12 rfl rfl)
theorem dX5_washes_13 : decode cX5_washes 13 = .ok (.getfield 113, 3) := dk_180 0 113 (dk_at dksX5_washes_0 13 rfl rfl)
theorem dX5_washes_16 : decode cX5_washes 16 = .ok (.iload_n 1, 1) := dk_27 (dk_at dksX5_washes_0 16 rfl rfl)
theorem dX5_washes_17 : decode cX5_washes 17 = .ok (.bipush 8, 2) := dk_16 8 (dk_at dksX5_washes_0 17 rfl rfl)
theorem dX5_washes_19 : decode cX5_washes 19 = .ok (.iadd, 1) := dk_96 (dk_at dksX5_washes_0 19 rfl rfl)
theorem dX5_washes_20 : decode cX5_washes 20 = .ok (.iload_n 2, 1) := dk_28 (dk_at dksX5_washes_0 20 rfl rfl)
theorem dX5_washes_21 : decode cX5_washes 21 = .ok (.iadd, 1) := dk_96 (dk_at dksX5_washes_0 21 rfl rfl)
theorem dX5_washes_22 : decode cX5_washes 22 = .ok (.iconst 0, 1) := dk_3 (dk_at dksX5_washes_0 22 rfl rfl)
theorem dX5_washes_23 : decode cX5_washes 23 = .ok (.iastore, 1) := dk_79 (dk_at dksX5_washes_0 23 rfl rfl)
theorem dX5_washes_24 : decode cX5_washes 24 = .ok (.aload_n 0, 1) := dk_42 (dk_at dksX5_washes_1 0 rfl rfl)
theorem dX5_washes_25 : decode cX5_washes 25 = .ok (.getfield 113, 3) := dk_180 0 113 (dk_at dksX5_washes_1 1 rfl rfl)
theorem dX5_washes_28 : decode cX5_washes 28 = .ok (.iload_n 1, 1) := dk_27 (dk_at dksX5_washes_1 4 rfl rfl)
theorem dX5_washes_29 : decode cX5_washes 29 = .ok (.iconst 2, 1) := dk_5 (dk_at dksX5_washes_1 5 rfl rfl)
theorem dX5_washes_30 : decode cX5_washes 30 = .ok (.iadd, 1) := dk_96 (dk_at dksX5_washes_1 6 rfl rfl)
theorem dX5_washes_31 : decode cX5_washes 31 = .ok (.iload_n 2, 1) := dk_28 (dk_at dksX5_washes_1 7 rfl rfl)
theorem dX5_washes_32 : decode cX5_washes 32 = .ok (.iadd, 1) := dk_96 (dk_at dksX5_washes_1 8 rfl rfl)
theorem dX5_washes_33 : decode cX5_washes 33 = .ok (.bipush 9, 2) := dk_16 9 (dk_at dksX5_washes_1 9 rfl rfl)
theorem dX5_washes_35 : decode cX5_washes 35 = .ok (.iastore, 1) := dk_79 (dk_at dksX5_washes_1 11 rfl rfl)
theorem dX5_washes_36 : decode cX5_washes 36 = .ok (.iload_n 3, 1) := dk_29 (dk_at dksX5_washes_1 12 rfl rfl)
theorem dX5_washes_37 : decode cX5_washes 37 = .ok (.ireturn, 1) := dk_172 (dk_at dksX5_washes_1 13 rfl rfl)
abbrev cX5_buy : ByteArray := prog_23_method_80_code
def yX5_buy : MethodName := ⟨RX5, "buy", "(I)I"⟩
def dkwX5_buy_1 : List UInt8 := [160, 0, 5, 2, 172, 42, 182, 1, 114, 42, 3, 27, 182, 1, 120, 172]
abbrev dktX5_buy_1 : List UInt8 := dkwX5_buy_1 ++ []
def dkwX5_buy_0 : List UInt8 := [42, 3, 181, 0, 1, 27, 4, 16, 9, 184, 1, 93, 153, 0, 14, 42, 180, 0, 113, 4, 46, 16, 8]
abbrev dktX5_buy_0 : List UInt8 := dkwX5_buy_0 ++ dktX5_buy_1
theorem dksX5_buy_0 : cX5_buy.data.toList.drop 0 = dktX5_buy_0 := by decide +kernel
theorem dksX5_buy_1 : cX5_buy.data.toList.drop 23 = dktX5_buy_1 := dk_seg dksX5_buy_0 23 rfl rfl
theorem dX5_buy_0 : decode cX5_buy 0 = .ok (.aload_n 0, 1) := dk_42 (dk_at dksX5_buy_0 0 rfl rfl)
theorem dX5_buy_1 : decode cX5_buy 1 = .ok (.iconst 0, 1) := dk_3 (dk_at dksX5_buy_0 1 rfl rfl)
theorem dX5_buy_2 : decode cX5_buy 2 = .ok (.putfield 1, 3) := dk_181 0 1 (dk_at dksX5_buy_0 2 rfl rfl)
theorem dX5_buy_5 : decode cX5_buy 5 = .ok (.iload_n 1, 1) := dk_27 (dk_at dksX5_buy_0 5 rfl rfl)
theorem dX5_buy_6 : decode cX5_buy 6 = .ok (.iconst 1, 1) := dk_4 (dk_at dksX5_buy_0 6 rfl rfl)
theorem dX5_buy_7 : decode cX5_buy 7 = .ok (.bipush 9, 2) := dk_16 9 (dk_at dksX5_buy_0 7 rfl rfl)
theorem dX5_buy_9 : decode cX5_buy 9 = .ok (.invokestatic 349, 3) := dk_184 1 93 (dk_at dksX5_buy_0 9 rfl rfl)
theorem dX5_buy_12 : decode cX5_buy 12 = .ok (.ifCond .eq 14, 3) := dk_153 0 14 (dk_at dksX5_buy_0 12 rfl rfl)
theorem dX5_buy_15 : decode cX5_buy 15 = .ok (.aload_n 0, 1) := dk_42 (dk_at dksX5_buy_0 15 rfl rfl)
theorem dX5_buy_16 : decode cX5_buy 16 = .ok (.getfield 113, 3) := dk_180 0 113 (dk_at dksX5_buy_0 16 rfl rfl)
theorem dX5_buy_19 : decode cX5_buy 19 = .ok (.iconst 1, 1) := dk_4 (dk_at dksX5_buy_0 19 rfl rfl)
theorem dX5_buy_20 : decode cX5_buy 20 = .ok (.iaload, 1) := dk_46 (dk_at dksX5_buy_0 20 rfl rfl)
theorem dX5_buy_21 : decode cX5_buy 21 = .ok (.bipush 8, 2) := dk_16 8 (dk_at dksX5_buy_0 21 rfl rfl)
theorem dX5_buy_23 : decode cX5_buy 23 = .ok (.if_icmp .ne 5, 3) := dk_160 0 5 (dk_at dksX5_buy_1 0 rfl rfl)
theorem dX5_buy_26 : decode cX5_buy 26 = .ok (.iconst (-1), 1) := dk_2 (dk_at dksX5_buy_1 3 rfl rfl)
theorem dX5_buy_27 : decode cX5_buy 27 = .ok (.ireturn, 1) := dk_172 (dk_at dksX5_buy_1 4 rfl rfl)
theorem dX5_buy_28 : decode cX5_buy 28 = .ok (.aload_n 0, 1) := dk_42 (dk_at dksX5_buy_1 5 rfl rfl)
theorem dX5_buy_29 : decode cX5_buy 29 = .ok (.invokevirtual 370, 3) := dk_182 1 114 (dk_at dksX5_buy_1 6 rfl rfl)
theorem dX5_buy_32 : decode cX5_buy 32 = .ok (.aload_n 0, 1) := dk_42 (dk_at dksX5_buy_1 9 rfl rfl)
theorem dX5_buy_33 : decode cX5_buy 33 = .ok (.iconst 0, 1) := dk_3 (dk_at dksX5_buy_1 10 rfl rfl)
theorem dX5_buy_34 : decode cX5_buy 34 = .ok (.iload_n 1, 1) := dk_27 (dk_at dksX5_buy_1 11 rfl rfl)
theorem dX5_buy_35 : decode cX5_buy 35 = .ok (.invokevirtual 376, 3) := dk_182 1 120 (dk_at dksX5_buy_1 12 rfl rfl)
theorem dX5_buy_38 : decode cX5_buy 38 = .ok (.ireturn, 1) := dk_172 (dk_at dksX5_buy_1 15 rfl rfl)
abbrev cX5_buys : ByteArray := prog_23_method_79_code
def yX5_buys : MethodName := ⟨RX5, "buys", "(II)I"⟩
def dkwX5_buys_1 : List UInt8 := [180, 0, 113, 27, 4, 96, 92, 46, 4, 96, 79, 29, 172]
abbrev dktX5_buys_1 : List UInt8 := dkwX5_buys_1 ++ []
def dkwX5_buys_0 : List UInt8 := [42, 180, 0, 113, 27, 4, 96, 46, 62, 42, 180, 0, 113, 27, 16, 20, 96, 29, 96, 28, 79, 42]
abbrev dktX5_buys_0 : List UInt8 := dkwX5_buys_0 ++ dktX5_buys_1
theorem dksX5_buys_0 : cX5_buys.data.toList.drop 0 = dktX5_buys_0 := by decide +kernel
theorem dksX5_buys_1 : cX5_buys.data.toList.drop 22 = dktX5_buys_1 := dk_seg dksX5_buys_0 22 rfl rfl
theorem dX5_buys_0 : decode cX5_buys 0 = .ok (.aload_n 0, 1) := dk_42 (dk_at dksX5_buys_0 0 rfl rfl)
theorem dX5_buys_1 : decode cX5_buys 1 = .ok (.getfield 113, 3) := dk_180 0 113 (dk_at dksX5_buys_0 1 rfl rfl)
theorem dX5_buys_4 : decode cX5_buys 4 = .ok (.iload_n 1, 1) := dk_27 (dk_at dksX5_buys_0 4 rfl rfl)
theorem dX5_buys_5 : decode cX5_buys 5 = .ok (.iconst 1, 1) := dk_4 (dk_at dksX5_buys_0 5 rfl rfl)
theorem dX5_buys_6 : decode cX5_buys 6 = .ok (.iadd, 1) := dk_96 (dk_at dksX5_buys_0 6 rfl rfl)
theorem dX5_buys_7 : decode cX5_buys 7 = .ok (.iaload, 1) := dk_46 (dk_at dksX5_buys_0 7 rfl rfl)
theorem dX5_buys_8 : decode cX5_buys 8 = .ok (.istore_n 3, 1) := dk_62 (dk_at dksX5_buys_0 8 rfl rfl)
theorem dX5_buys_9 : decode cX5_buys 9 = .ok (.aload_n 0, 1) := dk_42 (dk_at dksX5_buys_0 9 rfl rfl)
theorem dX5_buys_10 : decode cX5_buys 10 = .ok (.getfield 113, 3) := dk_180 0 113 (dk_at dksX5_buys_0 10 rfl rfl)
theorem dX5_buys_13 : decode cX5_buys 13 = .ok (.iload_n 1, 1) := dk_27 (dk_at dksX5_buys_0 13 rfl rfl)
theorem dX5_buys_14 : decode cX5_buys 14 = .ok (.bipush 20, 2) := dk_16 20 (dk_at dksX5_buys_0 14 rfl rfl)
theorem dX5_buys_16 : decode cX5_buys 16 = .ok (.iadd, 1) := dk_96 (dk_at dksX5_buys_0 16 rfl rfl)
theorem dX5_buys_17 : decode cX5_buys 17 = .ok (.iload_n 3, 1) := dk_29 (dk_at dksX5_buys_0 17 rfl rfl)
theorem dX5_buys_18 : decode cX5_buys 18 = .ok (.iadd, 1) := dk_96 (dk_at dksX5_buys_0 18 rfl rfl)
theorem dX5_buys_19 : decode cX5_buys 19 = .ok (.iload_n 2, 1) := dk_28 (dk_at dksX5_buys_0 19 rfl rfl)
theorem dX5_buys_20 : decode cX5_buys 20 = .ok (.iastore, 1) := dk_79 (dk_at dksX5_buys_0 20 rfl rfl)
theorem dX5_buys_21 : decode cX5_buys 21 = .ok (.aload_n 0, 1) := dk_42 (dk_at dksX5_buys_0 21 rfl rfl)
theorem dX5_buys_22 : decode cX5_buys 22 = .ok (.getfield 113, 3) := dk_180 0 113 (dk_at dksX5_buys_1 0 rfl rfl)
theorem dX5_buys_25 : decode cX5_buys 25 = .ok (.iload_n 1, 1) := dk_27 (dk_at dksX5_buys_1 3 rfl rfl)
theorem dX5_buys_26 : decode cX5_buys 26 = .ok (.iconst 1, 1) := dk_4 (dk_at dksX5_buys_1 4 rfl rfl)
theorem dX5_buys_27 : decode cX5_buys 27 = .ok (.iadd, 1) := dk_96 (dk_at dksX5_buys_1 5 rfl rfl)
theorem dX5_buys_28 : decode cX5_buys 28 = .ok (.dup2, 1) := dk_92 (dk_at dksX5_buys_1 6 rfl rfl)
theorem dX5_buys_29 : decode cX5_buys 29 = .ok (.iaload, 1) := dk_46 (dk_at dksX5_buys_1 7 rfl rfl)
theorem dX5_buys_30 : decode cX5_buys 30 = .ok (.iconst 1, 1) := dk_4 (dk_at dksX5_buys_1 8 rfl rfl)
theorem dX5_buys_31 : decode cX5_buys 31 = .ok (.iadd, 1) := dk_96 (dk_at dksX5_buys_1 9 rfl rfl)
theorem dX5_buys_32 : decode cX5_buys 32 = .ok (.iastore, 1) := dk_79 (dk_at dksX5_buys_1 10 rfl rfl)
theorem dX5_buys_33 : decode cX5_buys 33 = .ok (.iload_n 3, 1) := dk_29 (dk_at dksX5_buys_1 11 rfl rfl)
theorem dX5_buys_34 : decode cX5_buys 34 = .ok (.ireturn, 1) := dk_172 (dk_at dksX5_buys_1 12 rfl rfl)
abbrev cX5_hour : ByteArray := prog_23_method_81_code
def yX5_hour : MethodName := ⟨RX5, "hour", "()I"⟩
def dkwX5_hour_0 : List UInt8 := [42, 3, 181, 0, 1, 42, 182, 1, 114, 42, 3, 3, 182, 1, 123, 172]
abbrev dktX5_hour_0 : List UInt8 := dkwX5_hour_0 ++ []
theorem dksX5_hour_0 : cX5_hour.data.toList.drop 0 = dktX5_hour_0 := by decide +kernel
theorem dX5_hour_0 : decode cX5_hour 0 = .ok (.aload_n 0, 1) := dk_42 (dk_at dksX5_hour_0 0 rfl rfl)
theorem dX5_hour_1 : decode cX5_hour 1 = .ok (.iconst 0, 1) := dk_3 (dk_at dksX5_hour_0 1 rfl rfl)
theorem dX5_hour_2 : decode cX5_hour 2 = .ok (.putfield 1, 3) := dk_181 0 1 (dk_at dksX5_hour_0 2 rfl rfl)
theorem dX5_hour_5 : decode cX5_hour 5 = .ok (.aload_n 0, 1) := dk_42 (dk_at dksX5_hour_0 5 rfl rfl)
theorem dX5_hour_6 : decode cX5_hour 6 = .ok (.invokevirtual 370, 3) := dk_182 1 114 (dk_at dksX5_hour_0 6 rfl rfl)
theorem dX5_hour_9 : decode cX5_hour 9 = .ok (.aload_n 0, 1) := dk_42 (dk_at dksX5_hour_0 9 rfl rfl)
theorem dX5_hour_10 : decode cX5_hour 10 = .ok (.iconst 0, 1) := dk_3 (dk_at dksX5_hour_0 10 rfl rfl)
theorem dX5_hour_11 : decode cX5_hour 11 = .ok (.iconst 0, 1) := dk_3 (dk_at dksX5_hour_0 11 rfl rfl)
theorem dX5_hour_12 : decode cX5_hour 12 = .ok (.invokevirtual 379, 3) := dk_182 1 123 (dk_at dksX5_hour_0 12 rfl rfl)
theorem dX5_hour_15 : decode cX5_hour 15 = .ok (.ireturn, 1) := dk_172 (dk_at dksX5_hour_0 15 rfl rfl)
abbrev cX5_passes : ByteArray := prog_23_method_65_code
def yX5_passes : MethodName := ⟨RX5, "passes", "(IZ)I"⟩
def dkwX5_passes_5 : List UInt8 := [132, 5, 1, 167, 255, 205, 42, 180, 0, 113, 27, 3, 96, 92, 46, 4, 96, 79, 21, 4, 172]
abbrev dktX5_passes_5 : List UInt8 := dkwX5_passes_5 ++ []
def dkwX5_passes_4 : List UInt8 := [5, 96, 21, 5, 96, 42, 21, 5, 42, 180, 0, 113, 27, 5, 96, 21, 5, 96, 46, 29, 182, 1, 84, 79]
abbrev dktX5_passes_4 : List UInt8 := dkwX5_passes_4 ++ dktX5_passes_5
def dkwX5_passes_3 : List UInt8 := [21, 5, 42, 182, 1, 36, 162, 0, 48, 42, 27, 21, 5, 182, 1, 48, 153, 0, 32, 42, 180, 0, 113, 27]
abbrev dktX5_passes_3 : List UInt8 := dkwX5_passes_3 ++ dktX5_passes_4
def dkwX5_passes_2 : List UInt8 := [182, 1, 80, 153, 0, 7, 4, 167, 0, 4, 3, 96, 54, 4, 132, 5, 1, 167, 255, 213, 3, 54, 5]
abbrev dktX5_passes_2 : List UInt8 := dkwX5_passes_2 ++ dktX5_passes_3
def dkwX5_passes_1 : List UInt8 := [182, 1, 36, 162, 0, 40, 42, 27, 21, 5, 182, 1, 48, 153, 0, 24, 21, 4, 42, 27, 21, 5, 29]
abbrev dktX5_passes_1 : List UInt8 := dkwX5_passes_1 ++ dktX5_passes_2
def dkwX5_passes_0 : List UInt8 := [42, 42, 180, 0, 113, 27, 3, 96, 46, 28, 182, 1, 76, 62, 3, 54, 4, 3, 54, 5, 21, 5, 42]
abbrev dktX5_passes_0 : List UInt8 := dkwX5_passes_0 ++ dktX5_passes_1
theorem dksX5_passes_0 : cX5_passes.data.toList.drop 0 = dktX5_passes_0 := by decide +kernel
theorem dksX5_passes_1 : cX5_passes.data.toList.drop 23 = dktX5_passes_1 := dk_seg dksX5_passes_0 23 rfl rfl
theorem dksX5_passes_2 : cX5_passes.data.toList.drop 46 = dktX5_passes_2 := dk_seg dksX5_passes_1 23 rfl rfl
theorem dksX5_passes_3 : cX5_passes.data.toList.drop 69 = dktX5_passes_3 := dk_seg dksX5_passes_2 23 rfl rfl
theorem dksX5_passes_4 : cX5_passes.data.toList.drop 93 = dktX5_passes_4 := dk_seg dksX5_passes_3 24 rfl rfl
theorem dksX5_passes_5 : cX5_passes.data.toList.drop 117 = dktX5_passes_5 := dk_seg dksX5_passes_4 24 rfl rfl
theorem dX5_passes_0 : decode cX5_passes 0 = .ok (.aload_n 0, 1) := dk_42 (dk_at dksX5_passes_0 0 rfl rfl)
theorem dX5_passes_1 : decode cX5_passes 1 = .ok (.aload_n 0, 1) := dk_42 (dk_at dksX5_passes_0 1 rfl rfl)
theorem dX5_passes_2 : decode cX5_passes 2 = .ok (.getfield 113, 3) := dk_180 0 113 (dk_at dksX5_passes_0 2 rfl rfl)
theorem dX5_passes_5 : decode cX5_passes 5 = .ok (.iload_n 1, 1) := dk_27 (dk_at dksX5_passes_0 5 rfl rfl)
theorem dX5_passes_6 : decode cX5_passes 6 = .ok (.iconst 0, 1) := dk_3 (dk_at dksX5_passes_0 6 rfl rfl)
theorem dX5_passes_7 : decode cX5_passes 7 = .ok (.iadd, 1) := dk_96 (dk_at dksX5_passes_0 7 rfl rfl)
theorem dX5_passes_8 : decode cX5_passes 8 = .ok (.iaload, 1) := dk_46 (dk_at dksX5_passes_0 8 rfl rfl)
theorem dX5_passes_9 : decode cX5_passes 9 = .ok (.iload_n 2, 1) := dk_28 (dk_at dksX5_passes_0 9 rfl rfl)
theorem dX5_passes_10 : decode cX5_passes 10 = .ok (.invokevirtual 332, 3) := dk_182 1 76 (dk_at dksX5_passes_0 10 rfl rfl)
theorem dX5_passes_13 : decode cX5_passes 13 = .ok (.istore_n 3, 1) := dk_62 (dk_at dksX5_passes_0 13 rfl rfl)
theorem dX5_passes_14 : decode cX5_passes 14 = .ok (.iconst 0, 1) := dk_3 (dk_at dksX5_passes_0 14 rfl rfl)
theorem dX5_passes_15 : decode cX5_passes 15 = .ok (.istore 4, 2) := dk_54 4 (dk_at dksX5_passes_0 15 rfl rfl)
theorem dX5_passes_17 : decode cX5_passes 17 = .ok (.iconst 0, 1) := dk_3 (dk_at dksX5_passes_0 17 rfl rfl)
theorem dX5_passes_18 : decode cX5_passes 18 = .ok (.istore 5, 2) := dk_54 5 (dk_at dksX5_passes_0 18 rfl rfl)
theorem dX5_passes_20 : decode cX5_passes 20 = .ok (.iload 5, 2) := dk_21 5 (dk_at dksX5_passes_0 20 rfl rfl)
theorem dX5_passes_22 : decode cX5_passes 22 = .ok (.aload_n 0, 1) := dk_42 (dk_at dksX5_passes_0 22 rfl rfl)
theorem dX5_passes_23 : decode cX5_passes 23 = .ok (.invokevirtual 292, 3) := dk_182 1 36 (dk_at dksX5_passes_1 0 rfl rfl)
theorem dX5_passes_26 : decode cX5_passes 26 = .ok (.if_icmp .ge 40, 3) := dk_162 0 40 (dk_at dksX5_passes_1 3 rfl rfl)
theorem dX5_passes_29 : decode cX5_passes 29 = .ok (.aload_n 0, 1) := dk_42 (dk_at dksX5_passes_1 6 rfl rfl)
theorem dX5_passes_30 : decode cX5_passes 30 = .ok (.iload_n 1, 1) := dk_27 (dk_at dksX5_passes_1 7 rfl rfl)
theorem dX5_passes_31 : decode cX5_passes 31 = .ok (.iload 5, 2) := dk_21 5 (dk_at dksX5_passes_1 8 rfl rfl)
theorem dX5_passes_33 : decode cX5_passes 33 = .ok (.invokevirtual 304, 3) := dk_182 1 48 (dk_at dksX5_passes_1 10 rfl rfl)
theorem dX5_passes_36 : decode cX5_passes 36 = .ok (.ifCond .eq 24, 3) := dk_153 0 24 (dk_at dksX5_passes_1 13 rfl rfl)
theorem dX5_passes_39 : decode cX5_passes 39 = .ok (.iload 4, 2) := dk_21 4 (dk_at dksX5_passes_1 16 rfl rfl)
theorem dX5_passes_41 : decode cX5_passes 41 = .ok (.aload_n 0, 1) := dk_42 (dk_at dksX5_passes_1 18 rfl rfl)
theorem dX5_passes_42 : decode cX5_passes 42 = .ok (.iload_n 1, 1) := dk_27 (dk_at dksX5_passes_1 19 rfl rfl)
theorem dX5_passes_43 : decode cX5_passes 43 = .ok (.iload 5, 2) := dk_21 5 (dk_at dksX5_passes_1 20 rfl rfl)
theorem dX5_passes_45 : decode cX5_passes 45 = .ok (.iload_n 3, 1) := dk_29 (dk_at dksX5_passes_1 22 rfl rfl)
theorem dX5_passes_46 : decode cX5_passes 46 = .ok (.invokevirtual 336, 3) := dk_182 1 80 (dk_at dksX5_passes_2 0 rfl rfl)
theorem dX5_passes_49 : decode cX5_passes 49 = .ok (.ifCond .eq 7, 3) := dk_153 0 7 (dk_at dksX5_passes_2 3 rfl rfl)
theorem dX5_passes_52 : decode cX5_passes 52 = .ok (.iconst 1, 1) := dk_4 (dk_at dksX5_passes_2 6 rfl rfl)
theorem dX5_passes_53 : decode cX5_passes 53 = .ok (.goto 4, 3) := dk_167 0 4 (dk_at dksX5_passes_2 7 rfl rfl)
theorem dX5_passes_56 : decode cX5_passes 56 = .ok (.iconst 0, 1) := dk_3 (dk_at dksX5_passes_2 10 rfl rfl)
theorem dX5_passes_57 : decode cX5_passes 57 = .ok (.iadd, 1) := dk_96 (dk_at dksX5_passes_2 11 rfl rfl)
theorem dX5_passes_58 : decode cX5_passes 58 = .ok (.istore 4, 2) := dk_54 4 (dk_at dksX5_passes_2 12 rfl rfl)
theorem dX5_passes_60 : decode cX5_passes 60 = .ok (.iinc 5 1, 3) := dk_132 5 1 (dk_at dksX5_passes_2 14 rfl rfl)
theorem dX5_passes_63 : decode cX5_passes 63 = .ok (.goto (-43), 3) := dk_167 255 213 (dk_at dksX5_passes_2 17 rfl rfl)
theorem dX5_passes_66 : decode cX5_passes 66 = .ok (.iconst 0, 1) := dk_3 (dk_at dksX5_passes_2 20 rfl rfl)
theorem dX5_passes_67 : decode cX5_passes 67 = .ok (.istore 5, 2) := dk_54 5 (dk_at dksX5_passes_2 21 rfl rfl)
theorem dX5_passes_69 : decode cX5_passes 69 = .ok (.iload 5, 2) := dk_21 5 (dk_at dksX5_passes_3 0 rfl rfl)
theorem dX5_passes_71 : decode cX5_passes 71 = .ok (.aload_n 0, 1) := dk_42 (dk_at dksX5_passes_3 2 rfl rfl)
theorem dX5_passes_72 : decode cX5_passes 72 = .ok (.invokevirtual 292, 3) := dk_182 1 36 (dk_at dksX5_passes_3 3 rfl rfl)
theorem dX5_passes_75 : decode cX5_passes 75 = .ok (.if_icmp .ge 48, 3) := dk_162 0 48 (dk_at dksX5_passes_3 6 rfl rfl)
theorem dX5_passes_78 : decode cX5_passes 78 = .ok (.aload_n 0, 1) := dk_42 (dk_at dksX5_passes_3 9 rfl rfl)
theorem dX5_passes_79 : decode cX5_passes 79 = .ok (.iload_n 1, 1) := dk_27 (dk_at dksX5_passes_3 10 rfl rfl)
theorem dX5_passes_80 : decode cX5_passes 80 = .ok (.iload 5, 2) := dk_21 5 (dk_at dksX5_passes_3 11 rfl rfl)
theorem dX5_passes_82 : decode cX5_passes 82 = .ok (.invokevirtual 304, 3) := dk_182 1 48 (dk_at dksX5_passes_3 13 rfl rfl)
theorem dX5_passes_85 : decode cX5_passes 85 = .ok (.ifCond .eq 32, 3) := dk_153 0 32 (dk_at dksX5_passes_3 16 rfl rfl)
theorem dX5_passes_88 : decode cX5_passes 88 = .ok (.aload_n 0, 1) := dk_42 (dk_at dksX5_passes_3 19 rfl rfl)
theorem dX5_passes_89 : decode cX5_passes 89 = .ok (.getfield 113, 3) := dk_180 0 113 (dk_at dksX5_passes_3 20 rfl rfl)
theorem dX5_passes_92 : decode cX5_passes 92 = .ok (.iload_n 1, 1) := dk_27 (dk_at dksX5_passes_3 23 rfl rfl)
theorem dX5_passes_93 : decode cX5_passes 93 = .ok (.iconst 2, 1) := dk_5 (dk_at dksX5_passes_4 0 rfl rfl)
theorem dX5_passes_94 : decode cX5_passes 94 = .ok (.iadd, 1) := dk_96 (dk_at dksX5_passes_4 1 rfl rfl)
theorem dX5_passes_95 : decode cX5_passes 95 = .ok (.iload 5, 2) := dk_21 5 (dk_at dksX5_passes_4 2 rfl rfl)
theorem dX5_passes_97 : decode cX5_passes 97 = .ok (.iadd, 1) := dk_96 (dk_at dksX5_passes_4 4 rfl rfl)
theorem dX5_passes_98 : decode cX5_passes 98 = .ok (.aload_n 0, 1) := dk_42 (dk_at dksX5_passes_4 5 rfl rfl)
theorem dX5_passes_99 : decode cX5_passes 99 = .ok (.iload 5, 2) := dk_21 5 (dk_at dksX5_passes_4 6 rfl rfl)
theorem dX5_passes_101 : decode cX5_passes 101 = .ok (.aload_n 0, 1) := dk_42 (dk_at dksX5_passes_4 8 rfl rfl)
theorem dX5_passes_102 : decode cX5_passes 102 = .ok (.getfield 113, 3) := dk_180 0 113 (dk_at dksX5_passes_4 9 rfl rfl)
theorem dX5_passes_105 : decode cX5_passes 105 = .ok (.iload_n 1, 1) := dk_27 (dk_at dksX5_passes_4 12 rfl rfl)
theorem dX5_passes_106 : decode cX5_passes 106 = .ok (.iconst 2, 1) := dk_5 (dk_at dksX5_passes_4 13 rfl rfl)
theorem dX5_passes_107 : decode cX5_passes 107 = .ok (.iadd, 1) := dk_96 (dk_at dksX5_passes_4 14 rfl rfl)
theorem dX5_passes_108 : decode cX5_passes 108 = .ok (.iload 5, 2) := dk_21 5 (dk_at dksX5_passes_4 15 rfl rfl)
theorem dX5_passes_110 : decode cX5_passes 110 = .ok (.iadd, 1) := dk_96 (dk_at dksX5_passes_4 17 rfl rfl)
theorem dX5_passes_111 : decode cX5_passes 111 = .ok (.iaload, 1) := dk_46 (dk_at dksX5_passes_4 18 rfl rfl)
theorem dX5_passes_112 : decode cX5_passes 112 = .ok (.iload_n 3, 1) := dk_29 (dk_at dksX5_passes_4 19 rfl rfl)
theorem dX5_passes_113 : decode cX5_passes 113 = .ok (.invokevirtual 340, 3) := dk_182 1 84 (dk_at dksX5_passes_4 20 rfl rfl)
theorem dX5_passes_116 : decode cX5_passes 116 = .ok (.iastore, 1) := dk_79 (dk_at dksX5_passes_4 23 rfl rfl)
theorem dX5_passes_117 : decode cX5_passes 117 = .ok (.iinc 5 1, 3) := dk_132 5 1 (dk_at dksX5_passes_5 0 rfl rfl)
theorem dX5_passes_120 : decode cX5_passes 120 = .ok (.goto (-51), 3) := dk_167 255 205 (dk_at dksX5_passes_5 3 rfl rfl)
theorem dX5_passes_123 : decode cX5_passes 123 = .ok (.aload_n 0, 1) := dk_42 (dk_at dksX5_passes_5 6 rfl rfl)
theorem dX5_passes_124 : decode cX5_passes 124 = .ok (.getfield 113, 3) := dk_180 0 113 (dk_at dksX5_passes_5 7 rfl rfl)
theorem dX5_passes_127 : decode cX5_passes 127 = .ok (.iload_n 1, 1) := dk_27 (dk_at dksX5_passes_5 10 rfl rfl)
theorem dX5_passes_128 : decode cX5_passes 128 = .ok (.iconst 0, 1) := dk_3 (dk_at dksX5_passes_5 11 rfl rfl)
theorem dX5_passes_129 : decode cX5_passes 129 = .ok (.iadd, 1) := dk_96 (dk_at dksX5_passes_5 12 rfl rfl)
theorem dX5_passes_130 : decode cX5_passes 130 = .ok (.dup2, 1) := dk_92 (dk_at dksX5_passes_5 13 rfl rfl)
theorem dX5_passes_131 : decode cX5_passes 131 = .ok (.iaload, 1) := dk_46 (dk_at dksX5_passes_5 14 rfl rfl)
theorem dX5_passes_132 : decode cX5_passes 132 = .ok (.iconst 1, 1) := dk_4 (dk_at dksX5_passes_5 15 rfl rfl)
theorem dX5_passes_133 : decode cX5_passes 133 = .ok (.iadd, 1) := dk_96 (dk_at dksX5_passes_5 16 rfl rfl)
theorem dX5_passes_134 : decode cX5_passes 134 = .ok (.iastore, 1) := dk_79 (dk_at dksX5_passes_5 17 rfl rfl)
theorem dX5_passes_135 : decode cX5_passes 135 = .ok (.iload 4, 2) := dk_21 4 (dk_at dksX5_passes_5 18 rfl rfl)
theorem dX5_passes_137 : decode cX5_passes 137 = .ok (.ireturn, 1) := dk_172 (dk_at dksX5_passes_5 20 rfl rfl)
abbrev cX5_pulls : ByteArray := prog_23_method_64_code
def yX5_pulls : MethodName := ⟨RX5, "pulls", "(III)Z"⟩
def dkwX5_pulls_4 : List UInt8 := [27, 16, 14, 96, 28, 96, 46, 154, 0, 11, 42, 27, 28, 182, 1, 73, 4, 172, 3, 172]
abbrev dktX5_pulls_4 : List UInt8 := dkwX5_pulls_4 ++ []
def dkwX5_pulls_3 : List UInt8 := [16, 14, 96, 28, 96, 42, 27, 21, 4, 182, 1, 70, 79, 21, 5, 21, 6, 163, 0, 17, 42, 180, 0, 113]
abbrev dktX5_pulls_3 : List UInt8 := dkwX5_pulls_3 ++ dktX5_pulls_4
def dkwX5_pulls_2 : List UInt8 := [163, 0, 5, 3, 172, 42, 27, 21, 4, 182, 1, 67, 21, 5, 21, 6, 163, 0, 21, 42, 180, 0, 113, 27]
abbrev dktX5_pulls_2 : List UInt8 := dkwX5_pulls_2 ++ dktX5_pulls_3
def dkwX5_pulls_1 : List UInt8 := [46, 29, 182, 1, 61, 54, 5, 42, 27, 21, 4, 182, 1, 64, 54, 6, 5, 21, 5, 104, 21, 6]
abbrev dktX5_pulls_1 : List UInt8 := dkwX5_pulls_1 ++ dktX5_pulls_2
def dkwX5_pulls_0 : List UInt8 := [42, 180, 0, 113, 27, 16, 14, 96, 28, 96, 46, 54, 4, 42, 28, 42, 180, 0, 113, 27, 5, 96, 28, 96]
abbrev dktX5_pulls_0 : List UInt8 := dkwX5_pulls_0 ++ dktX5_pulls_1
theorem dksX5_pulls_0 : cX5_pulls.data.toList.drop 0 = dktX5_pulls_0 := by decide +kernel
theorem dksX5_pulls_1 : cX5_pulls.data.toList.drop 24 = dktX5_pulls_1 := dk_seg dksX5_pulls_0 24 rfl rfl
theorem dksX5_pulls_2 : cX5_pulls.data.toList.drop 46 = dktX5_pulls_2 := dk_seg dksX5_pulls_1 22 rfl rfl
theorem dksX5_pulls_3 : cX5_pulls.data.toList.drop 70 = dktX5_pulls_3 := dk_seg dksX5_pulls_2 24 rfl rfl
theorem dksX5_pulls_4 : cX5_pulls.data.toList.drop 94 = dktX5_pulls_4 := dk_seg dksX5_pulls_3 24 rfl rfl
theorem dX5_pulls_0 : decode cX5_pulls 0 = .ok (.aload_n 0, 1) := dk_42 (dk_at dksX5_pulls_0 0 rfl rfl)
theorem dX5_pulls_1 : decode cX5_pulls 1 = .ok (.getfield 113, 3) := dk_180 0 113 (dk_at dksX5_pulls_0 1 rfl rfl)
theorem dX5_pulls_4 : decode cX5_pulls 4 = .ok (.iload_n 1, 1) := dk_27 (dk_at dksX5_pulls_0 4 rfl rfl)
theorem dX5_pulls_5 : decode cX5_pulls 5 = .ok (.bipush 14, 2) := dk_16 14 (dk_at dksX5_pulls_0 5 rfl rfl)
theorem dX5_pulls_7 : decode cX5_pulls 7 = .ok (.iadd, 1) := dk_96 (dk_at dksX5_pulls_0 7 rfl rfl)
theorem dX5_pulls_8 : decode cX5_pulls 8 = .ok (.iload_n 2, 1) := dk_28 (dk_at dksX5_pulls_0 8 rfl rfl)
theorem dX5_pulls_9 : decode cX5_pulls 9 = .ok (.iadd, 1) := dk_96 (dk_at dksX5_pulls_0 9 rfl rfl)
theorem dX5_pulls_10 : decode cX5_pulls 10 = .ok (.iaload, 1) := dk_46 (dk_at dksX5_pulls_0 10 rfl rfl)
theorem dX5_pulls_11 : decode cX5_pulls 11 = .ok (.istore 4, 2) := dk_54 4 (dk_at dksX5_pulls_0 11 rfl rfl)
theorem dX5_pulls_13 : decode cX5_pulls 13 = .ok (.aload_n 0, 1) := dk_42 (dk_at dksX5_pulls_0 13 rfl rfl)
theorem dX5_pulls_14 : decode cX5_pulls 14 = .ok (.iload_n 2, 1) := dk_28 (dk_at dksX5_pulls_0 14 rfl rfl)
theorem dX5_pulls_15 : decode cX5_pulls 15 = .ok (.aload_n 0, 1) := dk_42 (dk_at dksX5_pulls_0 15 rfl rfl)
theorem dX5_pulls_16 : decode cX5_pulls 16 = .ok (.getfield 113, 3) := dk_180 0 113 (dk_at dksX5_pulls_0 16 rfl rfl)
theorem dX5_pulls_19 : decode cX5_pulls 19 = .ok (.iload_n 1, 1) := dk_27 (dk_at dksX5_pulls_0 19 rfl rfl)
theorem dX5_pulls_20 : decode cX5_pulls 20 = .ok (.iconst 2, 1) := dk_5 (dk_at dksX5_pulls_0 20 rfl rfl)
theorem dX5_pulls_21 : decode cX5_pulls 21 = .ok (.iadd, 1) := dk_96 (dk_at dksX5_pulls_0 21 rfl rfl)
theorem dX5_pulls_22 : decode cX5_pulls 22 = .ok (.iload_n 2, 1) := dk_28 (dk_at dksX5_pulls_0 22 rfl rfl)
theorem dX5_pulls_23 : decode cX5_pulls 23 = .ok (.iadd, 1) := dk_96 (dk_at dksX5_pulls_0 23 rfl rfl)
theorem dX5_pulls_24 : decode cX5_pulls 24 = .ok (.iaload, 1) := dk_46 (dk_at dksX5_pulls_1 0 rfl rfl)
theorem dX5_pulls_25 : decode cX5_pulls 25 = .ok (.iload_n 3, 1) := dk_29 (dk_at dksX5_pulls_1 1 rfl rfl)
theorem dX5_pulls_26 : decode cX5_pulls 26 = .ok (.invokevirtual 317, 3) := dk_182 1 61 (dk_at dksX5_pulls_1 2 rfl rfl)
theorem dX5_pulls_29 : decode cX5_pulls 29 = .ok (.istore 5, 2) := dk_54 5 (dk_at dksX5_pulls_1 5 rfl rfl)
theorem dX5_pulls_31 : decode cX5_pulls 31 = .ok (.aload_n 0, 1) := dk_42 (dk_at dksX5_pulls_1 7 rfl rfl)
theorem dX5_pulls_32 : decode cX5_pulls 32 = .ok (.iload_n 1, 1) := dk_27 (dk_at dksX5_pulls_1 8 rfl rfl)
theorem dX5_pulls_33 : decode cX5_pulls 33 = .ok (.iload 4, 2) := dk_21 4 (dk_at dksX5_pulls_1 9 rfl rfl)
theorem dX5_pulls_35 : decode cX5_pulls 35 = .ok (.invokevirtual 320, 3) := dk_182 1 64 (dk_at dksX5_pulls_1 11 rfl rfl)
theorem dX5_pulls_38 : decode cX5_pulls 38 = .ok (.istore 6, 2) := dk_54 6 (dk_at dksX5_pulls_1 14 rfl rfl)
theorem dX5_pulls_40 : decode cX5_pulls 40 = .ok (.iconst 2, 1) := dk_5 (dk_at dksX5_pulls_1 16 rfl rfl)
theorem dX5_pulls_41 : decode cX5_pulls 41 = .ok (.iload 5, 2) := dk_21 5 (dk_at dksX5_pulls_1 17 rfl rfl)
theorem dX5_pulls_43 : decode cX5_pulls 43 = .ok (.imul, 1) := dk_104 (dk_at dksX5_pulls_1 19 rfl rfl)
theorem dX5_pulls_44 : decode cX5_pulls 44 = .ok (.iload 6, 2) := dk_21 6 (dk_at dksX5_pulls_1 20 rfl rfl)
theorem dX5_pulls_46 : decode cX5_pulls 46 = .ok (.if_icmp .gt 5, 3) := dk_163 0 5 (dk_at dksX5_pulls_2 0 rfl rfl)
theorem dX5_pulls_49 : decode cX5_pulls 49 = .ok (.iconst 0, 1) := dk_3 (dk_at dksX5_pulls_2 3 rfl rfl)
theorem dX5_pulls_50 : decode cX5_pulls 50 = .ok (.ireturn, 1) := dk_172 (dk_at dksX5_pulls_2 4 rfl rfl)
theorem dX5_pulls_51 : decode cX5_pulls 51 = .ok (.aload_n 0, 1) := dk_42 (dk_at dksX5_pulls_2 5 rfl rfl)
theorem dX5_pulls_52 : decode cX5_pulls 52 = .ok (.iload_n 1, 1) := dk_27 (dk_at dksX5_pulls_2 6 rfl rfl)
theorem dX5_pulls_53 : decode cX5_pulls 53 = .ok (.iload 4, 2) := dk_21 4 (dk_at dksX5_pulls_2 7 rfl rfl)
theorem dX5_pulls_55 : decode cX5_pulls 55 = .ok (.invokevirtual 323, 3) := dk_182 1 67 (dk_at dksX5_pulls_2 9 rfl rfl)
theorem dX5_pulls_58 : decode cX5_pulls 58 = .ok (.iload 5, 2) := dk_21 5 (dk_at dksX5_pulls_2 12 rfl rfl)
theorem dX5_pulls_60 : decode cX5_pulls 60 = .ok (.iload 6, 2) := dk_21 6 (dk_at dksX5_pulls_2 14 rfl rfl)
theorem dX5_pulls_62 : decode cX5_pulls 62 = .ok (.if_icmp .gt 21, 3) := dk_163 0 21 (dk_at dksX5_pulls_2 16 rfl rfl)
theorem dX5_pulls_65 : decode cX5_pulls 65 = .ok (.aload_n 0, 1) := dk_42 (dk_at dksX5_pulls_2 19 rfl rfl)
theorem dX5_pulls_66 : decode cX5_pulls 66 = .ok (.getfield 113, 3) := dk_180 0 113 (dk_at dksX5_pulls_2 20 rfl rfl)
theorem dX5_pulls_69 : decode cX5_pulls 69 = .ok (.iload_n 1, 1) := dk_27 (dk_at dksX5_pulls_2 23 rfl rfl)
theorem dX5_pulls_70 : decode cX5_pulls 70 = .ok (.bipush 14, 2) := dk_16 14 (dk_at dksX5_pulls_3 0 rfl rfl)
theorem dX5_pulls_72 : decode cX5_pulls 72 = .ok (.iadd, 1) := dk_96 (dk_at dksX5_pulls_3 2 rfl rfl)
theorem dX5_pulls_73 : decode cX5_pulls 73 = .ok (.iload_n 2, 1) := dk_28 (dk_at dksX5_pulls_3 3 rfl rfl)
theorem dX5_pulls_74 : decode cX5_pulls 74 = .ok (.iadd, 1) := dk_96 (dk_at dksX5_pulls_3 4 rfl rfl)
theorem dX5_pulls_75 : decode cX5_pulls 75 = .ok (.aload_n 0, 1) := dk_42 (dk_at dksX5_pulls_3 5 rfl rfl)
theorem dX5_pulls_76 : decode cX5_pulls 76 = .ok (.iload_n 1, 1) := dk_27 (dk_at dksX5_pulls_3 6 rfl rfl)
theorem dX5_pulls_77 : decode cX5_pulls 77 = .ok (.iload 4, 2) := dk_21 4 (dk_at dksX5_pulls_3 7 rfl rfl)
theorem dX5_pulls_79 : decode cX5_pulls 79 = .ok (.invokevirtual 326, 3) := dk_182 1 70 (dk_at dksX5_pulls_3 9 rfl rfl)
theorem dX5_pulls_82 : decode cX5_pulls 82 = .ok (.iastore, 1) := dk_79 (dk_at dksX5_pulls_3 12 rfl rfl)
theorem dX5_pulls_83 : decode cX5_pulls 83 = .ok (.iload 5, 2) := dk_21 5 (dk_at dksX5_pulls_3 13 rfl rfl)
theorem dX5_pulls_85 : decode cX5_pulls 85 = .ok (.iload 6, 2) := dk_21 6 (dk_at dksX5_pulls_3 15 rfl rfl)
theorem dX5_pulls_87 : decode cX5_pulls 87 = .ok (.if_icmp .gt 17, 3) := dk_163 0 17 (dk_at dksX5_pulls_3 17 rfl rfl)
theorem dX5_pulls_90 : decode cX5_pulls 90 = .ok (.aload_n 0, 1) := dk_42 (dk_at dksX5_pulls_3 20 rfl rfl)
theorem dX5_pulls_91 : decode cX5_pulls 91 = .ok (.getfield 113, 3) := dk_180 0 113 (dk_at dksX5_pulls_3 21 rfl rfl)
theorem dX5_pulls_94 : decode cX5_pulls 94 = .ok (.iload_n 1, 1) := dk_27 (dk_at dksX5_pulls_4 0 rfl rfl)
theorem dX5_pulls_95 : decode cX5_pulls 95 = .ok (.bipush 14, 2) := dk_16 14 (dk_at dksX5_pulls_4 1 rfl rfl)
theorem dX5_pulls_97 : decode cX5_pulls 97 = .ok (.iadd, 1) := dk_96 (dk_at dksX5_pulls_4 3 rfl rfl)
theorem dX5_pulls_98 : decode cX5_pulls 98 = .ok (.iload_n 2, 1) := dk_28 (dk_at dksX5_pulls_4 4 rfl rfl)
theorem dX5_pulls_99 : decode cX5_pulls 99 = .ok (.iadd, 1) := dk_96 (dk_at dksX5_pulls_4 5 rfl rfl)
theorem dX5_pulls_100 : decode cX5_pulls 100 = .ok (.iaload, 1) := dk_46 (dk_at dksX5_pulls_4 6 rfl rfl)
theorem dX5_pulls_101 : decode cX5_pulls 101 = .ok (.ifCond .ne 11, 3) := dk_154 0 11 (dk_at dksX5_pulls_4 7 rfl rfl)
theorem dX5_pulls_104 : decode cX5_pulls 104 = .ok (.aload_n 0, 1) := dk_42 (dk_at dksX5_pulls_4 10 rfl rfl)
theorem dX5_pulls_105 : decode cX5_pulls 105 = .ok (.iload_n 1, 1) := dk_27 (dk_at dksX5_pulls_4 11 rfl rfl)
theorem dX5_pulls_106 : decode cX5_pulls 106 = .ok (.iload_n 2, 1) := dk_28 (dk_at dksX5_pulls_4 12 rfl rfl)
theorem dX5_pulls_107 : decode cX5_pulls 107 = .ok (.invokevirtual 329, 3) := dk_182 1 73 (dk_at dksX5_pulls_4 13 rfl rfl)
theorem dX5_pulls_110 : decode cX5_pulls 110 = .ok (.iconst 1, 1) := dk_4 (dk_at dksX5_pulls_4 16 rfl rfl)
theorem dX5_pulls_111 : decode cX5_pulls 111 = .ok (.ireturn, 1) := dk_172 (dk_at dksX5_pulls_4 17 rfl rfl)
theorem dX5_pulls_112 : decode cX5_pulls 112 = .ok (.iconst 0, 1) := dk_3 (dk_at dksX5_pulls_4 18 rfl rfl)
theorem dX5_pulls_113 : decode cX5_pulls 113 = .ok (.ireturn, 1) := dk_172 (dk_at dksX5_pulls_4 19 rfl rfl)
abbrev cX5_gripsOf : ByteArray := prog_23_method_60_code
def yX5_gripsOf : MethodName := ⟨RX5, "gripsOf", "(II)I"⟩
def dkwX5_gripsOf_2 : List UInt8 := [172]
abbrev dktX5_gripsOf_2 : List UInt8 := dkwX5_gripsOf_2 ++ []
def dkwX5_gripsOf_1 : List UInt8 := [180, 0, 113, 27, 16, 20, 96, 21, 4, 96, 46, 167, 0, 4, 3, 96, 62, 132, 4, 1, 167, 255, 217, 29]
abbrev dktX5_gripsOf_1 : List UInt8 := dkwX5_gripsOf_1 ++ dktX5_gripsOf_2
def dkwX5_gripsOf_0 : List UInt8 := [3, 62, 3, 54, 4, 21, 4, 16, 8, 162, 0, 38, 29, 28, 21, 4, 122, 4, 126, 4, 160, 0, 18, 42]
abbrev dktX5_gripsOf_0 : List UInt8 := dkwX5_gripsOf_0 ++ dktX5_gripsOf_1
theorem dksX5_gripsOf_0 : cX5_gripsOf.data.toList.drop 0 = dktX5_gripsOf_0 := by decide +kernel
theorem dksX5_gripsOf_1 : cX5_gripsOf.data.toList.drop 24 = dktX5_gripsOf_1 := dk_seg dksX5_gripsOf_0 24 rfl rfl
theorem dksX5_gripsOf_2 : cX5_gripsOf.data.toList.drop 48 = dktX5_gripsOf_2 := dk_seg dksX5_gripsOf_1 24 rfl rfl
theorem dX5_gripsOf_0 : decode cX5_gripsOf 0 = .ok (.iconst 0, 1) := dk_3 (dk_at dksX5_gripsOf_0 0 rfl rfl)
theorem dX5_gripsOf_1 : decode cX5_gripsOf 1 = .ok (.istore_n 3, 1) := dk_62 (dk_at dksX5_gripsOf_0 1 rfl rfl)
theorem dX5_gripsOf_2 : decode cX5_gripsOf 2 = .ok (.iconst 0, 1) := dk_3 (dk_at dksX5_gripsOf_0 2 rfl rfl)
theorem dX5_gripsOf_3 : decode cX5_gripsOf 3 = .ok (.istore 4, 2) := dk_54 4 (dk_at dksX5_gripsOf_0 3 rfl rfl)
theorem dX5_gripsOf_5 : decode cX5_gripsOf 5 = .ok (.iload 4, 2) := dk_21 4 (dk_at dksX5_gripsOf_0 5 rfl rfl)
theorem dX5_gripsOf_7 : decode cX5_gripsOf 7 = .ok (.bipush 8, 2) := dk_16 8 (dk_at dksX5_gripsOf_0 7 rfl rfl)
theorem dX5_gripsOf_9 : decode cX5_gripsOf 9 = .ok (.if_icmp .ge 38, 3) := dk_162 0 38 (dk_at dksX5_gripsOf_0 9 rfl rfl)
theorem dX5_gripsOf_12 : decode cX5_gripsOf 12 = .ok (.iload_n 3, 1) := dk_29 (dk_at dksX5_gripsOf_0 12 rfl rfl)
theorem dX5_gripsOf_13 : decode cX5_gripsOf 13 = .ok (.iload_n 2, 1) := dk_28 (dk_at dksX5_gripsOf_0 13 rfl rfl)
theorem dX5_gripsOf_14 : decode cX5_gripsOf 14 = .ok (.iload 4, 2) := dk_21 4 (dk_at dksX5_gripsOf_0 14 rfl rfl)
theorem dX5_gripsOf_16 : decode cX5_gripsOf 16 = .ok (.ishr, 1) := dk_122 (dk_at dksX5_gripsOf_0 16 rfl rfl)
theorem dX5_gripsOf_17 : decode cX5_gripsOf 17 = .ok (.iconst 1, 1) := dk_4 (dk_at dksX5_gripsOf_0 17 rfl rfl)
theorem dX5_gripsOf_18 : decode cX5_gripsOf 18 = .ok (.iand, 1) := dk_126 (dk_at dksX5_gripsOf_0 18 rfl rfl)
theorem dX5_gripsOf_19 : decode cX5_gripsOf 19 = .ok (.iconst 1, 1) := dk_4 (dk_at dksX5_gripsOf_0 19 rfl rfl)
theorem dX5_gripsOf_20 : decode cX5_gripsOf 20 = .ok (.if_icmp .ne 18, 3) := dk_160 0 18 (dk_at dksX5_gripsOf_0 20 rfl rfl)
theorem dX5_gripsOf_23 : decode cX5_gripsOf 23 = .ok (.aload_n 0, 1) := dk_42 (dk_at dksX5_gripsOf_0 23 rfl rfl)
theorem dX5_gripsOf_24 : decode cX5_gripsOf 24 = .ok (.getfield 113, 3) := dk_180 0 113 (dk_at dksX5_gripsOf_1 0 rfl rfl)
theorem dX5_gripsOf_27 : decode cX5_gripsOf 27 = .ok (.iload_n 1, 1) := dk_27 (dk_at dksX5_gripsOf_1 3 rfl rfl)
theorem dX5_gripsOf_28 : decode cX5_gripsOf 28 = .ok (.bipush 20, 2) := dk_16 20 (dk_at dksX5_gripsOf_1 4 rfl rfl)
theorem dX5_gripsOf_30 : decode cX5_gripsOf 30 = .ok (.iadd, 1) := dk_96 (dk_at dksX5_gripsOf_1 6 rfl rfl)
theorem dX5_gripsOf_31 : decode cX5_gripsOf 31 = .ok (.iload 4, 2) := dk_21 4 (dk_at dksX5_gripsOf_1 7 rfl rfl)
theorem dX5_gripsOf_33 : decode cX5_gripsOf 33 = .ok (.iadd, 1) := dk_96 (dk_at dksX5_gripsOf_1 9 rfl rfl)
theorem dX5_gripsOf_34 : decode cX5_gripsOf 34 = .ok (.iaload, 1) := dk_46 (dk_at dksX5_gripsOf_1 10 rfl rfl)
theorem dX5_gripsOf_35 : decode cX5_gripsOf 35 = .ok (.goto 4, 3) := dk_167 0 4 (dk_at dksX5_gripsOf_1 11 rfl rfl)
theorem dX5_gripsOf_38 : decode cX5_gripsOf 38 = .ok (.iconst 0, 1) := dk_3 (dk_at dksX5_gripsOf_1 14 rfl rfl)
theorem dX5_gripsOf_39 : decode cX5_gripsOf 39 = .ok (.iadd, 1) := dk_96 (dk_at dksX5_gripsOf_1 15 rfl rfl)
theorem dX5_gripsOf_40 : decode cX5_gripsOf 40 = .ok (.istore_n 3, 1) := dk_62 (dk_at dksX5_gripsOf_1 16 rfl rfl)
theorem dX5_gripsOf_41 : decode cX5_gripsOf 41 = .ok (.iinc 4 1, 3) := dk_132 4 1 (dk_at dksX5_gripsOf_1 17 rfl rfl)
theorem dX5_gripsOf_44 : decode cX5_gripsOf 44 = .ok (.goto (-39), 3) := dk_167 255 217 (dk_at dksX5_gripsOf_1 20 rfl rfl)
theorem dX5_gripsOf_47 : decode cX5_gripsOf 47 = .ok (.iload_n 3, 1) := dk_29 (dk_at dksX5_gripsOf_1 23 rfl rfl)
theorem dX5_gripsOf_48 : decode cX5_gripsOf 48 = .ok (.ireturn, 1) := dk_172 (dk_at dksX5_gripsOf_2 0 rfl rfl)
abbrev cX5_loosens : ByteArray := prog_23_method_62_code
def yX5_loosens : MethodName := ⟨RX5, "loosens", "(II)V"⟩
def dkwX5_loosens_2 : List UInt8 := [100, 79, 132, 3, 1, 167, 255, 205, 177]
abbrev dktX5_loosens_2 : List UInt8 := dkwX5_loosens_2 ++ []
def dkwX5_loosens_1 : List UInt8 := [126, 4, 160, 0, 21, 42, 180, 0, 113, 27, 16, 20, 96, 29, 96, 46, 158, 0, 7, 4, 167, 0, 4, 3]
abbrev dktX5_loosens_1 : List UInt8 := dkwX5_loosens_1 ++ dktX5_loosens_2
def dkwX5_loosens_0 : List UInt8 := [3, 62, 29, 16, 8, 162, 0, 51, 42, 180, 0, 113, 27, 16, 20, 96, 29, 96, 92, 46, 28, 29, 122, 4]
abbrev dktX5_loosens_0 : List UInt8 := dkwX5_loosens_0 ++ dktX5_loosens_1
theorem dksX5_loosens_0 : cX5_loosens.data.toList.drop 0 = dktX5_loosens_0 := by decide +kernel
theorem dksX5_loosens_1 : cX5_loosens.data.toList.drop 24 = dktX5_loosens_1 := dk_seg dksX5_loosens_0 24 rfl rfl
theorem dksX5_loosens_2 : cX5_loosens.data.toList.drop 48 = dktX5_loosens_2 := dk_seg dksX5_loosens_1 24 rfl rfl
theorem dX5_loosens_0 : decode cX5_loosens 0 = .ok (.iconst 0, 1) := dk_3 (dk_at dksX5_loosens_0 0 rfl rfl)
theorem dX5_loosens_1 : decode cX5_loosens 1 = .ok (.istore_n 3, 1) := dk_62 (dk_at dksX5_loosens_0 1 rfl rfl)
theorem dX5_loosens_2 : decode cX5_loosens 2 = .ok (.iload_n 3, 1) := dk_29 (dk_at dksX5_loosens_0 2 rfl rfl)
theorem dX5_loosens_3 : decode cX5_loosens 3 = .ok (.bipush 8, 2) := dk_16 8 (dk_at dksX5_loosens_0 3 rfl rfl)
theorem dX5_loosens_5 : decode cX5_loosens 5 = .ok (.if_icmp .ge 51, 3) := dk_162 0 51 (dk_at dksX5_loosens_0 5 rfl rfl)
theorem dX5_loosens_8 : decode cX5_loosens 8 = .ok (.aload_n 0, 1) := dk_42 (dk_at dksX5_loosens_0 8 rfl rfl)
theorem dX5_loosens_9 : decode cX5_loosens 9 = .ok (.getfield 113, 3) := dk_180 0 113 (dk_at dksX5_loosens_0 9 rfl rfl)
theorem dX5_loosens_12 : decode cX5_loosens 12 = .ok (.iload_n 1, 1) := dk_27 (dk_at dksX5_loosens_0 12 rfl rfl)
theorem dX5_loosens_13 : decode cX5_loosens 13 = .ok (.bipush 20, 2) := dk_16 20 (dk_at dksX5_loosens_0 13 rfl rfl)
theorem dX5_loosens_15 : decode cX5_loosens 15 = .ok (.iadd, 1) := dk_96 (dk_at dksX5_loosens_0 15 rfl rfl)
theorem dX5_loosens_16 : decode cX5_loosens 16 = .ok (.iload_n 3, 1) := dk_29 (dk_at dksX5_loosens_0 16 rfl rfl)
theorem dX5_loosens_17 : decode cX5_loosens 17 = .ok (.iadd, 1) := dk_96 (dk_at dksX5_loosens_0 17 rfl rfl)
theorem dX5_loosens_18 : decode cX5_loosens 18 = .ok (.dup2, 1) := dk_92 (dk_at dksX5_loosens_0 18 rfl rfl)
theorem dX5_loosens_19 : decode cX5_loosens 19 = .ok (.iaload, 1) := dk_46 (dk_at dksX5_loosens_0 19 rfl rfl)
theorem dX5_loosens_20 : decode cX5_loosens 20 = .ok (.iload_n 2, 1) := dk_28 (dk_at dksX5_loosens_0 20 rfl rfl)
theorem dX5_loosens_21 : decode cX5_loosens 21 = .ok (.iload_n 3, 1) := dk_29 (dk_at dksX5_loosens_0 21 rfl rfl)
theorem dX5_loosens_22 : decode cX5_loosens 22 = .ok (.ishr, 1) := dk_122 (dk_at dksX5_loosens_0 22 rfl rfl)
theorem dX5_loosens_23 : decode cX5_loosens 23 = .ok (.iconst 1, 1) := dk_4 (dk_at dksX5_loosens_0 23 rfl rfl)
theorem dX5_loosens_24 : decode cX5_loosens 24 = .ok (.iand, 1) := dk_126 (dk_at dksX5_loosens_1 0 rfl rfl)
theorem dX5_loosens_25 : decode cX5_loosens 25 = .ok (.iconst 1, 1) := dk_4 (dk_at dksX5_loosens_1 1 rfl rfl)
theorem dX5_loosens_26 : decode cX5_loosens 26 = .ok (.if_icmp .ne 21, 3) := dk_160 0 21 (dk_at dksX5_loosens_1 2 rfl rfl)
theorem dX5_loosens_29 : decode cX5_loosens 29 = .ok (.aload_n 0, 1) := dk_42 (dk_at dksX5_loosens_1 5 rfl rfl)
theorem dX5_loosens_30 : decode cX5_loosens 30 = .ok (.getfield 113, 3) := dk_180 0 113 (dk_at dksX5_loosens_1 6 rfl rfl)
theorem dX5_loosens_33 : decode cX5_loosens 33 = .ok (.iload_n 1, 1) := dk_27 (dk_at dksX5_loosens_1 9 rfl rfl)
theorem dX5_loosens_34 : decode cX5_loosens 34 = .ok (.bipush 20, 2) := dk_16 20 (dk_at dksX5_loosens_1 10 rfl rfl)
theorem dX5_loosens_36 : decode cX5_loosens 36 = .ok (.iadd, 1) := dk_96 (dk_at dksX5_loosens_1 12 rfl rfl)
theorem dX5_loosens_37 : decode cX5_loosens 37 = .ok (.iload_n 3, 1) := dk_29 (dk_at dksX5_loosens_1 13 rfl rfl)
theorem dX5_loosens_38 : decode cX5_loosens 38 = .ok (.iadd, 1) := dk_96 (dk_at dksX5_loosens_1 14 rfl rfl)
theorem dX5_loosens_39 : decode cX5_loosens 39 = .ok (.iaload, 1) := dk_46 (dk_at dksX5_loosens_1 15 rfl rfl)
theorem dX5_loosens_40 : decode cX5_loosens 40 = .ok (.ifCond .le 7, 3) := dk_158 0 7 (dk_at dksX5_loosens_1 16 rfl rfl)
theorem dX5_loosens_43 : decode cX5_loosens 43 = .ok (.iconst 1, 1) := dk_4 (dk_at dksX5_loosens_1 19 rfl rfl)
theorem dX5_loosens_44 : decode cX5_loosens 44 = .ok (.goto 4, 3) := dk_167 0 4 (dk_at dksX5_loosens_1 20 rfl rfl)
theorem dX5_loosens_47 : decode cX5_loosens 47 = .ok (.iconst 0, 1) := dk_3 (dk_at dksX5_loosens_1 23 rfl rfl)
theorem dX5_loosens_48 : decode cX5_loosens 48 = .ok (.isub, 1) := dk_100 (dk_at dksX5_loosens_2 0 rfl rfl)
theorem dX5_loosens_49 : decode cX5_loosens 49 = .ok (.iastore, 1) := dk_79 (dk_at dksX5_loosens_2 1 rfl rfl)
theorem dX5_loosens_50 : decode cX5_loosens 50 = .ok (.iinc 3 1, 3) := dk_132 3 1 (dk_at dksX5_loosens_2 2 rfl rfl)
theorem dX5_loosens_53 : decode cX5_loosens 53 = .ok (.goto (-51), 3) := dk_167 255 205 (dk_at dksX5_loosens_2 5 rfl rfl)
theorem dX5_loosens_56 : decode cX5_loosens 56 = .ok (.return_, 1) := dk_177 (dk_at dksX5_loosens_2 8 rfl rfl)
abbrev cX5_held : ByteArray := prog_23_method_63_code
def yX5_held : MethodName := ⟨RX5, "held", "(II)I"⟩
def dkwX5_held_2 : List UInt8 := [132, 4, 1, 167, 255, 210, 29, 172]
abbrev dktX5_held_2 : List UInt8 := dkwX5_held_2 ++ []
def dkwX5_held_1 : List UInt8 := [180, 0, 113, 27, 16, 20, 96, 21, 4, 96, 46, 158, 0, 10, 4, 21, 4, 120, 167, 0, 4, 3, 128, 62]
abbrev dktX5_held_1 : List UInt8 := dkwX5_held_1 ++ dktX5_held_2
def dkwX5_held_0 : List UInt8 := [3, 62, 3, 54, 4, 21, 4, 16, 8, 162, 0, 45, 29, 28, 21, 4, 122, 4, 126, 4, 160, 0, 25, 42]
abbrev dktX5_held_0 : List UInt8 := dkwX5_held_0 ++ dktX5_held_1
theorem dksX5_held_0 : cX5_held.data.toList.drop 0 = dktX5_held_0 := by decide +kernel
theorem dksX5_held_1 : cX5_held.data.toList.drop 24 = dktX5_held_1 := dk_seg dksX5_held_0 24 rfl rfl
theorem dksX5_held_2 : cX5_held.data.toList.drop 48 = dktX5_held_2 := dk_seg dksX5_held_1 24 rfl rfl
theorem dX5_held_0 : decode cX5_held 0 = .ok (.iconst 0, 1) := dk_3 (dk_at dksX5_held_0 0 rfl rfl)
theorem dX5_held_1 : decode cX5_held 1 = .ok (.istore_n 3, 1) := dk_62 (dk_at dksX5_held_0 1 rfl rfl)
theorem dX5_held_2 : decode cX5_held 2 = .ok (.iconst 0, 1) := dk_3 (dk_at dksX5_held_0 2 rfl rfl)
theorem dX5_held_3 : decode cX5_held 3 = .ok (.istore 4, 2) := dk_54 4 (dk_at dksX5_held_0 3 rfl rfl)
theorem dX5_held_5 : decode cX5_held 5 = .ok (.iload 4, 2) := dk_21 4 (dk_at dksX5_held_0 5 rfl rfl)
theorem dX5_held_7 : decode cX5_held 7 = .ok (.bipush 8, 2) := dk_16 8 (dk_at dksX5_held_0 7 rfl rfl)
theorem dX5_held_9 : decode cX5_held 9 = .ok (.if_icmp .ge 45, 3) := dk_162 0 45 (dk_at dksX5_held_0 9 rfl rfl)
theorem dX5_held_12 : decode cX5_held 12 = .ok (.iload_n 3, 1) := dk_29 (dk_at dksX5_held_0 12 rfl rfl)
theorem dX5_held_13 : decode cX5_held 13 = .ok (.iload_n 2, 1) := dk_28 (dk_at dksX5_held_0 13 rfl rfl)
theorem dX5_held_14 : decode cX5_held 14 = .ok (.iload 4, 2) := dk_21 4 (dk_at dksX5_held_0 14 rfl rfl)
theorem dX5_held_16 : decode cX5_held 16 = .ok (.ishr, 1) := dk_122 (dk_at dksX5_held_0 16 rfl rfl)
theorem dX5_held_17 : decode cX5_held 17 = .ok (.iconst 1, 1) := dk_4 (dk_at dksX5_held_0 17 rfl rfl)
theorem dX5_held_18 : decode cX5_held 18 = .ok (.iand, 1) := dk_126 (dk_at dksX5_held_0 18 rfl rfl)
theorem dX5_held_19 : decode cX5_held 19 = .ok (.iconst 1, 1) := dk_4 (dk_at dksX5_held_0 19 rfl rfl)
theorem dX5_held_20 : decode cX5_held 20 = .ok (.if_icmp .ne 25, 3) := dk_160 0 25 (dk_at dksX5_held_0 20 rfl rfl)
theorem dX5_held_23 : decode cX5_held 23 = .ok (.aload_n 0, 1) := dk_42 (dk_at dksX5_held_0 23 rfl rfl)
theorem dX5_held_24 : decode cX5_held 24 = .ok (.getfield 113, 3) := dk_180 0 113 (dk_at dksX5_held_1 0 rfl rfl)
theorem dX5_held_27 : decode cX5_held 27 = .ok (.iload_n 1, 1) := dk_27 (dk_at dksX5_held_1 3 rfl rfl)
theorem dX5_held_28 : decode cX5_held 28 = .ok (.bipush 20, 2) := dk_16 20 (dk_at dksX5_held_1 4 rfl rfl)
theorem dX5_held_30 : decode cX5_held 30 = .ok (.iadd, 1) := dk_96 (dk_at dksX5_held_1 6 rfl rfl)
theorem dX5_held_31 : decode cX5_held 31 = .ok (.iload 4, 2) := dk_21 4 (dk_at dksX5_held_1 7 rfl rfl)
theorem dX5_held_33 : decode cX5_held 33 = .ok (.iadd, 1) := dk_96 (dk_at dksX5_held_1 9 rfl rfl)
theorem dX5_held_34 : decode cX5_held 34 = .ok (.iaload, 1) := dk_46 (dk_at dksX5_held_1 10 rfl rfl)
theorem dX5_held_35 : decode cX5_held 35 = .ok (.ifCond .le 10, 3) := dk_158 0 10 (dk_at dksX5_held_1 11 rfl rfl)
theorem dX5_held_38 : decode cX5_held 38 = .ok (.iconst 1, 1) := dk_4 (dk_at dksX5_held_1 14 rfl rfl)
theorem dX5_held_39 : decode cX5_held 39 = .ok (.iload 4, 2) := dk_21 4 (dk_at dksX5_held_1 15 rfl rfl)
theorem dX5_held_41 : decode cX5_held 41 = .ok (.ishl, 1) := dk_120 (dk_at dksX5_held_1 17 rfl rfl)
theorem dX5_held_42 : decode cX5_held 42 = .ok (.goto 4, 3) := dk_167 0 4 (dk_at dksX5_held_1 18 rfl rfl)
theorem dX5_held_45 : decode cX5_held 45 = .ok (.iconst 0, 1) := dk_3 (dk_at dksX5_held_1 21 rfl rfl)
theorem dX5_held_46 : decode cX5_held 46 = .ok (.ior, 1) := dk_128 (dk_at dksX5_held_1 22 rfl rfl)
theorem dX5_held_47 : decode cX5_held 47 = .ok (.istore_n 3, 1) := dk_62 (dk_at dksX5_held_1 23 rfl rfl)
theorem dX5_held_48 : decode cX5_held 48 = .ok (.iinc 4 1, 3) := dk_132 4 1 (dk_at dksX5_held_2 0 rfl rfl)
theorem dX5_held_51 : decode cX5_held 51 = .ok (.goto (-46), 3) := dk_167 255 210 (dk_at dksX5_held_2 3 rfl rfl)
theorem dX5_held_54 : decode cX5_held 54 = .ok (.iload_n 3, 1) := dk_29 (dk_at dksX5_held_2 6 rfl rfl)
theorem dX5_held_55 : decode cX5_held 55 = .ok (.ireturn, 1) := dk_172 (dk_at dksX5_held_2 7 rfl rfl)
abbrev cX5_falls : ByteArray := prog_23_method_61_code
def yX5_falls : MethodName := ⟨RX5, "falls", "(II)V"⟩
def dkwX5_falls_2 : List UInt8 := [16, 9, 162, 0, 7, 4, 167, 0, 4, 3, 96, 79, 177]
abbrev dktX5_falls_2 : List UInt8 := dkwX5_falls_2 ++ []
def dkwX5_falls_1 : List UInt8 := [42, 180, 0, 113, 27, 16, 8, 96, 28, 96, 92, 46, 42, 180, 0, 113, 27, 16, 8, 96, 28, 96, 46]
abbrev dktX5_falls_1 : List UInt8 := dkwX5_falls_1 ++ dktX5_falls_2
def dkwX5_falls_0 : List UInt8 := [42, 180, 0, 113, 27, 16, 14, 96, 28, 96, 3, 79, 42, 180, 0, 113, 27, 5, 96, 28, 96, 16, 9, 79]
abbrev dktX5_falls_0 : List UInt8 := dkwX5_falls_0 ++ dktX5_falls_1
theorem dksX5_falls_0 : cX5_falls.data.toList.drop 0 = dktX5_falls_0 := by decide +kernel
theorem dksX5_falls_1 : cX5_falls.data.toList.drop 24 = dktX5_falls_1 := dk_seg dksX5_falls_0 24 rfl rfl
theorem dksX5_falls_2 : cX5_falls.data.toList.drop 47 = dktX5_falls_2 := dk_seg dksX5_falls_1 23 rfl rfl
theorem dX5_falls_0 : decode cX5_falls 0 = .ok (.aload_n 0, 1) := dk_42 (dk_at dksX5_falls_0 0 rfl rfl)
theorem dX5_falls_1 : decode cX5_falls 1 = .ok (.getfield 113, 3) := dk_180 0 113 (dk_at dksX5_falls_0 1 rfl rfl)
theorem dX5_falls_4 : decode cX5_falls 4 = .ok (.iload_n 1, 1) := dk_27 (dk_at dksX5_falls_0 4 rfl rfl)
theorem dX5_falls_5 : decode cX5_falls 5 = .ok (.bipush 14, 2) := dk_16 14 (dk_at dksX5_falls_0 5 rfl rfl)
theorem dX5_falls_7 : decode cX5_falls 7 = .ok (.iadd, 1) := dk_96 (dk_at dksX5_falls_0 7 rfl rfl)
theorem dX5_falls_8 : decode cX5_falls 8 = .ok (.iload_n 2, 1) := dk_28 (dk_at dksX5_falls_0 8 rfl rfl)
theorem dX5_falls_9 : decode cX5_falls 9 = .ok (.iadd, 1) := dk_96 (dk_at dksX5_falls_0 9 rfl rfl)
theorem dX5_falls_10 : decode cX5_falls 10 = .ok (.iconst 0, 1) := dk_3 (dk_at dksX5_falls_0 10 rfl rfl)
theorem dX5_falls_11 : decode cX5_falls 11 = .ok (.iastore, 1) := dk_79 (dk_at dksX5_falls_0 11 rfl rfl)
theorem dX5_falls_12 : decode cX5_falls 12 = .ok (.aload_n 0, 1) := dk_42 (dk_at dksX5_falls_0 12 rfl rfl)
theorem dX5_falls_13 : decode cX5_falls 13 = .ok (.getfield 113, 3) := dk_180 0 113 (dk_at dksX5_falls_0 13 rfl rfl)
theorem dX5_falls_16 : decode cX5_falls 16 = .ok (.iload_n 1, 1) := dk_27 (dk_at dksX5_falls_0 16 rfl rfl)
theorem dX5_falls_17 : decode cX5_falls 17 = .ok (.iconst 2, 1) := dk_5 (dk_at dksX5_falls_0 17 rfl rfl)
theorem dX5_falls_18 : decode cX5_falls 18 = .ok (.iadd, 1) := dk_96 (dk_at dksX5_falls_0 18 rfl rfl)
theorem dX5_falls_19 : decode cX5_falls 19 = .ok (.iload_n 2, 1) := dk_28 (dk_at dksX5_falls_0 19 rfl rfl)
theorem dX5_falls_20 : decode cX5_falls 20 = .ok (.iadd, 1) := dk_96 (dk_at dksX5_falls_0 20 rfl rfl)
theorem dX5_falls_21 : decode cX5_falls 21 = .ok (.bipush 9, 2) := dk_16 9 (dk_at dksX5_falls_0 21 rfl rfl)
theorem dX5_falls_23 : decode cX5_falls 23 = .ok (.iastore, 1) := dk_79 (dk_at dksX5_falls_0 23 rfl rfl)
theorem dX5_falls_24 : decode cX5_falls 24 = .ok (.aload_n 0, 1) := dk_42 (dk_at dksX5_falls_1 0 rfl rfl)
theorem dX5_falls_25 : decode cX5_falls 25 = .ok (.getfield 113, 3) := dk_180 0 113 (dk_at dksX5_falls_1 1 rfl rfl)
theorem dX5_falls_28 : decode cX5_falls 28 = .ok (.iload_n 1, 1) := dk_27 (dk_at dksX5_falls_1 4 rfl rfl)
theorem dX5_falls_29 : decode cX5_falls 29 = .ok (.bipush 8, 2) := dk_16 8 (dk_at dksX5_falls_1 5 rfl rfl)
theorem dX5_falls_31 : decode cX5_falls 31 = .ok (.iadd, 1) := dk_96 (dk_at dksX5_falls_1 7 rfl rfl)
theorem dX5_falls_32 : decode cX5_falls 32 = .ok (.iload_n 2, 1) := dk_28 (dk_at dksX5_falls_1 8 rfl rfl)
theorem dX5_falls_33 : decode cX5_falls 33 = .ok (.iadd, 1) := dk_96 (dk_at dksX5_falls_1 9 rfl rfl)
theorem dX5_falls_34 : decode cX5_falls 34 = .ok (.dup2, 1) := dk_92 (dk_at dksX5_falls_1 10 rfl rfl)
theorem dX5_falls_35 : decode cX5_falls 35 = .ok (.iaload, 1) := dk_46 (dk_at dksX5_falls_1 11 rfl rfl)
theorem dX5_falls_36 : decode cX5_falls 36 = .ok (.aload_n 0, 1) := dk_42 (dk_at dksX5_falls_1 12 rfl rfl)
theorem dX5_falls_37 : decode cX5_falls 37 = .ok (.getfield 113, 3) := dk_180 0 113 (dk_at dksX5_falls_1 13 rfl rfl)
theorem dX5_falls_40 : decode cX5_falls 40 = .ok (.iload_n 1, 1) := dk_27 (dk_at dksX5_falls_1 16 rfl rfl)
theorem dX5_falls_41 : decode cX5_falls 41 = .ok (.bipush 8, 2) := dk_16 8 (dk_at dksX5_falls_1 17 rfl rfl)
theorem dX5_falls_43 : decode cX5_falls 43 = .ok (.iadd, 1) := dk_96 (dk_at dksX5_falls_1 19 rfl rfl)
theorem dX5_falls_44 : decode cX5_falls 44 = .ok (.iload_n 2, 1) := dk_28 (dk_at dksX5_falls_1 20 rfl rfl)
theorem dX5_falls_45 : decode cX5_falls 45 = .ok (.iadd, 1) := dk_96 (dk_at dksX5_falls_1 21 rfl rfl)
theorem dX5_falls_46 : decode cX5_falls 46 = .ok (.iaload, 1) := dk_46 (dk_at dksX5_falls_1 22 rfl rfl)
theorem dX5_falls_47 : decode cX5_falls 47 = .ok (.bipush 9, 2) := dk_16 9 (dk_at dksX5_falls_2 0 rfl rfl)
theorem dX5_falls_49 : decode cX5_falls 49 = .ok (.if_icmp .ge 7, 3) := dk_162 0 7 (dk_at dksX5_falls_2 2 rfl rfl)
theorem dX5_falls_52 : decode cX5_falls 52 = .ok (.iconst 1, 1) := dk_4 (dk_at dksX5_falls_2 5 rfl rfl)
theorem dX5_falls_53 : decode cX5_falls 53 = .ok (.goto 4, 3) := dk_167 0 4 (dk_at dksX5_falls_2 6 rfl rfl)
theorem dX5_falls_56 : decode cX5_falls 56 = .ok (.iconst 0, 1) := dk_3 (dk_at dksX5_falls_2 9 rfl rfl)
theorem dX5_falls_57 : decode cX5_falls 57 = .ok (.iadd, 1) := dk_96 (dk_at dksX5_falls_2 10 rfl rfl)
theorem dX5_falls_58 : decode cX5_falls 58 = .ok (.iastore, 1) := dk_79 (dk_at dksX5_falls_2 11 rfl rfl)
theorem dX5_falls_59 : decode cX5_falls 59 = .ok (.return_, 1) := dk_177 (dk_at dksX5_falls_2 12 rfl rfl)
abbrev cX5_driedOf : ByteArray := prog_23_method_59_code
def yX5_driedOf : MethodName := ⟨RX5, "driedOf", "(III)I"⟩
def dkwX5_driedOf_3 : List UInt8 := [156, 0, 7, 3, 167, 0, 5, 21, 4, 172]
abbrev dktX5_driedOf_3 : List UInt8 := dkwX5_driedOf_3 ++ []
def dkwX5_driedOf_2 : List UInt8 := [167, 0, 17, 21, 4, 16, 9, 164, 0, 8, 16, 9, 167, 0, 5, 21, 4, 100, 54, 4, 21, 4]
abbrev dktX5_driedOf_2 : List UInt8 := dkwX5_driedOf_2 ++ dktX5_driedOf_3
def dkwX5_driedOf_1 : List UInt8 := [167, 0, 14, 42, 42, 180, 0, 89, 16, 7, 46, 182, 1, 58, 54, 4, 28, 21, 4, 156, 0, 7, 3]
abbrev dktX5_driedOf_1 : List UInt8 := dkwX5_driedOf_1 ++ dktX5_driedOf_2
def dkwX5_driedOf_0 : List UInt8 := [42, 27, 28, 29, 182, 1, 55, 42, 180, 0, 89, 16, 7, 46, 156, 0, 12, 42, 180, 0, 107, 3, 46]
abbrev dktX5_driedOf_0 : List UInt8 := dkwX5_driedOf_0 ++ dktX5_driedOf_1
theorem dksX5_driedOf_0 : cX5_driedOf.data.toList.drop 0 = dktX5_driedOf_0 := by decide +kernel
theorem dksX5_driedOf_1 : cX5_driedOf.data.toList.drop 23 = dktX5_driedOf_1 := dk_seg dksX5_driedOf_0 23 rfl rfl
theorem dksX5_driedOf_2 : cX5_driedOf.data.toList.drop 46 = dktX5_driedOf_2 := dk_seg dksX5_driedOf_1 23 rfl rfl
theorem dksX5_driedOf_3 : cX5_driedOf.data.toList.drop 68 = dktX5_driedOf_3 := dk_seg dksX5_driedOf_2 22 rfl rfl
theorem dX5_driedOf_0 : decode cX5_driedOf 0 = .ok (.aload_n 0, 1) := dk_42 (dk_at dksX5_driedOf_0 0 rfl rfl)
theorem dX5_driedOf_1 : decode cX5_driedOf 1 = .ok (.iload_n 1, 1) := dk_27 (dk_at dksX5_driedOf_0 1 rfl rfl)
theorem dX5_driedOf_2 : decode cX5_driedOf 2 = .ok (.iload_n 2, 1) := dk_28 (dk_at dksX5_driedOf_0 2 rfl rfl)
theorem dX5_driedOf_3 : decode cX5_driedOf 3 = .ok (.iload_n 3, 1) := dk_29 (dk_at dksX5_driedOf_0 3 rfl rfl)
theorem dX5_driedOf_4 : decode cX5_driedOf 4 = .ok (.invokevirtual 311, 3) := dk_182 1 55 (dk_at dksX5_driedOf_0 4 rfl rfl)
theorem dX5_driedOf_7 : decode cX5_driedOf 7 = .ok (.aload_n 0, 1) := dk_42 (dk_at dksX5_driedOf_0 7 rfl rfl)
theorem dX5_driedOf_8 : decode cX5_driedOf 8 = .ok (.getfield 89, 3) := dk_180 0 89 (dk_at dksX5_driedOf_0 8 rfl rfl)
theorem dX5_driedOf_11 : decode cX5_driedOf 11 = .ok (.bipush 7, 2) := dk_16 7 (dk_at dksX5_driedOf_0 11 rfl rfl)
theorem dX5_driedOf_13 : decode cX5_driedOf 13 = .ok (.iaload, 1) := dk_46 (dk_at dksX5_driedOf_0 13 rfl rfl)
theorem dX5_driedOf_14 : decode cX5_driedOf 14 = .ok (.ifCond .ge 12, 3) := dk_156 0 12 (dk_at dksX5_driedOf_0 14 rfl rfl)
theorem dX5_driedOf_17 : decode cX5_driedOf 17 = .ok (.aload_n 0, 1) := dk_42 (dk_at dksX5_driedOf_0 17 rfl rfl)
theorem dX5_driedOf_18 : decode cX5_driedOf 18 = .ok (.getfield 107, 3) := dk_180 0 107 (dk_at dksX5_driedOf_0 18 rfl rfl)
theorem dX5_driedOf_21 : decode cX5_driedOf 21 = .ok (.iconst 0, 1) := dk_3 (dk_at dksX5_driedOf_0 21 rfl rfl)
theorem dX5_driedOf_22 : decode cX5_driedOf 22 = .ok (.iaload, 1) := dk_46 (dk_at dksX5_driedOf_0 22 rfl rfl)
theorem dX5_driedOf_23 : decode cX5_driedOf 23 = .ok (.goto 14, 3) := dk_167 0 14 (dk_at dksX5_driedOf_1 0 rfl rfl)
theorem dX5_driedOf_26 : decode cX5_driedOf 26 = .ok (.aload_n 0, 1) := dk_42 (dk_at dksX5_driedOf_1 3 rfl rfl)
theorem dX5_driedOf_27 : decode cX5_driedOf 27 = .ok (.aload_n 0, 1) := dk_42 (dk_at dksX5_driedOf_1 4 rfl rfl)
theorem dX5_driedOf_28 : decode cX5_driedOf 28 = .ok (.getfield 89, 3) := dk_180 0 89 (dk_at dksX5_driedOf_1 5 rfl rfl)
theorem dX5_driedOf_31 : decode cX5_driedOf 31 = .ok (.bipush 7, 2) := dk_16 7 (dk_at dksX5_driedOf_1 8 rfl rfl)
theorem dX5_driedOf_33 : decode cX5_driedOf 33 = .ok (.iaload, 1) := dk_46 (dk_at dksX5_driedOf_1 10 rfl rfl)
theorem dX5_driedOf_34 : decode cX5_driedOf 34 = .ok (.invokevirtual 314, 3) := dk_182 1 58 (dk_at dksX5_driedOf_1 11 rfl rfl)
theorem dX5_driedOf_37 : decode cX5_driedOf 37 = .ok (.istore 4, 2) := dk_54 4 (dk_at dksX5_driedOf_1 14 rfl rfl)
theorem dX5_driedOf_39 : decode cX5_driedOf 39 = .ok (.iload_n 2, 1) := dk_28 (dk_at dksX5_driedOf_1 16 rfl rfl)
theorem dX5_driedOf_40 : decode cX5_driedOf 40 = .ok (.iload 4, 2) := dk_21 4 (dk_at dksX5_driedOf_1 17 rfl rfl)
theorem dX5_driedOf_42 : decode cX5_driedOf 42 = .ok (.ifCond .ge 7, 3) := dk_156 0 7 (dk_at dksX5_driedOf_1 19 rfl rfl)
theorem dX5_driedOf_45 : decode cX5_driedOf 45 = .ok (.iconst 0, 1) := dk_3 (dk_at dksX5_driedOf_1 22 rfl rfl)
theorem dX5_driedOf_46 : decode cX5_driedOf 46 = .ok (.goto 17, 3) := dk_167 0 17 (dk_at dksX5_driedOf_2 0 rfl rfl)
theorem dX5_driedOf_49 : decode cX5_driedOf 49 = .ok (.iload 4, 2) := dk_21 4 (dk_at dksX5_driedOf_2 3 rfl rfl)
theorem dX5_driedOf_51 : decode cX5_driedOf 51 = .ok (.bipush 9, 2) := dk_16 9 (dk_at dksX5_driedOf_2 5 rfl rfl)
theorem dX5_driedOf_53 : decode cX5_driedOf 53 = .ok (.if_icmp .le 8, 3) := dk_164 0 8 (dk_at dksX5_driedOf_2 7 rfl rfl)
theorem dX5_driedOf_56 : decode cX5_driedOf 56 = .ok (.bipush 9, 2) := dk_16 9 (dk_at dksX5_driedOf_2 10 rfl rfl)
theorem dX5_driedOf_58 : decode cX5_driedOf 58 = .ok (.goto 5, 3) := dk_167 0 5 (dk_at dksX5_driedOf_2 12 rfl rfl)
theorem dX5_driedOf_61 : decode cX5_driedOf 61 = .ok (.iload 4, 2) := dk_21 4 (dk_at dksX5_driedOf_2 15 rfl rfl)
theorem dX5_driedOf_63 : decode cX5_driedOf 63 = .ok (.isub, 1) := dk_100 (dk_at dksX5_driedOf_2 17 rfl rfl)
theorem dX5_driedOf_64 : decode cX5_driedOf 64 = .ok (.istore 4, 2) := dk_54 4 (dk_at dksX5_driedOf_2 18 rfl rfl)
theorem dX5_driedOf_66 : decode cX5_driedOf 66 = .ok (.iload 4, 2) := dk_21 4 (dk_at dksX5_driedOf_2 20 rfl rfl)
theorem dX5_driedOf_68 : decode cX5_driedOf 68 = .ok (.ifCond .ge 7, 3) := dk_156 0 7 (dk_at dksX5_driedOf_3 0 rfl rfl)
theorem dX5_driedOf_71 : decode cX5_driedOf 71 = .ok (.iconst 0, 1) := dk_3 (dk_at dksX5_driedOf_3 3 rfl rfl)
theorem dX5_driedOf_72 : decode cX5_driedOf 72 = .ok (.goto 5, 3) := dk_167 0 5 (dk_at dksX5_driedOf_3 4 rfl rfl)
theorem dX5_driedOf_75 : decode cX5_driedOf 75 = .ok (.iload 4, 2) := dk_21 4 (dk_at dksX5_driedOf_3 7 rfl rfl)
theorem dX5_driedOf_77 : decode cX5_driedOf 77 = .ok (.ireturn, 1) := dk_172 (dk_at dksX5_driedOf_3 9 rfl rfl)
abbrev cX5_undo : ByteArray := prog_23_method_82_code
def yX5_undo : MethodName := ⟨RX5, "undo", "()Z"⟩
def dkwX5_undo_1 : List UInt8 := [42, 16, 54, 8, 42, 180, 1, 29, 96, 104, 3, 16, 28, 182, 1, 32, 4, 172]
abbrev dktX5_undo_1 : List UInt8 := dkwX5_undo_1 ++ []
def dkwX5_undo_0 : List UInt8 := [42, 3, 181, 0, 1, 42, 180, 1, 29, 154, 0, 5, 3, 172, 42, 89, 180, 1, 29, 4, 100, 181, 1, 29]
abbrev dktX5_undo_0 : List UInt8 := dkwX5_undo_0 ++ dktX5_undo_1
theorem dksX5_undo_0 : cX5_undo.data.toList.drop 0 = dktX5_undo_0 := by decide +kernel
theorem dksX5_undo_1 : cX5_undo.data.toList.drop 24 = dktX5_undo_1 := dk_seg dksX5_undo_0 24 rfl rfl
theorem dX5_undo_0 : decode cX5_undo 0 = .ok (.aload_n 0, 1) := dk_42 (dk_at dksX5_undo_0 0 rfl rfl)
theorem dX5_undo_1 : decode cX5_undo 1 = .ok (.iconst 0, 1) := dk_3 (dk_at dksX5_undo_0 1 rfl rfl)
theorem dX5_undo_2 : decode cX5_undo 2 = .ok (.putfield 1, 3) := dk_181 0 1 (dk_at dksX5_undo_0 2 rfl rfl)
theorem dX5_undo_5 : decode cX5_undo 5 = .ok (.aload_n 0, 1) := dk_42 (dk_at dksX5_undo_0 5 rfl rfl)
theorem dX5_undo_6 : decode cX5_undo 6 = .ok (.getfield 285, 3) := dk_180 1 29 (dk_at dksX5_undo_0 6 rfl rfl)
theorem dX5_undo_9 : decode cX5_undo 9 = .ok (.ifCond .ne 5, 3) := dk_154 0 5 (dk_at dksX5_undo_0 9 rfl rfl)
theorem dX5_undo_12 : decode cX5_undo 12 = .ok (.iconst 0, 1) := dk_3 (dk_at dksX5_undo_0 12 rfl rfl)
theorem dX5_undo_13 : decode cX5_undo 13 = .ok (.ireturn, 1) := dk_172 (dk_at dksX5_undo_0 13 rfl rfl)
theorem dX5_undo_14 : decode cX5_undo 14 = .ok (.aload_n 0, 1) := dk_42 (dk_at dksX5_undo_0 14 rfl rfl)
theorem dX5_undo_15 : decode cX5_undo 15 = .ok (.dup, 1) := dk_89 (dk_at dksX5_undo_0 15 rfl rfl)
theorem dX5_undo_16 : decode cX5_undo 16 = .ok (.getfield 285, 3) := dk_180 1 29 (dk_at dksX5_undo_0 16 rfl rfl)
theorem dX5_undo_19 : decode cX5_undo 19 = .ok (.iconst 1, 1) := dk_4 (dk_at dksX5_undo_0 19 rfl rfl)
theorem dX5_undo_20 : decode cX5_undo 20 = .ok (.isub, 1) := dk_100 (dk_at dksX5_undo_0 20 rfl rfl)
theorem dX5_undo_21 : decode cX5_undo 21 = .ok (.putfield 285, 3) := dk_181 1 29 (dk_at dksX5_undo_0 21 rfl rfl)
theorem dX5_undo_24 : decode cX5_undo 24 = .ok (.aload_n 0, 1) := dk_42 (dk_at dksX5_undo_1 0 rfl rfl)
theorem dX5_undo_25 : decode cX5_undo 25 = .ok (.bipush 54, 2) := dk_16 54 (dk_at dksX5_undo_1 1 rfl rfl)
theorem dX5_undo_27 : decode cX5_undo 27 = .ok (.iconst 5, 1) := dk_8 (dk_at dksX5_undo_1 3 rfl rfl)
theorem dX5_undo_28 : decode cX5_undo 28 = .ok (.aload_n 0, 1) := dk_42 (dk_at dksX5_undo_1 4 rfl rfl)
theorem dX5_undo_29 : decode cX5_undo 29 = .ok (.getfield 285, 3) := dk_180 1 29 (dk_at dksX5_undo_1 5 rfl rfl)
theorem dX5_undo_32 : decode cX5_undo 32 = .ok (.iadd, 1) := dk_96 (dk_at dksX5_undo_1 8 rfl rfl)
theorem dX5_undo_33 : decode cX5_undo 33 = .ok (.imul, 1) := dk_104 (dk_at dksX5_undo_1 9 rfl rfl)
theorem dX5_undo_34 : decode cX5_undo 34 = .ok (.iconst 0, 1) := dk_3 (dk_at dksX5_undo_1 10 rfl rfl)
theorem dX5_undo_35 : decode cX5_undo 35 = .ok (.bipush 28, 2) := dk_16 28 (dk_at dksX5_undo_1 11 rfl rfl)
theorem dX5_undo_37 : decode cX5_undo 37 = .ok (.invokevirtual 288, 3) := dk_182 1 32 (dk_at dksX5_undo_1 13 rfl rfl)
theorem dX5_undo_40 : decode cX5_undo 40 = .ok (.iconst 1, 1) := dk_4 (dk_at dksX5_undo_1 16 rfl rfl)
theorem dX5_undo_41 : decode cX5_undo 41 = .ok (.ireturn, 1) := dk_172 (dk_at dksX5_undo_1 17 rfl rfl)
abbrev cX5_judged : ByteArray := prog_23_method_84_code
def yX5_judged : MethodName := ⟨RX5, "judged", "(I)I"⟩
def dkwX5_judged_7 : List UInt8 := [182, 1, 102, 182, 1, 129, 172]
abbrev dktX5_judged_7 : List UInt8 := dkwX5_judged_7 ++ []
def dkwX5_judged_6 : List UInt8 := [27, 154, 0, 7, 28, 167, 0, 23, 27, 4, 160, 0, 7, 29, 167, 0, 14, 42, 42, 17, 4, 110]
abbrev dktX5_judged_6 : List UInt8 := dkwX5_judged_6 ++ dktX5_judged_7
def dkwX5_judged_5 : List UInt8 := [54, 6, 21, 6, 154, 0, 12, 28, 156, 0, 8, 21, 4, 167, 0, 4, 28, 61, 132, 4, 1, 167, 255, 148]
abbrev dktX5_judged_5 : List UInt8 := dkwX5_judged_5 ++ dktX5_judged_6
def dkwX5_judged_4 : List UInt8 := [180, 0, 104, 5, 6, 21, 4, 104, 96, 46, 42, 180, 0, 104, 6, 6, 21, 4, 104, 96, 46, 182, 1, 126]
abbrev dktX5_judged_4 : List UInt8 := dkwX5_judged_4 ++ dktX5_judged_5
def dkwX5_judged_3 : List UInt8 := [21, 6, 158, 0, 12, 29, 156, 0, 8, 21, 4, 167, 0, 4, 29, 62, 167, 0, 49, 42, 21, 5, 42]
abbrev dktX5_judged_3 : List UInt8 := dkwX5_judged_3 ++ dktX5_judged_4
def dkwX5_judged_2 : List UInt8 := [21, 4, 104, 96, 46, 54, 5, 21, 5, 7, 160, 0, 32, 42, 17, 4, 110, 3, 182, 1, 123, 54, 6]
abbrev dktX5_judged_2 : List UInt8 := dkwX5_judged_2 ++ dktX5_judged_3
def dkwX5_judged_1 : List UInt8 := [2, 61, 2, 62, 3, 54, 4, 21, 4, 42, 180, 0, 104, 3, 46, 162, 0, 103, 42, 180, 0, 104, 4, 6]
abbrev dktX5_judged_1 : List UInt8 := dkwX5_judged_1 ++ dktX5_judged_2
def dkwX5_judged_0 : List UInt8 := [42, 3, 181, 0, 1, 27, 3, 5, 184, 1, 93, 154, 0, 6, 16, 254, 172, 42, 17, 4, 110, 182, 1, 26]
abbrev dktX5_judged_0 : List UInt8 := dkwX5_judged_0 ++ dktX5_judged_1
theorem dksX5_judged_0 : cX5_judged.data.toList.drop 0 = dktX5_judged_0 := by decide +kernel
theorem dksX5_judged_1 : cX5_judged.data.toList.drop 24 = dktX5_judged_1 := dk_seg dksX5_judged_0 24 rfl rfl
theorem dksX5_judged_2 : cX5_judged.data.toList.drop 48 = dktX5_judged_2 := dk_seg dksX5_judged_1 24 rfl rfl
theorem dksX5_judged_3 : cX5_judged.data.toList.drop 71 = dktX5_judged_3 := dk_seg dksX5_judged_2 23 rfl rfl
theorem dksX5_judged_4 : cX5_judged.data.toList.drop 94 = dktX5_judged_4 := dk_seg dksX5_judged_3 23 rfl rfl
theorem dksX5_judged_5 : cX5_judged.data.toList.drop 118 = dktX5_judged_5 := dk_seg dksX5_judged_4 24 rfl rfl
theorem dksX5_judged_6 : cX5_judged.data.toList.drop 142 = dktX5_judged_6 := dk_seg dksX5_judged_5 24 rfl rfl
theorem dksX5_judged_7 : cX5_judged.data.toList.drop 164 = dktX5_judged_7 := dk_seg dksX5_judged_6 22 rfl rfl
theorem dX5_judged_0 : decode cX5_judged 0 = .ok (.aload_n 0, 1) := dk_42 (dk_at dksX5_judged_0 0 rfl rfl)
theorem dX5_judged_1 : decode cX5_judged 1 = .ok (.iconst 0, 1) := dk_3 (dk_at dksX5_judged_0 1 rfl rfl)
theorem dX5_judged_2 : decode cX5_judged 2 = .ok (.putfield 1, 3) := dk_181 0 1 (dk_at dksX5_judged_0 2 rfl rfl)
theorem dX5_judged_5 : decode cX5_judged 5 = .ok (.iload_n 1, 1) := dk_27 (dk_at dksX5_judged_0 5 rfl rfl)
theorem dX5_judged_6 : decode cX5_judged 6 = .ok (.iconst 0, 1) := dk_3 (dk_at dksX5_judged_0 6 rfl rfl)
theorem dX5_judged_7 : decode cX5_judged 7 = .ok (.iconst 2, 1) := dk_5 (dk_at dksX5_judged_0 7 rfl rfl)
theorem dX5_judged_8 : decode cX5_judged 8 = .ok (.invokestatic 349, 3) := dk_184 1 93 (dk_at dksX5_judged_0 8 rfl rfl)
theorem dX5_judged_11 : decode cX5_judged 11 = .ok (.ifCond .ne 6, 3) := dk_154 0 6 (dk_at dksX5_judged_0 11 rfl rfl)
theorem dX5_judged_14 : decode cX5_judged 14 = .ok (.bipush (-2), 2) := dk_16 254 (dk_at dksX5_judged_0 14 rfl rfl)
theorem dX5_judged_16 : decode cX5_judged 16 = .ok (.ireturn, 1) := dk_172 (dk_at dksX5_judged_0 16 rfl rfl)
theorem dX5_judged_17 : decode cX5_judged 17 = .ok (.aload_n 0, 1) := dk_42 (dk_at dksX5_judged_0 17 rfl rfl)
theorem dX5_judged_18 : decode cX5_judged 18 = .ok (.sipush 1134, 3) := dk_17 4 110 (dk_at dksX5_judged_0 18 rfl rfl)
theorem dX5_judged_21 : decode cX5_judged 21 = .ok (.invokevirtual 282, 3) := dk_182 1 26 (dk_at dksX5_judged_0 21 rfl rfl)
theorem dX5_judged_24 : decode cX5_judged 24 = .ok (.iconst (-1), 1) := dk_2 (dk_at dksX5_judged_1 0 rfl rfl)
theorem dX5_judged_25 : decode cX5_judged 25 = .ok (.istore_n 2, 1) := dk_61 (dk_at dksX5_judged_1 1 rfl rfl)
theorem dX5_judged_26 : decode cX5_judged 26 = .ok (.iconst (-1), 1) := dk_2 (dk_at dksX5_judged_1 2 rfl rfl)
theorem dX5_judged_27 : decode cX5_judged 27 = .ok (.istore_n 3, 1) := dk_62 (dk_at dksX5_judged_1 3 rfl rfl)
theorem dX5_judged_28 : decode cX5_judged 28 = .ok (.iconst 0, 1) := dk_3 (dk_at dksX5_judged_1 4 rfl rfl)
theorem dX5_judged_29 : decode cX5_judged 29 = .ok (.istore 4, 2) := dk_54 4 (dk_at dksX5_judged_1 5 rfl rfl)
theorem dX5_judged_31 : decode cX5_judged 31 = .ok (.iload 4, 2) := dk_21 4 (dk_at dksX5_judged_1 7 rfl rfl)
theorem dX5_judged_33 : decode cX5_judged 33 = .ok (.aload_n 0, 1) := dk_42 (dk_at dksX5_judged_1 9 rfl rfl)
theorem dX5_judged_34 : decode cX5_judged 34 = .ok (.getfield 104, 3) := dk_180 0 104 (dk_at dksX5_judged_1 10 rfl rfl)
theorem dX5_judged_37 : decode cX5_judged 37 = .ok (.iconst 0, 1) := dk_3 (dk_at dksX5_judged_1 13 rfl rfl)
theorem dX5_judged_38 : decode cX5_judged 38 = .ok (.iaload, 1) := dk_46 (dk_at dksX5_judged_1 14 rfl rfl)
theorem dX5_judged_39 : decode cX5_judged 39 = .ok (.if_icmp .ge 103, 3) := dk_162 0 103 (dk_at dksX5_judged_1 15 rfl rfl)
theorem dX5_judged_42 : decode cX5_judged 42 = .ok (.aload_n 0, 1) := dk_42 (dk_at dksX5_judged_1 18 rfl rfl)
theorem dX5_judged_43 : decode cX5_judged 43 = .ok (.getfield 104, 3) := dk_180 0 104 (dk_at dksX5_judged_1 19 rfl rfl)
theorem dX5_judged_46 : decode cX5_judged 46 = .ok (.iconst 1, 1) := dk_4 (dk_at dksX5_judged_1 22 rfl rfl)
theorem dX5_judged_47 : decode cX5_judged 47 = .ok (.iconst 3, 1) := dk_6 (dk_at dksX5_judged_1 23 rfl rfl)
theorem dX5_judged_48 : decode cX5_judged 48 = .ok (.iload 4, 2) := dk_21 4 (dk_at dksX5_judged_2 0 rfl rfl)
theorem dX5_judged_50 : decode cX5_judged 50 = .ok (.imul, 1) := dk_104 (dk_at dksX5_judged_2 2 rfl rfl)
theorem dX5_judged_51 : decode cX5_judged 51 = .ok (.iadd, 1) := dk_96 (dk_at dksX5_judged_2 3 rfl rfl)
theorem dX5_judged_52 : decode cX5_judged 52 = .ok (.iaload, 1) := dk_46 (dk_at dksX5_judged_2 4 rfl rfl)
theorem dX5_judged_53 : decode cX5_judged 53 = .ok (.istore 5, 2) := dk_54 5 (dk_at dksX5_judged_2 5 rfl rfl)
theorem dX5_judged_55 : decode cX5_judged 55 = .ok (.iload 5, 2) := dk_21 5 (dk_at dksX5_judged_2 7 rfl rfl)
theorem dX5_judged_57 : decode cX5_judged 57 = .ok (.iconst 4, 1) := dk_7 (dk_at dksX5_judged_2 9 rfl rfl)
theorem dX5_judged_58 : decode cX5_judged 58 = .ok (.if_icmp .ne 32, 3) := dk_160 0 32 (dk_at dksX5_judged_2 10 rfl rfl)
theorem dX5_judged_61 : decode cX5_judged 61 = .ok (.aload_n 0, 1) := dk_42 (dk_at dksX5_judged_2 13 rfl rfl)
theorem dX5_judged_62 : decode cX5_judged 62 = .ok (.sipush 1134, 3) := dk_17 4 110 (dk_at dksX5_judged_2 14 rfl rfl)
theorem dX5_judged_65 : decode cX5_judged 65 = .ok (.iconst 0, 1) := dk_3 (dk_at dksX5_judged_2 17 rfl rfl)
theorem dX5_judged_66 : decode cX5_judged 66 = .ok (.invokevirtual 379, 3) := dk_182 1 123 (dk_at dksX5_judged_2 18 rfl rfl)
theorem dX5_judged_69 : decode cX5_judged 69 = .ok (.istore 6, 2) := dk_54 6 (dk_at dksX5_judged_2 21 rfl rfl)
theorem dX5_judged_71 : decode cX5_judged 71 = .ok (.iload 6, 2) := dk_21 6 (dk_at dksX5_judged_3 0 rfl rfl)
theorem dX5_judged_73 : decode cX5_judged 73 = .ok (.ifCond .le 12, 3) := dk_158 0 12 (dk_at dksX5_judged_3 2 rfl rfl)
theorem dX5_judged_76 : decode cX5_judged 76 = .ok (.iload_n 3, 1) := dk_29 (dk_at dksX5_judged_3 5 rfl rfl)
theorem dX5_judged_77 : decode cX5_judged 77 = .ok (.ifCond .ge 8, 3) := dk_156 0 8 (dk_at dksX5_judged_3 6 rfl rfl)
theorem dX5_judged_80 : decode cX5_judged 80 = .ok (.iload 4, 2) := dk_21 4 (dk_at dksX5_judged_3 9 rfl rfl)
theorem dX5_judged_82 : decode cX5_judged 82 = .ok (.goto 4, 3) := dk_167 0 4 (dk_at dksX5_judged_3 11 rfl rfl)
theorem dX5_judged_85 : decode cX5_judged 85 = .ok (.iload_n 3, 1) := dk_29 (dk_at dksX5_judged_3 14 rfl rfl)
theorem dX5_judged_86 : decode cX5_judged 86 = .ok (.istore_n 3, 1) := dk_62 (dk_at dksX5_judged_3 15 rfl rfl)
theorem dX5_judged_87 : decode cX5_judged 87 = .ok (.goto 49, 3) := dk_167 0 49 (dk_at dksX5_judged_3 16 rfl rfl)
theorem dX5_judged_90 : decode cX5_judged 90 = .ok (.aload_n 0, 1) := dk_42 (dk_at dksX5_judged_3 19 rfl rfl)
theorem dX5_judged_91 : decode cX5_judged 91 = .ok (.iload 5, 2) := dk_21 5 (dk_at dksX5_judged_3 20 rfl rfl)
theorem dX5_judged_93 : decode cX5_judged 93 = .ok (.aload_n 0, 1) := dk_42 (dk_at dksX5_judged_3 22 rfl rfl)
theorem dX5_judged_94 : decode cX5_judged 94 = .ok (.getfield 104, 3) := dk_180 0 104 (dk_at dksX5_judged_4 0 rfl rfl)
theorem dX5_judged_97 : decode cX5_judged 97 = .ok (.iconst 2, 1) := dk_5 (dk_at dksX5_judged_4 3 rfl rfl)
theorem dX5_judged_98 : decode cX5_judged 98 = .ok (.iconst 3, 1) := dk_6 (dk_at dksX5_judged_4 4 rfl rfl)
theorem dX5_judged_99 : decode cX5_judged 99 = .ok (.iload 4, 2) := dk_21 4 (dk_at dksX5_judged_4 5 rfl rfl)
theorem dX5_judged_101 : decode cX5_judged 101 = .ok (.imul, 1) := dk_104 (dk_at dksX5_judged_4 7 rfl rfl)
theorem dX5_judged_102 : decode cX5_judged 102 = .ok (.iadd, 1) := dk_96 (dk_at dksX5_judged_4 8 rfl rfl)
theorem dX5_judged_103 : decode cX5_judged 103 = .ok (.iaload, 1) := dk_46 (dk_at dksX5_judged_4 9 rfl rfl)
theorem dX5_judged_104 : decode cX5_judged 104 = .ok (.aload_n 0, 1) := dk_42 (dk_at dksX5_judged_4 10 rfl rfl)
theorem dX5_judged_105 : decode cX5_judged 105 = .ok (.getfield 104, 3) := dk_180 0 104 (dk_at dksX5_judged_4 11 rfl rfl)
theorem dX5_judged_108 : decode cX5_judged 108 = .ok (.iconst 3, 1) := dk_6 (dk_at dksX5_judged_4 14 rfl rfl)
theorem dX5_judged_109 : decode cX5_judged 109 = .ok (.iconst 3, 1) := dk_6 (dk_at dksX5_judged_4 15 rfl rfl)
theorem dX5_judged_110 : decode cX5_judged 110 = .ok (.iload 4, 2) := dk_21 4 (dk_at dksX5_judged_4 16 rfl rfl)
theorem dX5_judged_112 : decode cX5_judged 112 = .ok (.imul, 1) := dk_104 (dk_at dksX5_judged_4 18 rfl rfl)
theorem dX5_judged_113 : decode cX5_judged 113 = .ok (.iadd, 1) := dk_96 (dk_at dksX5_judged_4 19 rfl rfl)
theorem dX5_judged_114 : decode cX5_judged 114 = .ok (.iaload, 1) := dk_46 (dk_at dksX5_judged_4 20 rfl rfl)
theorem dX5_judged_115 : decode cX5_judged 115 = .ok (.invokevirtual 382, 3) := dk_182 1 126 (dk_at dksX5_judged_4 21 rfl rfl)
theorem dX5_judged_118 : decode cX5_judged 118 = .ok (.istore 6, 2) := dk_54 6 (dk_at dksX5_judged_5 0 rfl rfl)
theorem dX5_judged_120 : decode cX5_judged 120 = .ok (.iload 6, 2) := dk_21 6 (dk_at dksX5_judged_5 2 rfl rfl)
theorem dX5_judged_122 : decode cX5_judged 122 = .ok (.ifCond .ne 12, 3) := dk_154 0 12 (dk_at dksX5_judged_5 4 rfl rfl)
theorem dX5_judged_125 : decode cX5_judged 125 = .ok (.iload_n 2, 1) := dk_28 (dk_at dksX5_judged_5 7 rfl rfl)
theorem dX5_judged_126 : decode cX5_judged 126 = .ok (.ifCond .ge 8, 3) := dk_156 0 8 (dk_at dksX5_judged_5 8 rfl rfl)
theorem dX5_judged_129 : decode cX5_judged 129 = .ok (.iload 4, 2) := dk_21 4 (dk_at dksX5_judged_5 11 rfl rfl)
theorem dX5_judged_131 : decode cX5_judged 131 = .ok (.goto 4, 3) := dk_167 0 4 (dk_at dksX5_judged_5 13 rfl rfl)
theorem dX5_judged_134 : decode cX5_judged 134 = .ok (.iload_n 2, 1) := dk_28 (dk_at dksX5_judged_5 16 rfl rfl)
theorem dX5_judged_135 : decode cX5_judged 135 = .ok (.istore_n 2, 1) := dk_61 (dk_at dksX5_judged_5 17 rfl rfl)
theorem dX5_judged_136 : decode cX5_judged 136 = .ok (.iinc 4 1, 3) := dk_132 4 1 (dk_at dksX5_judged_5 18 rfl rfl)
theorem dX5_judged_139 : decode cX5_judged 139 = .ok (.goto (-108), 3) := dk_167 255 148 (dk_at dksX5_judged_5 21 rfl rfl)
theorem dX5_judged_142 : decode cX5_judged 142 = .ok (.iload_n 1, 1) := dk_27 (dk_at dksX5_judged_6 0 rfl rfl)
theorem dX5_judged_143 : decode cX5_judged 143 = .ok (.ifCond .ne 7, 3) := dk_154 0 7 (dk_at dksX5_judged_6 1 rfl rfl)
theorem dX5_judged_146 : decode cX5_judged 146 = .ok (.iload_n 2, 1) := dk_28 (dk_at dksX5_judged_6 4 rfl rfl)
theorem dX5_judged_147 : decode cX5_judged 147 = .ok (.goto 23, 3) := dk_167 0 23 (dk_at dksX5_judged_6 5 rfl rfl)
theorem dX5_judged_150 : decode cX5_judged 150 = .ok (.iload_n 1, 1) := dk_27 (dk_at dksX5_judged_6 8 rfl rfl)
theorem dX5_judged_151 : decode cX5_judged 151 = .ok (.iconst 1, 1) := dk_4 (dk_at dksX5_judged_6 9 rfl rfl)
theorem dX5_judged_152 : decode cX5_judged 152 = .ok (.if_icmp .ne 7, 3) := dk_160 0 7 (dk_at dksX5_judged_6 10 rfl rfl)
theorem dX5_judged_155 : decode cX5_judged 155 = .ok (.iload_n 3, 1) := dk_29 (dk_at dksX5_judged_6 13 rfl rfl)
theorem dX5_judged_156 : decode cX5_judged 156 = .ok (.goto 14, 3) := dk_167 0 14 (dk_at dksX5_judged_6 14 rfl rfl)
theorem dX5_judged_159 : decode cX5_judged 159 = .ok (.aload_n 0, 1) := dk_42 (dk_at dksX5_judged_6 17 rfl rfl)
theorem dX5_judged_160 : decode cX5_judged 160 = .ok (.aload_n 0, 1) := dk_42 (dk_at dksX5_judged_6 18 rfl rfl)
theorem dX5_judged_161 : decode cX5_judged 161 = .ok (.sipush 1134, 3) := dk_17 4 110 (dk_at dksX5_judged_6 19 rfl rfl)
theorem dX5_judged_164 : decode cX5_judged 164 = .ok (.invokevirtual 358, 3) := dk_182 1 102 (dk_at dksX5_judged_7 0 rfl rfl)
theorem dX5_judged_167 : decode cX5_judged 167 = .ok (.invokevirtual 385, 3) := dk_182 1 129 (dk_at dksX5_judged_7 3 rfl rfl)
theorem dX5_judged_170 : decode cX5_judged 170 = .ok (.ireturn, 1) := dk_172 (dk_at dksX5_judged_7 6 rfl rfl)
abbrev cX5_does : ByteArray := prog_23_method_83_code
def yX5_does : MethodName := ⟨RX5, "does", "(III)Z"⟩
def dkwX5_does_6 : List UInt8 := [28, 182, 1, 120, 87, 21, 4, 172]
abbrev dktX5_does_6 : List UInt8 := dkwX5_does_6 ++ []
def dkwX5_does_5 : List UInt8 := [160, 0, 15, 42, 17, 4, 110, 28, 182, 1, 117, 87, 167, 0, 17, 21, 4, 153, 0, 12, 42, 17, 4, 110]
abbrev dktX5_does_5 : List UInt8 := dkwX5_does_5 ++ dktX5_does_6
def dkwX5_does_4 : List UInt8 := [28, 96, 27, 154, 0, 7, 29, 167, 0, 4, 3, 79, 167, 0, 39, 21, 4, 153, 0, 20, 27, 5]
abbrev dktX5_does_4 : List UInt8 := dkwX5_does_4 ++ dktX5_does_5
def dkwX5_does_3 : List UInt8 := [4, 167, 0, 4, 3, 54, 4, 21, 4, 153, 0, 30, 27, 5, 162, 0, 25, 42, 180, 0, 113, 17, 4, 124]
abbrev dktX5_does_3 : List UInt8 := dkwX5_does_3 ++ dktX5_does_4
def dkwX5_does_2 : List UInt8 := [154, 0, 7, 4, 167, 0, 25, 3, 167, 0, 21, 42, 180, 0, 113, 17, 4, 111, 46, 16, 8, 162, 0, 7]
abbrev dktX5_does_2 : List UInt8 := dkwX5_does_2 ++ dktX5_does_3
def dkwX5_does_1 : List UInt8 := [17, 4, 110, 28, 182, 1, 48, 167, 0, 45, 27, 5, 160, 0, 22, 42, 17, 4, 110, 28, 182, 1, 48]
abbrev dktX5_does_1 : List UInt8 := dkwX5_does_1 ++ dktX5_does_2
def dkwX5_does_0 : List UInt8 := [27, 154, 0, 15, 42, 17, 4, 110, 28, 29, 182, 1, 111, 167, 0, 61, 27, 4, 160, 0, 14, 42]
abbrev dktX5_does_0 : List UInt8 := dkwX5_does_0 ++ dktX5_does_1
theorem dksX5_does_0 : cX5_does.data.toList.drop 0 = dktX5_does_0 := by decide +kernel
theorem dksX5_does_1 : cX5_does.data.toList.drop 22 = dktX5_does_1 := dk_seg dksX5_does_0 22 rfl rfl
theorem dksX5_does_2 : cX5_does.data.toList.drop 45 = dktX5_does_2 := dk_seg dksX5_does_1 23 rfl rfl
theorem dksX5_does_3 : cX5_does.data.toList.drop 69 = dktX5_does_3 := dk_seg dksX5_does_2 24 rfl rfl
theorem dksX5_does_4 : cX5_does.data.toList.drop 93 = dktX5_does_4 := dk_seg dksX5_does_3 24 rfl rfl
theorem dksX5_does_5 : cX5_does.data.toList.drop 115 = dktX5_does_5 := dk_seg dksX5_does_4 22 rfl rfl
theorem dksX5_does_6 : cX5_does.data.toList.drop 139 = dktX5_does_6 := dk_seg dksX5_does_5 24 rfl rfl
theorem dX5_does_0 : decode cX5_does 0 = .ok (.iload_n 1, 1) := dk_27 (dk_at dksX5_does_0 0 rfl rfl)
theorem dX5_does_1 : decode cX5_does 1 = .ok (.ifCond .ne 15, 3) := dk_154 0 15 (dk_at dksX5_does_0 1 rfl rfl)
theorem dX5_does_4 : decode cX5_does 4 = .ok (.aload_n 0, 1) := dk_42 (dk_at dksX5_does_0 4 rfl rfl)
theorem dX5_does_5 : decode cX5_does 5 = .ok (.sipush 1134, 3) := dk_17 4 110 (dk_at dksX5_does_0 5 rfl rfl)
theorem dX5_does_8 : decode cX5_does 8 = .ok (.iload_n 2, 1) := dk_28 (dk_at dksX5_does_0 8 rfl rfl)
theorem dX5_does_9 : decode cX5_does 9 = .ok (.iload_n 3, 1) := dk_29 (dk_at dksX5_does_0 9 rfl rfl)
theorem dX5_does_10 : decode cX5_does 10 = .ok (.invokevirtual 367, 3) := dk_182 1 111 (dk_at dksX5_does_0 10 rfl rfl)
theorem dX5_does_13 : decode cX5_does 13 = .ok (.goto 61, 3) := dk_167 0 61 (dk_at dksX5_does_0 13 rfl rfl)
theorem dX5_does_16 : decode cX5_does 16 = .ok (.iload_n 1, 1) := dk_27 (dk_at dksX5_does_0 16 rfl rfl)
theorem dX5_does_17 : decode cX5_does 17 = .ok (.iconst 1, 1) := dk_4 (dk_at dksX5_does_0 17 rfl rfl)
theorem dX5_does_18 : decode cX5_does 18 = .ok (.if_icmp .ne 14, 3) := dk_160 0 14 (dk_at dksX5_does_0 18 rfl rfl)
theorem dX5_does_21 : decode cX5_does 21 = .ok (.aload_n 0, 1) := dk_42 (dk_at dksX5_does_0 21 rfl rfl)
theorem dX5_does_22 : decode cX5_does 22 = .ok (.sipush 1134, 3) := dk_17 4 110 (dk_at dksX5_does_1 0 rfl rfl)
theorem dX5_does_25 : decode cX5_does 25 = .ok (.iload_n 2, 1) := dk_28 (dk_at dksX5_does_1 3 rfl rfl)
theorem dX5_does_26 : decode cX5_does 26 = .ok (.invokevirtual 304, 3) := dk_182 1 48 (dk_at dksX5_does_1 4 rfl rfl)
theorem dX5_does_29 : decode cX5_does 29 = .ok (.goto 45, 3) := dk_167 0 45 (dk_at dksX5_does_1 7 rfl rfl)
theorem dX5_does_32 : decode cX5_does 32 = .ok (.iload_n 1, 1) := dk_27 (dk_at dksX5_does_1 10 rfl rfl)
theorem dX5_does_33 : decode cX5_does 33 = .ok (.iconst 2, 1) := dk_5 (dk_at dksX5_does_1 11 rfl rfl)
theorem dX5_does_34 : decode cX5_does 34 = .ok (.if_icmp .ne 22, 3) := dk_160 0 22 (dk_at dksX5_does_1 12 rfl rfl)
theorem dX5_does_37 : decode cX5_does 37 = .ok (.aload_n 0, 1) := dk_42 (dk_at dksX5_does_1 15 rfl rfl)
theorem dX5_does_38 : decode cX5_does 38 = .ok (.sipush 1134, 3) := dk_17 4 110 (dk_at dksX5_does_1 16 rfl rfl)
theorem dX5_does_41 : decode cX5_does 41 = .ok (.iload_n 2, 1) := dk_28 (dk_at dksX5_does_1 19 rfl rfl)
theorem dX5_does_42 : decode cX5_does 42 = .ok (.invokevirtual 304, 3) := dk_182 1 48 (dk_at dksX5_does_1 20 rfl rfl)
theorem dX5_does_45 : decode cX5_does 45 = .ok (.ifCond .ne 7, 3) := dk_154 0 7 (dk_at dksX5_does_2 0 rfl rfl)
theorem dX5_does_48 : decode cX5_does 48 = .ok (.iconst 1, 1) := dk_4 (dk_at dksX5_does_2 3 rfl rfl)
theorem dX5_does_49 : decode cX5_does 49 = .ok (.goto 25, 3) := dk_167 0 25 (dk_at dksX5_does_2 4 rfl rfl)
theorem dX5_does_52 : decode cX5_does 52 = .ok (.iconst 0, 1) := dk_3 (dk_at dksX5_does_2 7 rfl rfl)
theorem dX5_does_53 : decode cX5_does 53 = .ok (.goto 21, 3) := dk_167 0 21 (dk_at dksX5_does_2 8 rfl rfl)
theorem dX5_does_56 : decode cX5_does 56 = .ok (.aload_n 0, 1) := dk_42 (dk_at dksX5_does_2 11 rfl rfl)
theorem dX5_does_57 : decode cX5_does 57 = .ok (.getfield 113, 3) := dk_180 0 113 (dk_at dksX5_does_2 12 rfl rfl)
theorem dX5_does_60 : decode cX5_does 60 = .ok (.sipush 1135, 3) := dk_17 4 111 (dk_at dksX5_does_2 15 rfl rfl)
theorem dX5_does_63 : decode cX5_does 63 = .ok (.iaload, 1) := dk_46 (dk_at dksX5_does_2 18 rfl rfl)
theorem dX5_does_64 : decode cX5_does 64 = .ok (.bipush 8, 2) := dk_16 8 (dk_at dksX5_does_2 19 rfl rfl)
theorem dX5_does_66 : decode cX5_does 66 = .ok (.if_icmp .ge 7, 3) := dk_162 0 7 (dk_at dksX5_does_2 21 rfl rfl)
theorem dX5_does_69 : decode cX5_does 69 = .ok (.iconst 1, 1) := dk_4 (dk_at dksX5_does_3 0 rfl rfl)
theorem dX5_does_70 : decode cX5_does 70 = .ok (.goto 4, 3) := dk_167 0 4 (dk_at dksX5_does_3 1 rfl rfl)
theorem dX5_does_73 : decode cX5_does 73 = .ok (.iconst 0, 1) := dk_3 (dk_at dksX5_does_3 4 rfl rfl)
theorem dX5_does_74 : decode cX5_does 74 = .ok (.istore 4, 2) := dk_54 4 (dk_at dksX5_does_3 5 rfl rfl)
theorem dX5_does_76 : decode cX5_does 76 = .ok (.iload 4, 2) := dk_21 4 (dk_at dksX5_does_3 7 rfl rfl)
theorem dX5_does_78 : decode cX5_does 78 = .ok (.ifCond .eq 30, 3) := dk_153 0 30 (dk_at dksX5_does_3 9 rfl rfl)
theorem dX5_does_81 : decode cX5_does 81 = .ok (.iload_n 1, 1) := dk_27 (dk_at dksX5_does_3 12 rfl rfl)
theorem dX5_does_82 : decode cX5_does 82 = .ok (.iconst 2, 1) := dk_5 (dk_at dksX5_does_3 13 rfl rfl)
theorem dX5_does_83 : decode cX5_does 83 = .ok (.if_icmp .ge 25, 3) := dk_162 0 25 (dk_at dksX5_does_3 14 rfl rfl)
theorem dX5_does_86 : decode cX5_does 86 = .ok (.aload_n 0, 1) := dk_42 (dk_at dksX5_does_3 17 rfl rfl)
theorem dX5_does_87 : decode cX5_does 87 = .ok (.getfield 113, 3) := dk_180 0 113 (dk_at dksX5_does_3 18 rfl rfl)
theorem dX5_does_90 : decode cX5_does 90 = .ok (.sipush 1148, 3) := dk_17 4 124 (dk_at dksX5_does_3 21 rfl rfl)
theorem dX5_does_93 : decode cX5_does 93 = .ok (.iload_n 2, 1) := dk_28 (dk_at dksX5_does_4 0 rfl rfl)
theorem dX5_does_94 : decode cX5_does 94 = .ok (.iadd, 1) := dk_96 (dk_at dksX5_does_4 1 rfl rfl)
theorem dX5_does_95 : decode cX5_does 95 = .ok (.iload_n 1, 1) := dk_27 (dk_at dksX5_does_4 2 rfl rfl)
theorem dX5_does_96 : decode cX5_does 96 = .ok (.ifCond .ne 7, 3) := dk_154 0 7 (dk_at dksX5_does_4 3 rfl rfl)
theorem dX5_does_99 : decode cX5_does 99 = .ok (.iload_n 3, 1) := dk_29 (dk_at dksX5_does_4 6 rfl rfl)
theorem dX5_does_100 : decode cX5_does 100 = .ok (.goto 4, 3) := dk_167 0 4 (dk_at dksX5_does_4 7 rfl rfl)
theorem dX5_does_103 : decode cX5_does 103 = .ok (.iconst 0, 1) := dk_3 (dk_at dksX5_does_4 10 rfl rfl)
theorem dX5_does_104 : decode cX5_does 104 = .ok (.iastore, 1) := dk_79 (dk_at dksX5_does_4 11 rfl rfl)
theorem dX5_does_105 : decode cX5_does 105 = .ok (.goto 39, 3) := dk_167 0 39 (dk_at dksX5_does_4 12 rfl rfl)
theorem dX5_does_108 : decode cX5_does 108 = .ok (.iload 4, 2) := dk_21 4 (dk_at dksX5_does_4 15 rfl rfl)
theorem dX5_does_110 : decode cX5_does 110 = .ok (.ifCond .eq 20, 3) := dk_153 0 20 (dk_at dksX5_does_4 17 rfl rfl)
theorem dX5_does_113 : decode cX5_does 113 = .ok (.iload_n 1, 1) := dk_27 (dk_at dksX5_does_4 20 rfl rfl)
theorem dX5_does_114 : decode cX5_does 114 = .ok (.iconst 2, 1) := dk_5 (dk_at dksX5_does_4 21 rfl rfl)
theorem dX5_does_115 : decode cX5_does 115 = .ok (.if_icmp .ne 15, 3) := dk_160 0 15 (dk_at dksX5_does_5 0 rfl rfl)
theorem dX5_does_118 : decode cX5_does 118 = .ok (.aload_n 0, 1) := dk_42 (dk_at dksX5_does_5 3 rfl rfl)
theorem dX5_does_119 : decode cX5_does 119 = .ok (.sipush 1134, 3) := dk_17 4 110 (dk_at dksX5_does_5 4 rfl rfl)
theorem dX5_does_122 : decode cX5_does 122 = .ok (.iload_n 2, 1) := dk_28 (dk_at dksX5_does_5 7 rfl rfl)
theorem dX5_does_123 : decode cX5_does 123 = .ok (.invokevirtual 373, 3) := dk_182 1 117 (dk_at dksX5_does_5 8 rfl rfl)
theorem dX5_does_126 : decode cX5_does 126 = .ok (.pop, 1) := dk_87 (dk_at dksX5_does_5 11 rfl rfl)
theorem dX5_does_127 : decode cX5_does 127 = .ok (.goto 17, 3) := dk_167 0 17 (dk_at dksX5_does_5 12 rfl rfl)
theorem dX5_does_130 : decode cX5_does 130 = .ok (.iload 4, 2) := dk_21 4 (dk_at dksX5_does_5 15 rfl rfl)
theorem dX5_does_132 : decode cX5_does 132 = .ok (.ifCond .eq 12, 3) := dk_153 0 12 (dk_at dksX5_does_5 17 rfl rfl)
theorem dX5_does_135 : decode cX5_does 135 = .ok (.aload_n 0, 1) := dk_42 (dk_at dksX5_does_5 20 rfl rfl)
theorem dX5_does_136 : decode cX5_does 136 = .ok (.sipush 1134, 3) := dk_17 4 110 (dk_at dksX5_does_5 21 rfl rfl)
theorem dX5_does_139 : decode cX5_does 139 = .ok (.iload_n 2, 1) := dk_28 (dk_at dksX5_does_6 0 rfl rfl)
theorem dX5_does_140 : decode cX5_does 140 = .ok (.invokevirtual 376, 3) := dk_182 1 120 (dk_at dksX5_does_6 1 rfl rfl)
theorem dX5_does_143 : decode cX5_does 143 = .ok (.pop, 1) := dk_87 (dk_at dksX5_does_6 4 rfl rfl)
theorem dX5_does_144 : decode cX5_does 144 = .ok (.iload 4, 2) := dk_21 4 (dk_at dksX5_does_6 5 rfl rfl)
theorem dX5_does_146 : decode cX5_does 146 = .ok (.ireturn, 1) := dk_172 (dk_at dksX5_does_6 7 rfl rfl)
abbrev cX5_worthOf : ByteArray := prog_23_method_67_code
def yX5_worthOf : MethodName := ⟨RX5, "worthOf", "(I)I"⟩
def dkwX5_worthOf_1 : List UInt8 := [6, 182, 1, 39, 167, 0, 4, 3, 96, 61, 132, 3, 1, 167, 255, 223, 28, 172]
abbrev dktX5_worthOf_1 : List UInt8 := dkwX5_worthOf_1 ++ []
def dkwX5_worthOf_0 : List UInt8 := [3, 61, 3, 62, 29, 42, 182, 1, 36, 162, 0, 31, 28, 27, 29, 122, 4, 126, 4, 160, 0, 12, 42, 29]
abbrev dktX5_worthOf_0 : List UInt8 := dkwX5_worthOf_0 ++ dktX5_worthOf_1
theorem dksX5_worthOf_0 : cX5_worthOf.data.toList.drop 0 = dktX5_worthOf_0 := by decide +kernel
theorem dksX5_worthOf_1 : cX5_worthOf.data.toList.drop 24 = dktX5_worthOf_1 := dk_seg dksX5_worthOf_0 24 rfl rfl
theorem dX5_worthOf_0 : decode cX5_worthOf 0 = .ok (.iconst 0, 1) := dk_3 (dk_at dksX5_worthOf_0 0 rfl rfl)
theorem dX5_worthOf_1 : decode cX5_worthOf 1 = .ok (.istore_n 2, 1) := dk_61 (dk_at dksX5_worthOf_0 1 rfl rfl)
theorem dX5_worthOf_2 : decode cX5_worthOf 2 = .ok (.iconst 0, 1) := dk_3 (dk_at dksX5_worthOf_0 2 rfl rfl)
theorem dX5_worthOf_3 : decode cX5_worthOf 3 = .ok (.istore_n 3, 1) := dk_62 (dk_at dksX5_worthOf_0 3 rfl rfl)
theorem dX5_worthOf_4 : decode cX5_worthOf 4 = .ok (.iload_n 3, 1) := dk_29 (dk_at dksX5_worthOf_0 4 rfl rfl)
theorem dX5_worthOf_5 : decode cX5_worthOf 5 = .ok (.aload_n 0, 1) := dk_42 (dk_at dksX5_worthOf_0 5 rfl rfl)
theorem dX5_worthOf_6 : decode cX5_worthOf 6 = .ok (.invokevirtual 292, 3) := dk_182 1 36 (dk_at dksX5_worthOf_0 6 rfl rfl)
theorem dX5_worthOf_9 : decode cX5_worthOf 9 = .ok (.if_icmp .ge 31, 3) := dk_162 0 31 (dk_at dksX5_worthOf_0 9 rfl rfl)
theorem dX5_worthOf_12 : decode cX5_worthOf 12 = .ok (.iload_n 2, 1) := dk_28 (dk_at dksX5_worthOf_0 12 rfl rfl)
theorem dX5_worthOf_13 : decode cX5_worthOf 13 = .ok (.iload_n 1, 1) := dk_27 (dk_at dksX5_worthOf_0 13 rfl rfl)
theorem dX5_worthOf_14 : decode cX5_worthOf 14 = .ok (.iload_n 3, 1) := dk_29 (dk_at dksX5_worthOf_0 14 rfl rfl)
theorem dX5_worthOf_15 : decode cX5_worthOf 15 = .ok (.ishr, 1) := dk_122 (dk_at dksX5_worthOf_0 15 rfl rfl)
theorem dX5_worthOf_16 : decode cX5_worthOf 16 = .ok (.iconst 1, 1) := dk_4 (dk_at dksX5_worthOf_0 16 rfl rfl)
theorem dX5_worthOf_17 : decode cX5_worthOf 17 = .ok (.iand, 1) := dk_126 (dk_at dksX5_worthOf_0 17 rfl rfl)
theorem dX5_worthOf_18 : decode cX5_worthOf 18 = .ok (.iconst 1, 1) := dk_4 (dk_at dksX5_worthOf_0 18 rfl rfl)
theorem dX5_worthOf_19 : decode cX5_worthOf 19 = .ok (.if_icmp .ne 12, 3) := dk_160 0 12 (dk_at dksX5_worthOf_0 19 rfl rfl)
theorem dX5_worthOf_22 : decode cX5_worthOf 22 = .ok (.aload_n 0, 1) := dk_42 (dk_at dksX5_worthOf_0 22 rfl rfl)
theorem dX5_worthOf_23 : decode cX5_worthOf 23 = .ok (.iload_n 3, 1) := dk_29 (dk_at dksX5_worthOf_0 23 rfl rfl)
theorem dX5_worthOf_24 : decode cX5_worthOf 24 = .ok (.iconst 3, 1) := dk_6 (dk_at dksX5_worthOf_1 0 rfl rfl)
theorem dX5_worthOf_25 : decode cX5_worthOf 25 = .ok (.invokevirtual 295, 3) := dk_182 1 39 (dk_at dksX5_worthOf_1 1 rfl rfl)
theorem dX5_worthOf_28 : decode cX5_worthOf 28 = .ok (.goto 4, 3) := dk_167 0 4 (dk_at dksX5_worthOf_1 4 rfl rfl)
theorem dX5_worthOf_31 : decode cX5_worthOf 31 = .ok (.iconst 0, 1) := dk_3 (dk_at dksX5_worthOf_1 7 rfl rfl)
theorem dX5_worthOf_32 : decode cX5_worthOf 32 = .ok (.iadd, 1) := dk_96 (dk_at dksX5_worthOf_1 8 rfl rfl)
theorem dX5_worthOf_33 : decode cX5_worthOf 33 = .ok (.istore_n 2, 1) := dk_61 (dk_at dksX5_worthOf_1 9 rfl rfl)
theorem dX5_worthOf_34 : decode cX5_worthOf 34 = .ok (.iinc 3 1, 3) := dk_132 3 1 (dk_at dksX5_worthOf_1 10 rfl rfl)
theorem dX5_worthOf_37 : decode cX5_worthOf 37 = .ok (.goto (-33), 3) := dk_167 255 223 (dk_at dksX5_worthOf_1 13 rfl rfl)
theorem dX5_worthOf_40 : decode cX5_worthOf 40 = .ok (.iload_n 2, 1) := dk_28 (dk_at dksX5_worthOf_1 16 rfl rfl)
theorem dX5_worthOf_41 : decode cX5_worthOf 41 = .ok (.ireturn, 1) := dk_172 (dk_at dksX5_worthOf_1 17 rfl rfl)
abbrev cX5_holds : ByteArray := prog_23_method_85_code
def yX5_holds : MethodName := ⟨RX5, "holds", "(I)I"⟩
def dkwX5_holds_3 : List UInt8 := [172]
abbrev dktX5_holds_3 : List UInt8 := dkwX5_holds_3 ++ []
def dkwX5_holds_2 : List UInt8 := [182, 1, 123, 87, 42, 17, 4, 110, 27, 182, 1, 48, 154, 0, 5, 28, 172, 132, 2, 1, 167, 255, 225, 2]
abbrev dktX5_holds_2 : List UInt8 := dkwX5_holds_2 ++ dktX5_holds_3
def dkwX5_holds_1 : List UInt8 := [42, 3, 17, 4, 110, 16, 28, 182, 1, 32, 4, 61, 28, 16, 40, 163, 0, 31, 42, 17, 4, 110, 3]
abbrev dktX5_holds_1 : List UInt8 := dkwX5_holds_1 ++ dktX5_holds_2
def dkwX5_holds_0 : List UInt8 := [42, 3, 181, 0, 1, 42, 27, 182, 1, 90, 153, 0, 12, 42, 3, 27, 182, 1, 48, 154, 0, 5, 2, 172]
abbrev dktX5_holds_0 : List UInt8 := dkwX5_holds_0 ++ dktX5_holds_1
theorem dksX5_holds_0 : cX5_holds.data.toList.drop 0 = dktX5_holds_0 := by decide +kernel
theorem dksX5_holds_1 : cX5_holds.data.toList.drop 24 = dktX5_holds_1 := dk_seg dksX5_holds_0 24 rfl rfl
theorem dksX5_holds_2 : cX5_holds.data.toList.drop 47 = dktX5_holds_2 := dk_seg dksX5_holds_1 23 rfl rfl
theorem dksX5_holds_3 : cX5_holds.data.toList.drop 71 = dktX5_holds_3 := dk_seg dksX5_holds_2 24 rfl rfl
theorem dX5_holds_0 : decode cX5_holds 0 = .ok (.aload_n 0, 1) := dk_42 (dk_at dksX5_holds_0 0 rfl rfl)
theorem dX5_holds_1 : decode cX5_holds 1 = .ok (.iconst 0, 1) := dk_3 (dk_at dksX5_holds_0 1 rfl rfl)
theorem dX5_holds_2 : decode cX5_holds 2 = .ok (.putfield 1, 3) := dk_181 0 1 (dk_at dksX5_holds_0 2 rfl rfl)
theorem dX5_holds_5 : decode cX5_holds 5 = .ok (.aload_n 0, 1) := dk_42 (dk_at dksX5_holds_0 5 rfl rfl)
theorem dX5_holds_6 : decode cX5_holds 6 = .ok (.iload_n 1, 1) := dk_27 (dk_at dksX5_holds_0 6 rfl rfl)
theorem dX5_holds_7 : decode cX5_holds 7 = .ok (.invokevirtual 346, 3) := dk_182 1 90 (dk_at dksX5_holds_0 7 rfl rfl)
theorem dX5_holds_10 : decode cX5_holds 10 = .ok (.ifCond .eq 12, 3) := dk_153 0 12 (dk_at dksX5_holds_0 10 rfl rfl)
theorem dX5_holds_13 : decode cX5_holds 13 = .ok (.aload_n 0, 1) := dk_42 (dk_at dksX5_holds_0 13 rfl rfl)
theorem dX5_holds_14 : decode cX5_holds 14 = .ok (.iconst 0, 1) := dk_3 (dk_at dksX5_holds_0 14 rfl rfl)
theorem dX5_holds_15 : decode cX5_holds 15 = .ok (.iload_n 1, 1) := dk_27 (dk_at dksX5_holds_0 15 rfl rfl)
theorem dX5_holds_16 : decode cX5_holds 16 = .ok (.invokevirtual 304, 3) := dk_182 1 48 (dk_at dksX5_holds_0 16 rfl rfl)
theorem dX5_holds_19 : decode cX5_holds 19 = .ok (.ifCond .ne 5, 3) := dk_154 0 5 (dk_at dksX5_holds_0 19 rfl rfl)
theorem dX5_holds_22 : decode cX5_holds 22 = .ok (.iconst (-1), 1) := dk_2 (dk_at dksX5_holds_0 22 rfl rfl)
theorem dX5_holds_23 : decode cX5_holds 23 = .ok (.ireturn, 1) := dk_172 (dk_at dksX5_holds_0 23 rfl rfl)
theorem dX5_holds_24 : decode cX5_holds 24 = .ok (.aload_n 0, 1) := dk_42 (dk_at dksX5_holds_1 0 rfl rfl)
theorem dX5_holds_25 : decode cX5_holds 25 = .ok (.iconst 0, 1) := dk_3 (dk_at dksX5_holds_1 1 rfl rfl)
theorem dX5_holds_26 : decode cX5_holds 26 = .ok (.sipush 1134, 3) := dk_17 4 110 (dk_at dksX5_holds_1 2 rfl rfl)
theorem dX5_holds_29 : decode cX5_holds 29 = .ok (.bipush 28, 2) := dk_16 28 (dk_at dksX5_holds_1 5 rfl rfl)
theorem dX5_holds_31 : decode cX5_holds 31 = .ok (.invokevirtual 288, 3) := dk_182 1 32 (dk_at dksX5_holds_1 7 rfl rfl)
theorem dX5_holds_34 : decode cX5_holds 34 = .ok (.iconst 1, 1) := dk_4 (dk_at dksX5_holds_1 10 rfl rfl)
theorem dX5_holds_35 : decode cX5_holds 35 = .ok (.istore_n 2, 1) := dk_61 (dk_at dksX5_holds_1 11 rfl rfl)
theorem dX5_holds_36 : decode cX5_holds 36 = .ok (.iload_n 2, 1) := dk_28 (dk_at dksX5_holds_1 12 rfl rfl)
theorem dX5_holds_37 : decode cX5_holds 37 = .ok (.bipush 40, 2) := dk_16 40 (dk_at dksX5_holds_1 13 rfl rfl)
theorem dX5_holds_39 : decode cX5_holds 39 = .ok (.if_icmp .gt 31, 3) := dk_163 0 31 (dk_at dksX5_holds_1 15 rfl rfl)
theorem dX5_holds_42 : decode cX5_holds 42 = .ok (.aload_n 0, 1) := dk_42 (dk_at dksX5_holds_1 18 rfl rfl)
theorem dX5_holds_43 : decode cX5_holds 43 = .ok (.sipush 1134, 3) := dk_17 4 110 (dk_at dksX5_holds_1 19 rfl rfl)
theorem dX5_holds_46 : decode cX5_holds 46 = .ok (.iconst 0, 1) := dk_3 (dk_at dksX5_holds_1 22 rfl rfl)
theorem dX5_holds_47 : decode cX5_holds 47 = .ok (.invokevirtual 379, 3) := dk_182 1 123 (dk_at dksX5_holds_2 0 rfl rfl)
theorem dX5_holds_50 : decode cX5_holds 50 = .ok (.pop, 1) := dk_87 (dk_at dksX5_holds_2 3 rfl rfl)
theorem dX5_holds_51 : decode cX5_holds 51 = .ok (.aload_n 0, 1) := dk_42 (dk_at dksX5_holds_2 4 rfl rfl)
theorem dX5_holds_52 : decode cX5_holds 52 = .ok (.sipush 1134, 3) := dk_17 4 110 (dk_at dksX5_holds_2 5 rfl rfl)
theorem dX5_holds_55 : decode cX5_holds 55 = .ok (.iload_n 1, 1) := dk_27 (dk_at dksX5_holds_2 8 rfl rfl)
theorem dX5_holds_56 : decode cX5_holds 56 = .ok (.invokevirtual 304, 3) := dk_182 1 48 (dk_at dksX5_holds_2 9 rfl rfl)
theorem dX5_holds_59 : decode cX5_holds 59 = .ok (.ifCond .ne 5, 3) := dk_154 0 5 (dk_at dksX5_holds_2 12 rfl rfl)
theorem dX5_holds_62 : decode cX5_holds 62 = .ok (.iload_n 2, 1) := dk_28 (dk_at dksX5_holds_2 15 rfl rfl)
theorem dX5_holds_63 : decode cX5_holds 63 = .ok (.ireturn, 1) := dk_172 (dk_at dksX5_holds_2 16 rfl rfl)
theorem dX5_holds_64 : decode cX5_holds 64 = .ok (.iinc 2 1, 3) := dk_132 2 1 (dk_at dksX5_holds_2 17 rfl rfl)
theorem dX5_holds_67 : decode cX5_holds 67 = .ok (.goto (-31), 3) := dk_167 255 225 (dk_at dksX5_holds_2 20 rfl rfl)
theorem dX5_holds_70 : decode cX5_holds 70 = .ok (.iconst (-1), 1) := dk_2 (dk_at dksX5_holds_2 23 rfl rfl)
theorem dX5_holds_71 : decode cX5_holds 71 = .ok (.ireturn, 1) := dk_172 (dk_at dksX5_holds_3 0 rfl rfl)
abbrev cX5_clashes : ByteArray := prog_23_method_87_code
def yX5_clashes : MethodName := ⟨RX5, "clashes", "()I"⟩
def dkwX5_clashes_0 : List UInt8 := [42, 3, 181, 0, 1, 42, 42, 3, 182, 1, 102, 182, 1, 132, 172]
abbrev dktX5_clashes_0 : List UInt8 := dkwX5_clashes_0 ++ []
theorem dksX5_clashes_0 : cX5_clashes.data.toList.drop 0 = dktX5_clashes_0 := by decide +kernel
theorem dX5_clashes_0 : decode cX5_clashes 0 = .ok (.aload_n 0, 1) := dk_42 (dk_at dksX5_clashes_0 0 rfl rfl)
theorem dX5_clashes_1 : decode cX5_clashes 1 = .ok (.iconst 0, 1) := dk_3 (dk_at dksX5_clashes_0 1 rfl rfl)
theorem dX5_clashes_2 : decode cX5_clashes 2 = .ok (.putfield 1, 3) := dk_181 0 1 (dk_at dksX5_clashes_0 2 rfl rfl)
theorem dX5_clashes_5 : decode cX5_clashes 5 = .ok (.aload_n 0, 1) := dk_42 (dk_at dksX5_clashes_0 5 rfl rfl)
theorem dX5_clashes_6 : decode cX5_clashes 6 = .ok (.aload_n 0, 1) := dk_42 (dk_at dksX5_clashes_0 6 rfl rfl)
theorem dX5_clashes_7 : decode cX5_clashes 7 = .ok (.iconst 0, 1) := dk_3 (dk_at dksX5_clashes_0 7 rfl rfl)
theorem dX5_clashes_8 : decode cX5_clashes 8 = .ok (.invokevirtual 358, 3) := dk_182 1 102 (dk_at dksX5_clashes_0 8 rfl rfl)
theorem dX5_clashes_11 : decode cX5_clashes 11 = .ok (.invokevirtual 388, 3) := dk_182 1 132 (dk_at dksX5_clashes_0 11 rfl rfl)
theorem dX5_clashes_14 : decode cX5_clashes 14 = .ok (.ireturn, 1) := dk_172 (dk_at dksX5_clashes_0 14 rfl rfl)
abbrev cX5_clashesIn : ByteArray := prog_23_method_86_code
def yX5_clashesIn : MethodName := ⟨RX5, "clashesIn", "(I)I"⟩
def dkwX5_clashesIn_3 : List UInt8 := [167, 255, 201, 132, 3, 1, 167, 255, 184, 28, 172]
abbrev dktX5_clashesIn_3 : List UInt8 := dkwX5_clashesIn_3 ++ []
def dkwX5_clashesIn_2 : List UInt8 := [160, 0, 17, 27, 21, 4, 122, 4, 126, 4, 160, 0, 7, 4, 167, 0, 4, 3, 96, 61, 132, 4, 1]
abbrev dktX5_clashesIn_2 : List UInt8 := dkwX5_clashesIn_2 ++ dktX5_clashesIn_3
def dkwX5_clashesIn_1 : List UInt8 := [180, 0, 89, 16, 32, 16, 6, 29, 104, 96, 21, 4, 96, 46, 4, 160, 0, 26, 27, 29, 122, 4, 126, 4]
abbrev dktX5_clashesIn_1 : List UInt8 := dkwX5_clashesIn_1 ++ dktX5_clashesIn_2
def dkwX5_clashesIn_0 : List UInt8 := [3, 61, 3, 62, 29, 42, 182, 1, 36, 162, 0, 70, 3, 54, 4, 21, 4, 29, 162, 0, 55, 28, 42]
abbrev dktX5_clashesIn_0 : List UInt8 := dkwX5_clashesIn_0 ++ dktX5_clashesIn_1
theorem dksX5_clashesIn_0 : cX5_clashesIn.data.toList.drop 0 = dktX5_clashesIn_0 := by decide +kernel
theorem dksX5_clashesIn_1 : cX5_clashesIn.data.toList.drop 23 = dktX5_clashesIn_1 := dk_seg dksX5_clashesIn_0 23 rfl rfl
theorem dksX5_clashesIn_2 : cX5_clashesIn.data.toList.drop 47 = dktX5_clashesIn_2 := dk_seg dksX5_clashesIn_1 24 rfl rfl
theorem dksX5_clashesIn_3 : cX5_clashesIn.data.toList.drop 70 = dktX5_clashesIn_3 := dk_seg dksX5_clashesIn_2 23 rfl rfl
theorem dX5_clashesIn_0 : decode cX5_clashesIn 0 = .ok (.iconst 0, 1) := dk_3 (dk_at dksX5_clashesIn_0 0 rfl rfl)
theorem dX5_clashesIn_1 : decode cX5_clashesIn 1 = .ok (.istore_n 2, 1) := dk_61 (dk_at dksX5_clashesIn_0 1 rfl rfl)
theorem dX5_clashesIn_2 : decode cX5_clashesIn 2 = .ok (.iconst 0, 1) := dk_3 (dk_at dksX5_clashesIn_0 2 rfl rfl)
theorem dX5_clashesIn_3 : decode cX5_clashesIn 3 = .ok (.istore_n 3, 1) := dk_62 (dk_at dksX5_clashesIn_0 3 rfl rfl)
theorem dX5_clashesIn_4 : decode cX5_clashesIn 4 = .ok (.iload_n 3, 1) := dk_29 (dk_at dksX5_clashesIn_0 4 rfl rfl)
theorem dX5_clashesIn_5 : decode cX5_clashesIn 5 = .ok (.aload_n 0, 1) := dk_42 (dk_at dksX5_clashesIn_0 5 rfl rfl)
theorem dX5_clashesIn_6 : decode cX5_clashesIn 6 = .ok (.invokevirtual 292, 3) := dk_182 1 36 (dk_at dksX5_clashesIn_0 6 rfl rfl)
theorem dX5_clashesIn_9 : decode cX5_clashesIn 9 = .ok (.if_icmp .ge 70, 3) := dk_162 0 70 (dk_at dksX5_clashesIn_0 9 rfl rfl)
theorem dX5_clashesIn_12 : decode cX5_clashesIn 12 = .ok (.iconst 0, 1) := dk_3 (dk_at dksX5_clashesIn_0 12 rfl rfl)
theorem dX5_clashesIn_13 : decode cX5_clashesIn 13 = .ok (.istore 4, 2) := dk_54 4 (dk_at dksX5_clashesIn_0 13 rfl rfl)
theorem dX5_clashesIn_15 : decode cX5_clashesIn 15 = .ok (.iload 4, 2) := dk_21 4 (dk_at dksX5_clashesIn_0 15 rfl rfl)
theorem dX5_clashesIn_17 : decode cX5_clashesIn 17 = .ok (.iload_n 3, 1) := dk_29 (dk_at dksX5_clashesIn_0 17 rfl rfl)
theorem dX5_clashesIn_18 : decode cX5_clashesIn 18 = .ok (.if_icmp .ge 55, 3) := dk_162 0 55 (dk_at dksX5_clashesIn_0 18 rfl rfl)
theorem dX5_clashesIn_21 : decode cX5_clashesIn 21 = .ok (.iload_n 2, 1) := dk_28 (dk_at dksX5_clashesIn_0 21 rfl rfl)
theorem dX5_clashesIn_22 : decode cX5_clashesIn 22 = .ok (.aload_n 0, 1) := dk_42 (dk_at dksX5_clashesIn_0 22 rfl rfl)
theorem dX5_clashesIn_23 : decode cX5_clashesIn 23 = .ok (.getfield 89, 3) := dk_180 0 89 (dk_at dksX5_clashesIn_1 0 rfl rfl)
theorem dX5_clashesIn_26 : decode cX5_clashesIn 26 = .ok (.bipush 32, 2) := dk_16 32 (dk_at dksX5_clashesIn_1 3 rfl rfl)
theorem dX5_clashesIn_28 : decode cX5_clashesIn 28 = .ok (.bipush 6, 2) := dk_16 6 (dk_at dksX5_clashesIn_1 5 rfl rfl)
theorem dX5_clashesIn_30 : decode cX5_clashesIn 30 = .ok (.iload_n 3, 1) := dk_29 (dk_at dksX5_clashesIn_1 7 rfl rfl)
theorem dX5_clashesIn_31 : decode cX5_clashesIn 31 = .ok (.imul, 1) := dk_104 (dk_at dksX5_clashesIn_1 8 rfl rfl)
theorem dX5_clashesIn_32 : decode cX5_clashesIn 32 = .ok (.iadd, 1) := dk_96 (dk_at dksX5_clashesIn_1 9 rfl rfl)
theorem dX5_clashesIn_33 : decode cX5_clashesIn 33 = .ok (.iload 4, 2) := dk_21 4 (dk_at dksX5_clashesIn_1 10 rfl rfl)
theorem dX5_clashesIn_35 : decode cX5_clashesIn 35 = .ok (.iadd, 1) := dk_96 (dk_at dksX5_clashesIn_1 12 rfl rfl)
theorem dX5_clashesIn_36 : decode cX5_clashesIn 36 = .ok (.iaload, 1) := dk_46 (dk_at dksX5_clashesIn_1 13 rfl rfl)
theorem dX5_clashesIn_37 : decode cX5_clashesIn 37 = .ok (.iconst 1, 1) := dk_4 (dk_at dksX5_clashesIn_1 14 rfl rfl)
theorem dX5_clashesIn_38 : decode cX5_clashesIn 38 = .ok (.if_icmp .ne 26, 3) := dk_160 0 26 (dk_at dksX5_clashesIn_1 15 rfl rfl)
theorem dX5_clashesIn_41 : decode cX5_clashesIn 41 = .ok (.iload_n 1, 1) := dk_27 (dk_at dksX5_clashesIn_1 18 rfl rfl)
theorem dX5_clashesIn_42 : decode cX5_clashesIn 42 = .ok (.iload_n 3, 1) := dk_29 (dk_at dksX5_clashesIn_1 19 rfl rfl)
theorem dX5_clashesIn_43 : decode cX5_clashesIn 43 = .ok (.ishr, 1) := dk_122 (dk_at dksX5_clashesIn_1 20 rfl rfl)
theorem dX5_clashesIn_44 : decode cX5_clashesIn 44 = .ok (.iconst 1, 1) := dk_4 (dk_at dksX5_clashesIn_1 21 rfl rfl)
theorem dX5_clashesIn_45 : decode cX5_clashesIn 45 = .ok (.iand, 1) := dk_126 (dk_at dksX5_clashesIn_1 22 rfl rfl)
theorem dX5_clashesIn_46 : decode cX5_clashesIn 46 = .ok (.iconst 1, 1) := dk_4 (dk_at dksX5_clashesIn_1 23 rfl rfl)
theorem dX5_clashesIn_47 : decode cX5_clashesIn 47 = .ok (.if_icmp .ne 17, 3) := dk_160 0 17 (dk_at dksX5_clashesIn_2 0 rfl rfl)
theorem dX5_clashesIn_50 : decode cX5_clashesIn 50 = .ok (.iload_n 1, 1) := dk_27 (dk_at dksX5_clashesIn_2 3 rfl rfl)
theorem dX5_clashesIn_51 : decode cX5_clashesIn 51 = .ok (.iload 4, 2) := dk_21 4 (dk_at dksX5_clashesIn_2 4 rfl rfl)
theorem dX5_clashesIn_53 : decode cX5_clashesIn 53 = .ok (.ishr, 1) := dk_122 (dk_at dksX5_clashesIn_2 6 rfl rfl)
theorem dX5_clashesIn_54 : decode cX5_clashesIn 54 = .ok (.iconst 1, 1) := dk_4 (dk_at dksX5_clashesIn_2 7 rfl rfl)
theorem dX5_clashesIn_55 : decode cX5_clashesIn 55 = .ok (.iand, 1) := dk_126 (dk_at dksX5_clashesIn_2 8 rfl rfl)
theorem dX5_clashesIn_56 : decode cX5_clashesIn 56 = .ok (.iconst 1, 1) := dk_4 (dk_at dksX5_clashesIn_2 9 rfl rfl)
theorem dX5_clashesIn_57 : decode cX5_clashesIn 57 = .ok (.if_icmp .ne 7, 3) := dk_160 0 7 (dk_at dksX5_clashesIn_2 10 rfl rfl)
theorem dX5_clashesIn_60 : decode cX5_clashesIn 60 = .ok (.iconst 1, 1) := dk_4 (dk_at dksX5_clashesIn_2 13 rfl rfl)
theorem dX5_clashesIn_61 : decode cX5_clashesIn 61 = .ok (.goto 4, 3) := dk_167 0 4 (dk_at dksX5_clashesIn_2 14 rfl rfl)
theorem dX5_clashesIn_64 : decode cX5_clashesIn 64 = .ok (.iconst 0, 1) := dk_3 (dk_at dksX5_clashesIn_2 17 rfl rfl)
theorem dX5_clashesIn_65 : decode cX5_clashesIn 65 = .ok (.iadd, 1) := dk_96 (dk_at dksX5_clashesIn_2 18 rfl rfl)
theorem dX5_clashesIn_66 : decode cX5_clashesIn 66 = .ok (.istore_n 2, 1) := dk_61 (dk_at dksX5_clashesIn_2 19 rfl rfl)
theorem dX5_clashesIn_67 : decode cX5_clashesIn 67 = .ok (.iinc 4 1, 3) := dk_132 4 1 (dk_at dksX5_clashesIn_2 20 rfl rfl)
theorem dX5_clashesIn_70 : decode cX5_clashesIn 70 = .ok (.goto (-55), 3) := dk_167 255 201 (dk_at dksX5_clashesIn_3 0 rfl rfl)
theorem dX5_clashesIn_73 : decode cX5_clashesIn 73 = .ok (.iinc 3 1, 3) := dk_132 3 1 (dk_at dksX5_clashesIn_3 3 rfl rfl)
theorem dX5_clashesIn_76 : decode cX5_clashesIn 76 = .ok (.goto (-72), 3) := dk_167 255 184 (dk_at dksX5_clashesIn_3 6 rfl rfl)
theorem dX5_clashesIn_79 : decode cX5_clashesIn 79 = .ok (.iload_n 2, 1) := dk_28 (dk_at dksX5_clashesIn_3 9 rfl rfl)
theorem dX5_clashesIn_80 : decode cX5_clashesIn 80 = .ok (.ireturn, 1) := dk_172 (dk_at dksX5_clashesIn_3 10 rfl rfl)
abbrev cX5_mend : ByteArray := prog_23_method_88_code
def yX5_mend : MethodName := ⟨RX5, "mend", "(I)I"⟩
def dkwX5_mend_4 : List UInt8 := [62, 132, 4, 1, 167, 255, 183, 27, 154, 0, 11, 42, 29, 182, 1, 129, 167, 0, 4, 29, 172]
abbrev dktX5_mend_4 : List UInt8 := dkwX5_mend_4 ++ []
def dkwX5_mend_3 : List UInt8 := [29, 155, 0, 17, 42, 21, 4, 182, 1, 129, 42, 29, 182, 1, 129, 162, 0, 8, 21, 4, 167, 0, 4, 29]
abbrev dktX5_mend_3 : List UInt8 := dkwX5_mend_3 ++ dktX5_mend_4
def dkwX5_mend_2 : List UInt8 := [28, 21, 4, 2, 130, 126, 182, 1, 132, 154, 0, 7, 4, 167, 0, 4, 3, 54, 5, 21, 5, 153, 0, 26]
abbrev dktX5_mend_2 : List UInt8 := dkwX5_mend_2 ++ dktX5_mend_3
def dkwX5_mend_1 : List UInt8 := [3, 54, 4, 21, 4, 4, 42, 182, 1, 36, 120, 162, 0, 68, 21, 4, 28, 2, 130, 126, 154, 0, 20, 42]
abbrev dktX5_mend_1 : List UInt8 := dkwX5_mend_1 ++ dktX5_mend_2
def dkwX5_mend_0 : List UInt8 := [42, 3, 181, 0, 1, 27, 3, 4, 184, 1, 93, 154, 0, 5, 2, 172, 42, 3, 182, 1, 102, 61, 2, 62]
abbrev dktX5_mend_0 : List UInt8 := dkwX5_mend_0 ++ dktX5_mend_1
theorem dksX5_mend_0 : cX5_mend.data.toList.drop 0 = dktX5_mend_0 := by decide +kernel
theorem dksX5_mend_1 : cX5_mend.data.toList.drop 24 = dktX5_mend_1 := dk_seg dksX5_mend_0 24 rfl rfl
theorem dksX5_mend_2 : cX5_mend.data.toList.drop 48 = dktX5_mend_2 := dk_seg dksX5_mend_1 24 rfl rfl
theorem dksX5_mend_3 : cX5_mend.data.toList.drop 72 = dktX5_mend_3 := dk_seg dksX5_mend_2 24 rfl rfl
theorem dksX5_mend_4 : cX5_mend.data.toList.drop 96 = dktX5_mend_4 := dk_seg dksX5_mend_3 24 rfl rfl
theorem dX5_mend_0 : decode cX5_mend 0 = .ok (.aload_n 0, 1) := dk_42 (dk_at dksX5_mend_0 0 rfl rfl)
theorem dX5_mend_1 : decode cX5_mend 1 = .ok (.iconst 0, 1) := dk_3 (dk_at dksX5_mend_0 1 rfl rfl)
theorem dX5_mend_2 : decode cX5_mend 2 = .ok (.putfield 1, 3) := dk_181 0 1 (dk_at dksX5_mend_0 2 rfl rfl)
theorem dX5_mend_5 : decode cX5_mend 5 = .ok (.iload_n 1, 1) := dk_27 (dk_at dksX5_mend_0 5 rfl rfl)
theorem dX5_mend_6 : decode cX5_mend 6 = .ok (.iconst 0, 1) := dk_3 (dk_at dksX5_mend_0 6 rfl rfl)
theorem dX5_mend_7 : decode cX5_mend 7 = .ok (.iconst 1, 1) := dk_4 (dk_at dksX5_mend_0 7 rfl rfl)
theorem dX5_mend_8 : decode cX5_mend 8 = .ok (.invokestatic 349, 3) := dk_184 1 93 (dk_at dksX5_mend_0 8 rfl rfl)
theorem dX5_mend_11 : decode cX5_mend 11 = .ok (.ifCond .ne 5, 3) := dk_154 0 5 (dk_at dksX5_mend_0 11 rfl rfl)
theorem dX5_mend_14 : decode cX5_mend 14 = .ok (.iconst (-1), 1) := dk_2 (dk_at dksX5_mend_0 14 rfl rfl)
theorem dX5_mend_15 : decode cX5_mend 15 = .ok (.ireturn, 1) := dk_172 (dk_at dksX5_mend_0 15 rfl rfl)
theorem dX5_mend_16 : decode cX5_mend 16 = .ok (.aload_n 0, 1) := dk_42 (dk_at dksX5_mend_0 16 rfl rfl)
theorem dX5_mend_17 : decode cX5_mend 17 = .ok (.iconst 0, 1) := dk_3 (dk_at dksX5_mend_0 17 rfl rfl)
theorem dX5_mend_18 : decode cX5_mend 18 = .ok (.invokevirtual 358, 3) := dk_182 1 102 (dk_at dksX5_mend_0 18 rfl rfl)
theorem dX5_mend_21 : decode cX5_mend 21 = .ok (.istore_n 2, 1) := dk_61 (dk_at dksX5_mend_0 21 rfl rfl)
theorem dX5_mend_22 : decode cX5_mend 22 = .ok (.iconst (-1), 1) := dk_2 (dk_at dksX5_mend_0 22 rfl rfl)
theorem dX5_mend_23 : decode cX5_mend 23 = .ok (.istore_n 3, 1) := dk_62 (dk_at dksX5_mend_0 23 rfl rfl)
theorem dX5_mend_24 : decode cX5_mend 24 = .ok (.iconst 0, 1) := dk_3 (dk_at dksX5_mend_1 0 rfl rfl)
theorem dX5_mend_25 : decode cX5_mend 25 = .ok (.istore 4, 2) := dk_54 4 (dk_at dksX5_mend_1 1 rfl rfl)
theorem dX5_mend_27 : decode cX5_mend 27 = .ok (.iload 4, 2) := dk_21 4 (dk_at dksX5_mend_1 3 rfl rfl)
theorem dX5_mend_29 : decode cX5_mend 29 = .ok (.iconst 1, 1) := dk_4 (dk_at dksX5_mend_1 5 rfl rfl)
theorem dX5_mend_30 : decode cX5_mend 30 = .ok (.aload_n 0, 1) := dk_42 (dk_at dksX5_mend_1 6 rfl rfl)
theorem dX5_mend_31 : decode cX5_mend 31 = .ok (.invokevirtual 292, 3) := dk_182 1 36 (dk_at dksX5_mend_1 7 rfl rfl)
theorem dX5_mend_34 : decode cX5_mend 34 = .ok (.ishl, 1) := dk_120 (dk_at dksX5_mend_1 10 rfl rfl)
theorem dX5_mend_35 : decode cX5_mend 35 = .ok (.if_icmp .ge 68, 3) := dk_162 0 68 (dk_at dksX5_mend_1 11 rfl rfl)
theorem dX5_mend_38 : decode cX5_mend 38 = .ok (.iload 4, 2) := dk_21 4 (dk_at dksX5_mend_1 14 rfl rfl)
theorem dX5_mend_40 : decode cX5_mend 40 = .ok (.iload_n 2, 1) := dk_28 (dk_at dksX5_mend_1 16 rfl rfl)
theorem dX5_mend_41 : decode cX5_mend 41 = .ok (.iconst (-1), 1) := dk_2 (dk_at dksX5_mend_1 17 rfl rfl)
theorem dX5_mend_42 : decode cX5_mend 42 = .ok (.ixor, 1) := dk_130 (dk_at dksX5_mend_1 18 rfl rfl)
theorem dX5_mend_43 : decode cX5_mend 43 = .ok (.iand, 1) := dk_126 (dk_at dksX5_mend_1 19 rfl rfl)
theorem dX5_mend_44 : decode cX5_mend 44 = .ok (.ifCond .ne 20, 3) := dk_154 0 20 (dk_at dksX5_mend_1 20 rfl rfl)
theorem dX5_mend_47 : decode cX5_mend 47 = .ok (.aload_n 0, 1) := dk_42 (dk_at dksX5_mend_1 23 rfl rfl)
theorem dX5_mend_48 : decode cX5_mend 48 = .ok (.iload_n 2, 1) := dk_28 (dk_at dksX5_mend_2 0 rfl rfl)
theorem dX5_mend_49 : decode cX5_mend 49 = .ok (.iload 4, 2) := dk_21 4 (dk_at dksX5_mend_2 1 rfl rfl)
theorem dX5_mend_51 : decode cX5_mend 51 = .ok (.iconst (-1), 1) := dk_2 (dk_at dksX5_mend_2 3 rfl rfl)
theorem dX5_mend_52 : decode cX5_mend 52 = .ok (.ixor, 1) := dk_130 (dk_at dksX5_mend_2 4 rfl rfl)
theorem dX5_mend_53 : decode cX5_mend 53 = .ok (.iand, 1) := dk_126 (dk_at dksX5_mend_2 5 rfl rfl)
theorem dX5_mend_54 : decode cX5_mend 54 = .ok (.invokevirtual 388, 3) := dk_182 1 132 (dk_at dksX5_mend_2 6 rfl rfl)
theorem dX5_mend_57 : decode cX5_mend 57 = .ok (.ifCond .ne 7, 3) := dk_154 0 7 (dk_at dksX5_mend_2 9 rfl rfl)
theorem dX5_mend_60 : decode cX5_mend 60 = .ok (.iconst 1, 1) := dk_4 (dk_at dksX5_mend_2 12 rfl rfl)
theorem dX5_mend_61 : decode cX5_mend 61 = .ok (.goto 4, 3) := dk_167 0 4 (dk_at dksX5_mend_2 13 rfl rfl)
theorem dX5_mend_64 : decode cX5_mend 64 = .ok (.iconst 0, 1) := dk_3 (dk_at dksX5_mend_2 16 rfl rfl)
theorem dX5_mend_65 : decode cX5_mend 65 = .ok (.istore 5, 2) := dk_54 5 (dk_at dksX5_mend_2 17 rfl rfl)
theorem dX5_mend_67 : decode cX5_mend 67 = .ok (.iload 5, 2) := dk_21 5 (dk_at dksX5_mend_2 19 rfl rfl)
theorem dX5_mend_69 : decode cX5_mend 69 = .ok (.ifCond .eq 26, 3) := dk_153 0 26 (dk_at dksX5_mend_2 21 rfl rfl)
theorem dX5_mend_72 : decode cX5_mend 72 = .ok (.iload_n 3, 1) := dk_29 (dk_at dksX5_mend_3 0 rfl rfl)
theorem dX5_mend_73 : decode cX5_mend 73 = .ok (.ifCond .lt 17, 3) := dk_155 0 17 (dk_at dksX5_mend_3 1 rfl rfl)
theorem dX5_mend_76 : decode cX5_mend 76 = .ok (.aload_n 0, 1) := dk_42 (dk_at dksX5_mend_3 4 rfl rfl)
theorem dX5_mend_77 : decode cX5_mend 77 = .ok (.iload 4, 2) := dk_21 4 (dk_at dksX5_mend_3 5 rfl rfl)
theorem dX5_mend_79 : decode cX5_mend 79 = .ok (.invokevirtual 385, 3) := dk_182 1 129 (dk_at dksX5_mend_3 7 rfl rfl)
theorem dX5_mend_82 : decode cX5_mend 82 = .ok (.aload_n 0, 1) := dk_42 (dk_at dksX5_mend_3 10 rfl rfl)
theorem dX5_mend_83 : decode cX5_mend 83 = .ok (.iload_n 3, 1) := dk_29 (dk_at dksX5_mend_3 11 rfl rfl)
theorem dX5_mend_84 : decode cX5_mend 84 = .ok (.invokevirtual 385, 3) := dk_182 1 129 (dk_at dksX5_mend_3 12 rfl rfl)
theorem dX5_mend_87 : decode cX5_mend 87 = .ok (.if_icmp .ge 8, 3) := dk_162 0 8 (dk_at dksX5_mend_3 15 rfl rfl)
theorem dX5_mend_90 : decode cX5_mend 90 = .ok (.iload 4, 2) := dk_21 4 (dk_at dksX5_mend_3 18 rfl rfl)
theorem dX5_mend_92 : decode cX5_mend 92 = .ok (.goto 4, 3) := dk_167 0 4 (dk_at dksX5_mend_3 20 rfl rfl)
theorem dX5_mend_95 : decode cX5_mend 95 = .ok (.iload_n 3, 1) := dk_29 (dk_at dksX5_mend_3 23 rfl rfl)
theorem dX5_mend_96 : decode cX5_mend 96 = .ok (.istore_n 3, 1) := dk_62 (dk_at dksX5_mend_4 0 rfl rfl)
theorem dX5_mend_97 : decode cX5_mend 97 = .ok (.iinc 4 1, 3) := dk_132 4 1 (dk_at dksX5_mend_4 1 rfl rfl)
theorem dX5_mend_100 : decode cX5_mend 100 = .ok (.goto (-73), 3) := dk_167 255 183 (dk_at dksX5_mend_4 4 rfl rfl)
theorem dX5_mend_103 : decode cX5_mend 103 = .ok (.iload_n 1, 1) := dk_27 (dk_at dksX5_mend_4 7 rfl rfl)
theorem dX5_mend_104 : decode cX5_mend 104 = .ok (.ifCond .ne 11, 3) := dk_154 0 11 (dk_at dksX5_mend_4 8 rfl rfl)
theorem dX5_mend_107 : decode cX5_mend 107 = .ok (.aload_n 0, 1) := dk_42 (dk_at dksX5_mend_4 11 rfl rfl)
theorem dX5_mend_108 : decode cX5_mend 108 = .ok (.iload_n 3, 1) := dk_29 (dk_at dksX5_mend_4 12 rfl rfl)
theorem dX5_mend_109 : decode cX5_mend 109 = .ok (.invokevirtual 385, 3) := dk_182 1 129 (dk_at dksX5_mend_4 13 rfl rfl)
theorem dX5_mend_112 : decode cX5_mend 112 = .ok (.goto 4, 3) := dk_167 0 4 (dk_at dksX5_mend_4 16 rfl rfl)
theorem dX5_mend_115 : decode cX5_mend 115 = .ok (.iload_n 3, 1) := dk_29 (dk_at dksX5_mend_4 19 rfl rfl)
theorem dX5_mend_116 : decode cX5_mend 116 = .ok (.ireturn, 1) := dk_172 (dk_at dksX5_mend_4 20 rfl rfl)
abbrev cX5_fill : ByteArray := prog_23_method_91_code
def yX5_fill : MethodName := ⟨RX5, "fill", "(II)I"⟩
def dkwX5_fill_5 : List UInt8 := [28, 156, 0, 10, 42, 180, 1, 135, 167, 0, 9, 42, 180, 0, 126, 28, 46, 172]
abbrev dktX5_fill_5 : List UInt8 := dkwX5_fill_5 ++ []
def dkwX5_fill_4 : List UInt8 := [132, 4, 1, 167, 255, 218, 42, 2, 181, 1, 135, 42, 3, 29, 42, 180, 0, 89, 6, 46, 3, 182, 1, 141]
abbrev dktX5_fill_4 : List UInt8 := dkwX5_fill_4 ++ dktX5_fill_5
def dkwX5_fill_3 : List UInt8 := [180, 0, 113, 16, 20, 21, 4, 96, 46, 158, 0, 10, 4, 21, 4, 120, 167, 0, 4, 3, 128, 62]
abbrev dktX5_fill_3 : List UInt8 := dkwX5_fill_3 ++ dktX5_fill_4
def dkwX5_fill_2 : List UInt8 := [100, 181, 1, 138, 3, 62, 3, 54, 4, 21, 4, 42, 180, 0, 113, 4, 46, 162, 0, 33, 29, 42]
abbrev dktX5_fill_2 : List UInt8 := dkwX5_fill_2 ++ dktX5_fill_3
def dkwX5_fill_1 : List UInt8 := [182, 1, 90, 154, 0, 6, 16, 254, 172, 42, 27, 182, 1, 145, 42, 4, 42, 180, 0, 113, 4, 46, 120, 4]
abbrev dktX5_fill_1 : List UInt8 := dkwX5_fill_1 ++ dktX5_fill_2
def dkwX5_fill_0 : List UInt8 := [42, 3, 181, 0, 1, 27, 4, 16, 6, 184, 1, 93, 153, 0, 16, 28, 2, 159, 0, 14, 42, 28]
abbrev dktX5_fill_0 : List UInt8 := dkwX5_fill_0 ++ dktX5_fill_1
theorem dksX5_fill_0 : cX5_fill.data.toList.drop 0 = dktX5_fill_0 := by decide +kernel
theorem dksX5_fill_1 : cX5_fill.data.toList.drop 22 = dktX5_fill_1 := dk_seg dksX5_fill_0 22 rfl rfl
theorem dksX5_fill_2 : cX5_fill.data.toList.drop 46 = dktX5_fill_2 := dk_seg dksX5_fill_1 24 rfl rfl
theorem dksX5_fill_3 : cX5_fill.data.toList.drop 68 = dktX5_fill_3 := dk_seg dksX5_fill_2 22 rfl rfl
theorem dksX5_fill_4 : cX5_fill.data.toList.drop 90 = dktX5_fill_4 := dk_seg dksX5_fill_3 22 rfl rfl
theorem dksX5_fill_5 : cX5_fill.data.toList.drop 114 = dktX5_fill_5 := dk_seg dksX5_fill_4 24 rfl rfl
theorem dX5_fill_0 : decode cX5_fill 0 = .ok (.aload_n 0, 1) := dk_42 (dk_at dksX5_fill_0 0 rfl rfl)
theorem dX5_fill_1 : decode cX5_fill 1 = .ok (.iconst 0, 1) := dk_3 (dk_at dksX5_fill_0 1 rfl rfl)
theorem dX5_fill_2 : decode cX5_fill 2 = .ok (.putfield 1, 3) := dk_181 0 1 (dk_at dksX5_fill_0 2 rfl rfl)
theorem dX5_fill_5 : decode cX5_fill 5 = .ok (.iload_n 1, 1) := dk_27 (dk_at dksX5_fill_0 5 rfl rfl)
theorem dX5_fill_6 : decode cX5_fill 6 = .ok (.iconst 1, 1) := dk_4 (dk_at dksX5_fill_0 6 rfl rfl)
theorem dX5_fill_7 : decode cX5_fill 7 = .ok (.bipush 6, 2) := dk_16 6 (dk_at dksX5_fill_0 7 rfl rfl)
theorem dX5_fill_9 : decode cX5_fill 9 = .ok (.invokestatic 349, 3) := dk_184 1 93 (dk_at dksX5_fill_0 9 rfl rfl)
theorem dX5_fill_12 : decode cX5_fill 12 = .ok (.ifCond .eq 16, 3) := dk_153 0 16 (dk_at dksX5_fill_0 12 rfl rfl)
theorem dX5_fill_15 : decode cX5_fill 15 = .ok (.iload_n 2, 1) := dk_28 (dk_at dksX5_fill_0 15 rfl rfl)
theorem dX5_fill_16 : decode cX5_fill 16 = .ok (.iconst (-1), 1) := dk_2 (dk_at dksX5_fill_0 16 rfl rfl)
theorem dX5_fill_17 : decode cX5_fill 17 = .ok (.if_icmp .eq 14, 3) := dk_159 0 14 (dk_at dksX5_fill_0 17 rfl rfl)
theorem dX5_fill_20 : decode cX5_fill 20 = .ok (.aload_n 0, 1) := dk_42 (dk_at dksX5_fill_0 20 rfl rfl)
theorem dX5_fill_21 : decode cX5_fill 21 = .ok (.iload_n 2, 1) := dk_28 (dk_at dksX5_fill_0 21 rfl rfl)
theorem dX5_fill_22 : decode cX5_fill 22 = .ok (.invokevirtual 346, 3) := dk_182 1 90 (dk_at dksX5_fill_1 0 rfl rfl)
theorem dX5_fill_25 : decode cX5_fill 25 = .ok (.ifCond .ne 6, 3) := dk_154 0 6 (dk_at dksX5_fill_1 3 rfl rfl)
theorem dX5_fill_28 : decode cX5_fill 28 = .ok (.bipush (-2), 2) := dk_16 254 (dk_at dksX5_fill_1 6 rfl rfl)
theorem dX5_fill_30 : decode cX5_fill 30 = .ok (.ireturn, 1) := dk_172 (dk_at dksX5_fill_1 8 rfl rfl)
theorem dX5_fill_31 : decode cX5_fill 31 = .ok (.aload_n 0, 1) := dk_42 (dk_at dksX5_fill_1 9 rfl rfl)
theorem dX5_fill_32 : decode cX5_fill 32 = .ok (.iload_n 1, 1) := dk_27 (dk_at dksX5_fill_1 10 rfl rfl)
theorem dX5_fill_33 : decode cX5_fill 33 = .ok (.invokevirtual 401, 3) := dk_182 1 145 (dk_at dksX5_fill_1 11 rfl rfl)
theorem dX5_fill_36 : decode cX5_fill 36 = .ok (.aload_n 0, 1) := dk_42 (dk_at dksX5_fill_1 14 rfl rfl)
theorem dX5_fill_37 : decode cX5_fill 37 = .ok (.iconst 1, 1) := dk_4 (dk_at dksX5_fill_1 15 rfl rfl)
theorem dX5_fill_38 : decode cX5_fill 38 = .ok (.aload_n 0, 1) := dk_42 (dk_at dksX5_fill_1 16 rfl rfl)
theorem dX5_fill_39 : decode cX5_fill 39 = .ok (.getfield 113, 3) := dk_180 0 113 (dk_at dksX5_fill_1 17 rfl rfl)
theorem dX5_fill_42 : decode cX5_fill 42 = .ok (.iconst 1, 1) := dk_4 (dk_at dksX5_fill_1 20 rfl rfl)
theorem dX5_fill_43 : decode cX5_fill 43 = .ok (.iaload, 1) := dk_46 (dk_at dksX5_fill_1 21 rfl rfl)
theorem dX5_fill_44 : decode cX5_fill 44 = .ok (.ishl, 1) := dk_120 (dk_at dksX5_fill_1 22 rfl rfl)
theorem dX5_fill_45 : decode cX5_fill 45 = .ok (.iconst 1, 1) := dk_4 (dk_at dksX5_fill_1 23 rfl rfl)
theorem dX5_fill_46 : decode cX5_fill 46 = .ok (.isub, 1) := dk_100 (dk_at dksX5_fill_2 0 rfl rfl)
theorem dX5_fill_47 : decode cX5_fill 47 = .ok (.putfield 394, 3) := dk_181 1 138 (dk_at dksX5_fill_2 1 rfl rfl)
theorem dX5_fill_50 : decode cX5_fill 50 = .ok (.iconst 0, 1) := dk_3 (dk_at dksX5_fill_2 4 rfl rfl)
theorem dX5_fill_51 : decode cX5_fill 51 = .ok (.istore_n 3, 1) := dk_62 (dk_at dksX5_fill_2 5 rfl rfl)
theorem dX5_fill_52 : decode cX5_fill 52 = .ok (.iconst 0, 1) := dk_3 (dk_at dksX5_fill_2 6 rfl rfl)
theorem dX5_fill_53 : decode cX5_fill 53 = .ok (.istore 4, 2) := dk_54 4 (dk_at dksX5_fill_2 7 rfl rfl)
theorem dX5_fill_55 : decode cX5_fill 55 = .ok (.iload 4, 2) := dk_21 4 (dk_at dksX5_fill_2 9 rfl rfl)
theorem dX5_fill_57 : decode cX5_fill 57 = .ok (.aload_n 0, 1) := dk_42 (dk_at dksX5_fill_2 11 rfl rfl)
theorem dX5_fill_58 : decode cX5_fill 58 = .ok (.getfield 113, 3) := dk_180 0 113 (dk_at dksX5_fill_2 12 rfl rfl)
theorem dX5_fill_61 : decode cX5_fill 61 = .ok (.iconst 1, 1) := dk_4 (dk_at dksX5_fill_2 15 rfl rfl)
theorem dX5_fill_62 : decode cX5_fill 62 = .ok (.iaload, 1) := dk_46 (dk_at dksX5_fill_2 16 rfl rfl)
theorem dX5_fill_63 : decode cX5_fill 63 = .ok (.if_icmp .ge 33, 3) := dk_162 0 33 (dk_at dksX5_fill_2 17 rfl rfl)
theorem dX5_fill_66 : decode cX5_fill 66 = .ok (.iload_n 3, 1) := dk_29 (dk_at dksX5_fill_2 20 rfl rfl)
theorem dX5_fill_67 : decode cX5_fill 67 = .ok (.aload_n 0, 1) := dk_42 (dk_at dksX5_fill_2 21 rfl rfl)
theorem dX5_fill_68 : decode cX5_fill 68 = .ok (.getfield 113, 3) := dk_180 0 113 (dk_at dksX5_fill_3 0 rfl rfl)
theorem dX5_fill_71 : decode cX5_fill 71 = .ok (.bipush 20, 2) := dk_16 20 (dk_at dksX5_fill_3 3 rfl rfl)
theorem dX5_fill_73 : decode cX5_fill 73 = .ok (.iload 4, 2) := dk_21 4 (dk_at dksX5_fill_3 5 rfl rfl)
theorem dX5_fill_75 : decode cX5_fill 75 = .ok (.iadd, 1) := dk_96 (dk_at dksX5_fill_3 7 rfl rfl)
theorem dX5_fill_76 : decode cX5_fill 76 = .ok (.iaload, 1) := dk_46 (dk_at dksX5_fill_3 8 rfl rfl)
theorem dX5_fill_77 : decode cX5_fill 77 = .ok (.ifCond .le 10, 3) := dk_158 0 10 (dk_at dksX5_fill_3 9 rfl rfl)
theorem dX5_fill_80 : decode cX5_fill 80 = .ok (.iconst 1, 1) := dk_4 (dk_at dksX5_fill_3 12 rfl rfl)
theorem dX5_fill_81 : decode cX5_fill 81 = .ok (.iload 4, 2) := dk_21 4 (dk_at dksX5_fill_3 13 rfl rfl)
theorem dX5_fill_83 : decode cX5_fill 83 = .ok (.ishl, 1) := dk_120 (dk_at dksX5_fill_3 15 rfl rfl)
theorem dX5_fill_84 : decode cX5_fill 84 = .ok (.goto 4, 3) := dk_167 0 4 (dk_at dksX5_fill_3 16 rfl rfl)
theorem dX5_fill_87 : decode cX5_fill 87 = .ok (.iconst 0, 1) := dk_3 (dk_at dksX5_fill_3 19 rfl rfl)
theorem dX5_fill_88 : decode cX5_fill 88 = .ok (.ior, 1) := dk_128 (dk_at dksX5_fill_3 20 rfl rfl)
theorem dX5_fill_89 : decode cX5_fill 89 = .ok (.istore_n 3, 1) := dk_62 (dk_at dksX5_fill_3 21 rfl rfl)
theorem dX5_fill_90 : decode cX5_fill 90 = .ok (.iinc 4 1, 3) := dk_132 4 1 (dk_at dksX5_fill_4 0 rfl rfl)
theorem dX5_fill_93 : decode cX5_fill 93 = .ok (.goto (-38), 3) := dk_167 255 218 (dk_at dksX5_fill_4 3 rfl rfl)
theorem dX5_fill_96 : decode cX5_fill 96 = .ok (.aload_n 0, 1) := dk_42 (dk_at dksX5_fill_4 6 rfl rfl)
theorem dX5_fill_97 : decode cX5_fill 97 = .ok (.iconst (-1), 1) := dk_2 (dk_at dksX5_fill_4 7 rfl rfl)
theorem dX5_fill_98 : decode cX5_fill 98 = .ok (.putfield 391, 3) := dk_181 1 135 (dk_at dksX5_fill_4 8 rfl rfl)
theorem dX5_fill_101 : decode cX5_fill 101 = .ok (.aload_n 0, 1) := dk_42 (dk_at dksX5_fill_4 11 rfl rfl)
theorem dX5_fill_102 : decode cX5_fill 102 = .ok (.iconst 0, 1) := dk_3 (dk_at dksX5_fill_4 12 rfl rfl)
theorem dX5_fill_103 : decode cX5_fill 103 = .ok (.iload_n 3, 1) := dk_29 (dk_at dksX5_fill_4 13 rfl rfl)
theorem dX5_fill_104 : decode cX5_fill 104 = .ok (.aload_n 0, 1) := dk_42 (dk_at dksX5_fill_4 14 rfl rfl)
theorem dX5_fill_105 : decode cX5_fill 105 = .ok (.getfield 89, 3) := dk_180 0 89 (dk_at dksX5_fill_4 15 rfl rfl)
theorem dX5_fill_108 : decode cX5_fill 108 = .ok (.iconst 3, 1) := dk_6 (dk_at dksX5_fill_4 18 rfl rfl)
theorem dX5_fill_109 : decode cX5_fill 109 = .ok (.iaload, 1) := dk_46 (dk_at dksX5_fill_4 19 rfl rfl)
theorem dX5_fill_110 : decode cX5_fill 110 = .ok (.iconst 0, 1) := dk_3 (dk_at dksX5_fill_4 20 rfl rfl)
theorem dX5_fill_111 : decode cX5_fill 111 = .ok (.invokevirtual 397, 3) := dk_182 1 141 (dk_at dksX5_fill_4 21 rfl rfl)
theorem dX5_fill_114 : decode cX5_fill 114 = .ok (.iload_n 2, 1) := dk_28 (dk_at dksX5_fill_5 0 rfl rfl)
theorem dX5_fill_115 : decode cX5_fill 115 = .ok (.ifCond .ge 10, 3) := dk_156 0 10 (dk_at dksX5_fill_5 1 rfl rfl)
theorem dX5_fill_118 : decode cX5_fill 118 = .ok (.aload_n 0, 1) := dk_42 (dk_at dksX5_fill_5 4 rfl rfl)
theorem dX5_fill_119 : decode cX5_fill 119 = .ok (.getfield 391, 3) := dk_180 1 135 (dk_at dksX5_fill_5 5 rfl rfl)
theorem dX5_fill_122 : decode cX5_fill 122 = .ok (.goto 9, 3) := dk_167 0 9 (dk_at dksX5_fill_5 8 rfl rfl)
theorem dX5_fill_125 : decode cX5_fill 125 = .ok (.aload_n 0, 1) := dk_42 (dk_at dksX5_fill_5 11 rfl rfl)
theorem dX5_fill_126 : decode cX5_fill 126 = .ok (.getfield 126, 3) := dk_180 0 126 (dk_at dksX5_fill_5 12 rfl rfl)
theorem dX5_fill_129 : decode cX5_fill 129 = .ok (.iload_n 2, 1) := dk_28 (dk_at dksX5_fill_5 15 rfl rfl)
theorem dX5_fill_130 : decode cX5_fill 130 = .ok (.iaload, 1) := dk_46 (dk_at dksX5_fill_5 16 rfl rfl)
theorem dX5_fill_131 : decode cX5_fill 131 = .ok (.ireturn, 1) := dk_172 (dk_at dksX5_fill_5 17 rfl rfl)
abbrev cX5_findHardest : ByteArray := prog_23_method_89_code
def yX5_findHardest : MethodName := ⟨RX5, "findHardest", "(I)V"⟩
def dkwX5_findHardest_4 : List UInt8 := [21, 5, 182, 1, 84, 62, 132, 4, 1, 167, 255, 184, 132, 2, 1, 167, 255, 151, 177]
abbrev dktX5_findHardest_4 : List UInt8 := dkwX5_findHardest_4 ++ []
def dkwX5_findHardest_3 : List UInt8 := [180, 0, 120, 28, 46, 164, 0, 8, 21, 6, 167, 0, 9, 42, 180, 0, 120, 28, 46, 79, 42, 28, 29]
abbrev dktX5_findHardest_3 : List UInt8 := dkwX5_findHardest_3 ++ dktX5_findHardest_4
def dkwX5_findHardest_2 : List UInt8 := [182, 1, 76, 54, 5, 42, 28, 29, 21, 5, 182, 1, 61, 54, 6, 42, 180, 0, 120, 28, 21, 6, 42]
abbrev dktX5_findHardest_2 : List UInt8 := dkwX5_findHardest_2 ++ dktX5_findHardest_3
def dkwX5_findHardest_1 : List UInt8 := [46, 62, 3, 54, 4, 21, 4, 27, 162, 0, 72, 42, 42, 180, 0, 113, 3, 46, 21, 4, 96, 3]
abbrev dktX5_findHardest_1 : List UInt8 := dkwX5_findHardest_1 ++ dktX5_findHardest_2
def dkwX5_findHardest_0 : List UInt8 := [3, 61, 28, 42, 182, 1, 36, 162, 0, 103, 42, 180, 0, 120, 28, 3, 79, 42, 180, 0, 113, 5, 28, 96]
abbrev dktX5_findHardest_0 : List UInt8 := dkwX5_findHardest_0 ++ dktX5_findHardest_1
theorem dksX5_findHardest_0 : cX5_findHardest.data.toList.drop 0 = dktX5_findHardest_0 := by decide +kernel
theorem dksX5_findHardest_1 : cX5_findHardest.data.toList.drop 24 = dktX5_findHardest_1 := dk_seg dksX5_findHardest_0 24 rfl rfl
theorem dksX5_findHardest_2 : cX5_findHardest.data.toList.drop 46 = dktX5_findHardest_2 := dk_seg dksX5_findHardest_1 22 rfl rfl
theorem dksX5_findHardest_3 : cX5_findHardest.data.toList.drop 69 = dktX5_findHardest_3 := dk_seg dksX5_findHardest_2 23 rfl rfl
theorem dksX5_findHardest_4 : cX5_findHardest.data.toList.drop 92 = dktX5_findHardest_4 := dk_seg dksX5_findHardest_3 23 rfl rfl
theorem dX5_findHardest_0 : decode cX5_findHardest 0 = .ok (.iconst 0, 1) := dk_3 (dk_at dksX5_findHardest_0 0 rfl rfl)
theorem dX5_findHardest_1 : decode cX5_findHardest 1 = .ok (.istore_n 2, 1) := dk_61 (dk_at dksX5_findHardest_0 1 rfl rfl)
theorem dX5_findHardest_2 : decode cX5_findHardest 2 = .ok (.iload_n 2, 1) := dk_28 (dk_at dksX5_findHardest_0 2 rfl rfl)
theorem dX5_findHardest_3 : decode cX5_findHardest 3 = .ok (.aload_n 0, 1) := dk_42 (dk_at dksX5_findHardest_0 3 rfl rfl)
theorem dX5_findHardest_4 : decode cX5_findHardest 4 = .ok (.invokevirtual 292, 3) := dk_182 1 36 (dk_at dksX5_findHardest_0 4 rfl rfl)
theorem dX5_findHardest_7 : decode cX5_findHardest 7 = .ok (.if_icmp .ge 103, 3) := dk_162 0 103 (dk_at dksX5_findHardest_0 7 rfl rfl)
theorem dX5_findHardest_10 : decode cX5_findHardest 10 = .ok (.aload_n 0, 1) := dk_42 (dk_at dksX5_findHardest_0 10 rfl rfl)
theorem dX5_findHardest_11 : decode cX5_findHardest 11 = .ok (.getfield 120, 3) := dk_180 0 120 (dk_at dksX5_findHardest_0 11 rfl rfl)
theorem dX5_findHardest_14 : decode cX5_findHardest 14 = .ok (.iload_n 2, 1) := dk_28 (dk_at dksX5_findHardest_0 14 rfl rfl)
theorem dX5_findHardest_15 : decode cX5_findHardest 15 = .ok (.iconst 0, 1) := dk_3 (dk_at dksX5_findHardest_0 15 rfl rfl)
theorem dX5_findHardest_16 : decode cX5_findHardest 16 = .ok (.iastore, 1) := dk_79 (dk_at dksX5_findHardest_0 16 rfl rfl)
theorem dX5_findHardest_17 : decode cX5_findHardest 17 = .ok (.aload_n 0, 1) := dk_42 (dk_at dksX5_findHardest_0 17 rfl rfl)
theorem dX5_findHardest_18 : decode cX5_findHardest 18 = .ok (.getfield 113, 3) := dk_180 0 113 (dk_at dksX5_findHardest_0 18 rfl rfl)
theorem dX5_findHardest_21 : decode cX5_findHardest 21 = .ok (.iconst 2, 1) := dk_5 (dk_at dksX5_findHardest_0 21 rfl rfl)
theorem dX5_findHardest_22 : decode cX5_findHardest 22 = .ok (.iload_n 2, 1) := dk_28 (dk_at dksX5_findHardest_0 22 rfl rfl)
theorem dX5_findHardest_23 : decode cX5_findHardest 23 = .ok (.iadd, 1) := dk_96 (dk_at dksX5_findHardest_0 23 rfl rfl)
theorem dX5_findHardest_24 : decode cX5_findHardest 24 = .ok (.iaload, 1) := dk_46 (dk_at dksX5_findHardest_1 0 rfl rfl)
theorem dX5_findHardest_25 : decode cX5_findHardest 25 = .ok (.istore_n 3, 1) := dk_62 (dk_at dksX5_findHardest_1 1 rfl rfl)
theorem dX5_findHardest_26 : decode cX5_findHardest 26 = .ok (.iconst 0, 1) := dk_3 (dk_at dksX5_findHardest_1 2 rfl rfl)
theorem dX5_findHardest_27 : decode cX5_findHardest 27 = .ok (.istore 4, 2) := dk_54 4 (dk_at dksX5_findHardest_1 3 rfl rfl)
theorem dX5_findHardest_29 : decode cX5_findHardest 29 = .ok (.iload 4, 2) := dk_21 4 (dk_at dksX5_findHardest_1 5 rfl rfl)
theorem dX5_findHardest_31 : decode cX5_findHardest 31 = .ok (.iload_n 1, 1) := dk_27 (dk_at dksX5_findHardest_1 7 rfl rfl)
theorem dX5_findHardest_32 : decode cX5_findHardest 32 = .ok (.if_icmp .ge 72, 3) := dk_162 0 72 (dk_at dksX5_findHardest_1 8 rfl rfl)
theorem dX5_findHardest_35 : decode cX5_findHardest 35 = .ok (.aload_n 0, 1) := dk_42 (dk_at dksX5_findHardest_1 11 rfl rfl)
theorem dX5_findHardest_36 : decode cX5_findHardest 36 = .ok (.aload_n 0, 1) := dk_42 (dk_at dksX5_findHardest_1 12 rfl rfl)
theorem dX5_findHardest_37 : decode cX5_findHardest 37 = .ok (.getfield 113, 3) := dk_180 0 113 (dk_at dksX5_findHardest_1 13 rfl rfl)
theorem dX5_findHardest_40 : decode cX5_findHardest 40 = .ok (.iconst 0, 1) := dk_3 (dk_at dksX5_findHardest_1 16 rfl rfl)
theorem dX5_findHardest_41 : decode cX5_findHardest 41 = .ok (.iaload, 1) := dk_46 (dk_at dksX5_findHardest_1 17 rfl rfl)
theorem dX5_findHardest_42 : decode cX5_findHardest 42 = .ok (.iload 4, 2) := dk_21 4 (dk_at dksX5_findHardest_1 18 rfl rfl)
theorem dX5_findHardest_44 : decode cX5_findHardest 44 = .ok (.iadd, 1) := dk_96 (dk_at dksX5_findHardest_1 20 rfl rfl)
theorem dX5_findHardest_45 : decode cX5_findHardest 45 = .ok (.iconst 0, 1) := dk_3 (dk_at dksX5_findHardest_1 21 rfl rfl)
theorem dX5_findHardest_46 : decode cX5_findHardest 46 = .ok (.invokevirtual 332, 3) := dk_182 1 76 (dk_at dksX5_findHardest_2 0 rfl rfl)
theorem dX5_findHardest_49 : decode cX5_findHardest 49 = .ok (.istore 5, 2) := dk_54 5 (dk_at dksX5_findHardest_2 3 rfl rfl)
theorem dX5_findHardest_51 : decode cX5_findHardest 51 = .ok (.aload_n 0, 1) := dk_42 (dk_at dksX5_findHardest_2 5 rfl rfl)
theorem dX5_findHardest_52 : decode cX5_findHardest 52 = .ok (.iload_n 2, 1) := dk_28 (dk_at dksX5_findHardest_2 6 rfl rfl)
theorem dX5_findHardest_53 : decode cX5_findHardest 53 = .ok (.iload_n 3, 1) := dk_29 (dk_at dksX5_findHardest_2 7 rfl rfl)
theorem dX5_findHardest_54 : decode cX5_findHardest 54 = .ok (.iload 5, 2) := dk_21 5 (dk_at dksX5_findHardest_2 8 rfl rfl)
theorem dX5_findHardest_56 : decode cX5_findHardest 56 = .ok (.invokevirtual 317, 3) := dk_182 1 61 (dk_at dksX5_findHardest_2 10 rfl rfl)
theorem dX5_findHardest_59 : decode cX5_findHardest 59 = .ok (.istore 6, 2) := dk_54 6 (dk_at dksX5_findHardest_2 13 rfl rfl)
theorem dX5_findHardest_61 : decode cX5_findHardest 61 = .ok (.aload_n 0, 1) := dk_42 (dk_at dksX5_findHardest_2 15 rfl rfl)
theorem dX5_findHardest_62 : decode cX5_findHardest 62 = .ok (.getfield 120, 3) := dk_180 0 120 (dk_at dksX5_findHardest_2 16 rfl rfl)
theorem dX5_findHardest_65 : decode cX5_findHardest 65 = .ok (.iload_n 2, 1) := dk_28 (dk_at dksX5_findHardest_2 19 rfl rfl)
theorem dX5_findHardest_66 : decode cX5_findHardest 66 = .ok (.iload 6, 2) := dk_21 6 (dk_at dksX5_findHardest_2 20 rfl rfl)
theorem dX5_findHardest_68 : decode cX5_findHardest 68 = .ok (.aload_n 0, 1) := dk_42 (dk_at dksX5_findHardest_2 22 rfl rfl)
theorem dX5_findHardest_69 : decode cX5_findHardest 69 = .ok (.getfield 120, 3) := dk_180 0 120 (dk_at dksX5_findHardest_3 0 rfl rfl)
theorem dX5_findHardest_72 : decode cX5_findHardest 72 = .ok (.iload_n 2, 1) := dk_28 (dk_at dksX5_findHardest_3 3 rfl rfl)
theorem dX5_findHardest_73 : decode cX5_findHardest 73 = .ok (.iaload, 1) := dk_46 (dk_at dksX5_findHardest_3 4 rfl rfl)
theorem dX5_findHardest_74 : decode cX5_findHardest 74 = .ok (.if_icmp .le 8, 3) := dk_164 0 8 (dk_at dksX5_findHardest_3 5 rfl rfl)
theorem dX5_findHardest_77 : decode cX5_findHardest 77 = .ok (.iload 6, 2) := dk_21 6 (dk_at dksX5_findHardest_3 8 rfl rfl)
theorem dX5_findHardest_79 : decode cX5_findHardest 79 = .ok (.goto 9, 3) := dk_167 0 9 (dk_at dksX5_findHardest_3 10 rfl rfl)
theorem dX5_findHardest_82 : decode cX5_findHardest 82 = .ok (.aload_n 0, 1) := dk_42 (dk_at dksX5_findHardest_3 13 rfl rfl)
theorem dX5_findHardest_83 : decode cX5_findHardest 83 = .ok (.getfield 120, 3) := dk_180 0 120 (dk_at dksX5_findHardest_3 14 rfl rfl)
theorem dX5_findHardest_86 : decode cX5_findHardest 86 = .ok (.iload_n 2, 1) := dk_28 (dk_at dksX5_findHardest_3 17 rfl rfl)
theorem dX5_findHardest_87 : decode cX5_findHardest 87 = .ok (.iaload, 1) := dk_46 (dk_at dksX5_findHardest_3 18 rfl rfl)
theorem dX5_findHardest_88 : decode cX5_findHardest 88 = .ok (.iastore, 1) := dk_79 (dk_at dksX5_findHardest_3 19 rfl rfl)
theorem dX5_findHardest_89 : decode cX5_findHardest 89 = .ok (.aload_n 0, 1) := dk_42 (dk_at dksX5_findHardest_3 20 rfl rfl)
theorem dX5_findHardest_90 : decode cX5_findHardest 90 = .ok (.iload_n 2, 1) := dk_28 (dk_at dksX5_findHardest_3 21 rfl rfl)
theorem dX5_findHardest_91 : decode cX5_findHardest 91 = .ok (.iload_n 3, 1) := dk_29 (dk_at dksX5_findHardest_3 22 rfl rfl)
theorem dX5_findHardest_92 : decode cX5_findHardest 92 = .ok (.iload 5, 2) := dk_21 5 (dk_at dksX5_findHardest_4 0 rfl rfl)
theorem dX5_findHardest_94 : decode cX5_findHardest 94 = .ok (.invokevirtual 340, 3) := dk_182 1 84 (dk_at dksX5_findHardest_4 2 rfl rfl)
theorem dX5_findHardest_97 : decode cX5_findHardest 97 = .ok (.istore_n 3, 1) := dk_62 (dk_at dksX5_findHardest_4 5 rfl rfl)
theorem dX5_findHardest_98 : decode cX5_findHardest 98 = .ok (.iinc 4 1, 3) := dk_132 4 1 (dk_at dksX5_findHardest_4 6 rfl rfl)
theorem dX5_findHardest_101 : decode cX5_findHardest 101 = .ok (.goto (-72), 3) := dk_167 255 184 (dk_at dksX5_findHardest_4 9 rfl rfl)
theorem dX5_findHardest_104 : decode cX5_findHardest 104 = .ok (.iinc 2 1, 3) := dk_132 2 1 (dk_at dksX5_findHardest_4 12 rfl rfl)
theorem dX5_findHardest_107 : decode cX5_findHardest 107 = .ok (.goto (-105), 3) := dk_167 255 151 (dk_at dksX5_findHardest_4 15 rfl rfl)
theorem dX5_findHardest_110 : decode cX5_findHardest 110 = .ok (.return_, 1) := dk_177 (dk_at dksX5_findHardest_4 18 rfl rfl)
abbrev cX5_fills : ByteArray := prog_23_method_90_code
def yX5_fills : MethodName := ⟨RX5, "fills", "(IIII)V"⟩
def dkwX5_fills_9 : List UInt8 := [177]
abbrev dktX5_fills_9 : List UInt8 := dkwX5_fills_9 ++ []
def dkwX5_fills_8 : List UInt8 := [132, 6, 1, 167, 255, 163, 42, 180, 0, 123, 27, 3, 79, 42, 27, 4, 96, 28, 29, 21, 4, 182, 1, 141]
abbrev dktX5_fills_8 : List UInt8 := dkwX5_fills_8 ++ dktX5_fills_9
def dkwX5_fills_7 : List UInt8 := [2, 130, 126, 29, 42, 27, 4, 182, 1, 39, 100, 21, 4, 42, 27, 6, 182, 1, 39, 96, 182, 1, 141]
abbrev dktX5_fills_7 : List UInt8 := dkwX5_fills_7 ++ dktX5_fills_8
def dkwX5_fills_6 : List UInt8 := [42, 180, 0, 120, 27, 46, 161, 0, 41, 42, 180, 0, 123, 27, 21, 6, 79, 42, 27, 4, 96, 28, 21, 6]
abbrev dktX5_fills_6 : List UInt8 := dkwX5_fills_6 ++ dktX5_fills_7
def dkwX5_fills_5 : List UInt8 := [126, 154, 0, 70, 21, 6, 184, 1, 42, 42, 27, 182, 1, 45, 160, 0, 57, 42, 3, 21, 6, 182, 1, 64]
abbrev dktX5_fills_5 : List UInt8 := dkwX5_fills_5 ++ dktX5_fills_6
def dkwX5_fills_4 : List UInt8 := [54, 5, 4, 54, 6, 21, 6, 42, 180, 1, 138, 163, 0, 90, 21, 5, 153, 0, 85, 21, 6, 28, 2, 130]
abbrev dktX5_fills_4 : List UInt8 := dkwX5_fills_4 ++ dktX5_fills_5
def dkwX5_fills_3 : List UInt8 := [182, 1, 39, 29, 163, 0, 19, 28, 184, 1, 42, 42, 27, 182, 1, 45, 161, 0, 7, 4, 167, 0, 4, 3]
abbrev dktX5_fills_3 : List UInt8 := dkwX5_fills_3 ++ dktX5_fills_4
def dkwX5_fills_2 : List UInt8 := [132, 5, 1, 167, 255, 233, 177, 42, 180, 0, 113, 16, 8, 27, 96, 46, 6, 162, 0, 29, 42, 27, 4]
abbrev dktX5_fills_2 : List UInt8 := dkwX5_fills_2 ++ dktX5_fills_3
def dkwX5_fills_1 : List UInt8 := [54, 5, 21, 5, 27, 162, 0, 23, 42, 180, 0, 126, 21, 5, 42, 180, 0, 123, 21, 5, 46, 79]
abbrev dktX5_fills_1 : List UInt8 := dkwX5_fills_1 ++ dktX5_fills_2
def dkwX5_fills_0 : List UInt8 := [27, 42, 182, 1, 36, 160, 0, 48, 21, 4, 42, 180, 1, 135, 164, 0, 38, 42, 21, 4, 181, 1, 135, 3]
abbrev dktX5_fills_0 : List UInt8 := dkwX5_fills_0 ++ dktX5_fills_1
theorem dksX5_fills_0 : cX5_fills.data.toList.drop 0 = dktX5_fills_0 := by decide +kernel
theorem dksX5_fills_1 : cX5_fills.data.toList.drop 24 = dktX5_fills_1 := dk_seg dksX5_fills_0 24 rfl rfl
theorem dksX5_fills_2 : cX5_fills.data.toList.drop 46 = dktX5_fills_2 := dk_seg dksX5_fills_1 22 rfl rfl
theorem dksX5_fills_3 : cX5_fills.data.toList.drop 69 = dktX5_fills_3 := dk_seg dksX5_fills_2 23 rfl rfl
theorem dksX5_fills_4 : cX5_fills.data.toList.drop 93 = dktX5_fills_4 := dk_seg dksX5_fills_3 24 rfl rfl
theorem dksX5_fills_5 : cX5_fills.data.toList.drop 117 = dktX5_fills_5 := dk_seg dksX5_fills_4 24 rfl rfl
theorem dksX5_fills_6 : cX5_fills.data.toList.drop 141 = dktX5_fills_6 := dk_seg dksX5_fills_5 24 rfl rfl
theorem dksX5_fills_7 : cX5_fills.data.toList.drop 165 = dktX5_fills_7 := dk_seg dksX5_fills_6 24 rfl rfl
theorem dksX5_fills_8 : cX5_fills.data.toList.drop 188 = dktX5_fills_8 := dk_seg dksX5_fills_7 23 rfl rfl
theorem dksX5_fills_9 : cX5_fills.data.toList.drop 212 = dktX5_fills_9 := dk_seg dksX5_fills_8 24 rfl rfl
theorem dX5_fills_0 : decode cX5_fills 0 = .ok (.iload_n 1, 1) := dk_27 (dk_at dksX5_fills_0 0 rfl rfl)
theorem dX5_fills_1 : decode cX5_fills 1 = .ok (.aload_n 0, 1) := dk_42 (dk_at dksX5_fills_0 1 rfl rfl)
theorem dX5_fills_2 : decode cX5_fills 2 = .ok (.invokevirtual 292, 3) := dk_182 1 36 (dk_at dksX5_fills_0 2 rfl rfl)
theorem dX5_fills_5 : decode cX5_fills 5 = .ok (.if_icmp .ne 48, 3) := dk_160 0 48 (dk_at dksX5_fills_0 5 rfl rfl)
theorem dX5_fills_8 : decode cX5_fills 8 = .ok (.iload 4, 2) := dk_21 4 (dk_at dksX5_fills_0 8 rfl rfl)
theorem dX5_fills_10 : decode cX5_fills 10 = .ok (.aload_n 0, 1) := dk_42 (dk_at dksX5_fills_0 10 rfl rfl)
theorem dX5_fills_11 : decode cX5_fills 11 = .ok (.getfield 391, 3) := dk_180 1 135 (dk_at dksX5_fills_0 11 rfl rfl)
theorem dX5_fills_14 : decode cX5_fills 14 = .ok (.if_icmp .le 38, 3) := dk_164 0 38 (dk_at dksX5_fills_0 14 rfl rfl)
theorem dX5_fills_17 : decode cX5_fills 17 = .ok (.aload_n 0, 1) := dk_42 (dk_at dksX5_fills_0 17 rfl rfl)
theorem dX5_fills_18 : decode cX5_fills 18 = .ok (.iload 4, 2) := dk_21 4 (dk_at dksX5_fills_0 18 rfl rfl)
theorem dX5_fills_20 : decode cX5_fills 20 = .ok (.putfield 391, 3) := dk_181 1 135 (dk_at dksX5_fills_0 20 rfl rfl)
theorem dX5_fills_23 : decode cX5_fills 23 = .ok (.iconst 0, 1) := dk_3 (dk_at dksX5_fills_0 23 rfl rfl)
theorem dX5_fills_24 : decode cX5_fills 24 = .ok (.istore 5, 2) := dk_54 5 (dk_at dksX5_fills_1 0 rfl rfl)
theorem dX5_fills_26 : decode cX5_fills 26 = .ok (.iload 5, 2) := dk_21 5 (dk_at dksX5_fills_1 2 rfl rfl)
theorem dX5_fills_28 : decode cX5_fills 28 = .ok (.iload_n 1, 1) := dk_27 (dk_at dksX5_fills_1 4 rfl rfl)
theorem dX5_fills_29 : decode cX5_fills 29 = .ok (.if_icmp .ge 23, 3) := dk_162 0 23 (dk_at dksX5_fills_1 5 rfl rfl)
theorem dX5_fills_32 : decode cX5_fills 32 = .ok (.aload_n 0, 1) := dk_42 (dk_at dksX5_fills_1 8 rfl rfl)
theorem dX5_fills_33 : decode cX5_fills 33 = .ok (.getfield 126, 3) := dk_180 0 126 (dk_at dksX5_fills_1 9 rfl rfl)
theorem dX5_fills_36 : decode cX5_fills 36 = .ok (.iload 5, 2) := dk_21 5 (dk_at dksX5_fills_1 12 rfl rfl)
theorem dX5_fills_38 : decode cX5_fills 38 = .ok (.aload_n 0, 1) := dk_42 (dk_at dksX5_fills_1 14 rfl rfl)
theorem dX5_fills_39 : decode cX5_fills 39 = .ok (.getfield 123, 3) := dk_180 0 123 (dk_at dksX5_fills_1 15 rfl rfl)
theorem dX5_fills_42 : decode cX5_fills 42 = .ok (.iload 5, 2) := dk_21 5 (dk_at dksX5_fills_1 18 rfl rfl)
theorem dX5_fills_44 : decode cX5_fills 44 = .ok (.iaload, 1) := dk_46 (dk_at dksX5_fills_1 20 rfl rfl)
theorem dX5_fills_45 : decode cX5_fills 45 = .ok (.iastore, 1) := dk_79 (dk_at dksX5_fills_1 21 rfl rfl)
theorem dX5_fills_46 : decode cX5_fills 46 = .ok (.iinc 5 1, 3) := dk_132 5 1 (dk_at dksX5_fills_2 0 rfl rfl)
theorem dX5_fills_49 : decode cX5_fills 49 = .ok (.goto (-23), 3) := dk_167 255 233 (dk_at dksX5_fills_2 3 rfl rfl)
theorem dX5_fills_52 : decode cX5_fills 52 = .ok (.return_, 1) := dk_177 (dk_at dksX5_fills_2 6 rfl rfl)
theorem dX5_fills_53 : decode cX5_fills 53 = .ok (.aload_n 0, 1) := dk_42 (dk_at dksX5_fills_2 7 rfl rfl)
theorem dX5_fills_54 : decode cX5_fills 54 = .ok (.getfield 113, 3) := dk_180 0 113 (dk_at dksX5_fills_2 8 rfl rfl)
theorem dX5_fills_57 : decode cX5_fills 57 = .ok (.bipush 8, 2) := dk_16 8 (dk_at dksX5_fills_2 11 rfl rfl)
theorem dX5_fills_59 : decode cX5_fills 59 = .ok (.iload_n 1, 1) := dk_27 (dk_at dksX5_fills_2 13 rfl rfl)
theorem dX5_fills_60 : decode cX5_fills 60 = .ok (.iadd, 1) := dk_96 (dk_at dksX5_fills_2 14 rfl rfl)
theorem dX5_fills_61 : decode cX5_fills 61 = .ok (.iaload, 1) := dk_46 (dk_at dksX5_fills_2 15 rfl rfl)
theorem dX5_fills_62 : decode cX5_fills 62 = .ok (.iconst 3, 1) := dk_6 (dk_at dksX5_fills_2 16 rfl rfl)
theorem dX5_fills_63 : decode cX5_fills 63 = .ok (.if_icmp .ge 29, 3) := dk_162 0 29 (dk_at dksX5_fills_2 17 rfl rfl)
theorem dX5_fills_66 : decode cX5_fills 66 = .ok (.aload_n 0, 1) := dk_42 (dk_at dksX5_fills_2 20 rfl rfl)
theorem dX5_fills_67 : decode cX5_fills 67 = .ok (.iload_n 1, 1) := dk_27 (dk_at dksX5_fills_2 21 rfl rfl)
theorem dX5_fills_68 : decode cX5_fills 68 = .ok (.iconst 1, 1) := dk_4 (dk_at dksX5_fills_2 22 rfl rfl)
theorem dX5_fills_69 : decode cX5_fills 69 = .ok (.invokevirtual 295, 3) := dk_182 1 39 (dk_at dksX5_fills_3 0 rfl rfl)
theorem dX5_fills_72 : decode cX5_fills 72 = .ok (.iload_n 3, 1) := dk_29 (dk_at dksX5_fills_3 3 rfl rfl)
theorem dX5_fills_73 : decode cX5_fills 73 = .ok (.if_icmp .gt 19, 3) := dk_163 0 19 (dk_at dksX5_fills_3 4 rfl rfl)
theorem dX5_fills_76 : decode cX5_fills 76 = .ok (.iload_n 2, 1) := dk_28 (dk_at dksX5_fills_3 7 rfl rfl)
theorem dX5_fills_77 : decode cX5_fills 77 = .ok (.invokestatic 298, 3) := dk_184 1 42 (dk_at dksX5_fills_3 8 rfl rfl)
theorem dX5_fills_80 : decode cX5_fills 80 = .ok (.aload_n 0, 1) := dk_42 (dk_at dksX5_fills_3 11 rfl rfl)
theorem dX5_fills_81 : decode cX5_fills 81 = .ok (.iload_n 1, 1) := dk_27 (dk_at dksX5_fills_3 12 rfl rfl)
theorem dX5_fills_82 : decode cX5_fills 82 = .ok (.invokevirtual 301, 3) := dk_182 1 45 (dk_at dksX5_fills_3 13 rfl rfl)
theorem dX5_fills_85 : decode cX5_fills 85 = .ok (.if_icmp .lt 7, 3) := dk_161 0 7 (dk_at dksX5_fills_3 16 rfl rfl)
theorem dX5_fills_88 : decode cX5_fills 88 = .ok (.iconst 1, 1) := dk_4 (dk_at dksX5_fills_3 19 rfl rfl)
theorem dX5_fills_89 : decode cX5_fills 89 = .ok (.goto 4, 3) := dk_167 0 4 (dk_at dksX5_fills_3 20 rfl rfl)
theorem dX5_fills_92 : decode cX5_fills 92 = .ok (.iconst 0, 1) := dk_3 (dk_at dksX5_fills_3 23 rfl rfl)
theorem dX5_fills_93 : decode cX5_fills 93 = .ok (.istore 5, 2) := dk_54 5 (dk_at dksX5_fills_4 0 rfl rfl)
theorem dX5_fills_95 : decode cX5_fills 95 = .ok (.iconst 1, 1) := dk_4 (dk_at dksX5_fills_4 2 rfl rfl)
theorem dX5_fills_96 : decode cX5_fills 96 = .ok (.istore 6, 2) := dk_54 6 (dk_at dksX5_fills_4 3 rfl rfl)
theorem dX5_fills_98 : decode cX5_fills 98 = .ok (.iload 6, 2) := dk_21 6 (dk_at dksX5_fills_4 5 rfl rfl)
theorem dX5_fills_100 : decode cX5_fills 100 = .ok (.aload_n 0, 1) := dk_42 (dk_at dksX5_fills_4 7 rfl rfl)
theorem dX5_fills_101 : decode cX5_fills 101 = .ok (.getfield 394, 3) := dk_180 1 138 (dk_at dksX5_fills_4 8 rfl rfl)
theorem dX5_fills_104 : decode cX5_fills 104 = .ok (.if_icmp .gt 90, 3) := dk_163 0 90 (dk_at dksX5_fills_4 11 rfl rfl)
theorem dX5_fills_107 : decode cX5_fills 107 = .ok (.iload 5, 2) := dk_21 5 (dk_at dksX5_fills_4 14 rfl rfl)
theorem dX5_fills_109 : decode cX5_fills 109 = .ok (.ifCond .eq 85, 3) := dk_153 0 85 (dk_at dksX5_fills_4 16 rfl rfl)
theorem dX5_fills_112 : decode cX5_fills 112 = .ok (.iload 6, 2) := dk_21 6 (dk_at dksX5_fills_4 19 rfl rfl)
theorem dX5_fills_114 : decode cX5_fills 114 = .ok (.iload_n 2, 1) := dk_28 (dk_at dksX5_fills_4 21 rfl rfl)
theorem dX5_fills_115 : decode cX5_fills 115 = .ok (.iconst (-1), 1) := dk_2 (dk_at dksX5_fills_4 22 rfl rfl)
theorem dX5_fills_116 : decode cX5_fills 116 = .ok (.ixor, 1) := dk_130 (dk_at dksX5_fills_4 23 rfl rfl)
theorem dX5_fills_117 : decode cX5_fills 117 = .ok (.iand, 1) := dk_126 (dk_at dksX5_fills_5 0 rfl rfl)
theorem dX5_fills_118 : decode cX5_fills 118 = .ok (.ifCond .ne 70, 3) := dk_154 0 70 (dk_at dksX5_fills_5 1 rfl rfl)
theorem dX5_fills_121 : decode cX5_fills 121 = .ok (.iload 6, 2) := dk_21 6 (dk_at dksX5_fills_5 4 rfl rfl)
theorem dX5_fills_123 : decode cX5_fills 123 = .ok (.invokestatic 298, 3) := dk_184 1 42 (dk_at dksX5_fills_5 6 rfl rfl)
theorem dX5_fills_126 : decode cX5_fills 126 = .ok (.aload_n 0, 1) := dk_42 (dk_at dksX5_fills_5 9 rfl rfl)
theorem dX5_fills_127 : decode cX5_fills 127 = .ok (.iload_n 1, 1) := dk_27 (dk_at dksX5_fills_5 10 rfl rfl)
theorem dX5_fills_128 : decode cX5_fills 128 = .ok (.invokevirtual 301, 3) := dk_182 1 45 (dk_at dksX5_fills_5 11 rfl rfl)
theorem dX5_fills_131 : decode cX5_fills 131 = .ok (.if_icmp .ne 57, 3) := dk_160 0 57 (dk_at dksX5_fills_5 14 rfl rfl)
theorem dX5_fills_134 : decode cX5_fills 134 = .ok (.aload_n 0, 1) := dk_42 (dk_at dksX5_fills_5 17 rfl rfl)
theorem dX5_fills_135 : decode cX5_fills 135 = .ok (.iconst 0, 1) := dk_3 (dk_at dksX5_fills_5 18 rfl rfl)
theorem dX5_fills_136 : decode cX5_fills 136 = .ok (.iload 6, 2) := dk_21 6 (dk_at dksX5_fills_5 19 rfl rfl)
theorem dX5_fills_138 : decode cX5_fills 138 = .ok (.invokevirtual 320, 3) := dk_182 1 64 (dk_at dksX5_fills_5 21 rfl rfl)
theorem dX5_fills_141 : decode cX5_fills 141 = .ok (.aload_n 0, 1) := dk_42 (dk_at dksX5_fills_6 0 rfl rfl)
theorem dX5_fills_142 : decode cX5_fills 142 = .ok (.getfield 120, 3) := dk_180 0 120 (dk_at dksX5_fills_6 1 rfl rfl)
theorem dX5_fills_145 : decode cX5_fills 145 = .ok (.iload_n 1, 1) := dk_27 (dk_at dksX5_fills_6 4 rfl rfl)
theorem dX5_fills_146 : decode cX5_fills 146 = .ok (.iaload, 1) := dk_46 (dk_at dksX5_fills_6 5 rfl rfl)
theorem dX5_fills_147 : decode cX5_fills 147 = .ok (.if_icmp .lt 41, 3) := dk_161 0 41 (dk_at dksX5_fills_6 6 rfl rfl)
theorem dX5_fills_150 : decode cX5_fills 150 = .ok (.aload_n 0, 1) := dk_42 (dk_at dksX5_fills_6 9 rfl rfl)
theorem dX5_fills_151 : decode cX5_fills 151 = .ok (.getfield 123, 3) := dk_180 0 123 (dk_at dksX5_fills_6 10 rfl rfl)
theorem dX5_fills_154 : decode cX5_fills 154 = .ok (.iload_n 1, 1) := dk_27 (dk_at dksX5_fills_6 13 rfl rfl)
theorem dX5_fills_155 : decode cX5_fills 155 = .ok (.iload 6, 2) := dk_21 6 (dk_at dksX5_fills_6 14 rfl rfl)
theorem dX5_fills_157 : decode cX5_fills 157 = .ok (.iastore, 1) := dk_79 (dk_at dksX5_fills_6 16 rfl rfl)
theorem dX5_fills_158 : decode cX5_fills 158 = .ok (.aload_n 0, 1) := dk_42 (dk_at dksX5_fills_6 17 rfl rfl)
theorem dX5_fills_159 : decode cX5_fills 159 = .ok (.iload_n 1, 1) := dk_27 (dk_at dksX5_fills_6 18 rfl rfl)
theorem dX5_fills_160 : decode cX5_fills 160 = .ok (.iconst 1, 1) := dk_4 (dk_at dksX5_fills_6 19 rfl rfl)
theorem dX5_fills_161 : decode cX5_fills 161 = .ok (.iadd, 1) := dk_96 (dk_at dksX5_fills_6 20 rfl rfl)
theorem dX5_fills_162 : decode cX5_fills 162 = .ok (.iload_n 2, 1) := dk_28 (dk_at dksX5_fills_6 21 rfl rfl)
theorem dX5_fills_163 : decode cX5_fills 163 = .ok (.iload 6, 2) := dk_21 6 (dk_at dksX5_fills_6 22 rfl rfl)
theorem dX5_fills_165 : decode cX5_fills 165 = .ok (.iconst (-1), 1) := dk_2 (dk_at dksX5_fills_7 0 rfl rfl)
theorem dX5_fills_166 : decode cX5_fills 166 = .ok (.ixor, 1) := dk_130 (dk_at dksX5_fills_7 1 rfl rfl)
theorem dX5_fills_167 : decode cX5_fills 167 = .ok (.iand, 1) := dk_126 (dk_at dksX5_fills_7 2 rfl rfl)
theorem dX5_fills_168 : decode cX5_fills 168 = .ok (.iload_n 3, 1) := dk_29 (dk_at dksX5_fills_7 3 rfl rfl)
theorem dX5_fills_169 : decode cX5_fills 169 = .ok (.aload_n 0, 1) := dk_42 (dk_at dksX5_fills_7 4 rfl rfl)
theorem dX5_fills_170 : decode cX5_fills 170 = .ok (.iload_n 1, 1) := dk_27 (dk_at dksX5_fills_7 5 rfl rfl)
theorem dX5_fills_171 : decode cX5_fills 171 = .ok (.iconst 1, 1) := dk_4 (dk_at dksX5_fills_7 6 rfl rfl)
theorem dX5_fills_172 : decode cX5_fills 172 = .ok (.invokevirtual 295, 3) := dk_182 1 39 (dk_at dksX5_fills_7 7 rfl rfl)
theorem dX5_fills_175 : decode cX5_fills 175 = .ok (.isub, 1) := dk_100 (dk_at dksX5_fills_7 10 rfl rfl)
theorem dX5_fills_176 : decode cX5_fills 176 = .ok (.iload 4, 2) := dk_21 4 (dk_at dksX5_fills_7 11 rfl rfl)
theorem dX5_fills_178 : decode cX5_fills 178 = .ok (.aload_n 0, 1) := dk_42 (dk_at dksX5_fills_7 13 rfl rfl)
theorem dX5_fills_179 : decode cX5_fills 179 = .ok (.iload_n 1, 1) := dk_27 (dk_at dksX5_fills_7 14 rfl rfl)
theorem dX5_fills_180 : decode cX5_fills 180 = .ok (.iconst 3, 1) := dk_6 (dk_at dksX5_fills_7 15 rfl rfl)
theorem dX5_fills_181 : decode cX5_fills 181 = .ok (.invokevirtual 295, 3) := dk_182 1 39 (dk_at dksX5_fills_7 16 rfl rfl)
theorem dX5_fills_184 : decode cX5_fills 184 = .ok (.iadd, 1) := dk_96 (dk_at dksX5_fills_7 19 rfl rfl)
theorem dX5_fills_185 : decode cX5_fills 185 = .ok (.invokevirtual 397, 3) := dk_182 1 141 (dk_at dksX5_fills_7 20 rfl rfl)
theorem dX5_fills_188 : decode cX5_fills 188 = .ok (.iinc 6 1, 3) := dk_132 6 1 (dk_at dksX5_fills_8 0 rfl rfl)
theorem dX5_fills_191 : decode cX5_fills 191 = .ok (.goto (-93), 3) := dk_167 255 163 (dk_at dksX5_fills_8 3 rfl rfl)
theorem dX5_fills_194 : decode cX5_fills 194 = .ok (.aload_n 0, 1) := dk_42 (dk_at dksX5_fills_8 6 rfl rfl)
theorem dX5_fills_195 : decode cX5_fills 195 = .ok (.getfield 123, 3) := dk_180 0 123 (dk_at dksX5_fills_8 7 rfl rfl)
theorem dX5_fills_198 : decode cX5_fills 198 = .ok (.iload_n 1, 1) := dk_27 (dk_at dksX5_fills_8 10 rfl rfl)
theorem dX5_fills_199 : decode cX5_fills 199 = .ok (.iconst 0, 1) := dk_3 (dk_at dksX5_fills_8 11 rfl rfl)
theorem dX5_fills_200 : decode cX5_fills 200 = .ok (.iastore, 1) := dk_79 (dk_at dksX5_fills_8 12 rfl rfl)
theorem dX5_fills_201 : decode cX5_fills 201 = .ok (.aload_n 0, 1) := dk_42 (dk_at dksX5_fills_8 13 rfl rfl)
theorem dX5_fills_202 : decode cX5_fills 202 = .ok (.iload_n 1, 1) := dk_27 (dk_at dksX5_fills_8 14 rfl rfl)
theorem dX5_fills_203 : decode cX5_fills 203 = .ok (.iconst 1, 1) := dk_4 (dk_at dksX5_fills_8 15 rfl rfl)
theorem dX5_fills_204 : decode cX5_fills 204 = .ok (.iadd, 1) := dk_96 (dk_at dksX5_fills_8 16 rfl rfl)
theorem dX5_fills_205 : decode cX5_fills 205 = .ok (.iload_n 2, 1) := dk_28 (dk_at dksX5_fills_8 17 rfl rfl)
theorem dX5_fills_206 : decode cX5_fills 206 = .ok (.iload_n 3, 1) := dk_29 (dk_at dksX5_fills_8 18 rfl rfl)
theorem dX5_fills_207 : decode cX5_fills 207 = .ok (.iload 4, 2) := dk_21 4 (dk_at dksX5_fills_8 19 rfl rfl)
theorem dX5_fills_209 : decode cX5_fills 209 = .ok (.invokevirtual 397, 3) := dk_182 1 141 (dk_at dksX5_fills_8 21 rfl rfl)
theorem dX5_fills_212 : decode cX5_fills 212 = .ok (.return_, 1) := dk_177 (dk_at dksX5_fills_9 0 rfl rfl)
abbrev cX5_odds : ByteArray := prog_23_method_93_code
def yX5_odds : MethodName := ⟨RX5, "odds", "(II)I"⟩
def dkwX5_odds_4 : List UInt8 := [96, 46, 42, 180, 0, 113, 5, 27, 96, 46, 3, 28, 182, 1, 148, 20, 1, 152, 105, 33, 109, 136, 172]
abbrev dktX5_odds_4 : List UInt8 := dkwX5_odds_4 ++ []
def dkwX5_odds_3 : List UInt8 := [162, 0, 15, 33, 20, 0, 167, 105, 66, 132, 5, 1, 167, 255, 241, 42, 27, 42, 180, 0, 113, 16, 14, 27]
abbrev dktX5_odds_3 : List UInt8 := dkwX5_odds_3 ++ dktX5_odds_4
def dkwX5_odds_2 : List UInt8 := [180, 0, 113, 16, 20, 29, 96, 46, 79, 132, 3, 1, 167, 255, 232, 10, 66, 3, 54, 5, 21, 5, 28]
abbrev dktX5_odds_2 : List UInt8 := dkwX5_odds_2 ++ dktX5_odds_3
def dkwX5_odds_1 : List UInt8 := [3, 27, 182, 1, 48, 154, 0, 5, 2, 172, 3, 62, 29, 16, 8, 162, 0, 24, 42, 180, 0, 129, 29, 42]
abbrev dktX5_odds_1 : List UInt8 := dkwX5_odds_1 ++ dktX5_odds_2
def dkwX5_odds_0 : List UInt8 := [42, 3, 181, 0, 1, 42, 27, 182, 1, 90, 153, 0, 22, 28, 4, 16, 8, 184, 1, 93, 153, 0, 12, 42]
abbrev dktX5_odds_0 : List UInt8 := dkwX5_odds_0 ++ dktX5_odds_1
theorem dksX5_odds_0 : cX5_odds.data.toList.drop 0 = dktX5_odds_0 := by decide +kernel
theorem dksX5_odds_1 : cX5_odds.data.toList.drop 24 = dktX5_odds_1 := dk_seg dksX5_odds_0 24 rfl rfl
theorem dksX5_odds_2 : cX5_odds.data.toList.drop 48 = dktX5_odds_2 := dk_seg dksX5_odds_1 24 rfl rfl
theorem dksX5_odds_3 : cX5_odds.data.toList.drop 71 = dktX5_odds_3 := dk_seg dksX5_odds_2 23 rfl rfl
theorem dksX5_odds_4 : cX5_odds.data.toList.drop 95 = dktX5_odds_4 := dk_seg dksX5_odds_3 24 rfl rfl
theorem dX5_odds_0 : decode cX5_odds 0 = .ok (.aload_n 0, 1) := dk_42 (dk_at dksX5_odds_0 0 rfl rfl)
theorem dX5_odds_1 : decode cX5_odds 1 = .ok (.iconst 0, 1) := dk_3 (dk_at dksX5_odds_0 1 rfl rfl)
theorem dX5_odds_2 : decode cX5_odds 2 = .ok (.putfield 1, 3) := dk_181 0 1 (dk_at dksX5_odds_0 2 rfl rfl)
theorem dX5_odds_5 : decode cX5_odds 5 = .ok (.aload_n 0, 1) := dk_42 (dk_at dksX5_odds_0 5 rfl rfl)
theorem dX5_odds_6 : decode cX5_odds 6 = .ok (.iload_n 1, 1) := dk_27 (dk_at dksX5_odds_0 6 rfl rfl)
theorem dX5_odds_7 : decode cX5_odds 7 = .ok (.invokevirtual 346, 3) := dk_182 1 90 (dk_at dksX5_odds_0 7 rfl rfl)
theorem dX5_odds_10 : decode cX5_odds 10 = .ok (.ifCond .eq 22, 3) := dk_153 0 22 (dk_at dksX5_odds_0 10 rfl rfl)
theorem dX5_odds_13 : decode cX5_odds 13 = .ok (.iload_n 2, 1) := dk_28 (dk_at dksX5_odds_0 13 rfl rfl)
theorem dX5_odds_14 : decode cX5_odds 14 = .ok (.iconst 1, 1) := dk_4 (dk_at dksX5_odds_0 14 rfl rfl)
theorem dX5_odds_15 : decode cX5_odds 15 = .ok (.bipush 8, 2) := dk_16 8 (dk_at dksX5_odds_0 15 rfl rfl)
theorem dX5_odds_17 : decode cX5_odds 17 = .ok (.invokestatic 349, 3) := dk_184 1 93 (dk_at dksX5_odds_0 17 rfl rfl)
theorem dX5_odds_20 : decode cX5_odds 20 = .ok (.ifCond .eq 12, 3) := dk_153 0 12 (dk_at dksX5_odds_0 20 rfl rfl)
theorem dX5_odds_23 : decode cX5_odds 23 = .ok (.aload_n 0, 1) := dk_42 (dk_at dksX5_odds_0 23 rfl rfl)
theorem dX5_odds_24 : decode cX5_odds 24 = .ok (.iconst 0, 1) := dk_3 (dk_at dksX5_odds_1 0 rfl rfl)
theorem dX5_odds_25 : decode cX5_odds 25 = .ok (.iload_n 1, 1) := dk_27 (dk_at dksX5_odds_1 1 rfl rfl)
theorem dX5_odds_26 : decode cX5_odds 26 = .ok (.invokevirtual 304, 3) := dk_182 1 48 (dk_at dksX5_odds_1 2 rfl rfl)
theorem dX5_odds_29 : decode cX5_odds 29 = .ok (.ifCond .ne 5, 3) := dk_154 0 5 (dk_at dksX5_odds_1 5 rfl rfl)
theorem dX5_odds_32 : decode cX5_odds 32 = .ok (.iconst (-1), 1) := dk_2 (dk_at dksX5_odds_1 8 rfl rfl)
theorem dX5_odds_33 : decode cX5_odds 33 = .ok (.ireturn, 1) := dk_172 (dk_at dksX5_odds_1 9 rfl rfl)
theorem dX5_odds_34 : decode cX5_odds 34 = .ok (.iconst 0, 1) := dk_3 (dk_at dksX5_odds_1 10 rfl rfl)
theorem dX5_odds_35 : decode cX5_odds 35 = .ok (.istore_n 3, 1) := dk_62 (dk_at dksX5_odds_1 11 rfl rfl)
theorem dX5_odds_36 : decode cX5_odds 36 = .ok (.iload_n 3, 1) := dk_29 (dk_at dksX5_odds_1 12 rfl rfl)
theorem dX5_odds_37 : decode cX5_odds 37 = .ok (.bipush 8, 2) := dk_16 8 (dk_at dksX5_odds_1 13 rfl rfl)
theorem dX5_odds_39 : decode cX5_odds 39 = .ok (.if_icmp .ge 24, 3) := dk_162 0 24 (dk_at dksX5_odds_1 15 rfl rfl)
theorem dX5_odds_42 : decode cX5_odds 42 = .ok (.aload_n 0, 1) := dk_42 (dk_at dksX5_odds_1 18 rfl rfl)
theorem dX5_odds_43 : decode cX5_odds 43 = .ok (.getfield 129, 3) := dk_180 0 129 (dk_at dksX5_odds_1 19 rfl rfl)
theorem dX5_odds_46 : decode cX5_odds 46 = .ok (.iload_n 3, 1) := dk_29 (dk_at dksX5_odds_1 22 rfl rfl)
theorem dX5_odds_47 : decode cX5_odds 47 = .ok (.aload_n 0, 1) := dk_42 (dk_at dksX5_odds_1 23 rfl rfl)
theorem dX5_odds_48 : decode cX5_odds 48 = .ok (.getfield 113, 3) := dk_180 0 113 (dk_at dksX5_odds_2 0 rfl rfl)
theorem dX5_odds_51 : decode cX5_odds 51 = .ok (.bipush 20, 2) := dk_16 20 (dk_at dksX5_odds_2 3 rfl rfl)
theorem dX5_odds_53 : decode cX5_odds 53 = .ok (.iload_n 3, 1) := dk_29 (dk_at dksX5_odds_2 5 rfl rfl)
theorem dX5_odds_54 : decode cX5_odds 54 = .ok (.iadd, 1) := dk_96 (dk_at dksX5_odds_2 6 rfl rfl)
theorem dX5_odds_55 : decode cX5_odds 55 = .ok (.iaload, 1) := dk_46 (dk_at dksX5_odds_2 7 rfl rfl)
theorem dX5_odds_56 : decode cX5_odds 56 = .ok (.iastore, 1) := dk_79 (dk_at dksX5_odds_2 8 rfl rfl)
theorem dX5_odds_57 : decode cX5_odds 57 = .ok (.iinc 3 1, 3) := dk_132 3 1 (dk_at dksX5_odds_2 9 rfl rfl)
theorem dX5_odds_60 : decode cX5_odds 60 = .ok (.goto (-24), 3) := dk_167 255 232 (dk_at dksX5_odds_2 12 rfl rfl)
theorem dX5_odds_63 : decode cX5_odds 63 = .ok (.lconst 1, 1) := dk_10 (dk_at dksX5_odds_2 15 rfl rfl)
theorem dX5_odds_64 : decode cX5_odds 64 = .ok (.lstore_n 3, 1) := dk_66 (dk_at dksX5_odds_2 16 rfl rfl)
theorem dX5_odds_65 : decode cX5_odds 65 = .ok (.iconst 0, 1) := dk_3 (dk_at dksX5_odds_2 17 rfl rfl)
theorem dX5_odds_66 : decode cX5_odds 66 = .ok (.istore 5, 2) := dk_54 5 (dk_at dksX5_odds_2 18 rfl rfl)
theorem dX5_odds_68 : decode cX5_odds 68 = .ok (.iload 5, 2) := dk_21 5 (dk_at dksX5_odds_2 20 rfl rfl)
theorem dX5_odds_70 : decode cX5_odds 70 = .ok (.iload_n 2, 1) := dk_28 (dk_at dksX5_odds_2 22 rfl rfl)
theorem dX5_odds_71 : decode cX5_odds 71 = .ok (.if_icmp .ge 15, 3) := dk_162 0 15 (dk_at dksX5_odds_3 0 rfl rfl)
theorem dX5_odds_74 : decode cX5_odds 74 = .ok (.lload_n 3, 1) := dk_33 (dk_at dksX5_odds_3 3 rfl rfl)
theorem dX5_odds_75 : decode cX5_odds 75 = .ok (.ldc2_w 167, 3) := dk_20 0 167 (dk_at dksX5_odds_3 4 rfl rfl)
theorem dX5_odds_78 : decode cX5_odds 78 = .ok (.lmul, 1) := dk_105 (dk_at dksX5_odds_3 7 rfl rfl)
theorem dX5_odds_79 : decode cX5_odds 79 = .ok (.lstore_n 3, 1) := dk_66 (dk_at dksX5_odds_3 8 rfl rfl)
theorem dX5_odds_80 : decode cX5_odds 80 = .ok (.iinc 5 1, 3) := dk_132 5 1 (dk_at dksX5_odds_3 9 rfl rfl)
theorem dX5_odds_83 : decode cX5_odds 83 = .ok (.goto (-15), 3) := dk_167 255 241 (dk_at dksX5_odds_3 12 rfl rfl)
theorem dX5_odds_86 : decode cX5_odds 86 = .ok (.aload_n 0, 1) := dk_42 (dk_at dksX5_odds_3 15 rfl rfl)
theorem dX5_odds_87 : decode cX5_odds 87 = .ok (.iload_n 1, 1) := dk_27 (dk_at dksX5_odds_3 16 rfl rfl)
theorem dX5_odds_88 : decode cX5_odds 88 = .ok (.aload_n 0, 1) := dk_42 (dk_at dksX5_odds_3 17 rfl rfl)
theorem dX5_odds_89 : decode cX5_odds 89 = .ok (.getfield 113, 3) := dk_180 0 113 (dk_at dksX5_odds_3 18 rfl rfl)
theorem dX5_odds_92 : decode cX5_odds 92 = .ok (.bipush 14, 2) := dk_16 14 (dk_at dksX5_odds_3 21 rfl rfl)
theorem dX5_odds_94 : decode cX5_odds 94 = .ok (.iload_n 1, 1) := dk_27 (dk_at dksX5_odds_3 23 rfl rfl)
theorem dX5_odds_95 : decode cX5_odds 95 = .ok (.iadd, 1) := dk_96 (dk_at dksX5_odds_4 0 rfl rfl)
theorem dX5_odds_96 : decode cX5_odds 96 = .ok (.iaload, 1) := dk_46 (dk_at dksX5_odds_4 1 rfl rfl)
theorem dX5_odds_97 : decode cX5_odds 97 = .ok (.aload_n 0, 1) := dk_42 (dk_at dksX5_odds_4 2 rfl rfl)
theorem dX5_odds_98 : decode cX5_odds 98 = .ok (.getfield 113, 3) := dk_180 0 113 (dk_at dksX5_odds_4 3 rfl rfl)
theorem dX5_odds_101 : decode cX5_odds 101 = .ok (.iconst 2, 1) := dk_5 (dk_at dksX5_odds_4 6 rfl rfl)
theorem dX5_odds_102 : decode cX5_odds 102 = .ok (.iload_n 1, 1) := dk_27 (dk_at dksX5_odds_4 7 rfl rfl)
theorem dX5_odds_103 : decode cX5_odds 103 = .ok (.iadd, 1) := dk_96 (dk_at dksX5_odds_4 8 rfl rfl)
theorem dX5_odds_104 : decode cX5_odds 104 = .ok (.iaload, 1) := dk_46 (dk_at dksX5_odds_4 9 rfl rfl)
theorem dX5_odds_105 : decode cX5_odds 105 = .ok (.iconst 0, 1) := dk_3 (dk_at dksX5_odds_4 10 rfl rfl)
theorem dX5_odds_106 : decode cX5_odds 106 = .ok (.iload_n 2, 1) := dk_28 (dk_at dksX5_odds_4 11 rfl rfl)
theorem dX5_odds_107 : decode cX5_odds 107 = .ok (.invokevirtual 404, 3) := dk_182 1 148 (dk_at dksX5_odds_4 12 rfl rfl)
theorem dX5_odds_110 : decode cX5_odds 110 = .ok (.ldc2_w 408, 3) := dk_20 1 152 (dk_at dksX5_odds_4 15 rfl rfl)
theorem dX5_odds_113 : decode cX5_odds 113 = .ok (.lmul, 1) := dk_105 (dk_at dksX5_odds_4 18 rfl rfl)
theorem dX5_odds_114 : decode cX5_odds 114 = .ok (.lload_n 3, 1) := dk_33 (dk_at dksX5_odds_4 19 rfl rfl)
theorem dX5_odds_115 : decode cX5_odds 115 = .ok (.ldiv, 1) := dk_109 (dk_at dksX5_odds_4 20 rfl rfl)
theorem dX5_odds_116 : decode cX5_odds 116 = .ok (.l2i, 1) := dk_136 (dk_at dksX5_odds_4 21 rfl rfl)
theorem dX5_odds_117 : decode cX5_odds 117 = .ok (.ireturn, 1) := dk_172 (dk_at dksX5_odds_4 22 rfl rfl)
abbrev cX5_hanging : ByteArray := prog_23_method_92_code
def yX5_hanging : MethodName := ⟨RX5, "hanging", "(IIIII)J"⟩
def dkwX5_hanging_13 : List UInt8 := [167, 0, 4, 9, 97, 55, 6, 132, 8, 1, 167, 254, 209, 22, 6, 173]
abbrev dktX5_hanging_13 : List UInt8 := dkwX5_hanging_13 ++ []
def dkwX5_hanging_12 : List UInt8 := [133, 42, 27, 21, 13, 42, 27, 29, 21, 10, 182, 1, 84, 21, 4, 4, 96, 21, 5, 182, 1, 148, 105]
abbrev dktX5_hanging_12 : List UInt8 := dkwX5_hanging_12 ++ dktX5_hanging_13
def dkwX5_hanging_11 : List UInt8 := [163, 0, 12, 21, 13, 153, 0, 7, 4, 167, 0, 4, 3, 54, 14, 22, 6, 21, 14, 153, 0, 31, 21, 9]
abbrev dktX5_hanging_11 : List UInt8 := dkwX5_hanging_11 ++ dktX5_hanging_12
def dkwX5_hanging_10 : List UInt8 := [2, 130, 167, 0, 4, 2, 126, 54, 13, 132, 14, 1, 167, 255, 175, 21, 9, 158, 0, 19, 21, 12, 21, 11]
abbrev dktX5_hanging_10 : List UInt8 := dkwX5_hanging_10 ++ dktX5_hanging_11
def dkwX5_hanging_9 : List UInt8 := [21, 13, 42, 180, 0, 129, 16, 8, 21, 4, 4, 96, 104, 21, 14, 96, 46, 154, 0, 12, 4, 21, 14, 120]
abbrev dktX5_hanging_9 : List UInt8 := dkwX5_hanging_9 ++ dktX5_hanging_10
def dkwX5_hanging_8 : List UInt8 := [4, 160, 0, 55, 42, 180, 0, 129, 16, 8, 21, 4, 4, 96, 104, 21, 14, 96, 92, 46, 4, 100, 79]
abbrev dktX5_hanging_8 : List UInt8 := dkwX5_hanging_8 ++ dktX5_hanging_9
def dkwX5_hanging_7 : List UInt8 := [54, 14, 21, 14, 16, 8, 162, 0, 80, 5, 21, 12, 104, 21, 11, 164, 0, 71, 28, 21, 14, 122, 4, 126]
abbrev dktX5_hanging_7 : List UInt8 := dkwX5_hanging_7 ++ dktX5_hanging_8
def dkwX5_hanging_6 : List UInt8 := [96, 54, 11, 132, 12, 1, 167, 255, 186, 42, 27, 29, 21, 10, 182, 1, 61, 54, 12, 28, 54, 13, 3]
abbrev dktX5_hanging_6 : List UInt8 := dkwX5_hanging_6 ++ dktX5_hanging_7
def dkwX5_hanging_5 : List UInt8 := [122, 4, 126, 4, 160, 0, 19, 42, 180, 0, 129, 16, 8, 21, 4, 104, 21, 12, 96, 46, 167, 0, 4, 3]
abbrev dktX5_hanging_5 : List UInt8 := dkwX5_hanging_5 ++ dktX5_hanging_6
def dkwX5_hanging_4 : List UInt8 := [96, 104, 21, 12, 96, 42, 180, 0, 129, 16, 8, 21, 4, 104, 21, 12, 96, 46, 79, 21, 11, 28, 21, 12]
abbrev dktX5_hanging_4 : List UInt8 := dkwX5_hanging_4 ++ dktX5_hanging_5
def dkwX5_hanging_3 : List UInt8 := [54, 10, 3, 54, 11, 3, 54, 12, 21, 12, 16, 8, 162, 0, 69, 42, 180, 0, 129, 16, 8, 21, 4, 4]
abbrev dktX5_hanging_3 : List UInt8 := dkwX5_hanging_3 ++ dktX5_hanging_4
def dkwX5_hanging_2 : List UInt8 := [42, 180, 0, 113, 3, 46, 21, 4, 96, 21, 8, 4, 160, 0, 7, 4, 167, 0, 4, 3, 182, 1, 76]
abbrev dktX5_hanging_2 : List UInt8 := dkwX5_hanging_2 ++ dktX5_hanging_3
def dkwX5_hanging_1 : List UInt8 := [160, 0, 12, 42, 180, 0, 89, 7, 46, 167, 0, 12, 16, 10, 42, 180, 0, 89, 7, 46, 100, 54, 9, 42]
abbrev dktX5_hanging_1 : List UInt8 := dkwX5_hanging_1 ++ dktX5_hanging_2
def dkwX5_hanging_0 : List UInt8 := [21, 4, 21, 5, 160, 0, 5, 10, 173, 9, 55, 6, 3, 54, 8, 21, 8, 5, 162, 1, 47, 21, 8, 4]
abbrev dktX5_hanging_0 : List UInt8 := dkwX5_hanging_0 ++ dktX5_hanging_1
theorem dksX5_hanging_0 : cX5_hanging.data.toList.drop 0 = dktX5_hanging_0 := by decide +kernel
theorem dksX5_hanging_1 : cX5_hanging.data.toList.drop 24 = dktX5_hanging_1 := dk_seg dksX5_hanging_0 24 rfl rfl
theorem dksX5_hanging_2 : cX5_hanging.data.toList.drop 48 = dktX5_hanging_2 := dk_seg dksX5_hanging_1 24 rfl rfl
theorem dksX5_hanging_3 : cX5_hanging.data.toList.drop 71 = dktX5_hanging_3 := dk_seg dksX5_hanging_2 23 rfl rfl
theorem dksX5_hanging_4 : cX5_hanging.data.toList.drop 95 = dktX5_hanging_4 := dk_seg dksX5_hanging_3 24 rfl rfl
theorem dksX5_hanging_5 : cX5_hanging.data.toList.drop 119 = dktX5_hanging_5 := dk_seg dksX5_hanging_4 24 rfl rfl
theorem dksX5_hanging_6 : cX5_hanging.data.toList.drop 143 = dktX5_hanging_6 := dk_seg dksX5_hanging_5 24 rfl rfl
theorem dksX5_hanging_7 : cX5_hanging.data.toList.drop 166 = dktX5_hanging_7 := dk_seg dksX5_hanging_6 23 rfl rfl
theorem dksX5_hanging_8 : cX5_hanging.data.toList.drop 190 = dktX5_hanging_8 := dk_seg dksX5_hanging_7 24 rfl rfl
theorem dksX5_hanging_9 : cX5_hanging.data.toList.drop 213 = dktX5_hanging_9 := dk_seg dksX5_hanging_8 23 rfl rfl
theorem dksX5_hanging_10 : cX5_hanging.data.toList.drop 237 = dktX5_hanging_10 := dk_seg dksX5_hanging_9 24 rfl rfl
theorem dksX5_hanging_11 : cX5_hanging.data.toList.drop 261 = dktX5_hanging_11 := dk_seg dksX5_hanging_10 24 rfl rfl
theorem dksX5_hanging_12 : cX5_hanging.data.toList.drop 285 = dktX5_hanging_12 := dk_seg dksX5_hanging_11 24 rfl rfl
theorem dksX5_hanging_13 : cX5_hanging.data.toList.drop 308 = dktX5_hanging_13 := dk_seg dksX5_hanging_12 23 rfl rfl
theorem dX5_hanging_0 : decode cX5_hanging 0 = .ok (.iload 4, 2) := dk_21 4 (dk_at dksX5_hanging_0 0 rfl rfl)
theorem dX5_hanging_2 : decode cX5_hanging 2 = .ok (.iload 5, 2) := dk_21 5 (dk_at dksX5_hanging_0 2 rfl rfl)
theorem dX5_hanging_4 : decode cX5_hanging 4 = .ok (.if_icmp .ne 5, 3) := dk_160 0 5 (dk_at dksX5_hanging_0 4 rfl rfl)
theorem dX5_hanging_7 : decode cX5_hanging 7 = .ok (.lconst 1, 1) := dk_10 (dk_at dksX5_hanging_0 7 rfl rfl)
theorem dX5_hanging_8 : decode cX5_hanging 8 = .ok (.lreturn, 1) := dk_173 (dk_at dksX5_hanging_0 8 rfl rfl)
theorem dX5_hanging_9 : decode cX5_hanging 9 = .ok (.lconst 0, 1) := dk_9 (dk_at dksX5_hanging_0 9 rfl rfl)
theorem dX5_hanging_10 : decode cX5_hanging 10 = .ok (.lstore 6, 2) := dk_55 6 (dk_at dksX5_hanging_0 10 rfl rfl)
theorem dX5_hanging_12 : decode cX5_hanging 12 = .ok (.iconst 0, 1) := dk_3 (dk_at dksX5_hanging_0 12 rfl rfl)
theorem dX5_hanging_13 : decode cX5_hanging 13 = .ok (.istore 8, 2) := dk_54 8 (dk_at dksX5_hanging_0 13 rfl rfl)
theorem dX5_hanging_15 : decode cX5_hanging 15 = .ok (.iload 8, 2) := dk_21 8 (dk_at dksX5_hanging_0 15 rfl rfl)
theorem dX5_hanging_17 : decode cX5_hanging 17 = .ok (.iconst 2, 1) := dk_5 (dk_at dksX5_hanging_0 17 rfl rfl)
theorem dX5_hanging_18 : decode cX5_hanging 18 = .ok (.if_icmp .ge 303, 3) := dk_162 1 47 (dk_at dksX5_hanging_0 18 rfl rfl)
theorem dX5_hanging_21 : decode cX5_hanging 21 = .ok (.iload 8, 2) := dk_21 8 (dk_at dksX5_hanging_0 21 rfl rfl)
theorem dX5_hanging_23 : decode cX5_hanging 23 = .ok (.iconst 1, 1) := dk_4 (dk_at dksX5_hanging_0 23 rfl rfl)
theorem dX5_hanging_24 : decode cX5_hanging 24 = .ok (.if_icmp .ne 12, 3) := dk_160 0 12 (dk_at dksX5_hanging_1 0 rfl rfl)
theorem dX5_hanging_27 : decode cX5_hanging 27 = .ok (.aload_n 0, 1) := dk_42 (dk_at dksX5_hanging_1 3 rfl rfl)
theorem dX5_hanging_28 : decode cX5_hanging 28 = .ok (.getfield 89, 3) := dk_180 0 89 (dk_at dksX5_hanging_1 4 rfl rfl)
theorem dX5_hanging_31 : decode cX5_hanging 31 = .ok (.iconst 4, 1) := dk_7 (dk_at dksX5_hanging_1 7 rfl rfl)
theorem dX5_hanging_32 : decode cX5_hanging 32 = .ok (.iaload, 1) := dk_46 (dk_at dksX5_hanging_1 8 rfl rfl)
theorem dX5_hanging_33 : decode cX5_hanging 33 = .ok (.goto 12, 3) := dk_167 0 12 (dk_at dksX5_hanging_1 9 rfl rfl)
theorem dX5_hanging_36 : decode cX5_hanging 36 = .ok (.bipush 10, 2) := dk_16 10 (dk_at dksX5_hanging_1 12 rfl rfl)
theorem dX5_hanging_38 : decode cX5_hanging 38 = .ok (.aload_n 0, 1) := dk_42 (dk_at dksX5_hanging_1 14 rfl rfl)
theorem dX5_hanging_39 : decode cX5_hanging 39 = .ok (.getfield 89, 3) := dk_180 0 89 (dk_at dksX5_hanging_1 15 rfl rfl)
theorem dX5_hanging_42 : decode cX5_hanging 42 = .ok (.iconst 4, 1) := dk_7 (dk_at dksX5_hanging_1 18 rfl rfl)
theorem dX5_hanging_43 : decode cX5_hanging 43 = .ok (.iaload, 1) := dk_46 (dk_at dksX5_hanging_1 19 rfl rfl)
theorem dX5_hanging_44 : decode cX5_hanging 44 = .ok (.isub, 1) := dk_100 (dk_at dksX5_hanging_1 20 rfl rfl)
theorem dX5_hanging_45 : decode cX5_hanging 45 = .ok (.istore 9, 2) := dk_54 9 (dk_at dksX5_hanging_1 21 rfl rfl)
theorem dX5_hanging_47 : decode cX5_hanging 47 = .ok (.aload_n 0, 1) := dk_42 (dk_at dksX5_hanging_1 23 rfl rfl)
theorem dX5_hanging_48 : decode cX5_hanging 48 = .ok (.aload_n 0, 1) := dk_42 (dk_at dksX5_hanging_2 0 rfl rfl)
theorem dX5_hanging_49 : decode cX5_hanging 49 = .ok (.getfield 113, 3) := dk_180 0 113 (dk_at dksX5_hanging_2 1 rfl rfl)
theorem dX5_hanging_52 : decode cX5_hanging 52 = .ok (.iconst 0, 1) := dk_3 (dk_at dksX5_hanging_2 4 rfl rfl)
theorem dX5_hanging_53 : decode cX5_hanging 53 = .ok (.iaload, 1) := dk_46 (dk_at dksX5_hanging_2 5 rfl rfl)
theorem dX5_hanging_54 : decode cX5_hanging 54 = .ok (.iload 4, 2) := dk_21 4 (dk_at dksX5_hanging_2 6 rfl rfl)
theorem dX5_hanging_56 : decode cX5_hanging 56 = .ok (.iadd, 1) := dk_96 (dk_at dksX5_hanging_2 8 rfl rfl)
theorem dX5_hanging_57 : decode cX5_hanging 57 = .ok (.iload 8, 2) := dk_21 8 (dk_at dksX5_hanging_2 9 rfl rfl)
theorem dX5_hanging_59 : decode cX5_hanging 59 = .ok (.iconst 1, 1) := dk_4 (dk_at dksX5_hanging_2 11 rfl rfl)
theorem dX5_hanging_60 : decode cX5_hanging 60 = .ok (.if_icmp .ne 7, 3) := dk_160 0 7 (dk_at dksX5_hanging_2 12 rfl rfl)
theorem dX5_hanging_63 : decode cX5_hanging 63 = .ok (.iconst 1, 1) := dk_4 (dk_at dksX5_hanging_2 15 rfl rfl)
theorem dX5_hanging_64 : decode cX5_hanging 64 = .ok (.goto 4, 3) := dk_167 0 4 (dk_at dksX5_hanging_2 16 rfl rfl)
theorem dX5_hanging_67 : decode cX5_hanging 67 = .ok (.iconst 0, 1) := dk_3 (dk_at dksX5_hanging_2 19 rfl rfl)
theorem dX5_hanging_68 : decode cX5_hanging 68 = .ok (.invokevirtual 332, 3) := dk_182 1 76 (dk_at dksX5_hanging_2 20 rfl rfl)
theorem dX5_hanging_71 : decode cX5_hanging 71 = .ok (.istore 10, 2) := dk_54 10 (dk_at dksX5_hanging_3 0 rfl rfl)
theorem dX5_hanging_73 : decode cX5_hanging 73 = .ok (.iconst 0, 1) := dk_3 (dk_at dksX5_hanging_3 2 rfl rfl)
theorem dX5_hanging_74 : decode cX5_hanging 74 = .ok (.istore 11, 2) := dk_54 11 (dk_at dksX5_hanging_3 3 rfl rfl)
theorem dX5_hanging_76 : decode cX5_hanging 76 = .ok (.iconst 0, 1) := dk_3 (dk_at dksX5_hanging_3 5 rfl rfl)
theorem dX5_hanging_77 : decode cX5_hanging 77 = .ok (.istore 12, 2) := dk_54 12 (dk_at dksX5_hanging_3 6 rfl rfl)
theorem dX5_hanging_79 : decode cX5_hanging 79 = .ok (.iload 12, 2) := dk_21 12 (dk_at dksX5_hanging_3 8 rfl rfl)
theorem dX5_hanging_81 : decode cX5_hanging 81 = .ok (.bipush 8, 2) := dk_16 8 (dk_at dksX5_hanging_3 10 rfl rfl)
theorem dX5_hanging_83 : decode cX5_hanging 83 = .ok (.if_icmp .ge 69, 3) := dk_162 0 69 (dk_at dksX5_hanging_3 12 rfl rfl)
theorem dX5_hanging_86 : decode cX5_hanging 86 = .ok (.aload_n 0, 1) := dk_42 (dk_at dksX5_hanging_3 15 rfl rfl)
theorem dX5_hanging_87 : decode cX5_hanging 87 = .ok (.getfield 129, 3) := dk_180 0 129 (dk_at dksX5_hanging_3 16 rfl rfl)
theorem dX5_hanging_90 : decode cX5_hanging 90 = .ok (.bipush 8, 2) := dk_16 8 (dk_at dksX5_hanging_3 19 rfl rfl)
theorem dX5_hanging_92 : decode cX5_hanging 92 = .ok (.iload 4, 2) := dk_21 4 (dk_at dksX5_hanging_3 21 rfl rfl)
theorem dX5_hanging_94 : decode cX5_hanging 94 = .ok (.iconst 1, 1) := dk_4 (dk_at dksX5_hanging_3 23 rfl rfl)
theorem dX5_hanging_95 : decode cX5_hanging 95 = .ok (.iadd, 1) := dk_96 (dk_at dksX5_hanging_4 0 rfl rfl)
theorem dX5_hanging_96 : decode cX5_hanging 96 = .ok (.imul, 1) := dk_104 (dk_at dksX5_hanging_4 1 rfl rfl)
theorem dX5_hanging_97 : decode cX5_hanging 97 = .ok (.iload 12, 2) := dk_21 12 (dk_at dksX5_hanging_4 2 rfl rfl)
theorem dX5_hanging_99 : decode cX5_hanging 99 = .ok (.iadd, 1) := dk_96 (dk_at dksX5_hanging_4 4 rfl rfl)
theorem dX5_hanging_100 : decode cX5_hanging 100 = .ok (.aload_n 0, 1) := dk_42 (dk_at dksX5_hanging_4 5 rfl rfl)
theorem dX5_hanging_101 : decode cX5_hanging 101 = .ok (.getfield 129, 3) := dk_180 0 129 (dk_at dksX5_hanging_4 6 rfl rfl)
theorem dX5_hanging_104 : decode cX5_hanging 104 = .ok (.bipush 8, 2) := dk_16 8 (dk_at dksX5_hanging_4 9 rfl rfl)
theorem dX5_hanging_106 : decode cX5_hanging 106 = .ok (.iload 4, 2) := dk_21 4 (dk_at dksX5_hanging_4 11 rfl rfl)
theorem dX5_hanging_108 : decode cX5_hanging 108 = .ok (.imul, 1) := dk_104 (dk_at dksX5_hanging_4 13 rfl rfl)
theorem dX5_hanging_109 : decode cX5_hanging 109 = .ok (.iload 12, 2) := dk_21 12 (dk_at dksX5_hanging_4 14 rfl rfl)
theorem dX5_hanging_111 : decode cX5_hanging 111 = .ok (.iadd, 1) := dk_96 (dk_at dksX5_hanging_4 16 rfl rfl)
theorem dX5_hanging_112 : decode cX5_hanging 112 = .ok (.iaload, 1) := dk_46 (dk_at dksX5_hanging_4 17 rfl rfl)
theorem dX5_hanging_113 : decode cX5_hanging 113 = .ok (.iastore, 1) := dk_79 (dk_at dksX5_hanging_4 18 rfl rfl)
theorem dX5_hanging_114 : decode cX5_hanging 114 = .ok (.iload 11, 2) := dk_21 11 (dk_at dksX5_hanging_4 19 rfl rfl)
theorem dX5_hanging_116 : decode cX5_hanging 116 = .ok (.iload_n 2, 1) := dk_28 (dk_at dksX5_hanging_4 21 rfl rfl)
theorem dX5_hanging_117 : decode cX5_hanging 117 = .ok (.iload 12, 2) := dk_21 12 (dk_at dksX5_hanging_4 22 rfl rfl)
theorem dX5_hanging_119 : decode cX5_hanging 119 = .ok (.ishr, 1) := dk_122 (dk_at dksX5_hanging_5 0 rfl rfl)
theorem dX5_hanging_120 : decode cX5_hanging 120 = .ok (.iconst 1, 1) := dk_4 (dk_at dksX5_hanging_5 1 rfl rfl)
theorem dX5_hanging_121 : decode cX5_hanging 121 = .ok (.iand, 1) := dk_126 (dk_at dksX5_hanging_5 2 rfl rfl)
theorem dX5_hanging_122 : decode cX5_hanging 122 = .ok (.iconst 1, 1) := dk_4 (dk_at dksX5_hanging_5 3 rfl rfl)
theorem dX5_hanging_123 : decode cX5_hanging 123 = .ok (.if_icmp .ne 19, 3) := dk_160 0 19 (dk_at dksX5_hanging_5 4 rfl rfl)
theorem dX5_hanging_126 : decode cX5_hanging 126 = .ok (.aload_n 0, 1) := dk_42 (dk_at dksX5_hanging_5 7 rfl rfl)
theorem dX5_hanging_127 : decode cX5_hanging 127 = .ok (.getfield 129, 3) := dk_180 0 129 (dk_at dksX5_hanging_5 8 rfl rfl)
theorem dX5_hanging_130 : decode cX5_hanging 130 = .ok (.bipush 8, 2) := dk_16 8 (dk_at dksX5_hanging_5 11 rfl rfl)
theorem dX5_hanging_132 : decode cX5_hanging 132 = .ok (.iload 4, 2) := dk_21 4 (dk_at dksX5_hanging_5 13 rfl rfl)
theorem dX5_hanging_134 : decode cX5_hanging 134 = .ok (.imul, 1) := dk_104 (dk_at dksX5_hanging_5 15 rfl rfl)
theorem dX5_hanging_135 : decode cX5_hanging 135 = .ok (.iload 12, 2) := dk_21 12 (dk_at dksX5_hanging_5 16 rfl rfl)
theorem dX5_hanging_137 : decode cX5_hanging 137 = .ok (.iadd, 1) := dk_96 (dk_at dksX5_hanging_5 18 rfl rfl)
theorem dX5_hanging_138 : decode cX5_hanging 138 = .ok (.iaload, 1) := dk_46 (dk_at dksX5_hanging_5 19 rfl rfl)
theorem dX5_hanging_139 : decode cX5_hanging 139 = .ok (.goto 4, 3) := dk_167 0 4 (dk_at dksX5_hanging_5 20 rfl rfl)
theorem dX5_hanging_142 : decode cX5_hanging 142 = .ok (.iconst 0, 1) := dk_3 (dk_at dksX5_hanging_5 23 rfl rfl)
theorem dX5_hanging_143 : decode cX5_hanging 143 = .ok (.iadd, 1) := dk_96 (dk_at dksX5_hanging_6 0 rfl rfl)
theorem dX5_hanging_144 : decode cX5_hanging 144 = .ok (.istore 11, 2) := dk_54 11 (dk_at dksX5_hanging_6 1 rfl rfl)
theorem dX5_hanging_146 : decode cX5_hanging 146 = .ok (.iinc 12 1, 3) := dk_132 12 1 (dk_at dksX5_hanging_6 3 rfl rfl)
theorem dX5_hanging_149 : decode cX5_hanging 149 = .ok (.goto (-70), 3) := dk_167 255 186 (dk_at dksX5_hanging_6 6 rfl rfl)
theorem dX5_hanging_152 : decode cX5_hanging 152 = .ok (.aload_n 0, 1) := dk_42 (dk_at dksX5_hanging_6 9 rfl rfl)
theorem dX5_hanging_153 : decode cX5_hanging 153 = .ok (.iload_n 1, 1) := dk_27 (dk_at dksX5_hanging_6 10 rfl rfl)
theorem dX5_hanging_154 : decode cX5_hanging 154 = .ok (.iload_n 3, 1) := dk_29 (dk_at dksX5_hanging_6 11 rfl rfl)
theorem dX5_hanging_155 : decode cX5_hanging 155 = .ok (.iload 10, 2) := dk_21 10 (dk_at dksX5_hanging_6 12 rfl rfl)
theorem dX5_hanging_157 : decode cX5_hanging 157 = .ok (.invokevirtual 317, 3) := dk_182 1 61 (dk_at dksX5_hanging_6 14 rfl rfl)
theorem dX5_hanging_160 : decode cX5_hanging 160 = .ok (.istore 12, 2) := dk_54 12 (dk_at dksX5_hanging_6 17 rfl rfl)
theorem dX5_hanging_162 : decode cX5_hanging 162 = .ok (.iload_n 2, 1) := dk_28 (dk_at dksX5_hanging_6 19 rfl rfl)
theorem dX5_hanging_163 : decode cX5_hanging 163 = .ok (.istore 13, 2) := dk_54 13 (dk_at dksX5_hanging_6 20 rfl rfl)
theorem dX5_hanging_165 : decode cX5_hanging 165 = .ok (.iconst 0, 1) := dk_3 (dk_at dksX5_hanging_6 22 rfl rfl)
theorem dX5_hanging_166 : decode cX5_hanging 166 = .ok (.istore 14, 2) := dk_54 14 (dk_at dksX5_hanging_7 0 rfl rfl)
theorem dX5_hanging_168 : decode cX5_hanging 168 = .ok (.iload 14, 2) := dk_21 14 (dk_at dksX5_hanging_7 2 rfl rfl)
theorem dX5_hanging_170 : decode cX5_hanging 170 = .ok (.bipush 8, 2) := dk_16 8 (dk_at dksX5_hanging_7 4 rfl rfl)
theorem dX5_hanging_172 : decode cX5_hanging 172 = .ok (.if_icmp .ge 80, 3) := dk_162 0 80 (dk_at dksX5_hanging_7 6 rfl rfl)
theorem dX5_hanging_175 : decode cX5_hanging 175 = .ok (.iconst 2, 1) := dk_5 (dk_at dksX5_hanging_7 9 rfl rfl)
theorem dX5_hanging_176 : decode cX5_hanging 176 = .ok (.iload 12, 2) := dk_21 12 (dk_at dksX5_hanging_7 10 rfl rfl)
theorem dX5_hanging_178 : decode cX5_hanging 178 = .ok (.imul, 1) := dk_104 (dk_at dksX5_hanging_7 12 rfl rfl)
theorem dX5_hanging_179 : decode cX5_hanging 179 = .ok (.iload 11, 2) := dk_21 11 (dk_at dksX5_hanging_7 13 rfl rfl)
theorem dX5_hanging_181 : decode cX5_hanging 181 = .ok (.if_icmp .le 71, 3) := dk_164 0 71 (dk_at dksX5_hanging_7 15 rfl rfl)
theorem dX5_hanging_184 : decode cX5_hanging 184 = .ok (.iload_n 2, 1) := dk_28 (dk_at dksX5_hanging_7 18 rfl rfl)
theorem dX5_hanging_185 : decode cX5_hanging 185 = .ok (.iload 14, 2) := dk_21 14 (dk_at dksX5_hanging_7 19 rfl rfl)
theorem dX5_hanging_187 : decode cX5_hanging 187 = .ok (.ishr, 1) := dk_122 (dk_at dksX5_hanging_7 21 rfl rfl)
theorem dX5_hanging_188 : decode cX5_hanging 188 = .ok (.iconst 1, 1) := dk_4 (dk_at dksX5_hanging_7 22 rfl rfl)
theorem dX5_hanging_189 : decode cX5_hanging 189 = .ok (.iand, 1) := dk_126 (dk_at dksX5_hanging_7 23 rfl rfl)
theorem dX5_hanging_190 : decode cX5_hanging 190 = .ok (.iconst 1, 1) := dk_4 (dk_at dksX5_hanging_8 0 rfl rfl)
theorem dX5_hanging_191 : decode cX5_hanging 191 = .ok (.if_icmp .ne 55, 3) := dk_160 0 55 (dk_at dksX5_hanging_8 1 rfl rfl)
theorem dX5_hanging_194 : decode cX5_hanging 194 = .ok (.aload_n 0, 1) := dk_42 (dk_at dksX5_hanging_8 4 rfl rfl)
theorem dX5_hanging_195 : decode cX5_hanging 195 = .ok (.getfield 129, 3) := dk_180 0 129 (dk_at dksX5_hanging_8 5 rfl rfl)
theorem dX5_hanging_198 : decode cX5_hanging 198 = .ok (.bipush 8, 2) := dk_16 8 (dk_at dksX5_hanging_8 8 rfl rfl)
theorem dX5_hanging_200 : decode cX5_hanging 200 = .ok (.iload 4, 2) := dk_21 4 (dk_at dksX5_hanging_8 10 rfl rfl)
theorem dX5_hanging_202 : decode cX5_hanging 202 = .ok (.iconst 1, 1) := dk_4 (dk_at dksX5_hanging_8 12 rfl rfl)
theorem dX5_hanging_203 : decode cX5_hanging 203 = .ok (.iadd, 1) := dk_96 (dk_at dksX5_hanging_8 13 rfl rfl)
theorem dX5_hanging_204 : decode cX5_hanging 204 = .ok (.imul, 1) := dk_104 (dk_at dksX5_hanging_8 14 rfl rfl)
theorem dX5_hanging_205 : decode cX5_hanging 205 = .ok (.iload 14, 2) := dk_21 14 (dk_at dksX5_hanging_8 15 rfl rfl)
theorem dX5_hanging_207 : decode cX5_hanging 207 = .ok (.iadd, 1) := dk_96 (dk_at dksX5_hanging_8 17 rfl rfl)
theorem dX5_hanging_208 : decode cX5_hanging 208 = .ok (.dup2, 1) := dk_92 (dk_at dksX5_hanging_8 18 rfl rfl)
theorem dX5_hanging_209 : decode cX5_hanging 209 = .ok (.iaload, 1) := dk_46 (dk_at dksX5_hanging_8 19 rfl rfl)
theorem dX5_hanging_210 : decode cX5_hanging 210 = .ok (.iconst 1, 1) := dk_4 (dk_at dksX5_hanging_8 20 rfl rfl)
theorem dX5_hanging_211 : decode cX5_hanging 211 = .ok (.isub, 1) := dk_100 (dk_at dksX5_hanging_8 21 rfl rfl)
theorem dX5_hanging_212 : decode cX5_hanging 212 = .ok (.iastore, 1) := dk_79 (dk_at dksX5_hanging_8 22 rfl rfl)
theorem dX5_hanging_213 : decode cX5_hanging 213 = .ok (.iload 13, 2) := dk_21 13 (dk_at dksX5_hanging_9 0 rfl rfl)
theorem dX5_hanging_215 : decode cX5_hanging 215 = .ok (.aload_n 0, 1) := dk_42 (dk_at dksX5_hanging_9 2 rfl rfl)
theorem dX5_hanging_216 : decode cX5_hanging 216 = .ok (.getfield 129, 3) := dk_180 0 129 (dk_at dksX5_hanging_9 3 rfl rfl)
theorem dX5_hanging_219 : decode cX5_hanging 219 = .ok (.bipush 8, 2) := dk_16 8 (dk_at dksX5_hanging_9 6 rfl rfl)
theorem dX5_hanging_221 : decode cX5_hanging 221 = .ok (.iload 4, 2) := dk_21 4 (dk_at dksX5_hanging_9 8 rfl rfl)
theorem dX5_hanging_223 : decode cX5_hanging 223 = .ok (.iconst 1, 1) := dk_4 (dk_at dksX5_hanging_9 10 rfl rfl)
theorem dX5_hanging_224 : decode cX5_hanging 224 = .ok (.iadd, 1) := dk_96 (dk_at dksX5_hanging_9 11 rfl rfl)
theorem dX5_hanging_225 : decode cX5_hanging 225 = .ok (.imul, 1) := dk_104 (dk_at dksX5_hanging_9 12 rfl rfl)
theorem dX5_hanging_226 : decode cX5_hanging 226 = .ok (.iload 14, 2) := dk_21 14 (dk_at dksX5_hanging_9 13 rfl rfl)
theorem dX5_hanging_228 : decode cX5_hanging 228 = .ok (.iadd, 1) := dk_96 (dk_at dksX5_hanging_9 15 rfl rfl)
theorem dX5_hanging_229 : decode cX5_hanging 229 = .ok (.iaload, 1) := dk_46 (dk_at dksX5_hanging_9 16 rfl rfl)
theorem dX5_hanging_230 : decode cX5_hanging 230 = .ok (.ifCond .ne 12, 3) := dk_154 0 12 (dk_at dksX5_hanging_9 17 rfl rfl)
theorem dX5_hanging_233 : decode cX5_hanging 233 = .ok (.iconst 1, 1) := dk_4 (dk_at dksX5_hanging_9 20 rfl rfl)
theorem dX5_hanging_234 : decode cX5_hanging 234 = .ok (.iload 14, 2) := dk_21 14 (dk_at dksX5_hanging_9 21 rfl rfl)
theorem dX5_hanging_236 : decode cX5_hanging 236 = .ok (.ishl, 1) := dk_120 (dk_at dksX5_hanging_9 23 rfl rfl)
theorem dX5_hanging_237 : decode cX5_hanging 237 = .ok (.iconst (-1), 1) := dk_2 (dk_at dksX5_hanging_10 0 rfl rfl)
theorem dX5_hanging_238 : decode cX5_hanging 238 = .ok (.ixor, 1) := dk_130 (dk_at dksX5_hanging_10 1 rfl rfl)
theorem dX5_hanging_239 : decode cX5_hanging 239 = .ok (.goto 4, 3) := dk_167 0 4 (dk_at dksX5_hanging_10 2 rfl rfl)
theorem dX5_hanging_242 : decode cX5_hanging 242 = .ok (.iconst (-1), 1) := dk_2 (dk_at dksX5_hanging_10 5 rfl rfl)
theorem dX5_hanging_243 : decode cX5_hanging 243 = .ok (.iand, 1) := dk_126 (dk_at dksX5_hanging_10 6 rfl rfl)
theorem dX5_hanging_244 : decode cX5_hanging 244 = .ok (.istore 13, 2) := dk_54 13 (dk_at dksX5_hanging_10 7 rfl rfl)
theorem dX5_hanging_246 : decode cX5_hanging 246 = .ok (.iinc 14 1, 3) := dk_132 14 1 (dk_at dksX5_hanging_10 9 rfl rfl)
theorem dX5_hanging_249 : decode cX5_hanging 249 = .ok (.goto (-81), 3) := dk_167 255 175 (dk_at dksX5_hanging_10 12 rfl rfl)
theorem dX5_hanging_252 : decode cX5_hanging 252 = .ok (.iload 9, 2) := dk_21 9 (dk_at dksX5_hanging_10 15 rfl rfl)
theorem dX5_hanging_254 : decode cX5_hanging 254 = .ok (.ifCond .le 19, 3) := dk_158 0 19 (dk_at dksX5_hanging_10 17 rfl rfl)
theorem dX5_hanging_257 : decode cX5_hanging 257 = .ok (.iload 12, 2) := dk_21 12 (dk_at dksX5_hanging_10 20 rfl rfl)
theorem dX5_hanging_259 : decode cX5_hanging 259 = .ok (.iload 11, 2) := dk_21 11 (dk_at dksX5_hanging_10 22 rfl rfl)
theorem dX5_hanging_261 : decode cX5_hanging 261 = .ok (.if_icmp .gt 12, 3) := dk_163 0 12 (dk_at dksX5_hanging_11 0 rfl rfl)
theorem dX5_hanging_264 : decode cX5_hanging 264 = .ok (.iload 13, 2) := dk_21 13 (dk_at dksX5_hanging_11 3 rfl rfl)
theorem dX5_hanging_266 : decode cX5_hanging 266 = .ok (.ifCond .eq 7, 3) := dk_153 0 7 (dk_at dksX5_hanging_11 5 rfl rfl)
theorem dX5_hanging_269 : decode cX5_hanging 269 = .ok (.iconst 1, 1) := dk_4 (dk_at dksX5_hanging_11 8 rfl rfl)
theorem dX5_hanging_270 : decode cX5_hanging 270 = .ok (.goto 4, 3) := dk_167 0 4 (dk_at dksX5_hanging_11 9 rfl rfl)
theorem dX5_hanging_273 : decode cX5_hanging 273 = .ok (.iconst 0, 1) := dk_3 (dk_at dksX5_hanging_11 12 rfl rfl)
theorem dX5_hanging_274 : decode cX5_hanging 274 = .ok (.istore 14, 2) := dk_54 14 (dk_at dksX5_hanging_11 13 rfl rfl)
theorem dX5_hanging_276 : decode cX5_hanging 276 = .ok (.lload 6, 2) := dk_22 6 (dk_at dksX5_hanging_11 15 rfl rfl)
theorem dX5_hanging_278 : decode cX5_hanging 278 = .ok (.iload 14, 2) := dk_21 14 (dk_at dksX5_hanging_11 17 rfl rfl)
theorem dX5_hanging_280 : decode cX5_hanging 280 = .ok (.ifCond .eq 31, 3) := dk_153 0 31 (dk_at dksX5_hanging_11 19 rfl rfl)
theorem dX5_hanging_283 : decode cX5_hanging 283 = .ok (.iload 9, 2) := dk_21 9 (dk_at dksX5_hanging_11 22 rfl rfl)
theorem dX5_hanging_285 : decode cX5_hanging 285 = .ok (.i2l, 1) := dk_133 (dk_at dksX5_hanging_12 0 rfl rfl)
theorem dX5_hanging_286 : decode cX5_hanging 286 = .ok (.aload_n 0, 1) := dk_42 (dk_at dksX5_hanging_12 1 rfl rfl)
theorem dX5_hanging_287 : decode cX5_hanging 287 = .ok (.iload_n 1, 1) := dk_27 (dk_at dksX5_hanging_12 2 rfl rfl)
theorem dX5_hanging_288 : decode cX5_hanging 288 = .ok (.iload 13, 2) := dk_21 13 (dk_at dksX5_hanging_12 3 rfl rfl)
theorem dX5_hanging_290 : decode cX5_hanging 290 = .ok (.aload_n 0, 1) := dk_42 (dk_at dksX5_hanging_12 5 rfl rfl)
theorem dX5_hanging_291 : decode cX5_hanging 291 = .ok (.iload_n 1, 1) := dk_27 (dk_at dksX5_hanging_12 6 rfl rfl)
theorem dX5_hanging_292 : decode cX5_hanging 292 = .ok (.iload_n 3, 1) := dk_29 (dk_at dksX5_hanging_12 7 rfl rfl)
theorem dX5_hanging_293 : decode cX5_hanging 293 = .ok (.iload 10, 2) := dk_21 10 (dk_at dksX5_hanging_12 8 rfl rfl)
theorem dX5_hanging_295 : decode cX5_hanging 295 = .ok (.invokevirtual 340, 3) := dk_182 1 84 (dk_at dksX5_hanging_12 10 rfl rfl)
theorem dX5_hanging_298 : decode cX5_hanging 298 = .ok (.iload 4, 2) := dk_21 4 (dk_at dksX5_hanging_12 13 rfl rfl)
theorem dX5_hanging_300 : decode cX5_hanging 300 = .ok (.iconst 1, 1) := dk_4 (dk_at dksX5_hanging_12 15 rfl rfl)
theorem dX5_hanging_301 : decode cX5_hanging 301 = .ok (.iadd, 1) := dk_96 (dk_at dksX5_hanging_12 16 rfl rfl)
theorem dX5_hanging_302 : decode cX5_hanging 302 = .ok (.iload 5, 2) := dk_21 5 (dk_at dksX5_hanging_12 17 rfl rfl)
theorem dX5_hanging_304 : decode cX5_hanging 304 = .ok (.invokevirtual 404, 3) := dk_182 1 148 (dk_at dksX5_hanging_12 19 rfl rfl)
theorem dX5_hanging_307 : decode cX5_hanging 307 = .ok (.lmul, 1) := dk_105 (dk_at dksX5_hanging_12 22 rfl rfl)
theorem dX5_hanging_308 : decode cX5_hanging 308 = .ok (.goto 4, 3) := dk_167 0 4 (dk_at dksX5_hanging_13 0 rfl rfl)
theorem dX5_hanging_311 : decode cX5_hanging 311 = .ok (.lconst 0, 1) := dk_9 (dk_at dksX5_hanging_13 3 rfl rfl)
theorem dX5_hanging_312 : decode cX5_hanging 312 = .ok (.ladd, 1) := dk_97 (dk_at dksX5_hanging_13 4 rfl rfl)
theorem dX5_hanging_313 : decode cX5_hanging 313 = .ok (.lstore 6, 2) := dk_55 6 (dk_at dksX5_hanging_13 5 rfl rfl)
theorem dX5_hanging_315 : decode cX5_hanging 315 = .ok (.iinc 8 1, 3) := dk_132 8 1 (dk_at dksX5_hanging_13 7 rfl rfl)
theorem dX5_hanging_318 : decode cX5_hanging 318 = .ok (.goto (-303), 3) := dk_167 254 209 (dk_at dksX5_hanging_13 10 rfl rfl)
theorem dX5_hanging_321 : decode cX5_hanging 321 = .ok (.lload 6, 2) := dk_22 6 (dk_at dksX5_hanging_13 13 rfl rfl)
theorem dX5_hanging_323 : decode cX5_hanging 323 = .ok (.lreturn, 1) := dk_173 (dk_at dksX5_hanging_13 15 rfl rfl)
abbrev cX5_dry : ByteArray := prog_23_method_96_code
def yX5_dry : MethodName := ⟨RX5, "dry", "(I)I"⟩
def dkwX5_dry_6 : List UInt8 := [154, 0, 10, 42, 180, 1, 157, 167, 0, 11, 42, 180, 0, 138, 27, 4, 100, 46, 172]
abbrev dktX5_dry_6 : List UInt8 := dkwX5_dry_6 ++ []
def dkwX5_dry_5 : List UInt8 := [181, 1, 157, 42, 3, 3, 3, 182, 1, 160, 42, 180, 1, 157, 16, 100, 160, 0, 7, 2, 167, 0, 22, 27]
abbrev dktX5_dry_5 : List UInt8 := dkwX5_dry_5 ++ dktX5_dry_6
def dkwX5_dry_4 : List UInt8 := [167, 255, 177, 27, 3, 42, 180, 1, 154, 184, 1, 42, 184, 1, 93, 154, 0, 5, 2, 172, 42, 16, 100]
abbrev dktX5_dry_4 : List UInt8 := dkwX5_dry_4 ++ dktX5_dry_5
def dkwX5_dry_3 : List UInt8 := [16, 6, 28, 104, 29, 96, 42, 28, 29, 182, 1, 163, 79, 132, 3, 1, 167, 255, 230, 132, 2, 1]
abbrev dktX5_dry_3 : List UInt8 := dkwX5_dry_3 ++ dktX5_dry_4
def dkwX5_dry_2 : List UInt8 := [4, 28, 120, 167, 0, 4, 3, 128, 181, 1, 154, 3, 62, 29, 16, 6, 162, 0, 26, 42, 180, 0, 132]
abbrev dktX5_dry_2 : List UInt8 := dkwX5_dry_2 ++ dktX5_dry_3
def dkwX5_dry_1 : List UInt8 := [180, 1, 154, 42, 3, 28, 182, 1, 48, 154, 0, 21, 42, 180, 0, 113, 16, 8, 28, 96, 46, 158, 0, 9]
abbrev dktX5_dry_1 : List UInt8 := dkwX5_dry_1 ++ dktX5_dry_2
def dkwX5_dry_0 : List UInt8 := [42, 3, 181, 0, 1, 42, 3, 181, 1, 154, 3, 61, 28, 42, 182, 1, 36, 162, 0, 77, 42, 89]
abbrev dktX5_dry_0 : List UInt8 := dkwX5_dry_0 ++ dktX5_dry_1
theorem dksX5_dry_0 : cX5_dry.data.toList.drop 0 = dktX5_dry_0 := by decide +kernel
theorem dksX5_dry_1 : cX5_dry.data.toList.drop 22 = dktX5_dry_1 := dk_seg dksX5_dry_0 22 rfl rfl
theorem dksX5_dry_2 : cX5_dry.data.toList.drop 46 = dktX5_dry_2 := dk_seg dksX5_dry_1 24 rfl rfl
theorem dksX5_dry_3 : cX5_dry.data.toList.drop 69 = dktX5_dry_3 := dk_seg dksX5_dry_2 23 rfl rfl
theorem dksX5_dry_4 : cX5_dry.data.toList.drop 91 = dktX5_dry_4 := dk_seg dksX5_dry_3 22 rfl rfl
theorem dksX5_dry_5 : cX5_dry.data.toList.drop 114 = dktX5_dry_5 := dk_seg dksX5_dry_4 23 rfl rfl
theorem dksX5_dry_6 : cX5_dry.data.toList.drop 138 = dktX5_dry_6 := dk_seg dksX5_dry_5 24 rfl rfl
theorem dX5_dry_0 : decode cX5_dry 0 = .ok (.aload_n 0, 1) := dk_42 (dk_at dksX5_dry_0 0 rfl rfl)
theorem dX5_dry_1 : decode cX5_dry 1 = .ok (.iconst 0, 1) := dk_3 (dk_at dksX5_dry_0 1 rfl rfl)
theorem dX5_dry_2 : decode cX5_dry 2 = .ok (.putfield 1, 3) := dk_181 0 1 (dk_at dksX5_dry_0 2 rfl rfl)
theorem dX5_dry_5 : decode cX5_dry 5 = .ok (.aload_n 0, 1) := dk_42 (dk_at dksX5_dry_0 5 rfl rfl)
theorem dX5_dry_6 : decode cX5_dry 6 = .ok (.iconst 0, 1) := dk_3 (dk_at dksX5_dry_0 6 rfl rfl)
theorem dX5_dry_7 : decode cX5_dry 7 = .ok (.putfield 410, 3) := dk_181 1 154 (dk_at dksX5_dry_0 7 rfl rfl)
theorem dX5_dry_10 : decode cX5_dry 10 = .ok (.iconst 0, 1) := dk_3 (dk_at dksX5_dry_0 10 rfl rfl)
theorem dX5_dry_11 : decode cX5_dry 11 = .ok (.istore_n 2, 1) := dk_61 (dk_at dksX5_dry_0 11 rfl rfl)
theorem dX5_dry_12 : decode cX5_dry 12 = .ok (.iload_n 2, 1) := dk_28 (dk_at dksX5_dry_0 12 rfl rfl)
theorem dX5_dry_13 : decode cX5_dry 13 = .ok (.aload_n 0, 1) := dk_42 (dk_at dksX5_dry_0 13 rfl rfl)
theorem dX5_dry_14 : decode cX5_dry 14 = .ok (.invokevirtual 292, 3) := dk_182 1 36 (dk_at dksX5_dry_0 14 rfl rfl)
theorem dX5_dry_17 : decode cX5_dry 17 = .ok (.if_icmp .ge 77, 3) := dk_162 0 77 (dk_at dksX5_dry_0 17 rfl rfl)
theorem dX5_dry_20 : decode cX5_dry 20 = .ok (.aload_n 0, 1) := dk_42 (dk_at dksX5_dry_0 20 rfl rfl)
theorem dX5_dry_21 : decode cX5_dry 21 = .ok (.dup, 1) := dk_89 (dk_at dksX5_dry_0 21 rfl rfl)
theorem dX5_dry_22 : decode cX5_dry 22 = .ok (.getfield 410, 3) := dk_180 1 154 (dk_at dksX5_dry_1 0 rfl rfl)
theorem dX5_dry_25 : decode cX5_dry 25 = .ok (.aload_n 0, 1) := dk_42 (dk_at dksX5_dry_1 3 rfl rfl)
theorem dX5_dry_26 : decode cX5_dry 26 = .ok (.iconst 0, 1) := dk_3 (dk_at dksX5_dry_1 4 rfl rfl)
theorem dX5_dry_27 : decode cX5_dry 27 = .ok (.iload_n 2, 1) := dk_28 (dk_at dksX5_dry_1 5 rfl rfl)
theorem dX5_dry_28 : decode cX5_dry 28 = .ok (.invokevirtual 304, 3) := dk_182 1 48 (dk_at dksX5_dry_1 6 rfl rfl)
theorem dX5_dry_31 : decode cX5_dry 31 = .ok (.ifCond .ne 21, 3) := dk_154 0 21 (dk_at dksX5_dry_1 9 rfl rfl)
theorem dX5_dry_34 : decode cX5_dry 34 = .ok (.aload_n 0, 1) := dk_42 (dk_at dksX5_dry_1 12 rfl rfl)
theorem dX5_dry_35 : decode cX5_dry 35 = .ok (.getfield 113, 3) := dk_180 0 113 (dk_at dksX5_dry_1 13 rfl rfl)
theorem dX5_dry_38 : decode cX5_dry 38 = .ok (.bipush 8, 2) := dk_16 8 (dk_at dksX5_dry_1 16 rfl rfl)
theorem dX5_dry_40 : decode cX5_dry 40 = .ok (.iload_n 2, 1) := dk_28 (dk_at dksX5_dry_1 18 rfl rfl)
theorem dX5_dry_41 : decode cX5_dry 41 = .ok (.iadd, 1) := dk_96 (dk_at dksX5_dry_1 19 rfl rfl)
theorem dX5_dry_42 : decode cX5_dry 42 = .ok (.iaload, 1) := dk_46 (dk_at dksX5_dry_1 20 rfl rfl)
theorem dX5_dry_43 : decode cX5_dry 43 = .ok (.ifCond .le 9, 3) := dk_158 0 9 (dk_at dksX5_dry_1 21 rfl rfl)
theorem dX5_dry_46 : decode cX5_dry 46 = .ok (.iconst 1, 1) := dk_4 (dk_at dksX5_dry_2 0 rfl rfl)
theorem dX5_dry_47 : decode cX5_dry 47 = .ok (.iload_n 2, 1) := dk_28 (dk_at dksX5_dry_2 1 rfl rfl)
theorem dX5_dry_48 : decode cX5_dry 48 = .ok (.ishl, 1) := dk_120 (dk_at dksX5_dry_2 2 rfl rfl)
theorem dX5_dry_49 : decode cX5_dry 49 = .ok (.goto 4, 3) := dk_167 0 4 (dk_at dksX5_dry_2 3 rfl rfl)
theorem dX5_dry_52 : decode cX5_dry 52 = .ok (.iconst 0, 1) := dk_3 (dk_at dksX5_dry_2 6 rfl rfl)
theorem dX5_dry_53 : decode cX5_dry 53 = .ok (.ior, 1) := dk_128 (dk_at dksX5_dry_2 7 rfl rfl)
theorem dX5_dry_54 : decode cX5_dry 54 = .ok (.putfield 410, 3) := dk_181 1 154 (dk_at dksX5_dry_2 8 rfl rfl)
theorem dX5_dry_57 : decode cX5_dry 57 = .ok (.iconst 0, 1) := dk_3 (dk_at dksX5_dry_2 11 rfl rfl)
theorem dX5_dry_58 : decode cX5_dry 58 = .ok (.istore_n 3, 1) := dk_62 (dk_at dksX5_dry_2 12 rfl rfl)
theorem dX5_dry_59 : decode cX5_dry 59 = .ok (.iload_n 3, 1) := dk_29 (dk_at dksX5_dry_2 13 rfl rfl)
theorem dX5_dry_60 : decode cX5_dry 60 = .ok (.bipush 6, 2) := dk_16 6 (dk_at dksX5_dry_2 14 rfl rfl)
theorem dX5_dry_62 : decode cX5_dry 62 = .ok (.if_icmp .ge 26, 3) := dk_162 0 26 (dk_at dksX5_dry_2 16 rfl rfl)
theorem dX5_dry_65 : decode cX5_dry 65 = .ok (.aload_n 0, 1) := dk_42 (dk_at dksX5_dry_2 19 rfl rfl)
theorem dX5_dry_66 : decode cX5_dry 66 = .ok (.getfield 132, 3) := dk_180 0 132 (dk_at dksX5_dry_2 20 rfl rfl)
theorem dX5_dry_69 : decode cX5_dry 69 = .ok (.bipush 6, 2) := dk_16 6 (dk_at dksX5_dry_3 0 rfl rfl)
theorem dX5_dry_71 : decode cX5_dry 71 = .ok (.iload_n 2, 1) := dk_28 (dk_at dksX5_dry_3 2 rfl rfl)
theorem dX5_dry_72 : decode cX5_dry 72 = .ok (.imul, 1) := dk_104 (dk_at dksX5_dry_3 3 rfl rfl)
theorem dX5_dry_73 : decode cX5_dry 73 = .ok (.iload_n 3, 1) := dk_29 (dk_at dksX5_dry_3 4 rfl rfl)
theorem dX5_dry_74 : decode cX5_dry 74 = .ok (.iadd, 1) := dk_96 (dk_at dksX5_dry_3 5 rfl rfl)
theorem dX5_dry_75 : decode cX5_dry 75 = .ok (.aload_n 0, 1) := dk_42 (dk_at dksX5_dry_3 6 rfl rfl)
theorem dX5_dry_76 : decode cX5_dry 76 = .ok (.iload_n 2, 1) := dk_28 (dk_at dksX5_dry_3 7 rfl rfl)
theorem dX5_dry_77 : decode cX5_dry 77 = .ok (.iload_n 3, 1) := dk_29 (dk_at dksX5_dry_3 8 rfl rfl)
theorem dX5_dry_78 : decode cX5_dry 78 = .ok (.invokevirtual 419, 3) := dk_182 1 163 (dk_at dksX5_dry_3 9 rfl rfl)
theorem dX5_dry_81 : decode cX5_dry 81 = .ok (.iastore, 1) := dk_79 (dk_at dksX5_dry_3 12 rfl rfl)
theorem dX5_dry_82 : decode cX5_dry 82 = .ok (.iinc 3 1, 3) := dk_132 3 1 (dk_at dksX5_dry_3 13 rfl rfl)
theorem dX5_dry_85 : decode cX5_dry 85 = .ok (.goto (-26), 3) := dk_167 255 230 (dk_at dksX5_dry_3 16 rfl rfl)
theorem dX5_dry_88 : decode cX5_dry 88 = .ok (.iinc 2 1, 3) := dk_132 2 1 (dk_at dksX5_dry_3 19 rfl rfl)
theorem dX5_dry_91 : decode cX5_dry 91 = .ok (.goto (-79), 3) := dk_167 255 177 (dk_at dksX5_dry_4 0 rfl rfl)
theorem dX5_dry_94 : decode cX5_dry 94 = .ok (.iload_n 1, 1) := dk_27 (dk_at dksX5_dry_4 3 rfl rfl)
theorem dX5_dry_95 : decode cX5_dry 95 = .ok (.iconst 0, 1) := dk_3 (dk_at dksX5_dry_4 4 rfl rfl)
theorem dX5_dry_96 : decode cX5_dry 96 = .ok (.aload_n 0, 1) := dk_42 (dk_at dksX5_dry_4 5 rfl rfl)
theorem dX5_dry_97 : decode cX5_dry 97 = .ok (.getfield 410, 3) := dk_180 1 154 (dk_at dksX5_dry_4 6 rfl rfl)
theorem dX5_dry_100 : decode cX5_dry 100 = .ok (.invokestatic 298, 3) := dk_184 1 42 (dk_at dksX5_dry_4 9 rfl rfl)
theorem dX5_dry_103 : decode cX5_dry 103 = .ok (.invokestatic 349, 3) := dk_184 1 93 (dk_at dksX5_dry_4 12 rfl rfl)
theorem dX5_dry_106 : decode cX5_dry 106 = .ok (.ifCond .ne 5, 3) := dk_154 0 5 (dk_at dksX5_dry_4 15 rfl rfl)
theorem dX5_dry_109 : decode cX5_dry 109 = .ok (.iconst (-1), 1) := dk_2 (dk_at dksX5_dry_4 18 rfl rfl)
theorem dX5_dry_110 : decode cX5_dry 110 = .ok (.ireturn, 1) := dk_172 (dk_at dksX5_dry_4 19 rfl rfl)
theorem dX5_dry_111 : decode cX5_dry 111 = .ok (.aload_n 0, 1) := dk_42 (dk_at dksX5_dry_4 20 rfl rfl)
theorem dX5_dry_112 : decode cX5_dry 112 = .ok (.bipush 100, 2) := dk_16 100 (dk_at dksX5_dry_4 21 rfl rfl)
theorem dX5_dry_114 : decode cX5_dry 114 = .ok (.putfield 413, 3) := dk_181 1 157 (dk_at dksX5_dry_5 0 rfl rfl)
theorem dX5_dry_117 : decode cX5_dry 117 = .ok (.aload_n 0, 1) := dk_42 (dk_at dksX5_dry_5 3 rfl rfl)
theorem dX5_dry_118 : decode cX5_dry 118 = .ok (.iconst 0, 1) := dk_3 (dk_at dksX5_dry_5 4 rfl rfl)
theorem dX5_dry_119 : decode cX5_dry 119 = .ok (.iconst 0, 1) := dk_3 (dk_at dksX5_dry_5 5 rfl rfl)
theorem dX5_dry_120 : decode cX5_dry 120 = .ok (.iconst 0, 1) := dk_3 (dk_at dksX5_dry_5 6 rfl rfl)
theorem dX5_dry_121 : decode cX5_dry 121 = .ok (.invokevirtual 416, 3) := dk_182 1 160 (dk_at dksX5_dry_5 7 rfl rfl)
theorem dX5_dry_124 : decode cX5_dry 124 = .ok (.aload_n 0, 1) := dk_42 (dk_at dksX5_dry_5 10 rfl rfl)
theorem dX5_dry_125 : decode cX5_dry 125 = .ok (.getfield 413, 3) := dk_180 1 157 (dk_at dksX5_dry_5 11 rfl rfl)
theorem dX5_dry_128 : decode cX5_dry 128 = .ok (.bipush 100, 2) := dk_16 100 (dk_at dksX5_dry_5 14 rfl rfl)
theorem dX5_dry_130 : decode cX5_dry 130 = .ok (.if_icmp .ne 7, 3) := dk_160 0 7 (dk_at dksX5_dry_5 16 rfl rfl)
theorem dX5_dry_133 : decode cX5_dry 133 = .ok (.iconst (-1), 1) := dk_2 (dk_at dksX5_dry_5 19 rfl rfl)
theorem dX5_dry_134 : decode cX5_dry 134 = .ok (.goto 22, 3) := dk_167 0 22 (dk_at dksX5_dry_5 20 rfl rfl)
theorem dX5_dry_137 : decode cX5_dry 137 = .ok (.iload_n 1, 1) := dk_27 (dk_at dksX5_dry_5 23 rfl rfl)
theorem dX5_dry_138 : decode cX5_dry 138 = .ok (.ifCond .ne 10, 3) := dk_154 0 10 (dk_at dksX5_dry_6 0 rfl rfl)
theorem dX5_dry_141 : decode cX5_dry 141 = .ok (.aload_n 0, 1) := dk_42 (dk_at dksX5_dry_6 3 rfl rfl)
theorem dX5_dry_142 : decode cX5_dry 142 = .ok (.getfield 413, 3) := dk_180 1 157 (dk_at dksX5_dry_6 4 rfl rfl)
theorem dX5_dry_145 : decode cX5_dry 145 = .ok (.goto 11, 3) := dk_167 0 11 (dk_at dksX5_dry_6 7 rfl rfl)
theorem dX5_dry_148 : decode cX5_dry 148 = .ok (.aload_n 0, 1) := dk_42 (dk_at dksX5_dry_6 10 rfl rfl)
theorem dX5_dry_149 : decode cX5_dry 149 = .ok (.getfield 138, 3) := dk_180 0 138 (dk_at dksX5_dry_6 11 rfl rfl)
theorem dX5_dry_152 : decode cX5_dry 152 = .ok (.iload_n 1, 1) := dk_27 (dk_at dksX5_dry_6 14 rfl rfl)
theorem dX5_dry_153 : decode cX5_dry 153 = .ok (.iconst 1, 1) := dk_4 (dk_at dksX5_dry_6 15 rfl rfl)
theorem dX5_dry_154 : decode cX5_dry 154 = .ok (.isub, 1) := dk_100 (dk_at dksX5_dry_6 16 rfl rfl)
theorem dX5_dry_155 : decode cX5_dry 155 = .ok (.iaload, 1) := dk_46 (dk_at dksX5_dry_6 17 rfl rfl)
theorem dX5_dry_156 : decode cX5_dry 156 = .ok (.ireturn, 1) := dk_172 (dk_at dksX5_dry_6 18 rfl rfl)
abbrev cX5_driedBehind : ByteArray := prog_23_method_94_code
def yX5_driedBehind : MethodName := ⟨RX5, "driedBehind", "(II)I"⟩
def dkwX5_driedBehind_2 : List UInt8 := [158, 0, 8, 16, 100, 167, 0, 5, 21, 4, 172]
abbrev dktX5_driedBehind_2 : List UInt8 := dkwX5_driedBehind_2 ++ []
def dkwX5_driedBehind_1 : List UInt8 := [180, 0, 113, 3, 46, 21, 4, 96, 3, 182, 1, 76, 182, 1, 84, 62, 132, 4, 1, 167, 255, 221, 29]
abbrev dktX5_driedBehind_1 : List UInt8 := dkwX5_driedBehind_1 ++ dktX5_driedBehind_2
def dkwX5_driedBehind_0 : List UInt8 := [16, 9, 62, 28, 54, 4, 29, 158, 0, 37, 21, 4, 16, 100, 162, 0, 30, 42, 27, 29, 42, 42]
abbrev dktX5_driedBehind_0 : List UInt8 := dkwX5_driedBehind_0 ++ dktX5_driedBehind_1
theorem dksX5_driedBehind_0 : cX5_driedBehind.data.toList.drop 0 = dktX5_driedBehind_0 := by decide +kernel
theorem dksX5_driedBehind_1 : cX5_driedBehind.data.toList.drop 22 = dktX5_driedBehind_1 := dk_seg dksX5_driedBehind_0 22 rfl rfl
theorem dksX5_driedBehind_2 : cX5_driedBehind.data.toList.drop 45 = dktX5_driedBehind_2 := dk_seg dksX5_driedBehind_1 23 rfl rfl
theorem dX5_driedBehind_0 : decode cX5_driedBehind 0 = .ok (.bipush 9, 2) := dk_16 9 (dk_at dksX5_driedBehind_0 0 rfl rfl)
theorem dX5_driedBehind_2 : decode cX5_driedBehind 2 = .ok (.istore_n 3, 1) := dk_62 (dk_at dksX5_driedBehind_0 2 rfl rfl)
theorem dX5_driedBehind_3 : decode cX5_driedBehind 3 = .ok (.iload_n 2, 1) := dk_28 (dk_at dksX5_driedBehind_0 3 rfl rfl)
theorem dX5_driedBehind_4 : decode cX5_driedBehind 4 = .ok (.istore 4, 2) := dk_54 4 (dk_at dksX5_driedBehind_0 4 rfl rfl)
theorem dX5_driedBehind_6 : decode cX5_driedBehind 6 = .ok (.iload_n 3, 1) := dk_29 (dk_at dksX5_driedBehind_0 6 rfl rfl)
theorem dX5_driedBehind_7 : decode cX5_driedBehind 7 = .ok (.ifCond .le 37, 3) := dk_158 0 37 (dk_at dksX5_driedBehind_0 7 rfl rfl)
theorem dX5_driedBehind_10 : decode cX5_driedBehind 10 = .ok (.iload 4, 2) := dk_21 4 (dk_at dksX5_driedBehind_0 10 rfl rfl)
theorem dX5_driedBehind_12 : decode cX5_driedBehind 12 = .ok (.bipush 100, 2) := dk_16 100 (dk_at dksX5_driedBehind_0 12 rfl rfl)
theorem dX5_driedBehind_14 : decode cX5_driedBehind 14 = .ok (.if_icmp .ge 30, 3) := dk_162 0 30 (dk_at dksX5_driedBehind_0 14 rfl rfl)
theorem dX5_driedBehind_17 : decode cX5_driedBehind 17 = .ok (.aload_n 0, 1) := dk_42 (dk_at dksX5_driedBehind_0 17 rfl rfl)
theorem dX5_driedBehind_18 : decode cX5_driedBehind 18 = .ok (.iload_n 1, 1) := dk_27 (dk_at dksX5_driedBehind_0 18 rfl rfl)
theorem dX5_driedBehind_19 : decode cX5_driedBehind 19 = .ok (.iload_n 3, 1) := dk_29 (dk_at dksX5_driedBehind_0 19 rfl rfl)
theorem dX5_driedBehind_20 : decode cX5_driedBehind 20 = .ok (.aload_n 0, 1) := dk_42 (dk_at dksX5_driedBehind_0 20 rfl rfl)
theorem dX5_driedBehind_21 : decode cX5_driedBehind 21 = .ok (.aload_n 0, 1) := dk_42 (dk_at dksX5_driedBehind_0 21 rfl rfl)
theorem dX5_driedBehind_22 : decode cX5_driedBehind 22 = .ok (.getfield 113, 3) := dk_180 0 113 (dk_at dksX5_driedBehind_1 0 rfl rfl)
theorem dX5_driedBehind_25 : decode cX5_driedBehind 25 = .ok (.iconst 0, 1) := dk_3 (dk_at dksX5_driedBehind_1 3 rfl rfl)
theorem dX5_driedBehind_26 : decode cX5_driedBehind 26 = .ok (.iaload, 1) := dk_46 (dk_at dksX5_driedBehind_1 4 rfl rfl)
theorem dX5_driedBehind_27 : decode cX5_driedBehind 27 = .ok (.iload 4, 2) := dk_21 4 (dk_at dksX5_driedBehind_1 5 rfl rfl)
theorem dX5_driedBehind_29 : decode cX5_driedBehind 29 = .ok (.iadd, 1) := dk_96 (dk_at dksX5_driedBehind_1 7 rfl rfl)
theorem dX5_driedBehind_30 : decode cX5_driedBehind 30 = .ok (.iconst 0, 1) := dk_3 (dk_at dksX5_driedBehind_1 8 rfl rfl)
theorem dX5_driedBehind_31 : decode cX5_driedBehind 31 = .ok (.invokevirtual 332, 3) := dk_182 1 76 (dk_at dksX5_driedBehind_1 9 rfl rfl)
theorem dX5_driedBehind_34 : decode cX5_driedBehind 34 = .ok (.invokevirtual 340, 3) := dk_182 1 84 (dk_at dksX5_driedBehind_1 12 rfl rfl)
theorem dX5_driedBehind_37 : decode cX5_driedBehind 37 = .ok (.istore_n 3, 1) := dk_62 (dk_at dksX5_driedBehind_1 15 rfl rfl)
theorem dX5_driedBehind_38 : decode cX5_driedBehind 38 = .ok (.iinc 4 1, 3) := dk_132 4 1 (dk_at dksX5_driedBehind_1 16 rfl rfl)
theorem dX5_driedBehind_41 : decode cX5_driedBehind 41 = .ok (.goto (-35), 3) := dk_167 255 221 (dk_at dksX5_driedBehind_1 19 rfl rfl)
theorem dX5_driedBehind_44 : decode cX5_driedBehind 44 = .ok (.iload_n 3, 1) := dk_29 (dk_at dksX5_driedBehind_1 22 rfl rfl)
theorem dX5_driedBehind_45 : decode cX5_driedBehind 45 = .ok (.ifCond .le 8, 3) := dk_158 0 8 (dk_at dksX5_driedBehind_2 0 rfl rfl)
theorem dX5_driedBehind_48 : decode cX5_driedBehind 48 = .ok (.bipush 100, 2) := dk_16 100 (dk_at dksX5_driedBehind_2 3 rfl rfl)
theorem dX5_driedBehind_50 : decode cX5_driedBehind 50 = .ok (.goto 5, 3) := dk_167 0 5 (dk_at dksX5_driedBehind_2 5 rfl rfl)
theorem dX5_driedBehind_53 : decode cX5_driedBehind 53 = .ok (.iload 4, 2) := dk_21 4 (dk_at dksX5_driedBehind_2 8 rfl rfl)
theorem dX5_driedBehind_55 : decode cX5_driedBehind 55 = .ok (.ireturn, 1) := dk_172 (dk_at dksX5_driedBehind_2 10 rfl rfl)
abbrev cX5_washesFrom : ByteArray := prog_23_method_95_code
def yX5_washesFrom : MethodName := ⟨RX5, "washesFrom", "(III)V"⟩
def dkwX5_washesFrom_5 : List UInt8 := [29, 164, 0, 8, 21, 5, 167, 0, 4, 29, 182, 1, 160, 132, 4, 1, 167, 255, 175, 177]
abbrev dktX5_washesFrom_5 : List UInt8 := dkwX5_washesFrom_5 ++ []
def dkwX5_washesFrom_4 : List UInt8 := [96, 46, 54, 5, 42, 180, 0, 135, 27, 21, 4, 79, 42, 27, 4, 96, 28, 4, 21, 4, 120, 128, 21, 5]
abbrev dktX5_washesFrom_4 : List UInt8 := dkwX5_washesFrom_4 ++ dktX5_washesFrom_5
def dkwX5_washesFrom_3 : List UInt8 := [126, 4, 160, 0, 59, 28, 21, 4, 122, 4, 126, 154, 0, 50, 42, 180, 0, 132, 16, 6, 21, 4, 104, 27]
abbrev dktX5_washesFrom_3 : List UInt8 := dkwX5_washesFrom_3 ++ dktX5_washesFrom_4
def dkwX5_washesFrom_2 : List UInt8 := [167, 255, 233, 177, 3, 54, 4, 21, 4, 42, 182, 1, 36, 162, 0, 78, 42, 180, 1, 154, 21, 4, 122, 4]
abbrev dktX5_washesFrom_2 : List UInt8 := dkwX5_washesFrom_2 ++ dktX5_washesFrom_3
def dkwX5_washesFrom_1 : List UInt8 := [21, 4, 27, 162, 0, 23, 42, 180, 0, 138, 21, 4, 42, 180, 0, 135, 21, 4, 46, 79, 132, 4, 1]
abbrev dktX5_washesFrom_1 : List UInt8 := dkwX5_washesFrom_1 ++ dktX5_washesFrom_2
def dkwX5_washesFrom_0 : List UInt8 := [28, 42, 180, 1, 154, 160, 0, 46, 29, 42, 180, 1, 157, 162, 0, 37, 42, 29, 181, 1, 157, 3, 54, 4]
abbrev dktX5_washesFrom_0 : List UInt8 := dkwX5_washesFrom_0 ++ dktX5_washesFrom_1
theorem dksX5_washesFrom_0 : cX5_washesFrom.data.toList.drop 0 = dktX5_washesFrom_0 := by decide +kernel
theorem dksX5_washesFrom_1 : cX5_washesFrom.data.toList.drop 24 = dktX5_washesFrom_1 := dk_seg dksX5_washesFrom_0 24 rfl rfl
theorem dksX5_washesFrom_2 : cX5_washesFrom.data.toList.drop 47 = dktX5_washesFrom_2 := dk_seg dksX5_washesFrom_1 23 rfl rfl
theorem dksX5_washesFrom_3 : cX5_washesFrom.data.toList.drop 71 = dktX5_washesFrom_3 := dk_seg dksX5_washesFrom_2 24 rfl rfl
theorem dksX5_washesFrom_4 : cX5_washesFrom.data.toList.drop 95 = dktX5_washesFrom_4 := dk_seg dksX5_washesFrom_3 24 rfl rfl
theorem dksX5_washesFrom_5 : cX5_washesFrom.data.toList.drop 119 = dktX5_washesFrom_5 := dk_seg dksX5_washesFrom_4 24 rfl rfl
theorem dX5_washesFrom_0 : decode cX5_washesFrom 0 = .ok (.iload_n 2, 1) := dk_28 (dk_at dksX5_washesFrom_0 0 rfl rfl)
theorem dX5_washesFrom_1 : decode cX5_washesFrom 1 = .ok (.aload_n 0, 1) := dk_42 (dk_at dksX5_washesFrom_0 1 rfl rfl)
theorem dX5_washesFrom_2 : decode cX5_washesFrom 2 = .ok (.getfield 410, 3) := dk_180 1 154 (dk_at dksX5_washesFrom_0 2 rfl rfl)
theorem dX5_washesFrom_5 : decode cX5_washesFrom 5 = .ok (.if_icmp .ne 46, 3) := dk_160 0 46 (dk_at dksX5_washesFrom_0 5 rfl rfl)
theorem dX5_washesFrom_8 : decode cX5_washesFrom 8 = .ok (.iload_n 3, 1) := dk_29 (dk_at dksX5_washesFrom_0 8 rfl rfl)
theorem dX5_washesFrom_9 : decode cX5_washesFrom 9 = .ok (.aload_n 0, 1) := dk_42 (dk_at dksX5_washesFrom_0 9 rfl rfl)
theorem dX5_washesFrom_10 : decode cX5_washesFrom 10 = .ok (.getfield 413, 3) := dk_180 1 157 (dk_at dksX5_washesFrom_0 10 rfl rfl)
theorem dX5_washesFrom_13 : decode cX5_washesFrom 13 = .ok (.if_icmp .ge 37, 3) := dk_162 0 37 (dk_at dksX5_washesFrom_0 13 rfl rfl)
theorem dX5_washesFrom_16 : decode cX5_washesFrom 16 = .ok (.aload_n 0, 1) := dk_42 (dk_at dksX5_washesFrom_0 16 rfl rfl)
theorem dX5_washesFrom_17 : decode cX5_washesFrom 17 = .ok (.iload_n 3, 1) := dk_29 (dk_at dksX5_washesFrom_0 17 rfl rfl)
theorem dX5_washesFrom_18 : decode cX5_washesFrom 18 = .ok (.putfield 413, 3) := dk_181 1 157 (dk_at dksX5_washesFrom_0 18 rfl rfl)
theorem dX5_washesFrom_21 : decode cX5_washesFrom 21 = .ok (.iconst 0, 1) := dk_3 (dk_at dksX5_washesFrom_0 21 rfl rfl)
theorem dX5_washesFrom_22 : decode cX5_washesFrom 22 = .ok (.istore 4, 2) := dk_54 4 (dk_at dksX5_washesFrom_0 22 rfl rfl)
theorem dX5_washesFrom_24 : decode cX5_washesFrom 24 = .ok (.iload 4, 2) := dk_21 4 (dk_at dksX5_washesFrom_1 0 rfl rfl)
theorem dX5_washesFrom_26 : decode cX5_washesFrom 26 = .ok (.iload_n 1, 1) := dk_27 (dk_at dksX5_washesFrom_1 2 rfl rfl)
theorem dX5_washesFrom_27 : decode cX5_washesFrom 27 = .ok (.if_icmp .ge 23, 3) := dk_162 0 23 (dk_at dksX5_washesFrom_1 3 rfl rfl)
theorem dX5_washesFrom_30 : decode cX5_washesFrom 30 = .ok (.aload_n 0, 1) := dk_42 (dk_at dksX5_washesFrom_1 6 rfl rfl)
theorem dX5_washesFrom_31 : decode cX5_washesFrom 31 = .ok (.getfield 138, 3) := dk_180 0 138 (dk_at dksX5_washesFrom_1 7 rfl rfl)
theorem dX5_washesFrom_34 : decode cX5_washesFrom 34 = .ok (.iload 4, 2) := dk_21 4 (dk_at dksX5_washesFrom_1 10 rfl rfl)
theorem dX5_washesFrom_36 : decode cX5_washesFrom 36 = .ok (.aload_n 0, 1) := dk_42 (dk_at dksX5_washesFrom_1 12 rfl rfl)
theorem dX5_washesFrom_37 : decode cX5_washesFrom 37 = .ok (.getfield 135, 3) := dk_180 0 135 (dk_at dksX5_washesFrom_1 13 rfl rfl)
theorem dX5_washesFrom_40 : decode cX5_washesFrom 40 = .ok (.iload 4, 2) := dk_21 4 (dk_at dksX5_washesFrom_1 16 rfl rfl)
theorem dX5_washesFrom_42 : decode cX5_washesFrom 42 = .ok (.iaload, 1) := dk_46 (dk_at dksX5_washesFrom_1 18 rfl rfl)
theorem dX5_washesFrom_43 : decode cX5_washesFrom 43 = .ok (.iastore, 1) := dk_79 (dk_at dksX5_washesFrom_1 19 rfl rfl)
theorem dX5_washesFrom_44 : decode cX5_washesFrom 44 = .ok (.iinc 4 1, 3) := dk_132 4 1 (dk_at dksX5_washesFrom_1 20 rfl rfl)
theorem dX5_washesFrom_47 : decode cX5_washesFrom 47 = .ok (.goto (-23), 3) := dk_167 255 233 (dk_at dksX5_washesFrom_2 0 rfl rfl)
theorem dX5_washesFrom_50 : decode cX5_washesFrom 50 = .ok (.return_, 1) := dk_177 (dk_at dksX5_washesFrom_2 3 rfl rfl)
theorem dX5_washesFrom_51 : decode cX5_washesFrom 51 = .ok (.iconst 0, 1) := dk_3 (dk_at dksX5_washesFrom_2 4 rfl rfl)
theorem dX5_washesFrom_52 : decode cX5_washesFrom 52 = .ok (.istore 4, 2) := dk_54 4 (dk_at dksX5_washesFrom_2 5 rfl rfl)
theorem dX5_washesFrom_54 : decode cX5_washesFrom 54 = .ok (.iload 4, 2) := dk_21 4 (dk_at dksX5_washesFrom_2 7 rfl rfl)
theorem dX5_washesFrom_56 : decode cX5_washesFrom 56 = .ok (.aload_n 0, 1) := dk_42 (dk_at dksX5_washesFrom_2 9 rfl rfl)
theorem dX5_washesFrom_57 : decode cX5_washesFrom 57 = .ok (.invokevirtual 292, 3) := dk_182 1 36 (dk_at dksX5_washesFrom_2 10 rfl rfl)
theorem dX5_washesFrom_60 : decode cX5_washesFrom 60 = .ok (.if_icmp .ge 78, 3) := dk_162 0 78 (dk_at dksX5_washesFrom_2 13 rfl rfl)
theorem dX5_washesFrom_63 : decode cX5_washesFrom 63 = .ok (.aload_n 0, 1) := dk_42 (dk_at dksX5_washesFrom_2 16 rfl rfl)
theorem dX5_washesFrom_64 : decode cX5_washesFrom 64 = .ok (.getfield 410, 3) := dk_180 1 154 (dk_at dksX5_washesFrom_2 17 rfl rfl)
theorem dX5_washesFrom_67 : decode cX5_washesFrom 67 = .ok (.iload 4, 2) := dk_21 4 (dk_at dksX5_washesFrom_2 20 rfl rfl)
theorem dX5_washesFrom_69 : decode cX5_washesFrom 69 = .ok (.ishr, 1) := dk_122 (dk_at dksX5_washesFrom_2 22 rfl rfl)
theorem dX5_washesFrom_70 : decode cX5_washesFrom 70 = .ok (.iconst 1, 1) := dk_4 (dk_at dksX5_washesFrom_2 23 rfl rfl)
theorem dX5_washesFrom_71 : decode cX5_washesFrom 71 = .ok (.iand, 1) := dk_126 (dk_at dksX5_washesFrom_3 0 rfl rfl)
theorem dX5_washesFrom_72 : decode cX5_washesFrom 72 = .ok (.iconst 1, 1) := dk_4 (dk_at dksX5_washesFrom_3 1 rfl rfl)
theorem dX5_washesFrom_73 : decode cX5_washesFrom 73 = .ok (.if_icmp .ne 59, 3) := dk_160 0 59 (dk_at dksX5_washesFrom_3 2 rfl rfl)
theorem dX5_washesFrom_76 : decode cX5_washesFrom 76 = .ok (.iload_n 2, 1) := dk_28 (dk_at dksX5_washesFrom_3 5 rfl rfl)
theorem dX5_washesFrom_77 : decode cX5_washesFrom 77 = .ok (.iload 4, 2) := dk_21 4 (dk_at dksX5_washesFrom_3 6 rfl rfl)
theorem dX5_washesFrom_79 : decode cX5_washesFrom 79 = .ok (.ishr, 1) := dk_122 (dk_at dksX5_washesFrom_3 8 rfl rfl)
theorem dX5_washesFrom_80 : decode cX5_washesFrom 80 = .ok (.iconst 1, 1) := dk_4 (dk_at dksX5_washesFrom_3 9 rfl rfl)
theorem dX5_washesFrom_81 : decode cX5_washesFrom 81 = .ok (.iand, 1) := dk_126 (dk_at dksX5_washesFrom_3 10 rfl rfl)
theorem dX5_washesFrom_82 : decode cX5_washesFrom 82 = .ok (.ifCond .ne 50, 3) := dk_154 0 50 (dk_at dksX5_washesFrom_3 11 rfl rfl)
theorem dX5_washesFrom_85 : decode cX5_washesFrom 85 = .ok (.aload_n 0, 1) := dk_42 (dk_at dksX5_washesFrom_3 14 rfl rfl)
theorem dX5_washesFrom_86 : decode cX5_washesFrom 86 = .ok (.getfield 132, 3) := dk_180 0 132 (dk_at dksX5_washesFrom_3 15 rfl rfl)
theorem dX5_washesFrom_89 : decode cX5_washesFrom 89 = .ok (.bipush 6, 2) := dk_16 6 (dk_at dksX5_washesFrom_3 18 rfl rfl)
theorem dX5_washesFrom_91 : decode cX5_washesFrom 91 = .ok (.iload 4, 2) := dk_21 4 (dk_at dksX5_washesFrom_3 20 rfl rfl)
theorem dX5_washesFrom_93 : decode cX5_washesFrom 93 = .ok (.imul, 1) := dk_104 (dk_at dksX5_washesFrom_3 22 rfl rfl)
theorem dX5_washesFrom_94 : decode cX5_washesFrom 94 = .ok (.iload_n 1, 1) := dk_27 (dk_at dksX5_washesFrom_3 23 rfl rfl)
theorem dX5_washesFrom_95 : decode cX5_washesFrom 95 = .ok (.iadd, 1) := dk_96 (dk_at dksX5_washesFrom_4 0 rfl rfl)
theorem dX5_washesFrom_96 : decode cX5_washesFrom 96 = .ok (.iaload, 1) := dk_46 (dk_at dksX5_washesFrom_4 1 rfl rfl)
theorem dX5_washesFrom_97 : decode cX5_washesFrom 97 = .ok (.istore 5, 2) := dk_54 5 (dk_at dksX5_washesFrom_4 2 rfl rfl)
theorem dX5_washesFrom_99 : decode cX5_washesFrom 99 = .ok (.aload_n 0, 1) := dk_42 (dk_at dksX5_washesFrom_4 4 rfl rfl)
theorem dX5_washesFrom_100 : decode cX5_washesFrom 100 = .ok (.getfield 135, 3) := dk_180 0 135 (dk_at dksX5_washesFrom_4 5 rfl rfl)
theorem dX5_washesFrom_103 : decode cX5_washesFrom 103 = .ok (.iload_n 1, 1) := dk_27 (dk_at dksX5_washesFrom_4 8 rfl rfl)
theorem dX5_washesFrom_104 : decode cX5_washesFrom 104 = .ok (.iload 4, 2) := dk_21 4 (dk_at dksX5_washesFrom_4 9 rfl rfl)
theorem dX5_washesFrom_106 : decode cX5_washesFrom 106 = .ok (.iastore, 1) := dk_79 (dk_at dksX5_washesFrom_4 11 rfl rfl)
theorem dX5_washesFrom_107 : decode cX5_washesFrom 107 = .ok (.aload_n 0, 1) := dk_42 (dk_at dksX5_washesFrom_4 12 rfl rfl)
theorem dX5_washesFrom_108 : decode cX5_washesFrom 108 = .ok (.iload_n 1, 1) := dk_27 (dk_at dksX5_washesFrom_4 13 rfl rfl)
theorem dX5_washesFrom_109 : decode cX5_washesFrom 109 = .ok (.iconst 1, 1) := dk_4 (dk_at dksX5_washesFrom_4 14 rfl rfl)
theorem dX5_washesFrom_110 : decode cX5_washesFrom 110 = .ok (.iadd, 1) := dk_96 (dk_at dksX5_washesFrom_4 15 rfl rfl)
theorem dX5_washesFrom_111 : decode cX5_washesFrom 111 = .ok (.iload_n 2, 1) := dk_28 (dk_at dksX5_washesFrom_4 16 rfl rfl)
theorem dX5_washesFrom_112 : decode cX5_washesFrom 112 = .ok (.iconst 1, 1) := dk_4 (dk_at dksX5_washesFrom_4 17 rfl rfl)
theorem dX5_washesFrom_113 : decode cX5_washesFrom 113 = .ok (.iload 4, 2) := dk_21 4 (dk_at dksX5_washesFrom_4 18 rfl rfl)
theorem dX5_washesFrom_115 : decode cX5_washesFrom 115 = .ok (.ishl, 1) := dk_120 (dk_at dksX5_washesFrom_4 20 rfl rfl)
theorem dX5_washesFrom_116 : decode cX5_washesFrom 116 = .ok (.ior, 1) := dk_128 (dk_at dksX5_washesFrom_4 21 rfl rfl)
theorem dX5_washesFrom_117 : decode cX5_washesFrom 117 = .ok (.iload 5, 2) := dk_21 5 (dk_at dksX5_washesFrom_4 22 rfl rfl)
theorem dX5_washesFrom_119 : decode cX5_washesFrom 119 = .ok (.iload_n 3, 1) := dk_29 (dk_at dksX5_washesFrom_5 0 rfl rfl)
theorem dX5_washesFrom_120 : decode cX5_washesFrom 120 = .ok (.if_icmp .le 8, 3) := dk_164 0 8 (dk_at dksX5_washesFrom_5 1 rfl rfl)
theorem dX5_washesFrom_123 : decode cX5_washesFrom 123 = .ok (.iload 5, 2) := dk_21 5 (dk_at dksX5_washesFrom_5 4 rfl rfl)
theorem dX5_washesFrom_125 : decode cX5_washesFrom 125 = .ok (.goto 4, 3) := dk_167 0 4 (dk_at dksX5_washesFrom_5 6 rfl rfl)
theorem dX5_washesFrom_128 : decode cX5_washesFrom 128 = .ok (.iload_n 3, 1) := dk_29 (dk_at dksX5_washesFrom_5 9 rfl rfl)
theorem dX5_washesFrom_129 : decode cX5_washesFrom 129 = .ok (.invokevirtual 416, 3) := dk_182 1 160 (dk_at dksX5_washesFrom_5 10 rfl rfl)
theorem dX5_washesFrom_132 : decode cX5_washesFrom 132 = .ok (.iinc 4 1, 3) := dk_132 4 1 (dk_at dksX5_washesFrom_5 13 rfl rfl)
theorem dX5_washesFrom_135 : decode cX5_washesFrom 135 = .ok (.goto (-81), 3) := dk_167 255 175 (dk_at dksX5_washesFrom_5 16 rfl rfl)
theorem dX5_washesFrom_138 : decode cX5_washesFrom 138 = .ok (.return_, 1) := dk_177 (dk_at dksX5_washesFrom_5 19 rfl rfl)
abbrev cX5_feel : ByteArray := prog_23_method_97_code
def yX5_feel : MethodName := ⟨RX5, "feel", "(III)Z"⟩
def dkwX5_feel_4 : List UInt8 := [16, 28, 92, 46, 4, 96, 79, 4, 172]
abbrev dktX5_feel_4 : List UInt8 := dkwX5_feel_4 ++ []
def dkwX5_feel_3 : List UInt8 := [180, 0, 113, 21, 4, 4, 96, 28, 79, 42, 180, 0, 113, 21, 4, 5, 96, 29, 79, 42, 180, 0, 113]
abbrev dktX5_feel_3 : List UInt8 := dkwX5_feel_3 ++ dktX5_feel_4
def dkwX5_feel_2 : List UInt8 := [16, 29, 6, 42, 180, 0, 113, 16, 28, 46, 104, 96, 54, 4, 42, 180, 0, 113, 21, 4, 27, 79, 42]
abbrev dktX5_feel_2 : List UInt8 := dkwX5_feel_2 ++ dktX5_feel_3
def dkwX5_feel_1 : List UInt8 := [3, 16, 9, 184, 1, 93, 153, 0, 15, 42, 180, 0, 113, 16, 28, 46, 16, 8, 160, 0, 5, 3, 172]
abbrev dktX5_feel_1 : List UInt8 := dkwX5_feel_1 ++ dktX5_feel_2
def dkwX5_feel_0 : List UInt8 := [42, 3, 181, 0, 1, 42, 27, 182, 1, 90, 153, 0, 35, 28, 3, 16, 12, 184, 1, 93, 153, 0, 25, 29]
abbrev dktX5_feel_0 : List UInt8 := dkwX5_feel_0 ++ dktX5_feel_1
theorem dksX5_feel_0 : cX5_feel.data.toList.drop 0 = dktX5_feel_0 := by decide +kernel
theorem dksX5_feel_1 : cX5_feel.data.toList.drop 24 = dktX5_feel_1 := dk_seg dksX5_feel_0 24 rfl rfl
theorem dksX5_feel_2 : cX5_feel.data.toList.drop 47 = dktX5_feel_2 := dk_seg dksX5_feel_1 23 rfl rfl
theorem dksX5_feel_3 : cX5_feel.data.toList.drop 70 = dktX5_feel_3 := dk_seg dksX5_feel_2 23 rfl rfl
theorem dksX5_feel_4 : cX5_feel.data.toList.drop 93 = dktX5_feel_4 := dk_seg dksX5_feel_3 23 rfl rfl
theorem dX5_feel_0 : decode cX5_feel 0 = .ok (.aload_n 0, 1) := dk_42 (dk_at dksX5_feel_0 0 rfl rfl)
theorem dX5_feel_1 : decode cX5_feel 1 = .ok (.iconst 0, 1) := dk_3 (dk_at dksX5_feel_0 1 rfl rfl)
theorem dX5_feel_2 : decode cX5_feel 2 = .ok (.putfield 1, 3) := dk_181 0 1 (dk_at dksX5_feel_0 2 rfl rfl)
theorem dX5_feel_5 : decode cX5_feel 5 = .ok (.aload_n 0, 1) := dk_42 (dk_at dksX5_feel_0 5 rfl rfl)
theorem dX5_feel_6 : decode cX5_feel 6 = .ok (.iload_n 1, 1) := dk_27 (dk_at dksX5_feel_0 6 rfl rfl)
theorem dX5_feel_7 : decode cX5_feel 7 = .ok (.invokevirtual 346, 3) := dk_182 1 90 (dk_at dksX5_feel_0 7 rfl rfl)
theorem dX5_feel_10 : decode cX5_feel 10 = .ok (.ifCond .eq 35, 3) := dk_153 0 35 (dk_at dksX5_feel_0 10 rfl rfl)
theorem dX5_feel_13 : decode cX5_feel 13 = .ok (.iload_n 2, 1) := dk_28 (dk_at dksX5_feel_0 13 rfl rfl)
theorem dX5_feel_14 : decode cX5_feel 14 = .ok (.iconst 0, 1) := dk_3 (dk_at dksX5_feel_0 14 rfl rfl)
theorem dX5_feel_15 : decode cX5_feel 15 = .ok (.bipush 12, 2) := dk_16 12 (dk_at dksX5_feel_0 15 rfl rfl)
theorem dX5_feel_17 : decode cX5_feel 17 = .ok (.invokestatic 349, 3) := dk_184 1 93 (dk_at dksX5_feel_0 17 rfl rfl)
theorem dX5_feel_20 : decode cX5_feel 20 = .ok (.ifCond .eq 25, 3) := dk_153 0 25 (dk_at dksX5_feel_0 20 rfl rfl)
theorem dX5_feel_23 : decode cX5_feel 23 = .ok (.iload_n 3, 1) := dk_29 (dk_at dksX5_feel_0 23 rfl rfl)
theorem dX5_feel_24 : decode cX5_feel 24 = .ok (.iconst 0, 1) := dk_3 (dk_at dksX5_feel_1 0 rfl rfl)
theorem dX5_feel_25 : decode cX5_feel 25 = .ok (.bipush 9, 2) := dk_16 9 (dk_at dksX5_feel_1 1 rfl rfl)
theorem dX5_feel_27 : decode cX5_feel 27 = .ok (.invokestatic 349, 3) := dk_184 1 93 (dk_at dksX5_feel_1 3 rfl rfl)
theorem dX5_feel_30 : decode cX5_feel 30 = .ok (.ifCond .eq 15, 3) := dk_153 0 15 (dk_at dksX5_feel_1 6 rfl rfl)
theorem dX5_feel_33 : decode cX5_feel 33 = .ok (.aload_n 0, 1) := dk_42 (dk_at dksX5_feel_1 9 rfl rfl)
theorem dX5_feel_34 : decode cX5_feel 34 = .ok (.getfield 113, 3) := dk_180 0 113 (dk_at dksX5_feel_1 10 rfl rfl)
theorem dX5_feel_37 : decode cX5_feel 37 = .ok (.bipush 28, 2) := dk_16 28 (dk_at dksX5_feel_1 13 rfl rfl)
theorem dX5_feel_39 : decode cX5_feel 39 = .ok (.iaload, 1) := dk_46 (dk_at dksX5_feel_1 15 rfl rfl)
theorem dX5_feel_40 : decode cX5_feel 40 = .ok (.bipush 8, 2) := dk_16 8 (dk_at dksX5_feel_1 16 rfl rfl)
theorem dX5_feel_42 : decode cX5_feel 42 = .ok (.if_icmp .ne 5, 3) := dk_160 0 5 (dk_at dksX5_feel_1 18 rfl rfl)
theorem dX5_feel_45 : decode cX5_feel 45 = .ok (.iconst 0, 1) := dk_3 (dk_at dksX5_feel_1 21 rfl rfl)
theorem dX5_feel_46 : decode cX5_feel 46 = .ok (.ireturn, 1) := dk_172 (dk_at dksX5_feel_1 22 rfl rfl)
theorem dX5_feel_47 : decode cX5_feel 47 = .ok (.bipush 29, 2) := dk_16 29 (dk_at dksX5_feel_2 0 rfl rfl)
theorem dX5_feel_49 : decode cX5_feel 49 = .ok (.iconst 3, 1) := dk_6 (dk_at dksX5_feel_2 2 rfl rfl)
theorem dX5_feel_50 : decode cX5_feel 50 = .ok (.aload_n 0, 1) := dk_42 (dk_at dksX5_feel_2 3 rfl rfl)
theorem dX5_feel_51 : decode cX5_feel 51 = .ok (.getfield 113, 3) := dk_180 0 113 (dk_at dksX5_feel_2 4 rfl rfl)
theorem dX5_feel_54 : decode cX5_feel 54 = .ok (.bipush 28, 2) := dk_16 28 (dk_at dksX5_feel_2 7 rfl rfl)
theorem dX5_feel_56 : decode cX5_feel 56 = .ok (.iaload, 1) := dk_46 (dk_at dksX5_feel_2 9 rfl rfl)
theorem dX5_feel_57 : decode cX5_feel 57 = .ok (.imul, 1) := dk_104 (dk_at dksX5_feel_2 10 rfl rfl)
theorem dX5_feel_58 : decode cX5_feel 58 = .ok (.iadd, 1) := dk_96 (dk_at dksX5_feel_2 11 rfl rfl)
theorem dX5_feel_59 : decode cX5_feel 59 = .ok (.istore 4, 2) := dk_54 4 (dk_at dksX5_feel_2 12 rfl rfl)
theorem dX5_feel_61 : decode cX5_feel 61 = .ok (.aload_n 0, 1) := dk_42 (dk_at dksX5_feel_2 14 rfl rfl)
theorem dX5_feel_62 : decode cX5_feel 62 = .ok (.getfield 113, 3) := dk_180 0 113 (dk_at dksX5_feel_2 15 rfl rfl)
theorem dX5_feel_65 : decode cX5_feel 65 = .ok (.iload 4, 2) := dk_21 4 (dk_at dksX5_feel_2 18 rfl rfl)
theorem dX5_feel_67 : decode cX5_feel 67 = .ok (.iload_n 1, 1) := dk_27 (dk_at dksX5_feel_2 20 rfl rfl)
theorem dX5_feel_68 : decode cX5_feel 68 = .ok (.iastore, 1) := dk_79 (dk_at dksX5_feel_2 21 rfl rfl)
theorem dX5_feel_69 : decode cX5_feel 69 = .ok (.aload_n 0, 1) := dk_42 (dk_at dksX5_feel_2 22 rfl rfl)
theorem dX5_feel_70 : decode cX5_feel 70 = .ok (.getfield 113, 3) := dk_180 0 113 (dk_at dksX5_feel_3 0 rfl rfl)
theorem dX5_feel_73 : decode cX5_feel 73 = .ok (.iload 4, 2) := dk_21 4 (dk_at dksX5_feel_3 3 rfl rfl)
theorem dX5_feel_75 : decode cX5_feel 75 = .ok (.iconst 1, 1) := dk_4 (dk_at dksX5_feel_3 5 rfl rfl)
theorem dX5_feel_76 : decode cX5_feel 76 = .ok (.iadd, 1) := dk_96 (dk_at dksX5_feel_3 6 rfl rfl)
theorem dX5_feel_77 : decode cX5_feel 77 = .ok (.iload_n 2, 1) := dk_28 (dk_at dksX5_feel_3 7 rfl rfl)
theorem dX5_feel_78 : decode cX5_feel 78 = .ok (.iastore, 1) := dk_79 (dk_at dksX5_feel_3 8 rfl rfl)
theorem dX5_feel_79 : decode cX5_feel 79 = .ok (.aload_n 0, 1) := dk_42 (dk_at dksX5_feel_3 9 rfl rfl)
theorem dX5_feel_80 : decode cX5_feel 80 = .ok (.getfield 113, 3) := dk_180 0 113 (dk_at dksX5_feel_3 10 rfl rfl)
theorem dX5_feel_83 : decode cX5_feel 83 = .ok (.iload 4, 2) := dk_21 4 (dk_at dksX5_feel_3 13 rfl rfl)
theorem dX5_feel_85 : decode cX5_feel 85 = .ok (.iconst 2, 1) := dk_5 (dk_at dksX5_feel_3 15 rfl rfl)
theorem dX5_feel_86 : decode cX5_feel 86 = .ok (.iadd, 1) := dk_96 (dk_at dksX5_feel_3 16 rfl rfl)
theorem dX5_feel_87 : decode cX5_feel 87 = .ok (.iload_n 3, 1) := dk_29 (dk_at dksX5_feel_3 17 rfl rfl)
theorem dX5_feel_88 : decode cX5_feel 88 = .ok (.iastore, 1) := dk_79 (dk_at dksX5_feel_3 18 rfl rfl)
theorem dX5_feel_89 : decode cX5_feel 89 = .ok (.aload_n 0, 1) := dk_42 (dk_at dksX5_feel_3 19 rfl rfl)
theorem dX5_feel_90 : decode cX5_feel 90 = .ok (.getfield 113, 3) := dk_180 0 113 (dk_at dksX5_feel_3 20 rfl rfl)
theorem dX5_feel_93 : decode cX5_feel 93 = .ok (.bipush 28, 2) := dk_16 28 (dk_at dksX5_feel_4 0 rfl rfl)
theorem dX5_feel_95 : decode cX5_feel 95 = .ok (.dup2, 1) := dk_92 (dk_at dksX5_feel_4 2 rfl rfl)
theorem dX5_feel_96 : decode cX5_feel 96 = .ok (.iaload, 1) := dk_46 (dk_at dksX5_feel_4 3 rfl rfl)
theorem dX5_feel_97 : decode cX5_feel 97 = .ok (.iconst 1, 1) := dk_4 (dk_at dksX5_feel_4 4 rfl rfl)
theorem dX5_feel_98 : decode cX5_feel 98 = .ok (.iadd, 1) := dk_96 (dk_at dksX5_feel_4 5 rfl rfl)
theorem dX5_feel_99 : decode cX5_feel 99 = .ok (.iastore, 1) := dk_79 (dk_at dksX5_feel_4 6 rfl rfl)
theorem dX5_feel_100 : decode cX5_feel 100 = .ok (.iconst 1, 1) := dk_4 (dk_at dksX5_feel_4 7 rfl rfl)
theorem dX5_feel_101 : decode cX5_feel 101 = .ok (.ireturn, 1) := dk_172 (dk_at dksX5_feel_4 8 rfl rfl)
abbrev cX5_starts_2 : ByteArray := prog_23_method_100_code
def yX5_starts_2 : MethodName := ⟨RX5, "starts", "()I"⟩
def dkwX5_starts_2_0 : List UInt8 := [42, 3, 181, 0, 1, 42, 182, 1, 169, 172]
abbrev dktX5_starts_2_0 : List UInt8 := dkwX5_starts_2_0 ++ []
theorem dksX5_starts_2_0 : cX5_starts_2.data.toList.drop 0 = dktX5_starts_2_0 := by decide +kernel
theorem dX5_starts_2_0 : decode cX5_starts_2 0 = .ok (.aload_n 0, 1) := dk_42 (dk_at dksX5_starts_2_0 0 rfl rfl)
theorem dX5_starts_2_1 : decode cX5_starts_2 1 = .ok (.iconst 0, 1) := dk_3 (dk_at dksX5_starts_2_0 1 rfl rfl)
theorem dX5_starts_2_2 : decode cX5_starts_2 2 = .ok (.putfield 1, 3) := dk_181 0 1 (dk_at dksX5_starts_2_0 2 rfl rfl)
theorem dX5_starts_2_5 : decode cX5_starts_2 5 = .ok (.aload_n 0, 1) := dk_42 (dk_at dksX5_starts_2_0 5 rfl rfl)
theorem dX5_starts_2_6 : decode cX5_starts_2 6 = .ok (.invokevirtual 425, 3) := dk_182 1 169 (dk_at dksX5_starts_2_0 6 rfl rfl)
theorem dX5_starts_2_9 : decode cX5_starts_2 9 = .ok (.ireturn, 1) := dk_172 (dk_at dksX5_starts_2_0 9 rfl rfl)
abbrev cX5_startsNow : ByteArray := prog_23_method_99_code
def yX5_startsNow : MethodName := ⟨RX5, "startsNow", "()I"⟩
def dkwX5_startsNow_4 : List UInt8 := [153, 0, 9, 4, 28, 120, 167, 0, 4, 3, 128, 60, 132, 2, 1, 167, 255, 154, 27, 172]
abbrev dktX5_startsNow_4 : List UInt8 := dkwX5_startsNow_4 ++ []
def dkwX5_startsNow_3 : List UInt8 := [21, 5, 5, 96, 46, 160, 0, 7, 4, 167, 0, 4, 3, 62, 132, 4, 1, 167, 255, 189, 27, 29]
abbrev dktX5_startsNow_3 : List UInt8 := dkwX5_startsNow_3 ++ dktX5_startsNow_4
def dkwX5_startsNow_2 : List UInt8 := [180, 0, 113, 21, 5, 46, 28, 42, 180, 0, 113, 21, 5, 4, 96, 46, 182, 1, 166, 42, 180, 0, 113]
abbrev dktX5_startsNow_2 : List UInt8 := dkwX5_startsNow_2 ++ dktX5_startsNow_3
def dkwX5_startsNow_1 : List UInt8 := [180, 0, 113, 16, 28, 46, 162, 0, 61, 16, 29, 6, 21, 4, 104, 96, 54, 5, 29, 153, 0, 40, 42, 42]
abbrev dktX5_startsNow_1 : List UInt8 := dkwX5_startsNow_1 ++ dktX5_startsNow_2
def dkwX5_startsNow_0 : List UInt8 := [3, 60, 3, 61, 28, 42, 180, 0, 89, 5, 46, 162, 0, 98, 4, 62, 3, 54, 4, 21, 4, 42]
abbrev dktX5_startsNow_0 : List UInt8 := dkwX5_startsNow_0 ++ dktX5_startsNow_1
theorem dksX5_startsNow_0 : cX5_startsNow.data.toList.drop 0 = dktX5_startsNow_0 := by decide +kernel
theorem dksX5_startsNow_1 : cX5_startsNow.data.toList.drop 22 = dktX5_startsNow_1 := dk_seg dksX5_startsNow_0 22 rfl rfl
theorem dksX5_startsNow_2 : cX5_startsNow.data.toList.drop 46 = dktX5_startsNow_2 := dk_seg dksX5_startsNow_1 24 rfl rfl
theorem dksX5_startsNow_3 : cX5_startsNow.data.toList.drop 69 = dktX5_startsNow_3 := dk_seg dksX5_startsNow_2 23 rfl rfl
theorem dksX5_startsNow_4 : cX5_startsNow.data.toList.drop 91 = dktX5_startsNow_4 := dk_seg dksX5_startsNow_3 22 rfl rfl
theorem dX5_startsNow_0 : decode cX5_startsNow 0 = .ok (.iconst 0, 1) := dk_3 (dk_at dksX5_startsNow_0 0 rfl rfl)
theorem dX5_startsNow_1 : decode cX5_startsNow 1 = .ok (.istore_n 1, 1) := dk_60 (dk_at dksX5_startsNow_0 1 rfl rfl)
theorem dX5_startsNow_2 : decode cX5_startsNow 2 = .ok (.iconst 0, 1) := dk_3 (dk_at dksX5_startsNow_0 2 rfl rfl)
theorem dX5_startsNow_3 : decode cX5_startsNow 3 = .ok (.istore_n 2, 1) := dk_61 (dk_at dksX5_startsNow_0 3 rfl rfl)
theorem dX5_startsNow_4 : decode cX5_startsNow 4 = .ok (.iload_n 2, 1) := dk_28 (dk_at dksX5_startsNow_0 4 rfl rfl)
theorem dX5_startsNow_5 : decode cX5_startsNow 5 = .ok (.aload_n 0, 1) := dk_42 (dk_at dksX5_startsNow_0 5 rfl rfl)
theorem dX5_startsNow_6 : decode cX5_startsNow 6 = .ok (.getfield 89, 3) := dk_180 0 89 (dk_at dksX5_startsNow_0 6 rfl rfl)
theorem dX5_startsNow_9 : decode cX5_startsNow 9 = .ok (.iconst 2, 1) := dk_5 (dk_at dksX5_startsNow_0 9 rfl rfl)
theorem dX5_startsNow_10 : decode cX5_startsNow 10 = .ok (.iaload, 1) := dk_46 (dk_at dksX5_startsNow_0 10 rfl rfl)
theorem dX5_startsNow_11 : decode cX5_startsNow 11 = .ok (.if_icmp .ge 98, 3) := dk_162 0 98 (dk_at dksX5_startsNow_0 11 rfl rfl)
theorem dX5_startsNow_14 : decode cX5_startsNow 14 = .ok (.iconst 1, 1) := dk_4 (dk_at dksX5_startsNow_0 14 rfl rfl)
theorem dX5_startsNow_15 : decode cX5_startsNow 15 = .ok (.istore_n 3, 1) := dk_62 (dk_at dksX5_startsNow_0 15 rfl rfl)
theorem dX5_startsNow_16 : decode cX5_startsNow 16 = .ok (.iconst 0, 1) := dk_3 (dk_at dksX5_startsNow_0 16 rfl rfl)
theorem dX5_startsNow_17 : decode cX5_startsNow 17 = .ok (.istore 4, 2) := dk_54 4 (dk_at dksX5_startsNow_0 17 rfl rfl)
theorem dX5_startsNow_19 : decode cX5_startsNow 19 = .ok (.iload 4, 2) := dk_21 4 (dk_at dksX5_startsNow_0 19 rfl rfl)
theorem dX5_startsNow_21 : decode cX5_startsNow 21 = .ok (.aload_n 0, 1) := dk_42 (dk_at dksX5_startsNow_0 21 rfl rfl)
theorem dX5_startsNow_22 : decode cX5_startsNow 22 = .ok (.getfield 113, 3) := dk_180 0 113 (dk_at dksX5_startsNow_1 0 rfl rfl)
theorem dX5_startsNow_25 : decode cX5_startsNow 25 = .ok (.bipush 28, 2) := dk_16 28 (dk_at dksX5_startsNow_1 3 rfl rfl)
theorem dX5_startsNow_27 : decode cX5_startsNow 27 = .ok (.iaload, 1) := dk_46 (dk_at dksX5_startsNow_1 5 rfl rfl)
theorem dX5_startsNow_28 : decode cX5_startsNow 28 = .ok (.if_icmp .ge 61, 3) := dk_162 0 61 (dk_at dksX5_startsNow_1 6 rfl rfl)
theorem dX5_startsNow_31 : decode cX5_startsNow 31 = .ok (.bipush 29, 2) := dk_16 29 (dk_at dksX5_startsNow_1 9 rfl rfl)
theorem dX5_startsNow_33 : decode cX5_startsNow 33 = .ok (.iconst 3, 1) := dk_6 (dk_at dksX5_startsNow_1 11 rfl rfl)
theorem dX5_startsNow_34 : decode cX5_startsNow 34 = .ok (.iload 4, 2) := dk_21 4 (dk_at dksX5_startsNow_1 12 rfl rfl)
theorem dX5_startsNow_36 : decode cX5_startsNow 36 = .ok (.imul, 1) := dk_104 (dk_at dksX5_startsNow_1 14 rfl rfl)
theorem dX5_startsNow_37 : decode cX5_startsNow 37 = .ok (.iadd, 1) := dk_96 (dk_at dksX5_startsNow_1 15 rfl rfl)
theorem dX5_startsNow_38 : decode cX5_startsNow 38 = .ok (.istore 5, 2) := dk_54 5 (dk_at dksX5_startsNow_1 16 rfl rfl)
theorem dX5_startsNow_40 : decode cX5_startsNow 40 = .ok (.iload_n 3, 1) := dk_29 (dk_at dksX5_startsNow_1 18 rfl rfl)
theorem dX5_startsNow_41 : decode cX5_startsNow 41 = .ok (.ifCond .eq 40, 3) := dk_153 0 40 (dk_at dksX5_startsNow_1 19 rfl rfl)
theorem dX5_startsNow_44 : decode cX5_startsNow 44 = .ok (.aload_n 0, 1) := dk_42 (dk_at dksX5_startsNow_1 22 rfl rfl)
theorem dX5_startsNow_45 : decode cX5_startsNow 45 = .ok (.aload_n 0, 1) := dk_42 (dk_at dksX5_startsNow_1 23 rfl rfl)
theorem dX5_startsNow_46 : decode cX5_startsNow 46 = .ok (.getfield 113, 3) := dk_180 0 113 (dk_at dksX5_startsNow_2 0 rfl rfl)
theorem dX5_startsNow_49 : decode cX5_startsNow 49 = .ok (.iload 5, 2) := dk_21 5 (dk_at dksX5_startsNow_2 3 rfl rfl)
theorem dX5_startsNow_51 : decode cX5_startsNow 51 = .ok (.iaload, 1) := dk_46 (dk_at dksX5_startsNow_2 5 rfl rfl)
theorem dX5_startsNow_52 : decode cX5_startsNow 52 = .ok (.iload_n 2, 1) := dk_28 (dk_at dksX5_startsNow_2 6 rfl rfl)
theorem dX5_startsNow_53 : decode cX5_startsNow 53 = .ok (.aload_n 0, 1) := dk_42 (dk_at dksX5_startsNow_2 7 rfl rfl)
theorem dX5_startsNow_54 : decode cX5_startsNow 54 = .ok (.getfield 113, 3) := dk_180 0 113 (dk_at dksX5_startsNow_2 8 rfl rfl)
theorem dX5_startsNow_57 : decode cX5_startsNow 57 = .ok (.iload 5, 2) := dk_21 5 (dk_at dksX5_startsNow_2 11 rfl rfl)
theorem dX5_startsNow_59 : decode cX5_startsNow 59 = .ok (.iconst 1, 1) := dk_4 (dk_at dksX5_startsNow_2 13 rfl rfl)
theorem dX5_startsNow_60 : decode cX5_startsNow 60 = .ok (.iadd, 1) := dk_96 (dk_at dksX5_startsNow_2 14 rfl rfl)
theorem dX5_startsNow_61 : decode cX5_startsNow 61 = .ok (.iaload, 1) := dk_46 (dk_at dksX5_startsNow_2 15 rfl rfl)
theorem dX5_startsNow_62 : decode cX5_startsNow 62 = .ok (.invokevirtual 422, 3) := dk_182 1 166 (dk_at dksX5_startsNow_2 16 rfl rfl)
theorem dX5_startsNow_65 : decode cX5_startsNow 65 = .ok (.aload_n 0, 1) := dk_42 (dk_at dksX5_startsNow_2 19 rfl rfl)
theorem dX5_startsNow_66 : decode cX5_startsNow 66 = .ok (.getfield 113, 3) := dk_180 0 113 (dk_at dksX5_startsNow_2 20 rfl rfl)
theorem dX5_startsNow_69 : decode cX5_startsNow 69 = .ok (.iload 5, 2) := dk_21 5 (dk_at dksX5_startsNow_3 0 rfl rfl)
theorem dX5_startsNow_71 : decode cX5_startsNow 71 = .ok (.iconst 2, 1) := dk_5 (dk_at dksX5_startsNow_3 2 rfl rfl)
theorem dX5_startsNow_72 : decode cX5_startsNow 72 = .ok (.iadd, 1) := dk_96 (dk_at dksX5_startsNow_3 3 rfl rfl)
theorem dX5_startsNow_73 : decode cX5_startsNow 73 = .ok (.iaload, 1) := dk_46 (dk_at dksX5_startsNow_3 4 rfl rfl)
theorem dX5_startsNow_74 : decode cX5_startsNow 74 = .ok (.if_icmp .ne 7, 3) := dk_160 0 7 (dk_at dksX5_startsNow_3 5 rfl rfl)
theorem dX5_startsNow_77 : decode cX5_startsNow 77 = .ok (.iconst 1, 1) := dk_4 (dk_at dksX5_startsNow_3 8 rfl rfl)
theorem dX5_startsNow_78 : decode cX5_startsNow 78 = .ok (.goto 4, 3) := dk_167 0 4 (dk_at dksX5_startsNow_3 9 rfl rfl)
theorem dX5_startsNow_81 : decode cX5_startsNow 81 = .ok (.iconst 0, 1) := dk_3 (dk_at dksX5_startsNow_3 12 rfl rfl)
theorem dX5_startsNow_82 : decode cX5_startsNow 82 = .ok (.istore_n 3, 1) := dk_62 (dk_at dksX5_startsNow_3 13 rfl rfl)
theorem dX5_startsNow_83 : decode cX5_startsNow 83 = .ok (.iinc 4 1, 3) := dk_132 4 1 (dk_at dksX5_startsNow_3 14 rfl rfl)
theorem dX5_startsNow_86 : decode cX5_startsNow 86 = .ok (.goto (-67), 3) := dk_167 255 189 (dk_at dksX5_startsNow_3 17 rfl rfl)
theorem dX5_startsNow_89 : decode cX5_startsNow 89 = .ok (.iload_n 1, 1) := dk_27 (dk_at dksX5_startsNow_3 20 rfl rfl)
theorem dX5_startsNow_90 : decode cX5_startsNow 90 = .ok (.iload_n 3, 1) := dk_29 (dk_at dksX5_startsNow_3 21 rfl rfl)
theorem dX5_startsNow_91 : decode cX5_startsNow 91 = .ok (.ifCond .eq 9, 3) := dk_153 0 9 (dk_at dksX5_startsNow_4 0 rfl rfl)
theorem dX5_startsNow_94 : decode cX5_startsNow 94 = .ok (.iconst 1, 1) := dk_4 (dk_at dksX5_startsNow_4 3 rfl rfl)
theorem dX5_startsNow_95 : decode cX5_startsNow 95 = .ok (.iload_n 2, 1) := dk_28 (dk_at dksX5_startsNow_4 4 rfl rfl)
theorem dX5_startsNow_96 : decode cX5_startsNow 96 = .ok (.ishl, 1) := dk_120 (dk_at dksX5_startsNow_4 5 rfl rfl)
theorem dX5_startsNow_97 : decode cX5_startsNow 97 = .ok (.goto 4, 3) := dk_167 0 4 (dk_at dksX5_startsNow_4 6 rfl rfl)
theorem dX5_startsNow_100 : decode cX5_startsNow 100 = .ok (.iconst 0, 1) := dk_3 (dk_at dksX5_startsNow_4 9 rfl rfl)
theorem dX5_startsNow_101 : decode cX5_startsNow 101 = .ok (.ior, 1) := dk_128 (dk_at dksX5_startsNow_4 10 rfl rfl)
theorem dX5_startsNow_102 : decode cX5_startsNow 102 = .ok (.istore_n 1, 1) := dk_60 (dk_at dksX5_startsNow_4 11 rfl rfl)
theorem dX5_startsNow_103 : decode cX5_startsNow 103 = .ok (.iinc 2 1, 3) := dk_132 2 1 (dk_at dksX5_startsNow_4 12 rfl rfl)
theorem dX5_startsNow_106 : decode cX5_startsNow 106 = .ok (.goto (-102), 3) := dk_167 255 154 (dk_at dksX5_startsNow_4 15 rfl rfl)
theorem dX5_startsNow_109 : decode cX5_startsNow 109 = .ok (.iload_n 1, 1) := dk_27 (dk_at dksX5_startsNow_4 18 rfl rfl)
theorem dX5_startsNow_110 : decode cX5_startsNow 110 = .ok (.ireturn, 1) := dk_172 (dk_at dksX5_startsNow_4 19 rfl rfl)
abbrev cX5_wetBehind : ByteArray := prog_23_method_98_code
def yX5_wetBehind : MethodName := ⟨RX5, "wetBehind", "(III)I"⟩
def dkwX5_wetBehind_1 : List UInt8 := [182, 1, 76, 182, 1, 84, 54, 4, 132, 5, 1, 167, 255, 229, 21, 4, 172]
abbrev dktX5_wetBehind_1 : List UInt8 := dkwX5_wetBehind_1 ++ []
def dkwX5_wetBehind_0 : List UInt8 := [16, 9, 54, 4, 3, 54, 5, 21, 5, 29, 162, 0, 27, 42, 27, 21, 4, 42, 28, 21, 5, 96, 3]
abbrev dktX5_wetBehind_0 : List UInt8 := dkwX5_wetBehind_0 ++ dktX5_wetBehind_1
theorem dksX5_wetBehind_0 : cX5_wetBehind.data.toList.drop 0 = dktX5_wetBehind_0 := by decide +kernel
theorem dksX5_wetBehind_1 : cX5_wetBehind.data.toList.drop 23 = dktX5_wetBehind_1 := dk_seg dksX5_wetBehind_0 23 rfl rfl
theorem dX5_wetBehind_0 : decode cX5_wetBehind 0 = .ok (.bipush 9, 2) := dk_16 9 (dk_at dksX5_wetBehind_0 0 rfl rfl)
theorem dX5_wetBehind_2 : decode cX5_wetBehind 2 = .ok (.istore 4, 2) := dk_54 4 (dk_at dksX5_wetBehind_0 2 rfl rfl)
theorem dX5_wetBehind_4 : decode cX5_wetBehind 4 = .ok (.iconst 0, 1) := dk_3 (dk_at dksX5_wetBehind_0 4 rfl rfl)
theorem dX5_wetBehind_5 : decode cX5_wetBehind 5 = .ok (.istore 5, 2) := dk_54 5 (dk_at dksX5_wetBehind_0 5 rfl rfl)
theorem dX5_wetBehind_7 : decode cX5_wetBehind 7 = .ok (.iload 5, 2) := dk_21 5 (dk_at dksX5_wetBehind_0 7 rfl rfl)
theorem dX5_wetBehind_9 : decode cX5_wetBehind 9 = .ok (.iload_n 3, 1) := dk_29 (dk_at dksX5_wetBehind_0 9 rfl rfl)
theorem dX5_wetBehind_10 : decode cX5_wetBehind 10 = .ok (.if_icmp .ge 27, 3) := dk_162 0 27 (dk_at dksX5_wetBehind_0 10 rfl rfl)
theorem dX5_wetBehind_13 : decode cX5_wetBehind 13 = .ok (.aload_n 0, 1) := dk_42 (dk_at dksX5_wetBehind_0 13 rfl rfl)
theorem dX5_wetBehind_14 : decode cX5_wetBehind 14 = .ok (.iload_n 1, 1) := dk_27 (dk_at dksX5_wetBehind_0 14 rfl rfl)
theorem dX5_wetBehind_15 : decode cX5_wetBehind 15 = .ok (.iload 4, 2) := dk_21 4 (dk_at dksX5_wetBehind_0 15 rfl rfl)
theorem dX5_wetBehind_17 : decode cX5_wetBehind 17 = .ok (.aload_n 0, 1) := dk_42 (dk_at dksX5_wetBehind_0 17 rfl rfl)
theorem dX5_wetBehind_18 : decode cX5_wetBehind 18 = .ok (.iload_n 2, 1) := dk_28 (dk_at dksX5_wetBehind_0 18 rfl rfl)
theorem dX5_wetBehind_19 : decode cX5_wetBehind 19 = .ok (.iload 5, 2) := dk_21 5 (dk_at dksX5_wetBehind_0 19 rfl rfl)
theorem dX5_wetBehind_21 : decode cX5_wetBehind 21 = .ok (.iadd, 1) := dk_96 (dk_at dksX5_wetBehind_0 21 rfl rfl)
theorem dX5_wetBehind_22 : decode cX5_wetBehind 22 = .ok (.iconst 0, 1) := dk_3 (dk_at dksX5_wetBehind_0 22 rfl rfl)
theorem dX5_wetBehind_23 : decode cX5_wetBehind 23 = .ok (.invokevirtual 332, 3) := dk_182 1 76 (dk_at dksX5_wetBehind_1 0 rfl rfl)
theorem dX5_wetBehind_26 : decode cX5_wetBehind 26 = .ok (.invokevirtual 340, 3) := dk_182 1 84 (dk_at dksX5_wetBehind_1 3 rfl rfl)
theorem dX5_wetBehind_29 : decode cX5_wetBehind 29 = .ok (.istore 4, 2) := dk_54 4 (dk_at dksX5_wetBehind_1 6 rfl rfl)
theorem dX5_wetBehind_31 : decode cX5_wetBehind 31 = .ok (.iinc 5 1, 3) := dk_132 5 1 (dk_at dksX5_wetBehind_1 8 rfl rfl)
theorem dX5_wetBehind_34 : decode cX5_wetBehind 34 = .ok (.goto (-27), 3) := dk_167 255 229 (dk_at dksX5_wetBehind_1 11 rfl rfl)
theorem dX5_wetBehind_37 : decode cX5_wetBehind 37 = .ok (.iload 4, 2) := dk_21 4 (dk_at dksX5_wetBehind_1 14 rfl rfl)
theorem dX5_wetBehind_39 : decode cX5_wetBehind 39 = .ok (.ireturn, 1) := dk_172 (dk_at dksX5_wetBehind_1 16 rfl rfl)
abbrev cX5_ask : ByteArray := prog_23_method_101_code
def yX5_ask : MethodName := ⟨RX5, "ask", "(I)I"⟩
def dkwX5_ask_7 : List UInt8 := [167, 0, 5, 21, 4, 54, 4, 132, 5, 1, 167, 255, 116, 29, 172]
abbrev dktX5_ask_7 : List UInt8 := dkwX5_ask_7 ++ []
def dkwX5_ask_6 : List UInt8 := [21, 6, 21, 4, 162, 0, 8, 21, 5, 167, 0, 4, 29, 62, 21, 6, 21, 4, 162, 0, 8, 21, 6]
abbrev dktX5_ask_6 : List UInt8 := dkwX5_ask_6 ++ dktX5_ask_7
def dkwX5_ask_5 : List UInt8 := [164, 0, 13, 42, 180, 0, 141, 21, 8, 46, 167, 0, 5, 21, 6, 54, 6, 132, 7, 1, 167, 255, 189]
abbrev dktX5_ask_5 : List UInt8 := dkwX5_ask_5 ++ dktX5_ask_6
def dkwX5_ask_4 : List UInt8 := [180, 0, 141, 21, 8, 92, 46, 28, 21, 7, 122, 4, 126, 96, 79, 42, 180, 0, 141, 21, 8, 46, 21, 6]
abbrev dktX5_ask_4 : List UInt8 := dkwX5_ask_4 ++ dktX5_ask_5
def dkwX5_ask_3 : List UInt8 := [21, 7, 42, 180, 0, 89, 5, 46, 162, 0, 62, 42, 27, 21, 7, 21, 5, 182, 1, 166, 54, 8, 42]
abbrev dktX5_ask_3 : List UInt8 := dkwX5_ask_3 ++ dktX5_ask_4
def dkwX5_ask_2 : List UInt8 := [162, 0, 17, 42, 180, 0, 141, 21, 6, 3, 79, 132, 6, 1, 167, 255, 238, 3, 54, 6, 3, 54, 7]
abbrev dktX5_ask_2 : List UInt8 := dkwX5_ask_2 ++ dktX5_ask_3
def dkwX5_ask_1 : List UInt8 := [184, 1, 42, 54, 4, 3, 54, 5, 21, 5, 16, 12, 163, 0, 139, 3, 54, 6, 21, 6, 16, 10]
abbrev dktX5_ask_1 : List UInt8 := dkwX5_ask_1 ++ dktX5_ask_2
def dkwX5_ask_0 : List UInt8 := [42, 3, 181, 0, 1, 42, 27, 182, 1, 90, 154, 0, 5, 2, 172, 42, 182, 1, 169, 61, 2, 62, 28]
abbrev dktX5_ask_0 : List UInt8 := dkwX5_ask_0 ++ dktX5_ask_1
theorem dksX5_ask_0 : cX5_ask.data.toList.drop 0 = dktX5_ask_0 := by decide +kernel
theorem dksX5_ask_1 : cX5_ask.data.toList.drop 23 = dktX5_ask_1 := dk_seg dksX5_ask_0 23 rfl rfl
theorem dksX5_ask_2 : cX5_ask.data.toList.drop 45 = dktX5_ask_2 := dk_seg dksX5_ask_1 22 rfl rfl
theorem dksX5_ask_3 : cX5_ask.data.toList.drop 68 = dktX5_ask_3 := dk_seg dksX5_ask_2 23 rfl rfl
theorem dksX5_ask_4 : cX5_ask.data.toList.drop 91 = dktX5_ask_4 := dk_seg dksX5_ask_3 23 rfl rfl
theorem dksX5_ask_5 : cX5_ask.data.toList.drop 115 = dktX5_ask_5 := dk_seg dksX5_ask_4 24 rfl rfl
theorem dksX5_ask_6 : cX5_ask.data.toList.drop 138 = dktX5_ask_6 := dk_seg dksX5_ask_5 23 rfl rfl
theorem dksX5_ask_7 : cX5_ask.data.toList.drop 161 = dktX5_ask_7 := dk_seg dksX5_ask_6 23 rfl rfl
theorem dX5_ask_0 : decode cX5_ask 0 = .ok (.aload_n 0, 1) := dk_42 (dk_at dksX5_ask_0 0 rfl rfl)
theorem dX5_ask_1 : decode cX5_ask 1 = .ok (.iconst 0, 1) := dk_3 (dk_at dksX5_ask_0 1 rfl rfl)
theorem dX5_ask_2 : decode cX5_ask 2 = .ok (.putfield 1, 3) := dk_181 0 1 (dk_at dksX5_ask_0 2 rfl rfl)
theorem dX5_ask_5 : decode cX5_ask 5 = .ok (.aload_n 0, 1) := dk_42 (dk_at dksX5_ask_0 5 rfl rfl)
theorem dX5_ask_6 : decode cX5_ask 6 = .ok (.iload_n 1, 1) := dk_27 (dk_at dksX5_ask_0 6 rfl rfl)
theorem dX5_ask_7 : decode cX5_ask 7 = .ok (.invokevirtual 346, 3) := dk_182 1 90 (dk_at dksX5_ask_0 7 rfl rfl)
theorem dX5_ask_10 : decode cX5_ask 10 = .ok (.ifCond .ne 5, 3) := dk_154 0 5 (dk_at dksX5_ask_0 10 rfl rfl)
theorem dX5_ask_13 : decode cX5_ask 13 = .ok (.iconst (-1), 1) := dk_2 (dk_at dksX5_ask_0 13 rfl rfl)
theorem dX5_ask_14 : decode cX5_ask 14 = .ok (.ireturn, 1) := dk_172 (dk_at dksX5_ask_0 14 rfl rfl)
theorem dX5_ask_15 : decode cX5_ask 15 = .ok (.aload_n 0, 1) := dk_42 (dk_at dksX5_ask_0 15 rfl rfl)
theorem dX5_ask_16 : decode cX5_ask 16 = .ok (.invokevirtual 425, 3) := dk_182 1 169 (dk_at dksX5_ask_0 16 rfl rfl)
theorem dX5_ask_19 : decode cX5_ask 19 = .ok (.istore_n 2, 1) := dk_61 (dk_at dksX5_ask_0 19 rfl rfl)
theorem dX5_ask_20 : decode cX5_ask 20 = .ok (.iconst (-1), 1) := dk_2 (dk_at dksX5_ask_0 20 rfl rfl)
theorem dX5_ask_21 : decode cX5_ask 21 = .ok (.istore_n 3, 1) := dk_62 (dk_at dksX5_ask_0 21 rfl rfl)
theorem dX5_ask_22 : decode cX5_ask 22 = .ok (.iload_n 2, 1) := dk_28 (dk_at dksX5_ask_0 22 rfl rfl)
theorem dX5_ask_23 : decode cX5_ask 23 = .ok (.invokestatic 298, 3) := dk_184 1 42 (dk_at dksX5_ask_1 0 rfl rfl)
theorem dX5_ask_26 : decode cX5_ask 26 = .ok (.istore 4, 2) := dk_54 4 (dk_at dksX5_ask_1 3 rfl rfl)
theorem dX5_ask_28 : decode cX5_ask 28 = .ok (.iconst 0, 1) := dk_3 (dk_at dksX5_ask_1 5 rfl rfl)
theorem dX5_ask_29 : decode cX5_ask 29 = .ok (.istore 5, 2) := dk_54 5 (dk_at dksX5_ask_1 6 rfl rfl)
theorem dX5_ask_31 : decode cX5_ask 31 = .ok (.iload 5, 2) := dk_21 5 (dk_at dksX5_ask_1 8 rfl rfl)
theorem dX5_ask_33 : decode cX5_ask 33 = .ok (.bipush 12, 2) := dk_16 12 (dk_at dksX5_ask_1 10 rfl rfl)
theorem dX5_ask_35 : decode cX5_ask 35 = .ok (.if_icmp .gt 139, 3) := dk_163 0 139 (dk_at dksX5_ask_1 12 rfl rfl)
theorem dX5_ask_38 : decode cX5_ask 38 = .ok (.iconst 0, 1) := dk_3 (dk_at dksX5_ask_1 15 rfl rfl)
theorem dX5_ask_39 : decode cX5_ask 39 = .ok (.istore 6, 2) := dk_54 6 (dk_at dksX5_ask_1 16 rfl rfl)
theorem dX5_ask_41 : decode cX5_ask 41 = .ok (.iload 6, 2) := dk_21 6 (dk_at dksX5_ask_1 18 rfl rfl)
theorem dX5_ask_43 : decode cX5_ask 43 = .ok (.bipush 10, 2) := dk_16 10 (dk_at dksX5_ask_1 20 rfl rfl)
theorem dX5_ask_45 : decode cX5_ask 45 = .ok (.if_icmp .ge 17, 3) := dk_162 0 17 (dk_at dksX5_ask_2 0 rfl rfl)
theorem dX5_ask_48 : decode cX5_ask 48 = .ok (.aload_n 0, 1) := dk_42 (dk_at dksX5_ask_2 3 rfl rfl)
theorem dX5_ask_49 : decode cX5_ask 49 = .ok (.getfield 141, 3) := dk_180 0 141 (dk_at dksX5_ask_2 4 rfl rfl)
theorem dX5_ask_52 : decode cX5_ask 52 = .ok (.iload 6, 2) := dk_21 6 (dk_at dksX5_ask_2 7 rfl rfl)
theorem dX5_ask_54 : decode cX5_ask 54 = .ok (.iconst 0, 1) := dk_3 (dk_at dksX5_ask_2 9 rfl rfl)
theorem dX5_ask_55 : decode cX5_ask 55 = .ok (.iastore, 1) := dk_79 (dk_at dksX5_ask_2 10 rfl rfl)
theorem dX5_ask_56 : decode cX5_ask 56 = .ok (.iinc 6 1, 3) := dk_132 6 1 (dk_at dksX5_ask_2 11 rfl rfl)
theorem dX5_ask_59 : decode cX5_ask 59 = .ok (.goto (-18), 3) := dk_167 255 238 (dk_at dksX5_ask_2 14 rfl rfl)
theorem dX5_ask_62 : decode cX5_ask 62 = .ok (.iconst 0, 1) := dk_3 (dk_at dksX5_ask_2 17 rfl rfl)
theorem dX5_ask_63 : decode cX5_ask 63 = .ok (.istore 6, 2) := dk_54 6 (dk_at dksX5_ask_2 18 rfl rfl)
theorem dX5_ask_65 : decode cX5_ask 65 = .ok (.iconst 0, 1) := dk_3 (dk_at dksX5_ask_2 20 rfl rfl)
theorem dX5_ask_66 : decode cX5_ask 66 = .ok (.istore 7, 2) := dk_54 7 (dk_at dksX5_ask_2 21 rfl rfl)
theorem dX5_ask_68 : decode cX5_ask 68 = .ok (.iload 7, 2) := dk_21 7 (dk_at dksX5_ask_3 0 rfl rfl)
theorem dX5_ask_70 : decode cX5_ask 70 = .ok (.aload_n 0, 1) := dk_42 (dk_at dksX5_ask_3 2 rfl rfl)
theorem dX5_ask_71 : decode cX5_ask 71 = .ok (.getfield 89, 3) := dk_180 0 89 (dk_at dksX5_ask_3 3 rfl rfl)
theorem dX5_ask_74 : decode cX5_ask 74 = .ok (.iconst 2, 1) := dk_5 (dk_at dksX5_ask_3 6 rfl rfl)
theorem dX5_ask_75 : decode cX5_ask 75 = .ok (.iaload, 1) := dk_46 (dk_at dksX5_ask_3 7 rfl rfl)
theorem dX5_ask_76 : decode cX5_ask 76 = .ok (.if_icmp .ge 62, 3) := dk_162 0 62 (dk_at dksX5_ask_3 8 rfl rfl)
theorem dX5_ask_79 : decode cX5_ask 79 = .ok (.aload_n 0, 1) := dk_42 (dk_at dksX5_ask_3 11 rfl rfl)
theorem dX5_ask_80 : decode cX5_ask 80 = .ok (.iload_n 1, 1) := dk_27 (dk_at dksX5_ask_3 12 rfl rfl)
theorem dX5_ask_81 : decode cX5_ask 81 = .ok (.iload 7, 2) := dk_21 7 (dk_at dksX5_ask_3 13 rfl rfl)
theorem dX5_ask_83 : decode cX5_ask 83 = .ok (.iload 5, 2) := dk_21 5 (dk_at dksX5_ask_3 15 rfl rfl)
theorem dX5_ask_85 : decode cX5_ask 85 = .ok (.invokevirtual 422, 3) := dk_182 1 166 (dk_at dksX5_ask_3 17 rfl rfl)
theorem dX5_ask_88 : decode cX5_ask 88 = .ok (.istore 8, 2) := dk_54 8 (dk_at dksX5_ask_3 20 rfl rfl)
theorem dX5_ask_90 : decode cX5_ask 90 = .ok (.aload_n 0, 1) := dk_42 (dk_at dksX5_ask_3 22 rfl rfl)
theorem dX5_ask_91 : decode cX5_ask 91 = .ok (.getfield 141, 3) := dk_180 0 141 (dk_at dksX5_ask_4 0 rfl rfl)
theorem dX5_ask_94 : decode cX5_ask 94 = .ok (.iload 8, 2) := dk_21 8 (dk_at dksX5_ask_4 3 rfl rfl)
theorem dX5_ask_96 : decode cX5_ask 96 = .ok (.dup2, 1) := dk_92 (dk_at dksX5_ask_4 5 rfl rfl)
theorem dX5_ask_97 : decode cX5_ask 97 = .ok (.iaload, 1) := dk_46 (dk_at dksX5_ask_4 6 rfl rfl)
theorem dX5_ask_98 : decode cX5_ask 98 = .ok (.iload_n 2, 1) := dk_28 (dk_at dksX5_ask_4 7 rfl rfl)
theorem dX5_ask_99 : decode cX5_ask 99 = .ok (.iload 7, 2) := dk_21 7 (dk_at dksX5_ask_4 8 rfl rfl)
theorem dX5_ask_101 : decode cX5_ask 101 = .ok (.ishr, 1) := dk_122 (dk_at dksX5_ask_4 10 rfl rfl)
theorem dX5_ask_102 : decode cX5_ask 102 = .ok (.iconst 1, 1) := dk_4 (dk_at dksX5_ask_4 11 rfl rfl)
theorem dX5_ask_103 : decode cX5_ask 103 = .ok (.iand, 1) := dk_126 (dk_at dksX5_ask_4 12 rfl rfl)
theorem dX5_ask_104 : decode cX5_ask 104 = .ok (.iadd, 1) := dk_96 (dk_at dksX5_ask_4 13 rfl rfl)
theorem dX5_ask_105 : decode cX5_ask 105 = .ok (.iastore, 1) := dk_79 (dk_at dksX5_ask_4 14 rfl rfl)
theorem dX5_ask_106 : decode cX5_ask 106 = .ok (.aload_n 0, 1) := dk_42 (dk_at dksX5_ask_4 15 rfl rfl)
theorem dX5_ask_107 : decode cX5_ask 107 = .ok (.getfield 141, 3) := dk_180 0 141 (dk_at dksX5_ask_4 16 rfl rfl)
theorem dX5_ask_110 : decode cX5_ask 110 = .ok (.iload 8, 2) := dk_21 8 (dk_at dksX5_ask_4 19 rfl rfl)
theorem dX5_ask_112 : decode cX5_ask 112 = .ok (.iaload, 1) := dk_46 (dk_at dksX5_ask_4 21 rfl rfl)
theorem dX5_ask_113 : decode cX5_ask 113 = .ok (.iload 6, 2) := dk_21 6 (dk_at dksX5_ask_4 22 rfl rfl)
theorem dX5_ask_115 : decode cX5_ask 115 = .ok (.if_icmp .le 13, 3) := dk_164 0 13 (dk_at dksX5_ask_5 0 rfl rfl)
theorem dX5_ask_118 : decode cX5_ask 118 = .ok (.aload_n 0, 1) := dk_42 (dk_at dksX5_ask_5 3 rfl rfl)
theorem dX5_ask_119 : decode cX5_ask 119 = .ok (.getfield 141, 3) := dk_180 0 141 (dk_at dksX5_ask_5 4 rfl rfl)
theorem dX5_ask_122 : decode cX5_ask 122 = .ok (.iload 8, 2) := dk_21 8 (dk_at dksX5_ask_5 7 rfl rfl)
theorem dX5_ask_124 : decode cX5_ask 124 = .ok (.iaload, 1) := dk_46 (dk_at dksX5_ask_5 9 rfl rfl)
theorem dX5_ask_125 : decode cX5_ask 125 = .ok (.goto 5, 3) := dk_167 0 5 (dk_at dksX5_ask_5 10 rfl rfl)
theorem dX5_ask_128 : decode cX5_ask 128 = .ok (.iload 6, 2) := dk_21 6 (dk_at dksX5_ask_5 13 rfl rfl)
theorem dX5_ask_130 : decode cX5_ask 130 = .ok (.istore 6, 2) := dk_54 6 (dk_at dksX5_ask_5 15 rfl rfl)
theorem dX5_ask_132 : decode cX5_ask 132 = .ok (.iinc 7 1, 3) := dk_132 7 1 (dk_at dksX5_ask_5 17 rfl rfl)
theorem dX5_ask_135 : decode cX5_ask 135 = .ok (.goto (-67), 3) := dk_167 255 189 (dk_at dksX5_ask_5 20 rfl rfl)
theorem dX5_ask_138 : decode cX5_ask 138 = .ok (.iload 6, 2) := dk_21 6 (dk_at dksX5_ask_6 0 rfl rfl)
theorem dX5_ask_140 : decode cX5_ask 140 = .ok (.iload 4, 2) := dk_21 4 (dk_at dksX5_ask_6 2 rfl rfl)
theorem dX5_ask_142 : decode cX5_ask 142 = .ok (.if_icmp .ge 8, 3) := dk_162 0 8 (dk_at dksX5_ask_6 4 rfl rfl)
theorem dX5_ask_145 : decode cX5_ask 145 = .ok (.iload 5, 2) := dk_21 5 (dk_at dksX5_ask_6 7 rfl rfl)
theorem dX5_ask_147 : decode cX5_ask 147 = .ok (.goto 4, 3) := dk_167 0 4 (dk_at dksX5_ask_6 9 rfl rfl)
theorem dX5_ask_150 : decode cX5_ask 150 = .ok (.iload_n 3, 1) := dk_29 (dk_at dksX5_ask_6 12 rfl rfl)
theorem dX5_ask_151 : decode cX5_ask 151 = .ok (.istore_n 3, 1) := dk_62 (dk_at dksX5_ask_6 13 rfl rfl)
theorem dX5_ask_152 : decode cX5_ask 152 = .ok (.iload 6, 2) := dk_21 6 (dk_at dksX5_ask_6 14 rfl rfl)
theorem dX5_ask_154 : decode cX5_ask 154 = .ok (.iload 4, 2) := dk_21 4 (dk_at dksX5_ask_6 16 rfl rfl)
theorem dX5_ask_156 : decode cX5_ask 156 = .ok (.if_icmp .ge 8, 3) := dk_162 0 8 (dk_at dksX5_ask_6 18 rfl rfl)
theorem dX5_ask_159 : decode cX5_ask 159 = .ok (.iload 6, 2) := dk_21 6 (dk_at dksX5_ask_6 21 rfl rfl)
theorem dX5_ask_161 : decode cX5_ask 161 = .ok (.goto 5, 3) := dk_167 0 5 (dk_at dksX5_ask_7 0 rfl rfl)
theorem dX5_ask_164 : decode cX5_ask 164 = .ok (.iload 4, 2) := dk_21 4 (dk_at dksX5_ask_7 3 rfl rfl)
theorem dX5_ask_166 : decode cX5_ask 166 = .ok (.istore 4, 2) := dk_54 4 (dk_at dksX5_ask_7 5 rfl rfl)
theorem dX5_ask_168 : decode cX5_ask 168 = .ok (.iinc 5 1, 3) := dk_132 5 1 (dk_at dksX5_ask_7 7 rfl rfl)
theorem dX5_ask_171 : decode cX5_ask 171 = .ok (.goto (-140), 3) := dk_167 255 116 (dk_at dksX5_ask_7 10 rfl rfl)
theorem dX5_ask_174 : decode cX5_ask 174 = .ok (.iload_n 3, 1) := dk_29 (dk_at dksX5_ask_7 13 rfl rfl)
theorem dX5_ask_175 : decode cX5_ask 175 = .ok (.ireturn, 1) := dk_172 (dk_at dksX5_ask_7 14 rfl rfl)
abbrev cX5_change : ByteArray := prog_23_method_103_code
def yX5_change : MethodName := ⟨RX5, "change", "(I)I"⟩
def dkwX5_change_3 : List UInt8 := [21, 5, 167, 0, 4, 29, 62, 132, 4, 1, 167, 255, 207, 28, 172]
abbrev dktX5_change_3 : List UInt8 := dkwX5_change_3 ++ []
def dkwX5_change_2 : List UInt8 := [182, 1, 172, 54, 5, 21, 5, 29, 164, 0, 8, 21, 4, 167, 0, 4, 28, 61, 21, 5, 29, 164, 0, 8]
abbrev dktX5_change_2 : List UInt8 := dkwX5_change_2 ++ dktX5_change_3
def dkwX5_change_1 : List UInt8 := [182, 1, 172, 62, 3, 54, 4, 21, 4, 42, 180, 0, 113, 4, 46, 162, 0, 44, 42, 21, 4, 27]
abbrev dktX5_change_1 : List UInt8 := dkwX5_change_1 ++ dktX5_change_2
def dkwX5_change_0 : List UInt8 := [42, 3, 181, 0, 1, 27, 4, 16, 20, 184, 1, 93, 154, 0, 5, 2, 172, 2, 61, 42, 2, 27]
abbrev dktX5_change_0 : List UInt8 := dkwX5_change_0 ++ dktX5_change_1
theorem dksX5_change_0 : cX5_change.data.toList.drop 0 = dktX5_change_0 := by decide +kernel
theorem dksX5_change_1 : cX5_change.data.toList.drop 22 = dktX5_change_1 := dk_seg dksX5_change_0 22 rfl rfl
theorem dksX5_change_2 : cX5_change.data.toList.drop 44 = dktX5_change_2 := dk_seg dksX5_change_1 22 rfl rfl
theorem dksX5_change_3 : cX5_change.data.toList.drop 68 = dktX5_change_3 := dk_seg dksX5_change_2 24 rfl rfl
theorem dX5_change_0 : decode cX5_change 0 = .ok (.aload_n 0, 1) := dk_42 (dk_at dksX5_change_0 0 rfl rfl)
theorem dX5_change_1 : decode cX5_change 1 = .ok (.iconst 0, 1) := dk_3 (dk_at dksX5_change_0 1 rfl rfl)
theorem dX5_change_2 : decode cX5_change 2 = .ok (.putfield 1, 3) := dk_181 0 1 (dk_at dksX5_change_0 2 rfl rfl)
theorem dX5_change_5 : decode cX5_change 5 = .ok (.iload_n 1, 1) := dk_27 (dk_at dksX5_change_0 5 rfl rfl)
theorem dX5_change_6 : decode cX5_change 6 = .ok (.iconst 1, 1) := dk_4 (dk_at dksX5_change_0 6 rfl rfl)
theorem dX5_change_7 : decode cX5_change 7 = .ok (.bipush 20, 2) := dk_16 20 (dk_at dksX5_change_0 7 rfl rfl)
theorem dX5_change_9 : decode cX5_change 9 = .ok (.invokestatic 349, 3) := dk_184 1 93 (dk_at dksX5_change_0 9 rfl rfl)
theorem dX5_change_12 : decode cX5_change 12 = .ok (.ifCond .ne 5, 3) := dk_154 0 5 (dk_at dksX5_change_0 12 rfl rfl)
theorem dX5_change_15 : decode cX5_change 15 = .ok (.iconst (-1), 1) := dk_2 (dk_at dksX5_change_0 15 rfl rfl)
theorem dX5_change_16 : decode cX5_change 16 = .ok (.ireturn, 1) := dk_172 (dk_at dksX5_change_0 16 rfl rfl)
theorem dX5_change_17 : decode cX5_change 17 = .ok (.iconst (-1), 1) := dk_2 (dk_at dksX5_change_0 17 rfl rfl)
theorem dX5_change_18 : decode cX5_change 18 = .ok (.istore_n 2, 1) := dk_61 (dk_at dksX5_change_0 18 rfl rfl)
theorem dX5_change_19 : decode cX5_change 19 = .ok (.aload_n 0, 1) := dk_42 (dk_at dksX5_change_0 19 rfl rfl)
theorem dX5_change_20 : decode cX5_change 20 = .ok (.iconst (-1), 1) := dk_2 (dk_at dksX5_change_0 20 rfl rfl)
theorem dX5_change_21 : decode cX5_change 21 = .ok (.iload_n 1, 1) := dk_27 (dk_at dksX5_change_0 21 rfl rfl)
theorem dX5_change_22 : decode cX5_change 22 = .ok (.invokevirtual 428, 3) := dk_182 1 172 (dk_at dksX5_change_1 0 rfl rfl)
theorem dX5_change_25 : decode cX5_change 25 = .ok (.istore_n 3, 1) := dk_62 (dk_at dksX5_change_1 3 rfl rfl)
theorem dX5_change_26 : decode cX5_change 26 = .ok (.iconst 0, 1) := dk_3 (dk_at dksX5_change_1 4 rfl rfl)
theorem dX5_change_27 : decode cX5_change 27 = .ok (.istore 4, 2) := dk_54 4 (dk_at dksX5_change_1 5 rfl rfl)
theorem dX5_change_29 : decode cX5_change 29 = .ok (.iload 4, 2) := dk_21 4 (dk_at dksX5_change_1 7 rfl rfl)
theorem dX5_change_31 : decode cX5_change 31 = .ok (.aload_n 0, 1) := dk_42 (dk_at dksX5_change_1 9 rfl rfl)
theorem dX5_change_32 : decode cX5_change 32 = .ok (.getfield 113, 3) := dk_180 0 113 (dk_at dksX5_change_1 10 rfl rfl)
theorem dX5_change_35 : decode cX5_change 35 = .ok (.iconst 1, 1) := dk_4 (dk_at dksX5_change_1 13 rfl rfl)
theorem dX5_change_36 : decode cX5_change 36 = .ok (.iaload, 1) := dk_46 (dk_at dksX5_change_1 14 rfl rfl)
theorem dX5_change_37 : decode cX5_change 37 = .ok (.if_icmp .ge 44, 3) := dk_162 0 44 (dk_at dksX5_change_1 15 rfl rfl)
theorem dX5_change_40 : decode cX5_change 40 = .ok (.aload_n 0, 1) := dk_42 (dk_at dksX5_change_1 18 rfl rfl)
theorem dX5_change_41 : decode cX5_change 41 = .ok (.iload 4, 2) := dk_21 4 (dk_at dksX5_change_1 19 rfl rfl)
theorem dX5_change_43 : decode cX5_change 43 = .ok (.iload_n 1, 1) := dk_27 (dk_at dksX5_change_1 21 rfl rfl)
theorem dX5_change_44 : decode cX5_change 44 = .ok (.invokevirtual 428, 3) := dk_182 1 172 (dk_at dksX5_change_2 0 rfl rfl)
theorem dX5_change_47 : decode cX5_change 47 = .ok (.istore 5, 2) := dk_54 5 (dk_at dksX5_change_2 3 rfl rfl)
theorem dX5_change_49 : decode cX5_change 49 = .ok (.iload 5, 2) := dk_21 5 (dk_at dksX5_change_2 5 rfl rfl)
theorem dX5_change_51 : decode cX5_change 51 = .ok (.iload_n 3, 1) := dk_29 (dk_at dksX5_change_2 7 rfl rfl)
theorem dX5_change_52 : decode cX5_change 52 = .ok (.if_icmp .le 8, 3) := dk_164 0 8 (dk_at dksX5_change_2 8 rfl rfl)
theorem dX5_change_55 : decode cX5_change 55 = .ok (.iload 4, 2) := dk_21 4 (dk_at dksX5_change_2 11 rfl rfl)
theorem dX5_change_57 : decode cX5_change 57 = .ok (.goto 4, 3) := dk_167 0 4 (dk_at dksX5_change_2 13 rfl rfl)
theorem dX5_change_60 : decode cX5_change 60 = .ok (.iload_n 2, 1) := dk_28 (dk_at dksX5_change_2 16 rfl rfl)
theorem dX5_change_61 : decode cX5_change 61 = .ok (.istore_n 2, 1) := dk_61 (dk_at dksX5_change_2 17 rfl rfl)
theorem dX5_change_62 : decode cX5_change 62 = .ok (.iload 5, 2) := dk_21 5 (dk_at dksX5_change_2 18 rfl rfl)
theorem dX5_change_64 : decode cX5_change 64 = .ok (.iload_n 3, 1) := dk_29 (dk_at dksX5_change_2 20 rfl rfl)
theorem dX5_change_65 : decode cX5_change 65 = .ok (.if_icmp .le 8, 3) := dk_164 0 8 (dk_at dksX5_change_2 21 rfl rfl)
theorem dX5_change_68 : decode cX5_change 68 = .ok (.iload 5, 2) := dk_21 5 (dk_at dksX5_change_3 0 rfl rfl)
theorem dX5_change_70 : decode cX5_change 70 = .ok (.goto 4, 3) := dk_167 0 4 (dk_at dksX5_change_3 2 rfl rfl)
theorem dX5_change_73 : decode cX5_change 73 = .ok (.iload_n 3, 1) := dk_29 (dk_at dksX5_change_3 5 rfl rfl)
theorem dX5_change_74 : decode cX5_change 74 = .ok (.istore_n 3, 1) := dk_62 (dk_at dksX5_change_3 6 rfl rfl)
theorem dX5_change_75 : decode cX5_change 75 = .ok (.iinc 4 1, 3) := dk_132 4 1 (dk_at dksX5_change_3 7 rfl rfl)
theorem dX5_change_78 : decode cX5_change 78 = .ok (.goto (-49), 3) := dk_167 255 207 (dk_at dksX5_change_3 10 rfl rfl)
theorem dX5_change_81 : decode cX5_change 81 = .ok (.iload_n 2, 1) := dk_28 (dk_at dksX5_change_3 13 rfl rfl)
theorem dX5_change_82 : decode cX5_change 82 = .ok (.ireturn, 1) := dk_172 (dk_at dksX5_change_3 14 rfl rfl)
abbrev cX5_worthBehind : ByteArray := prog_23_method_102_code
def yX5_worthBehind : MethodName := ⟨RX5, "worthBehind", "(II)I"⟩
def dkwX5_worthBehind_2 : List UInt8 := [167, 255, 239, 42, 42, 17, 4, 110, 182, 1, 102, 182, 1, 129, 172]
abbrev dktX5_worthBehind_2 : List UInt8 := dkwX5_worthBehind_2 ++ []
def dkwX5_worthBehind_1 : List UInt8 := [16, 9, 79, 3, 62, 29, 28, 162, 0, 18, 42, 17, 4, 110, 3, 182, 1, 123, 87, 132, 3, 1]
abbrev dktX5_worthBehind_1 : List UInt8 := dkwX5_worthBehind_1 ++ dktX5_worthBehind_2
def dkwX5_worthBehind_0 : List UInt8 := [42, 3, 17, 4, 110, 16, 28, 182, 1, 32, 27, 155, 0, 15, 42, 180, 0, 113, 17, 4, 130, 27, 96]
abbrev dktX5_worthBehind_0 : List UInt8 := dkwX5_worthBehind_0 ++ dktX5_worthBehind_1
theorem dksX5_worthBehind_0 : cX5_worthBehind.data.toList.drop 0 = dktX5_worthBehind_0 := by decide +kernel
theorem dksX5_worthBehind_1 : cX5_worthBehind.data.toList.drop 23 = dktX5_worthBehind_1 := dk_seg dksX5_worthBehind_0 23 rfl rfl
theorem dksX5_worthBehind_2 : cX5_worthBehind.data.toList.drop 45 = dktX5_worthBehind_2 := dk_seg dksX5_worthBehind_1 22 rfl rfl
theorem dX5_worthBehind_0 : decode cX5_worthBehind 0 = .ok (.aload_n 0, 1) := dk_42 (dk_at dksX5_worthBehind_0 0 rfl rfl)
theorem dX5_worthBehind_1 : decode cX5_worthBehind 1 = .ok (.iconst 0, 1) := dk_3 (dk_at dksX5_worthBehind_0 1 rfl rfl)
theorem dX5_worthBehind_2 : decode cX5_worthBehind 2 = .ok (.sipush 1134, 3) := dk_17 4 110 (dk_at dksX5_worthBehind_0 2 rfl rfl)
theorem dX5_worthBehind_5 : decode cX5_worthBehind 5 = .ok (.bipush 28, 2) := dk_16 28 (dk_at dksX5_worthBehind_0 5 rfl rfl)
theorem dX5_worthBehind_7 : decode cX5_worthBehind 7 = .ok (.invokevirtual 288, 3) := dk_182 1 32 (dk_at dksX5_worthBehind_0 7 rfl rfl)
theorem dX5_worthBehind_10 : decode cX5_worthBehind 10 = .ok (.iload_n 1, 1) := dk_27 (dk_at dksX5_worthBehind_0 10 rfl rfl)
theorem dX5_worthBehind_11 : decode cX5_worthBehind 11 = .ok (.ifCond .lt 15, 3) := dk_155 0 15 (dk_at dksX5_worthBehind_0 11 rfl rfl)
theorem dX5_worthBehind_14 : decode cX5_worthBehind 14 = .ok (.aload_n 0, 1) := dk_42 (dk_at dksX5_worthBehind_0 14 rfl rfl)
theorem dX5_worthBehind_15 : decode cX5_worthBehind 15 = .ok (.getfield 113, 3) := dk_180 0 113 (dk_at dksX5_worthBehind_0 15 rfl rfl)
theorem dX5_worthBehind_18 : decode cX5_worthBehind 18 = .ok (.sipush 1154, 3) := dk_17 4 130 (dk_at dksX5_worthBehind_0 18 rfl rfl)
theorem dX5_worthBehind_21 : decode cX5_worthBehind 21 = .ok (.iload_n 1, 1) := dk_27 (dk_at dksX5_worthBehind_0 21 rfl rfl)
theorem dX5_worthBehind_22 : decode cX5_worthBehind 22 = .ok (.iadd, 1) := dk_96 (dk_at dksX5_worthBehind_0 22 rfl rfl)
theorem dX5_worthBehind_23 : decode cX5_worthBehind 23 = .ok (.bipush 9, 2) := dk_16 9 (dk_at dksX5_worthBehind_1 0 rfl rfl)
theorem dX5_worthBehind_25 : decode cX5_worthBehind 25 = .ok (.iastore, 1) := dk_79 (dk_at dksX5_worthBehind_1 2 rfl rfl)
theorem dX5_worthBehind_26 : decode cX5_worthBehind 26 = .ok (.iconst 0, 1) := dk_3 (dk_at dksX5_worthBehind_1 3 rfl rfl)
theorem dX5_worthBehind_27 : decode cX5_worthBehind 27 = .ok (.istore_n 3, 1) := dk_62 (dk_at dksX5_worthBehind_1 4 rfl rfl)
theorem dX5_worthBehind_28 : decode cX5_worthBehind 28 = .ok (.iload_n 3, 1) := dk_29 (dk_at dksX5_worthBehind_1 5 rfl rfl)
theorem dX5_worthBehind_29 : decode cX5_worthBehind 29 = .ok (.iload_n 2, 1) := dk_28 (dk_at dksX5_worthBehind_1 6 rfl rfl)
theorem dX5_worthBehind_30 : decode cX5_worthBehind 30 = .ok (.if_icmp .ge 18, 3) := dk_162 0 18 (dk_at dksX5_worthBehind_1 7 rfl rfl)
theorem dX5_worthBehind_33 : decode cX5_worthBehind 33 = .ok (.aload_n 0, 1) := dk_42 (dk_at dksX5_worthBehind_1 10 rfl rfl)
theorem dX5_worthBehind_34 : decode cX5_worthBehind 34 = .ok (.sipush 1134, 3) := dk_17 4 110 (dk_at dksX5_worthBehind_1 11 rfl rfl)
theorem dX5_worthBehind_37 : decode cX5_worthBehind 37 = .ok (.iconst 0, 1) := dk_3 (dk_at dksX5_worthBehind_1 14 rfl rfl)
theorem dX5_worthBehind_38 : decode cX5_worthBehind 38 = .ok (.invokevirtual 379, 3) := dk_182 1 123 (dk_at dksX5_worthBehind_1 15 rfl rfl)
theorem dX5_worthBehind_41 : decode cX5_worthBehind 41 = .ok (.pop, 1) := dk_87 (dk_at dksX5_worthBehind_1 18 rfl rfl)
theorem dX5_worthBehind_42 : decode cX5_worthBehind 42 = .ok (.iinc 3 1, 3) := dk_132 3 1 (dk_at dksX5_worthBehind_1 19 rfl rfl)
theorem dX5_worthBehind_45 : decode cX5_worthBehind 45 = .ok (.goto (-17), 3) := dk_167 255 239 (dk_at dksX5_worthBehind_2 0 rfl rfl)
theorem dX5_worthBehind_48 : decode cX5_worthBehind 48 = .ok (.aload_n 0, 1) := dk_42 (dk_at dksX5_worthBehind_2 3 rfl rfl)
theorem dX5_worthBehind_49 : decode cX5_worthBehind 49 = .ok (.aload_n 0, 1) := dk_42 (dk_at dksX5_worthBehind_2 4 rfl rfl)
theorem dX5_worthBehind_50 : decode cX5_worthBehind 50 = .ok (.sipush 1134, 3) := dk_17 4 110 (dk_at dksX5_worthBehind_2 5 rfl rfl)
theorem dX5_worthBehind_53 : decode cX5_worthBehind 53 = .ok (.invokevirtual 358, 3) := dk_182 1 102 (dk_at dksX5_worthBehind_2 8 rfl rfl)
theorem dX5_worthBehind_56 : decode cX5_worthBehind 56 = .ok (.invokevirtual 385, 3) := dk_182 1 129 (dk_at dksX5_worthBehind_2 11 rfl rfl)
theorem dX5_worthBehind_59 : decode cX5_worthBehind 59 = .ok (.ireturn, 1) := dk_172 (dk_at dksX5_worthBehind_2 14 rfl rfl)
abbrev cX5_rests : ByteArray := prog_23_method_104_code
def yX5_rests : MethodName := ⟨RX5, "rests", "(IIII)I"⟩
def dkwX5_rests_11 : List UInt8 := [180, 0, 1, 158, 0, 7, 3, 167, 0, 15, 21, 4, 156, 0, 8, 21, 6, 167, 0, 5, 21, 7, 172]
abbrev dktX5_rests_11 : List UInt8 := dkwX5_rests_11 ++ []
def dkwX5_rests_10 : List UInt8 := [153, 0, 17, 21, 4, 155, 0, 8, 21, 7, 155, 0, 7, 3, 167, 0, 4, 4, 181, 0, 1, 42]
abbrev dktX5_rests_10 : List UInt8 := dkwX5_rests_10 ++ dktX5_rests_11
def dkwX5_rests_9 : List UInt8 := [21, 6, 21, 12, 153, 0, 7, 4, 167, 0, 4, 3, 96, 54, 6, 132, 8, 1, 167, 255, 81, 42, 21, 5]
abbrev dktX5_rests_9 : List UInt8 := dkwX5_rests_9 ++ dktX5_rests_10
def dkwX5_rests_8 : List UInt8 := [167, 255, 195, 21, 12, 153, 0, 15, 21, 6, 21, 4, 160, 0, 8, 21, 8, 167, 0, 5, 21, 7, 54, 7]
abbrev dktX5_rests_8 : List UInt8 := dkwX5_rests_8 ++ dktX5_rests_9
def dkwX5_rests_7 : List UInt8 := [54, 14, 21, 12, 153, 0, 14, 21, 14, 21, 11, 163, 0, 7, 4, 167, 0, 4, 3, 54, 12, 132, 13, 1]
abbrev dktX5_rests_7 : List UInt8 := dkwX5_rests_7 ++ dktX5_rests_8
def dkwX5_rests_6 : List UInt8 := [167, 0, 23, 21, 13, 154, 0, 7, 27, 167, 0, 14, 21, 13, 4, 160, 0, 7, 28, 167, 0, 4, 29]
abbrev dktX5_rests_6 : List UInt8 := dkwX5_rests_6 ++ dktX5_rests_7
def dkwX5_rests_5 : List UInt8 := [167, 0, 4, 3, 54, 12, 3, 54, 13, 21, 13, 6, 162, 0, 61, 21, 9, 21, 13, 160, 0, 7, 3]
abbrev dktX5_rests_5 : List UInt8 := dkwX5_rests_5 ++ dktX5_rests_6
def dkwX5_rests_4 : List UInt8 := [167, 0, 14, 21, 10, 4, 160, 0, 7, 28, 167, 0, 4, 29, 54, 11, 21, 11, 154, 0, 7, 4]
abbrev dktX5_rests_4 : List UInt8 := dkwX5_rests_4 ++ dktX5_rests_5
def dkwX5_rests_3 : List UInt8 := [21, 8, 6, 112, 54, 10, 21, 9, 21, 10, 160, 0, 7, 3, 167, 0, 23, 21, 10, 154, 0, 7, 27]
abbrev dktX5_rests_3 : List UInt8 := dkwX5_rests_3 ++ dktX5_rests_4
def dkwX5_rests_2 : List UInt8 := [54, 7, 3, 54, 8, 21, 8, 16, 9, 162, 0, 174, 21, 5, 153, 0, 169, 21, 8, 6, 108, 54, 9]
abbrev dktX5_rests_2 : List UInt8 := dkwX5_rests_2 ++ dktX5_rests_3
def dkwX5_rests_1 : List UInt8 := [184, 1, 93, 153, 0, 13, 21, 4, 2, 161, 0, 7, 4, 167, 0, 4, 3, 54, 5, 3, 54, 6, 2]
abbrev dktX5_rests_1 : List UInt8 := dkwX5_rests_1 ++ dktX5_rests_2
def dkwX5_rests_0 : List UInt8 := [27, 3, 16, 9, 184, 1, 93, 153, 0, 33, 28, 3, 16, 9, 184, 1, 93, 153, 0, 23, 29, 3, 16, 9]
abbrev dktX5_rests_0 : List UInt8 := dkwX5_rests_0 ++ dktX5_rests_1
theorem dksX5_rests_0 : cX5_rests.data.toList.drop 0 = dktX5_rests_0 := by decide +kernel
theorem dksX5_rests_1 : cX5_rests.data.toList.drop 24 = dktX5_rests_1 := dk_seg dksX5_rests_0 24 rfl rfl
theorem dksX5_rests_2 : cX5_rests.data.toList.drop 47 = dktX5_rests_2 := dk_seg dksX5_rests_1 23 rfl rfl
theorem dksX5_rests_3 : cX5_rests.data.toList.drop 70 = dktX5_rests_3 := dk_seg dksX5_rests_2 23 rfl rfl
theorem dksX5_rests_4 : cX5_rests.data.toList.drop 93 = dktX5_rests_4 := dk_seg dksX5_rests_3 23 rfl rfl
theorem dksX5_rests_5 : cX5_rests.data.toList.drop 115 = dktX5_rests_5 := dk_seg dksX5_rests_4 22 rfl rfl
theorem dksX5_rests_6 : cX5_rests.data.toList.drop 138 = dktX5_rests_6 := dk_seg dksX5_rests_5 23 rfl rfl
theorem dksX5_rests_7 : cX5_rests.data.toList.drop 161 = dktX5_rests_7 := dk_seg dksX5_rests_6 23 rfl rfl
theorem dksX5_rests_8 : cX5_rests.data.toList.drop 185 = dktX5_rests_8 := dk_seg dksX5_rests_7 24 rfl rfl
theorem dksX5_rests_9 : cX5_rests.data.toList.drop 209 = dktX5_rests_9 := dk_seg dksX5_rests_8 24 rfl rfl
theorem dksX5_rests_10 : cX5_rests.data.toList.drop 233 = dktX5_rests_10 := dk_seg dksX5_rests_9 24 rfl rfl
theorem dksX5_rests_11 : cX5_rests.data.toList.drop 255 = dktX5_rests_11 := dk_seg dksX5_rests_10 22 rfl rfl
theorem dX5_rests_0 : decode cX5_rests 0 = .ok (.iload_n 1, 1) := dk_27 (dk_at dksX5_rests_0 0 rfl rfl)
theorem dX5_rests_1 : decode cX5_rests 1 = .ok (.iconst 0, 1) := dk_3 (dk_at dksX5_rests_0 1 rfl rfl)
theorem dX5_rests_2 : decode cX5_rests 2 = .ok (.bipush 9, 2) := dk_16 9 (dk_at dksX5_rests_0 2 rfl rfl)
theorem dX5_rests_4 : decode cX5_rests 4 = .ok (.invokestatic 349, 3) := dk_184 1 93 (dk_at dksX5_rests_0 4 rfl rfl)
theorem dX5_rests_7 : decode cX5_rests 7 = .ok (.ifCond .eq 33, 3) := dk_153 0 33 (dk_at dksX5_rests_0 7 rfl rfl)
theorem dX5_rests_10 : decode cX5_rests 10 = .ok (.iload_n 2, 1) := dk_28 (dk_at dksX5_rests_0 10 rfl rfl)
theorem dX5_rests_11 : decode cX5_rests 11 = .ok (.iconst 0, 1) := dk_3 (dk_at dksX5_rests_0 11 rfl rfl)
theorem dX5_rests_12 : decode cX5_rests 12 = .ok (.bipush 9, 2) := dk_16 9 (dk_at dksX5_rests_0 12 rfl rfl)
theorem dX5_rests_14 : decode cX5_rests 14 = .ok (.invokestatic 349, 3) := dk_184 1 93 (dk_at dksX5_rests_0 14 rfl rfl)
theorem dX5_rests_17 : decode cX5_rests 17 = .ok (.ifCond .eq 23, 3) := dk_153 0 23 (dk_at dksX5_rests_0 17 rfl rfl)
theorem dX5_rests_20 : decode cX5_rests 20 = .ok (.iload_n 3, 1) := dk_29 (dk_at dksX5_rests_0 20 rfl rfl)
theorem dX5_rests_21 : decode cX5_rests 21 = .ok (.iconst 0, 1) := dk_3 (dk_at dksX5_rests_0 21 rfl rfl)
theorem dX5_rests_22 : decode cX5_rests 22 = .ok (.bipush 9, 2) := dk_16 9 (dk_at dksX5_rests_0 22 rfl rfl)
theorem dX5_rests_24 : decode cX5_rests 24 = .ok (.invokestatic 349, 3) := dk_184 1 93 (dk_at dksX5_rests_1 0 rfl rfl)
theorem dX5_rests_27 : decode cX5_rests 27 = .ok (.ifCond .eq 13, 3) := dk_153 0 13 (dk_at dksX5_rests_1 3 rfl rfl)
theorem dX5_rests_30 : decode cX5_rests 30 = .ok (.iload 4, 2) := dk_21 4 (dk_at dksX5_rests_1 6 rfl rfl)
theorem dX5_rests_32 : decode cX5_rests 32 = .ok (.iconst (-1), 1) := dk_2 (dk_at dksX5_rests_1 8 rfl rfl)
theorem dX5_rests_33 : decode cX5_rests 33 = .ok (.if_icmp .lt 7, 3) := dk_161 0 7 (dk_at dksX5_rests_1 9 rfl rfl)
theorem dX5_rests_36 : decode cX5_rests 36 = .ok (.iconst 1, 1) := dk_4 (dk_at dksX5_rests_1 12 rfl rfl)
theorem dX5_rests_37 : decode cX5_rests 37 = .ok (.goto 4, 3) := dk_167 0 4 (dk_at dksX5_rests_1 13 rfl rfl)
theorem dX5_rests_40 : decode cX5_rests 40 = .ok (.iconst 0, 1) := dk_3 (dk_at dksX5_rests_1 16 rfl rfl)
theorem dX5_rests_41 : decode cX5_rests 41 = .ok (.istore 5, 2) := dk_54 5 (dk_at dksX5_rests_1 17 rfl rfl)
theorem dX5_rests_43 : decode cX5_rests 43 = .ok (.iconst 0, 1) := dk_3 (dk_at dksX5_rests_1 19 rfl rfl)
theorem dX5_rests_44 : decode cX5_rests 44 = .ok (.istore 6, 2) := dk_54 6 (dk_at dksX5_rests_1 20 rfl rfl)
theorem dX5_rests_46 : decode cX5_rests 46 = .ok (.iconst (-1), 1) := dk_2 (dk_at dksX5_rests_1 22 rfl rfl)
theorem dX5_rests_47 : decode cX5_rests 47 = .ok (.istore 7, 2) := dk_54 7 (dk_at dksX5_rests_2 0 rfl rfl)
theorem dX5_rests_49 : decode cX5_rests 49 = .ok (.iconst 0, 1) := dk_3 (dk_at dksX5_rests_2 2 rfl rfl)
theorem dX5_rests_50 : decode cX5_rests 50 = .ok (.istore 8, 2) := dk_54 8 (dk_at dksX5_rests_2 3 rfl rfl)
theorem dX5_rests_52 : decode cX5_rests 52 = .ok (.iload 8, 2) := dk_21 8 (dk_at dksX5_rests_2 5 rfl rfl)
theorem dX5_rests_54 : decode cX5_rests 54 = .ok (.bipush 9, 2) := dk_16 9 (dk_at dksX5_rests_2 7 rfl rfl)
theorem dX5_rests_56 : decode cX5_rests 56 = .ok (.if_icmp .ge 174, 3) := dk_162 0 174 (dk_at dksX5_rests_2 9 rfl rfl)
theorem dX5_rests_59 : decode cX5_rests 59 = .ok (.iload 5, 2) := dk_21 5 (dk_at dksX5_rests_2 12 rfl rfl)
theorem dX5_rests_61 : decode cX5_rests 61 = .ok (.ifCond .eq 169, 3) := dk_153 0 169 (dk_at dksX5_rests_2 14 rfl rfl)
theorem dX5_rests_64 : decode cX5_rests 64 = .ok (.iload 8, 2) := dk_21 8 (dk_at dksX5_rests_2 17 rfl rfl)
theorem dX5_rests_66 : decode cX5_rests 66 = .ok (.iconst 3, 1) := dk_6 (dk_at dksX5_rests_2 19 rfl rfl)
theorem dX5_rests_67 : decode cX5_rests 67 = .ok (.idiv, 1) := dk_108 (dk_at dksX5_rests_2 20 rfl rfl)
theorem dX5_rests_68 : decode cX5_rests 68 = .ok (.istore 9, 2) := dk_54 9 (dk_at dksX5_rests_2 21 rfl rfl)
theorem dX5_rests_70 : decode cX5_rests 70 = .ok (.iload 8, 2) := dk_21 8 (dk_at dksX5_rests_3 0 rfl rfl)
theorem dX5_rests_72 : decode cX5_rests 72 = .ok (.iconst 3, 1) := dk_6 (dk_at dksX5_rests_3 2 rfl rfl)
theorem dX5_rests_73 : decode cX5_rests 73 = .ok (.irem, 1) := dk_112 (dk_at dksX5_rests_3 3 rfl rfl)
theorem dX5_rests_74 : decode cX5_rests 74 = .ok (.istore 10, 2) := dk_54 10 (dk_at dksX5_rests_3 4 rfl rfl)
theorem dX5_rests_76 : decode cX5_rests 76 = .ok (.iload 9, 2) := dk_21 9 (dk_at dksX5_rests_3 6 rfl rfl)
theorem dX5_rests_78 : decode cX5_rests 78 = .ok (.iload 10, 2) := dk_21 10 (dk_at dksX5_rests_3 8 rfl rfl)
theorem dX5_rests_80 : decode cX5_rests 80 = .ok (.if_icmp .ne 7, 3) := dk_160 0 7 (dk_at dksX5_rests_3 10 rfl rfl)
theorem dX5_rests_83 : decode cX5_rests 83 = .ok (.iconst 0, 1) := dk_3 (dk_at dksX5_rests_3 13 rfl rfl)
theorem dX5_rests_84 : decode cX5_rests 84 = .ok (.goto 23, 3) := dk_167 0 23 (dk_at dksX5_rests_3 14 rfl rfl)
theorem dX5_rests_87 : decode cX5_rests 87 = .ok (.iload 10, 2) := dk_21 10 (dk_at dksX5_rests_3 17 rfl rfl)
theorem dX5_rests_89 : decode cX5_rests 89 = .ok (.ifCond .ne 7, 3) := dk_154 0 7 (dk_at dksX5_rests_3 19 rfl rfl)
theorem dX5_rests_92 : decode cX5_rests 92 = .ok (.iload_n 1, 1) := dk_27 (dk_at dksX5_rests_3 22 rfl rfl)
theorem dX5_rests_93 : decode cX5_rests 93 = .ok (.goto 14, 3) := dk_167 0 14 (dk_at dksX5_rests_4 0 rfl rfl)
theorem dX5_rests_96 : decode cX5_rests 96 = .ok (.iload 10, 2) := dk_21 10 (dk_at dksX5_rests_4 3 rfl rfl)
theorem dX5_rests_98 : decode cX5_rests 98 = .ok (.iconst 1, 1) := dk_4 (dk_at dksX5_rests_4 5 rfl rfl)
theorem dX5_rests_99 : decode cX5_rests 99 = .ok (.if_icmp .ne 7, 3) := dk_160 0 7 (dk_at dksX5_rests_4 6 rfl rfl)
theorem dX5_rests_102 : decode cX5_rests 102 = .ok (.iload_n 2, 1) := dk_28 (dk_at dksX5_rests_4 9 rfl rfl)
theorem dX5_rests_103 : decode cX5_rests 103 = .ok (.goto 4, 3) := dk_167 0 4 (dk_at dksX5_rests_4 10 rfl rfl)
theorem dX5_rests_106 : decode cX5_rests 106 = .ok (.iload_n 3, 1) := dk_29 (dk_at dksX5_rests_4 13 rfl rfl)
theorem dX5_rests_107 : decode cX5_rests 107 = .ok (.istore 11, 2) := dk_54 11 (dk_at dksX5_rests_4 14 rfl rfl)
theorem dX5_rests_109 : decode cX5_rests 109 = .ok (.iload 11, 2) := dk_21 11 (dk_at dksX5_rests_4 16 rfl rfl)
theorem dX5_rests_111 : decode cX5_rests 111 = .ok (.ifCond .ne 7, 3) := dk_154 0 7 (dk_at dksX5_rests_4 18 rfl rfl)
theorem dX5_rests_114 : decode cX5_rests 114 = .ok (.iconst 1, 1) := dk_4 (dk_at dksX5_rests_4 21 rfl rfl)
theorem dX5_rests_115 : decode cX5_rests 115 = .ok (.goto 4, 3) := dk_167 0 4 (dk_at dksX5_rests_5 0 rfl rfl)
theorem dX5_rests_118 : decode cX5_rests 118 = .ok (.iconst 0, 1) := dk_3 (dk_at dksX5_rests_5 3 rfl rfl)
theorem dX5_rests_119 : decode cX5_rests 119 = .ok (.istore 12, 2) := dk_54 12 (dk_at dksX5_rests_5 4 rfl rfl)
theorem dX5_rests_121 : decode cX5_rests 121 = .ok (.iconst 0, 1) := dk_3 (dk_at dksX5_rests_5 6 rfl rfl)
theorem dX5_rests_122 : decode cX5_rests 122 = .ok (.istore 13, 2) := dk_54 13 (dk_at dksX5_rests_5 7 rfl rfl)
theorem dX5_rests_124 : decode cX5_rests 124 = .ok (.iload 13, 2) := dk_21 13 (dk_at dksX5_rests_5 9 rfl rfl)
theorem dX5_rests_126 : decode cX5_rests 126 = .ok (.iconst 3, 1) := dk_6 (dk_at dksX5_rests_5 11 rfl rfl)
theorem dX5_rests_127 : decode cX5_rests 127 = .ok (.if_icmp .ge 61, 3) := dk_162 0 61 (dk_at dksX5_rests_5 12 rfl rfl)
theorem dX5_rests_130 : decode cX5_rests 130 = .ok (.iload 9, 2) := dk_21 9 (dk_at dksX5_rests_5 15 rfl rfl)
theorem dX5_rests_132 : decode cX5_rests 132 = .ok (.iload 13, 2) := dk_21 13 (dk_at dksX5_rests_5 17 rfl rfl)
theorem dX5_rests_134 : decode cX5_rests 134 = .ok (.if_icmp .ne 7, 3) := dk_160 0 7 (dk_at dksX5_rests_5 19 rfl rfl)
theorem dX5_rests_137 : decode cX5_rests 137 = .ok (.iconst 0, 1) := dk_3 (dk_at dksX5_rests_5 22 rfl rfl)
theorem dX5_rests_138 : decode cX5_rests 138 = .ok (.goto 23, 3) := dk_167 0 23 (dk_at dksX5_rests_6 0 rfl rfl)
theorem dX5_rests_141 : decode cX5_rests 141 = .ok (.iload 13, 2) := dk_21 13 (dk_at dksX5_rests_6 3 rfl rfl)
theorem dX5_rests_143 : decode cX5_rests 143 = .ok (.ifCond .ne 7, 3) := dk_154 0 7 (dk_at dksX5_rests_6 5 rfl rfl)
theorem dX5_rests_146 : decode cX5_rests 146 = .ok (.iload_n 1, 1) := dk_27 (dk_at dksX5_rests_6 8 rfl rfl)
theorem dX5_rests_147 : decode cX5_rests 147 = .ok (.goto 14, 3) := dk_167 0 14 (dk_at dksX5_rests_6 9 rfl rfl)
theorem dX5_rests_150 : decode cX5_rests 150 = .ok (.iload 13, 2) := dk_21 13 (dk_at dksX5_rests_6 12 rfl rfl)
theorem dX5_rests_152 : decode cX5_rests 152 = .ok (.iconst 1, 1) := dk_4 (dk_at dksX5_rests_6 14 rfl rfl)
theorem dX5_rests_153 : decode cX5_rests 153 = .ok (.if_icmp .ne 7, 3) := dk_160 0 7 (dk_at dksX5_rests_6 15 rfl rfl)
theorem dX5_rests_156 : decode cX5_rests 156 = .ok (.iload_n 2, 1) := dk_28 (dk_at dksX5_rests_6 18 rfl rfl)
theorem dX5_rests_157 : decode cX5_rests 157 = .ok (.goto 4, 3) := dk_167 0 4 (dk_at dksX5_rests_6 19 rfl rfl)
theorem dX5_rests_160 : decode cX5_rests 160 = .ok (.iload_n 3, 1) := dk_29 (dk_at dksX5_rests_6 22 rfl rfl)
theorem dX5_rests_161 : decode cX5_rests 161 = .ok (.istore 14, 2) := dk_54 14 (dk_at dksX5_rests_7 0 rfl rfl)
theorem dX5_rests_163 : decode cX5_rests 163 = .ok (.iload 12, 2) := dk_21 12 (dk_at dksX5_rests_7 2 rfl rfl)
theorem dX5_rests_165 : decode cX5_rests 165 = .ok (.ifCond .eq 14, 3) := dk_153 0 14 (dk_at dksX5_rests_7 4 rfl rfl)
theorem dX5_rests_168 : decode cX5_rests 168 = .ok (.iload 14, 2) := dk_21 14 (dk_at dksX5_rests_7 7 rfl rfl)
theorem dX5_rests_170 : decode cX5_rests 170 = .ok (.iload 11, 2) := dk_21 11 (dk_at dksX5_rests_7 9 rfl rfl)
theorem dX5_rests_172 : decode cX5_rests 172 = .ok (.if_icmp .gt 7, 3) := dk_163 0 7 (dk_at dksX5_rests_7 11 rfl rfl)
theorem dX5_rests_175 : decode cX5_rests 175 = .ok (.iconst 1, 1) := dk_4 (dk_at dksX5_rests_7 14 rfl rfl)
theorem dX5_rests_176 : decode cX5_rests 176 = .ok (.goto 4, 3) := dk_167 0 4 (dk_at dksX5_rests_7 15 rfl rfl)
theorem dX5_rests_179 : decode cX5_rests 179 = .ok (.iconst 0, 1) := dk_3 (dk_at dksX5_rests_7 18 rfl rfl)
theorem dX5_rests_180 : decode cX5_rests 180 = .ok (.istore 12, 2) := dk_54 12 (dk_at dksX5_rests_7 19 rfl rfl)
theorem dX5_rests_182 : decode cX5_rests 182 = .ok (.iinc 13 1, 3) := dk_132 13 1 (dk_at dksX5_rests_7 21 rfl rfl)
theorem dX5_rests_185 : decode cX5_rests 185 = .ok (.goto (-61), 3) := dk_167 255 195 (dk_at dksX5_rests_8 0 rfl rfl)
theorem dX5_rests_188 : decode cX5_rests 188 = .ok (.iload 12, 2) := dk_21 12 (dk_at dksX5_rests_8 3 rfl rfl)
theorem dX5_rests_190 : decode cX5_rests 190 = .ok (.ifCond .eq 15, 3) := dk_153 0 15 (dk_at dksX5_rests_8 5 rfl rfl)
theorem dX5_rests_193 : decode cX5_rests 193 = .ok (.iload 6, 2) := dk_21 6 (dk_at dksX5_rests_8 8 rfl rfl)
theorem dX5_rests_195 : decode cX5_rests 195 = .ok (.iload 4, 2) := dk_21 4 (dk_at dksX5_rests_8 10 rfl rfl)
theorem dX5_rests_197 : decode cX5_rests 197 = .ok (.if_icmp .ne 8, 3) := dk_160 0 8 (dk_at dksX5_rests_8 12 rfl rfl)
theorem dX5_rests_200 : decode cX5_rests 200 = .ok (.iload 8, 2) := dk_21 8 (dk_at dksX5_rests_8 15 rfl rfl)
theorem dX5_rests_202 : decode cX5_rests 202 = .ok (.goto 5, 3) := dk_167 0 5 (dk_at dksX5_rests_8 17 rfl rfl)
theorem dX5_rests_205 : decode cX5_rests 205 = .ok (.iload 7, 2) := dk_21 7 (dk_at dksX5_rests_8 20 rfl rfl)
theorem dX5_rests_207 : decode cX5_rests 207 = .ok (.istore 7, 2) := dk_54 7 (dk_at dksX5_rests_8 22 rfl rfl)
theorem dX5_rests_209 : decode cX5_rests 209 = .ok (.iload 6, 2) := dk_21 6 (dk_at dksX5_rests_9 0 rfl rfl)
theorem dX5_rests_211 : decode cX5_rests 211 = .ok (.iload 12, 2) := dk_21 12 (dk_at dksX5_rests_9 2 rfl rfl)
theorem dX5_rests_213 : decode cX5_rests 213 = .ok (.ifCond .eq 7, 3) := dk_153 0 7 (dk_at dksX5_rests_9 4 rfl rfl)
theorem dX5_rests_216 : decode cX5_rests 216 = .ok (.iconst 1, 1) := dk_4 (dk_at dksX5_rests_9 7 rfl rfl)
theorem dX5_rests_217 : decode cX5_rests 217 = .ok (.goto 4, 3) := dk_167 0 4 (dk_at dksX5_rests_9 8 rfl rfl)
theorem dX5_rests_220 : decode cX5_rests 220 = .ok (.iconst 0, 1) := dk_3 (dk_at dksX5_rests_9 11 rfl rfl)
theorem dX5_rests_221 : decode cX5_rests 221 = .ok (.iadd, 1) := dk_96 (dk_at dksX5_rests_9 12 rfl rfl)
theorem dX5_rests_222 : decode cX5_rests 222 = .ok (.istore 6, 2) := dk_54 6 (dk_at dksX5_rests_9 13 rfl rfl)
theorem dX5_rests_224 : decode cX5_rests 224 = .ok (.iinc 8 1, 3) := dk_132 8 1 (dk_at dksX5_rests_9 15 rfl rfl)
theorem dX5_rests_227 : decode cX5_rests 227 = .ok (.goto (-175), 3) := dk_167 255 81 (dk_at dksX5_rests_9 18 rfl rfl)
theorem dX5_rests_230 : decode cX5_rests 230 = .ok (.aload_n 0, 1) := dk_42 (dk_at dksX5_rests_9 21 rfl rfl)
theorem dX5_rests_231 : decode cX5_rests 231 = .ok (.iload 5, 2) := dk_21 5 (dk_at dksX5_rests_9 22 rfl rfl)
theorem dX5_rests_233 : decode cX5_rests 233 = .ok (.ifCond .eq 17, 3) := dk_153 0 17 (dk_at dksX5_rests_10 0 rfl rfl)
theorem dX5_rests_236 : decode cX5_rests 236 = .ok (.iload 4, 2) := dk_21 4 (dk_at dksX5_rests_10 3 rfl rfl)
theorem dX5_rests_238 : decode cX5_rests 238 = .ok (.ifCond .lt 8, 3) := dk_155 0 8 (dk_at dksX5_rests_10 5 rfl rfl)
theorem dX5_rests_241 : decode cX5_rests 241 = .ok (.iload 7, 2) := dk_21 7 (dk_at dksX5_rests_10 8 rfl rfl)
theorem dX5_rests_243 : decode cX5_rests 243 = .ok (.ifCond .lt 7, 3) := dk_155 0 7 (dk_at dksX5_rests_10 10 rfl rfl)
theorem dX5_rests_246 : decode cX5_rests 246 = .ok (.iconst 0, 1) := dk_3 (dk_at dksX5_rests_10 13 rfl rfl)
theorem dX5_rests_247 : decode cX5_rests 247 = .ok (.goto 4, 3) := dk_167 0 4 (dk_at dksX5_rests_10 14 rfl rfl)
theorem dX5_rests_250 : decode cX5_rests 250 = .ok (.iconst 1, 1) := dk_4 (dk_at dksX5_rests_10 17 rfl rfl)
theorem dX5_rests_251 : decode cX5_rests 251 = .ok (.putfield 1, 3) := dk_181 0 1 (dk_at dksX5_rests_10 18 rfl rfl)
theorem dX5_rests_254 : decode cX5_rests 254 = .ok (.aload_n 0, 1) := dk_42 (dk_at dksX5_rests_10 21 rfl rfl)
theorem dX5_rests_255 : decode cX5_rests 255 = .ok (.getfield 1, 3) := dk_180 0 1 (dk_at dksX5_rests_11 0 rfl rfl)
theorem dX5_rests_258 : decode cX5_rests 258 = .ok (.ifCond .le 7, 3) := dk_158 0 7 (dk_at dksX5_rests_11 3 rfl rfl)
theorem dX5_rests_261 : decode cX5_rests 261 = .ok (.iconst 0, 1) := dk_3 (dk_at dksX5_rests_11 6 rfl rfl)
theorem dX5_rests_262 : decode cX5_rests 262 = .ok (.goto 15, 3) := dk_167 0 15 (dk_at dksX5_rests_11 7 rfl rfl)
theorem dX5_rests_265 : decode cX5_rests 265 = .ok (.iload 4, 2) := dk_21 4 (dk_at dksX5_rests_11 10 rfl rfl)
theorem dX5_rests_267 : decode cX5_rests 267 = .ok (.ifCond .ge 8, 3) := dk_156 0 8 (dk_at dksX5_rests_11 12 rfl rfl)
theorem dX5_rests_270 : decode cX5_rests 270 = .ok (.iload 6, 2) := dk_21 6 (dk_at dksX5_rests_11 15 rfl rfl)
theorem dX5_rests_272 : decode cX5_rests 272 = .ok (.goto 5, 3) := dk_167 0 5 (dk_at dksX5_rests_11 17 rfl rfl)
theorem dX5_rests_275 : decode cX5_rests 275 = .ok (.iload 7, 2) := dk_21 7 (dk_at dksX5_rests_11 20 rfl rfl)
theorem dX5_rests_277 : decode cX5_rests 277 = .ok (.ireturn, 1) := dk_172 (dk_at dksX5_rests_11 22 rfl rfl)
abbrev cX5_decades : ByteArray := prog_23_method_108_code
def yX5_decades : MethodName := ⟨RX5, "decades", "(III)I"⟩
def dkwX5_decades_6 : List UInt8 := [167, 0, 23, 29, 4, 160, 0, 8, 21, 5, 167, 0, 13, 42, 17, 4, 164, 17, 0, 255, 182, 1, 64, 172]
abbrev dktX5_decades_6 : List UInt8 := dkwX5_decades_6 ++ []
def dkwX5_decades_5 : List UInt8 := [17, 4, 164, 182, 1, 102, 184, 1, 42, 96, 54, 4, 132, 6, 1, 167, 255, 189, 29, 154, 0, 8, 21, 4]
abbrev dktX5_decades_5 : List UInt8 := dkwX5_decades_5 ++ dktX5_decades_6
def dkwX5_decades_4 : List UInt8 := [180, 0, 89, 7, 46, 162, 0, 7, 4, 167, 0, 4, 3, 182, 1, 123, 96, 54, 5, 21, 4, 42]
abbrev dktX5_decades_4 : List UInt8 := dkwX5_decades_4 ++ dktX5_decades_5
def dkwX5_decades_3 : List UInt8 := [182, 1, 36, 158, 0, 7, 42, 182, 1, 193, 21, 5, 42, 17, 4, 164, 42, 16, 10, 182, 1, 187, 42]
abbrev dktX5_decades_3 : List UInt8 := dkwX5_decades_3 ++ dktX5_decades_4
def dkwX5_decades_2 : List UInt8 := [42, 27, 133, 181, 1, 175, 3, 54, 4, 3, 54, 5, 3, 54, 6, 21, 6, 28, 162, 0, 67, 42]
abbrev dktX5_decades_2 : List UInt8 := dkwX5_decades_2 ++ dktX5_decades_3
def dkwX5_decades_1 : List UInt8 := [153, 0, 12, 29, 3, 5, 184, 1, 93, 154, 0, 5, 2, 172, 42, 3, 17, 4, 164, 16, 28, 182, 1, 32]
abbrev dktX5_decades_1 : List UInt8 := dkwX5_decades_1 ++ dktX5_decades_2
def dkwX5_decades_0 : List UInt8 := [42, 3, 181, 0, 1, 27, 3, 17, 39, 15, 184, 1, 93, 153, 0, 22, 28, 4, 16, 60, 184, 1, 93]
abbrev dktX5_decades_0 : List UInt8 := dkwX5_decades_0 ++ dktX5_decades_1
theorem dksX5_decades_0 : cX5_decades.data.toList.drop 0 = dktX5_decades_0 := by decide +kernel
theorem dksX5_decades_1 : cX5_decades.data.toList.drop 23 = dktX5_decades_1 := dk_seg dksX5_decades_0 23 rfl rfl
theorem dksX5_decades_2 : cX5_decades.data.toList.drop 47 = dktX5_decades_2 := dk_seg dksX5_decades_1 24 rfl rfl
theorem dksX5_decades_3 : cX5_decades.data.toList.drop 69 = dktX5_decades_3 := dk_seg dksX5_decades_2 22 rfl rfl
theorem dksX5_decades_4 : cX5_decades.data.toList.drop 92 = dktX5_decades_4 := dk_seg dksX5_decades_3 23 rfl rfl
theorem dksX5_decades_5 : cX5_decades.data.toList.drop 114 = dktX5_decades_5 := dk_seg dksX5_decades_4 22 rfl rfl
theorem dksX5_decades_6 : cX5_decades.data.toList.drop 138 = dktX5_decades_6 := dk_seg dksX5_decades_5 24 rfl rfl
theorem dX5_decades_0 : decode cX5_decades 0 = .ok (.aload_n 0, 1) := dk_42 (dk_at dksX5_decades_0 0 rfl rfl)
theorem dX5_decades_1 : decode cX5_decades 1 = .ok (.iconst 0, 1) := dk_3 (dk_at dksX5_decades_0 1 rfl rfl)
theorem dX5_decades_2 : decode cX5_decades 2 = .ok (.putfield 1, 3) := dk_181 0 1 (dk_at dksX5_decades_0 2 rfl rfl)
theorem dX5_decades_5 : decode cX5_decades 5 = .ok (.iload_n 1, 1) := dk_27 (dk_at dksX5_decades_0 5 rfl rfl)
theorem dX5_decades_6 : decode cX5_decades 6 = .ok (.iconst 0, 1) := dk_3 (dk_at dksX5_decades_0 6 rfl rfl)
theorem dX5_decades_7 : decode cX5_decades 7 = .ok (.sipush 9999, 3) := dk_17 39 15 (dk_at dksX5_decades_0 7 rfl rfl)
theorem dX5_decades_10 : decode cX5_decades 10 = .ok (.invokestatic 349, 3) := dk_184 1 93 (dk_at dksX5_decades_0 10 rfl rfl)
theorem dX5_decades_13 : decode cX5_decades 13 = .ok (.ifCond .eq 22, 3) := dk_153 0 22 (dk_at dksX5_decades_0 13 rfl rfl)
theorem dX5_decades_16 : decode cX5_decades 16 = .ok (.iload_n 2, 1) := dk_28 (dk_at dksX5_decades_0 16 rfl rfl)
theorem dX5_decades_17 : decode cX5_decades 17 = .ok (.iconst 1, 1) := dk_4 (dk_at dksX5_decades_0 17 rfl rfl)
theorem dX5_decades_18 : decode cX5_decades 18 = .ok (.bipush 60, 2) := dk_16 60 (dk_at dksX5_decades_0 18 rfl rfl)
theorem dX5_decades_20 : decode cX5_decades 20 = .ok (.invokestatic 349, 3) := dk_184 1 93 (dk_at dksX5_decades_0 20 rfl rfl)
theorem dX5_decades_23 : decode cX5_decades 23 = .ok (.ifCond .eq 12, 3) := dk_153 0 12 (dk_at dksX5_decades_1 0 rfl rfl)
theorem dX5_decades_26 : decode cX5_decades 26 = .ok (.iload_n 3, 1) := dk_29 (dk_at dksX5_decades_1 3 rfl rfl)
theorem dX5_decades_27 : decode cX5_decades 27 = .ok (.iconst 0, 1) := dk_3 (dk_at dksX5_decades_1 4 rfl rfl)
theorem dX5_decades_28 : decode cX5_decades 28 = .ok (.iconst 2, 1) := dk_5 (dk_at dksX5_decades_1 5 rfl rfl)
theorem dX5_decades_29 : decode cX5_decades 29 = .ok (.invokestatic 349, 3) := dk_184 1 93 (dk_at dksX5_decades_1 6 rfl rfl)
theorem dX5_decades_32 : decode cX5_decades 32 = .ok (.ifCond .ne 5, 3) := dk_154 0 5 (dk_at dksX5_decades_1 9 rfl rfl)
theorem dX5_decades_35 : decode cX5_decades 35 = .ok (.iconst (-1), 1) := dk_2 (dk_at dksX5_decades_1 12 rfl rfl)
theorem dX5_decades_36 : decode cX5_decades 36 = .ok (.ireturn, 1) := dk_172 (dk_at dksX5_decades_1 13 rfl rfl)
theorem dX5_decades_37 : decode cX5_decades 37 = .ok (.aload_n 0, 1) := dk_42 (dk_at dksX5_decades_1 14 rfl rfl)
theorem dX5_decades_38 : decode cX5_decades 38 = .ok (.iconst 0, 1) := dk_3 (dk_at dksX5_decades_1 15 rfl rfl)
theorem dX5_decades_39 : decode cX5_decades 39 = .ok (.sipush 1188, 3) := dk_17 4 164 (dk_at dksX5_decades_1 16 rfl rfl)
theorem dX5_decades_42 : decode cX5_decades 42 = .ok (.bipush 28, 2) := dk_16 28 (dk_at dksX5_decades_1 19 rfl rfl)
theorem dX5_decades_44 : decode cX5_decades 44 = .ok (.invokevirtual 288, 3) := dk_182 1 32 (dk_at dksX5_decades_1 21 rfl rfl)
theorem dX5_decades_47 : decode cX5_decades 47 = .ok (.aload_n 0, 1) := dk_42 (dk_at dksX5_decades_2 0 rfl rfl)
theorem dX5_decades_48 : decode cX5_decades 48 = .ok (.iload_n 1, 1) := dk_27 (dk_at dksX5_decades_2 1 rfl rfl)
theorem dX5_decades_49 : decode cX5_decades 49 = .ok (.i2l, 1) := dk_133 (dk_at dksX5_decades_2 2 rfl rfl)
theorem dX5_decades_50 : decode cX5_decades 50 = .ok (.putfield 431, 3) := dk_181 1 175 (dk_at dksX5_decades_2 3 rfl rfl)
theorem dX5_decades_53 : decode cX5_decades 53 = .ok (.iconst 0, 1) := dk_3 (dk_at dksX5_decades_2 6 rfl rfl)
theorem dX5_decades_54 : decode cX5_decades 54 = .ok (.istore 4, 2) := dk_54 4 (dk_at dksX5_decades_2 7 rfl rfl)
theorem dX5_decades_56 : decode cX5_decades 56 = .ok (.iconst 0, 1) := dk_3 (dk_at dksX5_decades_2 9 rfl rfl)
theorem dX5_decades_57 : decode cX5_decades 57 = .ok (.istore 5, 2) := dk_54 5 (dk_at dksX5_decades_2 10 rfl rfl)
theorem dX5_decades_59 : decode cX5_decades 59 = .ok (.iconst 0, 1) := dk_3 (dk_at dksX5_decades_2 12 rfl rfl)
theorem dX5_decades_60 : decode cX5_decades 60 = .ok (.istore 6, 2) := dk_54 6 (dk_at dksX5_decades_2 13 rfl rfl)
theorem dX5_decades_62 : decode cX5_decades 62 = .ok (.iload 6, 2) := dk_21 6 (dk_at dksX5_decades_2 15 rfl rfl)
theorem dX5_decades_64 : decode cX5_decades 64 = .ok (.iload_n 2, 1) := dk_28 (dk_at dksX5_decades_2 17 rfl rfl)
theorem dX5_decades_65 : decode cX5_decades 65 = .ok (.if_icmp .ge 67, 3) := dk_162 0 67 (dk_at dksX5_decades_2 18 rfl rfl)
theorem dX5_decades_68 : decode cX5_decades 68 = .ok (.aload_n 0, 1) := dk_42 (dk_at dksX5_decades_2 21 rfl rfl)
theorem dX5_decades_69 : decode cX5_decades 69 = .ok (.invokevirtual 292, 3) := dk_182 1 36 (dk_at dksX5_decades_3 0 rfl rfl)
theorem dX5_decades_72 : decode cX5_decades 72 = .ok (.ifCond .le 7, 3) := dk_158 0 7 (dk_at dksX5_decades_3 3 rfl rfl)
theorem dX5_decades_75 : decode cX5_decades 75 = .ok (.aload_n 0, 1) := dk_42 (dk_at dksX5_decades_3 6 rfl rfl)
theorem dX5_decades_76 : decode cX5_decades 76 = .ok (.invokevirtual 449, 3) := dk_182 1 193 (dk_at dksX5_decades_3 7 rfl rfl)
theorem dX5_decades_79 : decode cX5_decades 79 = .ok (.iload 5, 2) := dk_21 5 (dk_at dksX5_decades_3 10 rfl rfl)
theorem dX5_decades_81 : decode cX5_decades 81 = .ok (.aload_n 0, 1) := dk_42 (dk_at dksX5_decades_3 12 rfl rfl)
theorem dX5_decades_82 : decode cX5_decades 82 = .ok (.sipush 1188, 3) := dk_17 4 164 (dk_at dksX5_decades_3 13 rfl rfl)
theorem dX5_decades_85 : decode cX5_decades 85 = .ok (.aload_n 0, 1) := dk_42 (dk_at dksX5_decades_3 16 rfl rfl)
theorem dX5_decades_86 : decode cX5_decades 86 = .ok (.bipush 10, 2) := dk_16 10 (dk_at dksX5_decades_3 17 rfl rfl)
theorem dX5_decades_88 : decode cX5_decades 88 = .ok (.invokevirtual 443, 3) := dk_182 1 187 (dk_at dksX5_decades_3 19 rfl rfl)
theorem dX5_decades_91 : decode cX5_decades 91 = .ok (.aload_n 0, 1) := dk_42 (dk_at dksX5_decades_3 22 rfl rfl)
theorem dX5_decades_92 : decode cX5_decades 92 = .ok (.getfield 89, 3) := dk_180 0 89 (dk_at dksX5_decades_4 0 rfl rfl)
theorem dX5_decades_95 : decode cX5_decades 95 = .ok (.iconst 4, 1) := dk_7 (dk_at dksX5_decades_4 3 rfl rfl)
theorem dX5_decades_96 : decode cX5_decades 96 = .ok (.iaload, 1) := dk_46 (dk_at dksX5_decades_4 4 rfl rfl)
theorem dX5_decades_97 : decode cX5_decades 97 = .ok (.if_icmp .ge 7, 3) := dk_162 0 7 (dk_at dksX5_decades_4 5 rfl rfl)
theorem dX5_decades_100 : decode cX5_decades 100 = .ok (.iconst 1, 1) := dk_4 (dk_at dksX5_decades_4 8 rfl rfl)
theorem dX5_decades_101 : decode cX5_decades 101 = .ok (.goto 4, 3) := dk_167 0 4 (dk_at dksX5_decades_4 9 rfl rfl)
theorem dX5_decades_104 : decode cX5_decades 104 = .ok (.iconst 0, 1) := dk_3 (dk_at dksX5_decades_4 12 rfl rfl)
theorem dX5_decades_105 : decode cX5_decades 105 = .ok (.invokevirtual 379, 3) := dk_182 1 123 (dk_at dksX5_decades_4 13 rfl rfl)
theorem dX5_decades_108 : decode cX5_decades 108 = .ok (.iadd, 1) := dk_96 (dk_at dksX5_decades_4 16 rfl rfl)
theorem dX5_decades_109 : decode cX5_decades 109 = .ok (.istore 5, 2) := dk_54 5 (dk_at dksX5_decades_4 17 rfl rfl)
theorem dX5_decades_111 : decode cX5_decades 111 = .ok (.iload 4, 2) := dk_21 4 (dk_at dksX5_decades_4 19 rfl rfl)
theorem dX5_decades_113 : decode cX5_decades 113 = .ok (.aload_n 0, 1) := dk_42 (dk_at dksX5_decades_4 21 rfl rfl)
theorem dX5_decades_114 : decode cX5_decades 114 = .ok (.sipush 1188, 3) := dk_17 4 164 (dk_at dksX5_decades_5 0 rfl rfl)
theorem dX5_decades_117 : decode cX5_decades 117 = .ok (.invokevirtual 358, 3) := dk_182 1 102 (dk_at dksX5_decades_5 3 rfl rfl)
theorem dX5_decades_120 : decode cX5_decades 120 = .ok (.invokestatic 298, 3) := dk_184 1 42 (dk_at dksX5_decades_5 6 rfl rfl)
theorem dX5_decades_123 : decode cX5_decades 123 = .ok (.iadd, 1) := dk_96 (dk_at dksX5_decades_5 9 rfl rfl)
theorem dX5_decades_124 : decode cX5_decades 124 = .ok (.istore 4, 2) := dk_54 4 (dk_at dksX5_decades_5 10 rfl rfl)
theorem dX5_decades_126 : decode cX5_decades 126 = .ok (.iinc 6 1, 3) := dk_132 6 1 (dk_at dksX5_decades_5 12 rfl rfl)
theorem dX5_decades_129 : decode cX5_decades 129 = .ok (.goto (-67), 3) := dk_167 255 189 (dk_at dksX5_decades_5 15 rfl rfl)
theorem dX5_decades_132 : decode cX5_decades 132 = .ok (.iload_n 3, 1) := dk_29 (dk_at dksX5_decades_5 18 rfl rfl)
theorem dX5_decades_133 : decode cX5_decades 133 = .ok (.ifCond .ne 8, 3) := dk_154 0 8 (dk_at dksX5_decades_5 19 rfl rfl)
theorem dX5_decades_136 : decode cX5_decades 136 = .ok (.iload 4, 2) := dk_21 4 (dk_at dksX5_decades_5 22 rfl rfl)
theorem dX5_decades_138 : decode cX5_decades 138 = .ok (.goto 23, 3) := dk_167 0 23 (dk_at dksX5_decades_6 0 rfl rfl)
theorem dX5_decades_141 : decode cX5_decades 141 = .ok (.iload_n 3, 1) := dk_29 (dk_at dksX5_decades_6 3 rfl rfl)
theorem dX5_decades_142 : decode cX5_decades 142 = .ok (.iconst 1, 1) := dk_4 (dk_at dksX5_decades_6 4 rfl rfl)
theorem dX5_decades_143 : decode cX5_decades 143 = .ok (.if_icmp .ne 8, 3) := dk_160 0 8 (dk_at dksX5_decades_6 5 rfl rfl)
theorem dX5_decades_146 : decode cX5_decades 146 = .ok (.iload 5, 2) := dk_21 5 (dk_at dksX5_decades_6 8 rfl rfl)
theorem dX5_decades_148 : decode cX5_decades 148 = .ok (.goto 13, 3) := dk_167 0 13 (dk_at dksX5_decades_6 10 rfl rfl)
theorem dX5_decades_151 : decode cX5_decades 151 = .ok (.aload_n 0, 1) := dk_42 (dk_at dksX5_decades_6 13 rfl rfl)
theorem dX5_decades_152 : decode cX5_decades 152 = .ok (.sipush 1188, 3) := dk_17 4 164 (dk_at dksX5_decades_6 14 rfl rfl)
theorem dX5_decades_155 : decode cX5_decades 155 = .ok (.sipush 255, 3) := dk_17 0 255 (dk_at dksX5_decades_6 17 rfl rfl)
theorem dX5_decades_158 : decode cX5_decades 158 = .ok (.invokevirtual 320, 3) := dk_182 1 64 (dk_at dksX5_decades_6 20 rfl rfl)
theorem dX5_decades_161 : decode cX5_decades 161 = .ok (.ireturn, 1) := dk_172 (dk_at dksX5_decades_6 23 rfl rfl)
abbrev cX5_drawsCloth : ByteArray := prog_23_method_107_code
def yX5_drawsCloth : MethodName := ⟨RX5, "drawsCloth", "()V"⟩
def dkwX5_drawsCloth_4 : List UInt8 := [17, 4, 178, 27, 96, 28, 79, 177]
abbrev dktX5_drawsCloth_4 : List UInt8 := dkwX5_drawsCloth_4 ++ []
def dkwX5_drawsCloth_3 : List UInt8 := [182, 1, 45, 160, 0, 26, 42, 17, 4, 164, 27, 28, 182, 1, 111, 153, 0, 14, 42, 180, 0, 113]
abbrev dktX5_drawsCloth_3 : List UInt8 := dkwX5_drawsCloth_3 ++ dktX5_drawsCloth_4
def dkwX5_drawsCloth_2 : List UInt8 := [27, 96, 46, 79, 177, 42, 17, 4, 164, 42, 27, 182, 1, 45, 182, 1, 190, 61, 28, 184, 1, 42, 42, 27]
abbrev dktX5_drawsCloth_2 : List UInt8 := dkwX5_drawsCloth_2 ++ dktX5_drawsCloth_3
def dkwX5_drawsCloth_1 : List UInt8 := [17, 4, 178, 27, 96, 42, 7, 182, 1, 187, 154, 0, 7, 3, 167, 0, 13, 42, 180, 0, 113, 17, 4, 178]
abbrev dktX5_drawsCloth_1 : List UInt8 := dkwX5_drawsCloth_1 ++ dktX5_drawsCloth_2
def dkwX5_drawsCloth_0 : List UInt8 := [42, 42, 182, 1, 36, 182, 1, 187, 60, 42, 17, 4, 164, 27, 182, 1, 48, 153, 0, 36, 42, 180, 0, 113]
abbrev dktX5_drawsCloth_0 : List UInt8 := dkwX5_drawsCloth_0 ++ dktX5_drawsCloth_1
theorem dksX5_drawsCloth_0 : cX5_drawsCloth.data.toList.drop 0 = dktX5_drawsCloth_0 := by decide +kernel
theorem dksX5_drawsCloth_1 : cX5_drawsCloth.data.toList.drop 24 = dktX5_drawsCloth_1 := dk_seg dksX5_drawsCloth_0 24 rfl rfl
theorem dksX5_drawsCloth_2 : cX5_drawsCloth.data.toList.drop 48 = dktX5_drawsCloth_2 := dk_seg dksX5_drawsCloth_1 24 rfl rfl
theorem dksX5_drawsCloth_3 : cX5_drawsCloth.data.toList.drop 72 = dktX5_drawsCloth_3 := dk_seg dksX5_drawsCloth_2 24 rfl rfl
theorem dksX5_drawsCloth_4 : cX5_drawsCloth.data.toList.drop 94 = dktX5_drawsCloth_4 := dk_seg dksX5_drawsCloth_3 22 rfl rfl
theorem dX5_drawsCloth_0 : decode cX5_drawsCloth 0 = .ok (.aload_n 0, 1) := dk_42 (dk_at dksX5_drawsCloth_0 0 rfl rfl)
theorem dX5_drawsCloth_1 : decode cX5_drawsCloth 1 = .ok (.aload_n 0, 1) := dk_42 (dk_at dksX5_drawsCloth_0 1 rfl rfl)
theorem dX5_drawsCloth_2 : decode cX5_drawsCloth 2 = .ok (.invokevirtual 292, 3) := dk_182 1 36 (dk_at dksX5_drawsCloth_0 2 rfl rfl)
theorem dX5_drawsCloth_5 : decode cX5_drawsCloth 5 = .ok (.invokevirtual 443, 3) := dk_182 1 187 (dk_at dksX5_drawsCloth_0 5 rfl rfl)
theorem dX5_drawsCloth_8 : decode cX5_drawsCloth 8 = .ok (.istore_n 1, 1) := dk_60 (dk_at dksX5_drawsCloth_0 8 rfl rfl)
theorem dX5_drawsCloth_9 : decode cX5_drawsCloth 9 = .ok (.aload_n 0, 1) := dk_42 (dk_at dksX5_drawsCloth_0 9 rfl rfl)
theorem dX5_drawsCloth_10 : decode cX5_drawsCloth 10 = .ok (.sipush 1188, 3) := dk_17 4 164 (dk_at dksX5_drawsCloth_0 10 rfl rfl)
theorem dX5_drawsCloth_13 : decode cX5_drawsCloth 13 = .ok (.iload_n 1, 1) := dk_27 (dk_at dksX5_drawsCloth_0 13 rfl rfl)
theorem dX5_drawsCloth_14 : decode cX5_drawsCloth 14 = .ok (.invokevirtual 304, 3) := dk_182 1 48 (dk_at dksX5_drawsCloth_0 14 rfl rfl)
theorem dX5_drawsCloth_17 : decode cX5_drawsCloth 17 = .ok (.ifCond .eq 36, 3) := dk_153 0 36 (dk_at dksX5_drawsCloth_0 17 rfl rfl)
theorem dX5_drawsCloth_20 : decode cX5_drawsCloth 20 = .ok (.aload_n 0, 1) := dk_42 (dk_at dksX5_drawsCloth_0 20 rfl rfl)
theorem dX5_drawsCloth_21 : decode cX5_drawsCloth 21 = .ok (.getfield 113, 3) := dk_180 0 113 (dk_at dksX5_drawsCloth_0 21 rfl rfl)
theorem dX5_drawsCloth_24 : decode cX5_drawsCloth 24 = .ok (.sipush 1202, 3) := dk_17 4 178 (dk_at dksX5_drawsCloth_1 0 rfl rfl)
theorem dX5_drawsCloth_27 : decode cX5_drawsCloth 27 = .ok (.iload_n 1, 1) := dk_27 (dk_at dksX5_drawsCloth_1 3 rfl rfl)
theorem dX5_drawsCloth_28 : decode cX5_drawsCloth 28 = .ok (.iadd, 1) := dk_96 (dk_at dksX5_drawsCloth_1 4 rfl rfl)
theorem dX5_drawsCloth_29 : decode cX5_drawsCloth 29 = .ok (.aload_n 0, 1) := dk_42 (dk_at dksX5_drawsCloth_1 5 rfl rfl)
theorem dX5_drawsCloth_30 : decode cX5_drawsCloth 30 = .ok (.iconst 4, 1) := dk_7 (dk_at dksX5_drawsCloth_1 6 rfl rfl)
theorem dX5_drawsCloth_31 : decode cX5_drawsCloth 31 = .ok (.invokevirtual 443, 3) := dk_182 1 187 (dk_at dksX5_drawsCloth_1 7 rfl rfl)
theorem dX5_drawsCloth_34 : decode cX5_drawsCloth 34 = .ok (.ifCond .ne 7, 3) := dk_154 0 7 (dk_at dksX5_drawsCloth_1 10 rfl rfl)
theorem dX5_drawsCloth_37 : decode cX5_drawsCloth 37 = .ok (.iconst 0, 1) := dk_3 (dk_at dksX5_drawsCloth_1 13 rfl rfl)
theorem dX5_drawsCloth_38 : decode cX5_drawsCloth 38 = .ok (.goto 13, 3) := dk_167 0 13 (dk_at dksX5_drawsCloth_1 14 rfl rfl)
theorem dX5_drawsCloth_41 : decode cX5_drawsCloth 41 = .ok (.aload_n 0, 1) := dk_42 (dk_at dksX5_drawsCloth_1 17 rfl rfl)
theorem dX5_drawsCloth_42 : decode cX5_drawsCloth 42 = .ok (.getfield 113, 3) := dk_180 0 113 (dk_at dksX5_drawsCloth_1 18 rfl rfl)
theorem dX5_drawsCloth_45 : decode cX5_drawsCloth 45 = .ok (.sipush 1202, 3) := dk_17 4 178 (dk_at dksX5_drawsCloth_1 21 rfl rfl)
theorem dX5_drawsCloth_48 : decode cX5_drawsCloth 48 = .ok (.iload_n 1, 1) := dk_27 (dk_at dksX5_drawsCloth_2 0 rfl rfl)
theorem dX5_drawsCloth_49 : decode cX5_drawsCloth 49 = .ok (.iadd, 1) := dk_96 (dk_at dksX5_drawsCloth_2 1 rfl rfl)
theorem dX5_drawsCloth_50 : decode cX5_drawsCloth 50 = .ok (.iaload, 1) := dk_46 (dk_at dksX5_drawsCloth_2 2 rfl rfl)
theorem dX5_drawsCloth_51 : decode cX5_drawsCloth 51 = .ok (.iastore, 1) := dk_79 (dk_at dksX5_drawsCloth_2 3 rfl rfl)
theorem dX5_drawsCloth_52 : decode cX5_drawsCloth 52 = .ok (.return_, 1) := dk_177 (dk_at dksX5_drawsCloth_2 4 rfl rfl)
theorem dX5_drawsCloth_53 : decode cX5_drawsCloth 53 = .ok (.aload_n 0, 1) := dk_42 (dk_at dksX5_drawsCloth_2 5 rfl rfl)
theorem dX5_drawsCloth_54 : decode cX5_drawsCloth 54 = .ok (.sipush 1188, 3) := dk_17 4 164 (dk_at dksX5_drawsCloth_2 6 rfl rfl)
theorem dX5_drawsCloth_57 : decode cX5_drawsCloth 57 = .ok (.aload_n 0, 1) := dk_42 (dk_at dksX5_drawsCloth_2 9 rfl rfl)
theorem dX5_drawsCloth_58 : decode cX5_drawsCloth 58 = .ok (.iload_n 1, 1) := dk_27 (dk_at dksX5_drawsCloth_2 10 rfl rfl)
theorem dX5_drawsCloth_59 : decode cX5_drawsCloth 59 = .ok (.invokevirtual 301, 3) := dk_182 1 45 (dk_at dksX5_drawsCloth_2 11 rfl rfl)
theorem dX5_drawsCloth_62 : decode cX5_drawsCloth 62 = .ok (.invokevirtual 446, 3) := dk_182 1 190 (dk_at dksX5_drawsCloth_2 14 rfl rfl)
theorem dX5_drawsCloth_65 : decode cX5_drawsCloth 65 = .ok (.istore_n 2, 1) := dk_61 (dk_at dksX5_drawsCloth_2 17 rfl rfl)
theorem dX5_drawsCloth_66 : decode cX5_drawsCloth 66 = .ok (.iload_n 2, 1) := dk_28 (dk_at dksX5_drawsCloth_2 18 rfl rfl)
theorem dX5_drawsCloth_67 : decode cX5_drawsCloth 67 = .ok (.invokestatic 298, 3) := dk_184 1 42 (dk_at dksX5_drawsCloth_2 19 rfl rfl)
theorem dX5_drawsCloth_70 : decode cX5_drawsCloth 70 = .ok (.aload_n 0, 1) := dk_42 (dk_at dksX5_drawsCloth_2 22 rfl rfl)
theorem dX5_drawsCloth_71 : decode cX5_drawsCloth 71 = .ok (.iload_n 1, 1) := dk_27 (dk_at dksX5_drawsCloth_2 23 rfl rfl)
theorem dX5_drawsCloth_72 : decode cX5_drawsCloth 72 = .ok (.invokevirtual 301, 3) := dk_182 1 45 (dk_at dksX5_drawsCloth_3 0 rfl rfl)
theorem dX5_drawsCloth_75 : decode cX5_drawsCloth 75 = .ok (.if_icmp .ne 26, 3) := dk_160 0 26 (dk_at dksX5_drawsCloth_3 3 rfl rfl)
theorem dX5_drawsCloth_78 : decode cX5_drawsCloth 78 = .ok (.aload_n 0, 1) := dk_42 (dk_at dksX5_drawsCloth_3 6 rfl rfl)
theorem dX5_drawsCloth_79 : decode cX5_drawsCloth 79 = .ok (.sipush 1188, 3) := dk_17 4 164 (dk_at dksX5_drawsCloth_3 7 rfl rfl)
theorem dX5_drawsCloth_82 : decode cX5_drawsCloth 82 = .ok (.iload_n 1, 1) := dk_27 (dk_at dksX5_drawsCloth_3 10 rfl rfl)
theorem dX5_drawsCloth_83 : decode cX5_drawsCloth 83 = .ok (.iload_n 2, 1) := dk_28 (dk_at dksX5_drawsCloth_3 11 rfl rfl)
theorem dX5_drawsCloth_84 : decode cX5_drawsCloth 84 = .ok (.invokevirtual 367, 3) := dk_182 1 111 (dk_at dksX5_drawsCloth_3 12 rfl rfl)
theorem dX5_drawsCloth_87 : decode cX5_drawsCloth 87 = .ok (.ifCond .eq 14, 3) := dk_153 0 14 (dk_at dksX5_drawsCloth_3 15 rfl rfl)
theorem dX5_drawsCloth_90 : decode cX5_drawsCloth 90 = .ok (.aload_n 0, 1) := dk_42 (dk_at dksX5_drawsCloth_3 18 rfl rfl)
theorem dX5_drawsCloth_91 : decode cX5_drawsCloth 91 = .ok (.getfield 113, 3) := dk_180 0 113 (dk_at dksX5_drawsCloth_3 19 rfl rfl)
theorem dX5_drawsCloth_94 : decode cX5_drawsCloth 94 = .ok (.sipush 1202, 3) := dk_17 4 178 (dk_at dksX5_drawsCloth_4 0 rfl rfl)
theorem dX5_drawsCloth_97 : decode cX5_drawsCloth 97 = .ok (.iload_n 1, 1) := dk_27 (dk_at dksX5_drawsCloth_4 3 rfl rfl)
theorem dX5_drawsCloth_98 : decode cX5_drawsCloth 98 = .ok (.iadd, 1) := dk_96 (dk_at dksX5_drawsCloth_4 4 rfl rfl)
theorem dX5_drawsCloth_99 : decode cX5_drawsCloth 99 = .ok (.iload_n 2, 1) := dk_28 (dk_at dksX5_drawsCloth_4 5 rfl rfl)
theorem dX5_drawsCloth_100 : decode cX5_drawsCloth 100 = .ok (.iastore, 1) := dk_79 (dk_at dksX5_drawsCloth_4 6 rfl rfl)
theorem dX5_drawsCloth_101 : decode cX5_drawsCloth 101 = .ok (.return_, 1) := dk_177 (dk_at dksX5_drawsCloth_4 7 rfl rfl)
abbrev cX5_draw : ByteArray := prog_23_method_105_code
def yX5_draw : MethodName := ⟨RX5, "draw", "(I)I"⟩
def dkwX5_draw_1 : List UInt8 := [20, 1, 185, 109, 27, 133, 113, 136, 172]
abbrev dktX5_draw_1 : List UInt8 := dkwX5_draw_1 ++ []
def dkwX5_draw_0 : List UInt8 := [42, 42, 180, 1, 175, 20, 1, 179, 105, 20, 1, 181, 97, 20, 1, 183, 113, 181, 1, 175, 42, 180, 1, 175]
abbrev dktX5_draw_0 : List UInt8 := dkwX5_draw_0 ++ dktX5_draw_1
theorem dksX5_draw_0 : cX5_draw.data.toList.drop 0 = dktX5_draw_0 := by decide +kernel
theorem dksX5_draw_1 : cX5_draw.data.toList.drop 24 = dktX5_draw_1 := dk_seg dksX5_draw_0 24 rfl rfl
theorem dX5_draw_0 : decode cX5_draw 0 = .ok (.aload_n 0, 1) := dk_42 (dk_at dksX5_draw_0 0 rfl rfl)
theorem dX5_draw_1 : decode cX5_draw 1 = .ok (.aload_n 0, 1) := dk_42 (dk_at dksX5_draw_0 1 rfl rfl)
theorem dX5_draw_2 : decode cX5_draw 2 = .ok (.getfield 431, 3) := dk_180 1 175 (dk_at dksX5_draw_0 2 rfl rfl)
theorem dX5_draw_5 : decode cX5_draw 5 = .ok (.ldc2_w 435, 3) := dk_20 1 179 (dk_at dksX5_draw_0 5 rfl rfl)
theorem dX5_draw_8 : decode cX5_draw 8 = .ok (.lmul, 1) := dk_105 (dk_at dksX5_draw_0 8 rfl rfl)
theorem dX5_draw_9 : decode cX5_draw 9 = .ok (.ldc2_w 437, 3) := dk_20 1 181 (dk_at dksX5_draw_0 9 rfl rfl)
theorem dX5_draw_12 : decode cX5_draw 12 = .ok (.ladd, 1) := dk_97 (dk_at dksX5_draw_0 12 rfl rfl)
theorem dX5_draw_13 : decode cX5_draw 13 = .ok (.ldc2_w 439, 3) := dk_20 1 183 (dk_at dksX5_draw_0 13 rfl rfl)
theorem dX5_draw_16 : decode cX5_draw 16 = .ok (.lrem, 1) := dk_113 (dk_at dksX5_draw_0 16 rfl rfl)
theorem dX5_draw_17 : decode cX5_draw 17 = .ok (.putfield 431, 3) := dk_181 1 175 (dk_at dksX5_draw_0 17 rfl rfl)
theorem dX5_draw_20 : decode cX5_draw 20 = .ok (.aload_n 0, 1) := dk_42 (dk_at dksX5_draw_0 20 rfl rfl)
theorem dX5_draw_21 : decode cX5_draw 21 = .ok (.getfield 431, 3) := dk_180 1 175 (dk_at dksX5_draw_0 21 rfl rfl)
theorem dX5_draw_24 : decode cX5_draw 24 = .ok (.ldc2_w 441, 3) := dk_20 1 185 (dk_at dksX5_draw_1 0 rfl rfl)
theorem dX5_draw_27 : decode cX5_draw 27 = .ok (.ldiv, 1) := dk_109 (dk_at dksX5_draw_1 3 rfl rfl)
theorem dX5_draw_28 : decode cX5_draw 28 = .ok (.iload_n 1, 1) := dk_27 (dk_at dksX5_draw_1 4 rfl rfl)
theorem dX5_draw_29 : decode cX5_draw 29 = .ok (.i2l, 1) := dk_133 (dk_at dksX5_draw_1 5 rfl rfl)
theorem dX5_draw_30 : decode cX5_draw 30 = .ok (.lrem, 1) := dk_113 (dk_at dksX5_draw_1 6 rfl rfl)
theorem dX5_draw_31 : decode cX5_draw 31 = .ok (.l2i, 1) := dk_136 (dk_at dksX5_draw_1 7 rfl rfl)
theorem dX5_draw_32 : decode cX5_draw 32 = .ok (.ireturn, 1) := dk_172 (dk_at dksX5_draw_1 8 rfl rfl)
abbrev cX5_firstFree : ByteArray := prog_23_method_106_code
def yX5_firstFree : MethodName := ⟨RX5, "firstFree", "(II)I"⟩
def dkwX5_firstFree_3 : List UInt8 := [167, 0, 4, 3, 96, 54, 5, 132, 6, 1, 167, 255, 190, 21, 4, 172]
abbrev dktX5_firstFree_3 : List UInt8 := dkwX5_firstFree_3 ++ []
def dkwX5_firstFree_2 : List UInt8 := [21, 7, 153, 0, 10, 4, 21, 6, 120, 167, 0, 4, 3, 128, 54, 4, 21, 5, 21, 7, 153, 0, 7, 4]
abbrev dktX5_firstFree_2 : List UInt8 := dkwX5_firstFree_2 ++ dktX5_firstFree_3
def dkwX5_firstFree_1 : List UInt8 := [28, 162, 0, 17, 29, 21, 6, 122, 4, 126, 4, 160, 0, 7, 4, 167, 0, 4, 3, 54, 7, 21, 4]
abbrev dktX5_firstFree_1 : List UInt8 := dkwX5_firstFree_1 ++ dktX5_firstFree_2
def dkwX5_firstFree_0 : List UInt8 := [42, 27, 182, 1, 105, 62, 3, 54, 4, 3, 54, 5, 3, 54, 6, 21, 6, 16, 8, 162, 0, 65, 21, 5]
abbrev dktX5_firstFree_0 : List UInt8 := dkwX5_firstFree_0 ++ dktX5_firstFree_1
theorem dksX5_firstFree_0 : cX5_firstFree.data.toList.drop 0 = dktX5_firstFree_0 := by decide +kernel
theorem dksX5_firstFree_1 : cX5_firstFree.data.toList.drop 24 = dktX5_firstFree_1 := dk_seg dksX5_firstFree_0 24 rfl rfl
theorem dksX5_firstFree_2 : cX5_firstFree.data.toList.drop 47 = dktX5_firstFree_2 := dk_seg dksX5_firstFree_1 23 rfl rfl
theorem dksX5_firstFree_3 : cX5_firstFree.data.toList.drop 71 = dktX5_firstFree_3 := dk_seg dksX5_firstFree_2 24 rfl rfl
theorem dX5_firstFree_0 : decode cX5_firstFree 0 = .ok (.aload_n 0, 1) := dk_42 (dk_at dksX5_firstFree_0 0 rfl rfl)
theorem dX5_firstFree_1 : decode cX5_firstFree 1 = .ok (.iload_n 1, 1) := dk_27 (dk_at dksX5_firstFree_0 1 rfl rfl)
theorem dX5_firstFree_2 : decode cX5_firstFree 2 = .ok (.invokevirtual 361, 3) := dk_182 1 105 (dk_at dksX5_firstFree_0 2 rfl rfl)
theorem dX5_firstFree_5 : decode cX5_firstFree 5 = .ok (.istore_n 3, 1) := dk_62 (dk_at dksX5_firstFree_0 5 rfl rfl)
theorem dX5_firstFree_6 : decode cX5_firstFree 6 = .ok (.iconst 0, 1) := dk_3 (dk_at dksX5_firstFree_0 6 rfl rfl)
theorem dX5_firstFree_7 : decode cX5_firstFree 7 = .ok (.istore 4, 2) := dk_54 4 (dk_at dksX5_firstFree_0 7 rfl rfl)
theorem dX5_firstFree_9 : decode cX5_firstFree 9 = .ok (.iconst 0, 1) := dk_3 (dk_at dksX5_firstFree_0 9 rfl rfl)
theorem dX5_firstFree_10 : decode cX5_firstFree 10 = .ok (.istore 5, 2) := dk_54 5 (dk_at dksX5_firstFree_0 10 rfl rfl)
theorem dX5_firstFree_12 : decode cX5_firstFree 12 = .ok (.iconst 0, 1) := dk_3 (dk_at dksX5_firstFree_0 12 rfl rfl)
theorem dX5_firstFree_13 : decode cX5_firstFree 13 = .ok (.istore 6, 2) := dk_54 6 (dk_at dksX5_firstFree_0 13 rfl rfl)
theorem dX5_firstFree_15 : decode cX5_firstFree 15 = .ok (.iload 6, 2) := dk_21 6 (dk_at dksX5_firstFree_0 15 rfl rfl)
theorem dX5_firstFree_17 : decode cX5_firstFree 17 = .ok (.bipush 8, 2) := dk_16 8 (dk_at dksX5_firstFree_0 17 rfl rfl)
theorem dX5_firstFree_19 : decode cX5_firstFree 19 = .ok (.if_icmp .ge 65, 3) := dk_162 0 65 (dk_at dksX5_firstFree_0 19 rfl rfl)
theorem dX5_firstFree_22 : decode cX5_firstFree 22 = .ok (.iload 5, 2) := dk_21 5 (dk_at dksX5_firstFree_0 22 rfl rfl)
theorem dX5_firstFree_24 : decode cX5_firstFree 24 = .ok (.iload_n 2, 1) := dk_28 (dk_at dksX5_firstFree_1 0 rfl rfl)
theorem dX5_firstFree_25 : decode cX5_firstFree 25 = .ok (.if_icmp .ge 17, 3) := dk_162 0 17 (dk_at dksX5_firstFree_1 1 rfl rfl)
theorem dX5_firstFree_28 : decode cX5_firstFree 28 = .ok (.iload_n 3, 1) := dk_29 (dk_at dksX5_firstFree_1 4 rfl rfl)
theorem dX5_firstFree_29 : decode cX5_firstFree 29 = .ok (.iload 6, 2) := dk_21 6 (dk_at dksX5_firstFree_1 5 rfl rfl)
theorem dX5_firstFree_31 : decode cX5_firstFree 31 = .ok (.ishr, 1) := dk_122 (dk_at dksX5_firstFree_1 7 rfl rfl)
theorem dX5_firstFree_32 : decode cX5_firstFree 32 = .ok (.iconst 1, 1) := dk_4 (dk_at dksX5_firstFree_1 8 rfl rfl)
theorem dX5_firstFree_33 : decode cX5_firstFree 33 = .ok (.iand, 1) := dk_126 (dk_at dksX5_firstFree_1 9 rfl rfl)
theorem dX5_firstFree_34 : decode cX5_firstFree 34 = .ok (.iconst 1, 1) := dk_4 (dk_at dksX5_firstFree_1 10 rfl rfl)
theorem dX5_firstFree_35 : decode cX5_firstFree 35 = .ok (.if_icmp .ne 7, 3) := dk_160 0 7 (dk_at dksX5_firstFree_1 11 rfl rfl)
theorem dX5_firstFree_38 : decode cX5_firstFree 38 = .ok (.iconst 1, 1) := dk_4 (dk_at dksX5_firstFree_1 14 rfl rfl)
theorem dX5_firstFree_39 : decode cX5_firstFree 39 = .ok (.goto 4, 3) := dk_167 0 4 (dk_at dksX5_firstFree_1 15 rfl rfl)
theorem dX5_firstFree_42 : decode cX5_firstFree 42 = .ok (.iconst 0, 1) := dk_3 (dk_at dksX5_firstFree_1 18 rfl rfl)
theorem dX5_firstFree_43 : decode cX5_firstFree 43 = .ok (.istore 7, 2) := dk_54 7 (dk_at dksX5_firstFree_1 19 rfl rfl)
theorem dX5_firstFree_45 : decode cX5_firstFree 45 = .ok (.iload 4, 2) := dk_21 4 (dk_at dksX5_firstFree_1 21 rfl rfl)
theorem dX5_firstFree_47 : decode cX5_firstFree 47 = .ok (.iload 7, 2) := dk_21 7 (dk_at dksX5_firstFree_2 0 rfl rfl)
theorem dX5_firstFree_49 : decode cX5_firstFree 49 = .ok (.ifCond .eq 10, 3) := dk_153 0 10 (dk_at dksX5_firstFree_2 2 rfl rfl)
theorem dX5_firstFree_52 : decode cX5_firstFree 52 = .ok (.iconst 1, 1) := dk_4 (dk_at dksX5_firstFree_2 5 rfl rfl)
theorem dX5_firstFree_53 : decode cX5_firstFree 53 = .ok (.iload 6, 2) := dk_21 6 (dk_at dksX5_firstFree_2 6 rfl rfl)
theorem dX5_firstFree_55 : decode cX5_firstFree 55 = .ok (.ishl, 1) := dk_120 (dk_at dksX5_firstFree_2 8 rfl rfl)
theorem dX5_firstFree_56 : decode cX5_firstFree 56 = .ok (.goto 4, 3) := dk_167 0 4 (dk_at dksX5_firstFree_2 9 rfl rfl)
theorem dX5_firstFree_59 : decode cX5_firstFree 59 = .ok (.iconst 0, 1) := dk_3 (dk_at dksX5_firstFree_2 12 rfl rfl)
theorem dX5_firstFree_60 : decode cX5_firstFree 60 = .ok (.ior, 1) := dk_128 (dk_at dksX5_firstFree_2 13 rfl rfl)
theorem dX5_firstFree_61 : decode cX5_firstFree 61 = .ok (.istore 4, 2) := dk_54 4 (dk_at dksX5_firstFree_2 14 rfl rfl)
theorem dX5_firstFree_63 : decode cX5_firstFree 63 = .ok (.iload 5, 2) := dk_21 5 (dk_at dksX5_firstFree_2 16 rfl rfl)
theorem dX5_firstFree_65 : decode cX5_firstFree 65 = .ok (.iload 7, 2) := dk_21 7 (dk_at dksX5_firstFree_2 18 rfl rfl)
theorem dX5_firstFree_67 : decode cX5_firstFree 67 = .ok (.ifCond .eq 7, 3) := dk_153 0 7 (dk_at dksX5_firstFree_2 20 rfl rfl)
theorem dX5_firstFree_70 : decode cX5_firstFree 70 = .ok (.iconst 1, 1) := dk_4 (dk_at dksX5_firstFree_2 23 rfl rfl)
theorem dX5_firstFree_71 : decode cX5_firstFree 71 = .ok (.goto 4, 3) := dk_167 0 4 (dk_at dksX5_firstFree_3 0 rfl rfl)
theorem dX5_firstFree_74 : decode cX5_firstFree 74 = .ok (.iconst 0, 1) := dk_3 (dk_at dksX5_firstFree_3 3 rfl rfl)
theorem dX5_firstFree_75 : decode cX5_firstFree 75 = .ok (.iadd, 1) := dk_96 (dk_at dksX5_firstFree_3 4 rfl rfl)
theorem dX5_firstFree_76 : decode cX5_firstFree 76 = .ok (.istore 5, 2) := dk_54 5 (dk_at dksX5_firstFree_3 5 rfl rfl)
theorem dX5_firstFree_78 : decode cX5_firstFree 78 = .ok (.iinc 6 1, 3) := dk_132 6 1 (dk_at dksX5_firstFree_3 7 rfl rfl)
theorem dX5_firstFree_81 : decode cX5_firstFree 81 = .ok (.goto (-66), 3) := dk_167 255 190 (dk_at dksX5_firstFree_3 10 rfl rfl)
theorem dX5_firstFree_84 : decode cX5_firstFree 84 = .ok (.iload 4, 2) := dk_21 4 (dk_at dksX5_firstFree_3 13 rfl rfl)
theorem dX5_firstFree_86 : decode cX5_firstFree 86 = .ok (.ireturn, 1) := dk_172 (dk_at dksX5_firstFree_3 15 rfl rfl)
abbrev cX5_mark : ByteArray := prog_23_method_109_code
def yX5_mark : MethodName := ⟨RX5, "mark", "(IZ)Z"⟩
def dkwX5_mark_3 : List UInt8 := [28, 153, 0, 7, 3, 167, 0, 7, 42, 180, 1, 29, 181, 1, 29, 4, 172]
abbrev dktX5_mark_3 : List UInt8 := dkwX5_mark_3 ++ []
def dkwX5_mark_2 : List UInt8 := [167, 0, 4, 3, 28, 153, 0, 7, 3, 167, 0, 9, 16, 54, 4, 27, 96, 104, 16, 54, 182, 1, 32, 42]
abbrev dktX5_mark_2 : List UInt8 := dkwX5_mark_2 ++ dktX5_mark_3
def dkwX5_mark_1 : List UInt8 := [154, 0, 5, 3, 172, 42, 180, 0, 116, 27, 4, 84, 42, 28, 153, 0, 12, 16, 54, 4, 27, 96, 104]
abbrev dktX5_mark_1 : List UInt8 := dkwX5_mark_1 ++ dktX5_mark_2
def dkwX5_mark_0 : List UInt8 := [42, 3, 181, 0, 1, 27, 3, 6, 184, 1, 93, 153, 0, 16, 28, 153, 0, 14, 42, 180, 0, 116, 27, 51]
abbrev dktX5_mark_0 : List UInt8 := dkwX5_mark_0 ++ dktX5_mark_1
theorem dksX5_mark_0 : cX5_mark.data.toList.drop 0 = dktX5_mark_0 := by decide +kernel
theorem dksX5_mark_1 : cX5_mark.data.toList.drop 24 = dktX5_mark_1 := dk_seg dksX5_mark_0 24 rfl rfl
theorem dksX5_mark_2 : cX5_mark.data.toList.drop 47 = dktX5_mark_2 := dk_seg dksX5_mark_1 23 rfl rfl
theorem dksX5_mark_3 : cX5_mark.data.toList.drop 71 = dktX5_mark_3 := dk_seg dksX5_mark_2 24 rfl rfl
theorem dX5_mark_0 : decode cX5_mark 0 = .ok (.aload_n 0, 1) := dk_42 (dk_at dksX5_mark_0 0 rfl rfl)
theorem dX5_mark_1 : decode cX5_mark 1 = .ok (.iconst 0, 1) := dk_3 (dk_at dksX5_mark_0 1 rfl rfl)
theorem dX5_mark_2 : decode cX5_mark 2 = .ok (.putfield 1, 3) := dk_181 0 1 (dk_at dksX5_mark_0 2 rfl rfl)
theorem dX5_mark_5 : decode cX5_mark 5 = .ok (.iload_n 1, 1) := dk_27 (dk_at dksX5_mark_0 5 rfl rfl)
theorem dX5_mark_6 : decode cX5_mark 6 = .ok (.iconst 0, 1) := dk_3 (dk_at dksX5_mark_0 6 rfl rfl)
theorem dX5_mark_7 : decode cX5_mark 7 = .ok (.iconst 3, 1) := dk_6 (dk_at dksX5_mark_0 7 rfl rfl)
theorem dX5_mark_8 : decode cX5_mark 8 = .ok (.invokestatic 349, 3) := dk_184 1 93 (dk_at dksX5_mark_0 8 rfl rfl)
theorem dX5_mark_11 : decode cX5_mark 11 = .ok (.ifCond .eq 16, 3) := dk_153 0 16 (dk_at dksX5_mark_0 11 rfl rfl)
theorem dX5_mark_14 : decode cX5_mark 14 = .ok (.iload_n 2, 1) := dk_28 (dk_at dksX5_mark_0 14 rfl rfl)
theorem dX5_mark_15 : decode cX5_mark 15 = .ok (.ifCond .eq 14, 3) := dk_153 0 14 (dk_at dksX5_mark_0 15 rfl rfl)
theorem dX5_mark_18 : decode cX5_mark 18 = .ok (.aload_n 0, 1) := dk_42 (dk_at dksX5_mark_0 18 rfl rfl)
theorem dX5_mark_19 : decode cX5_mark 19 = .ok (.getfield 116, 3) := dk_180 0 116 (dk_at dksX5_mark_0 19 rfl rfl)
theorem dX5_mark_22 : decode cX5_mark 22 = .ok (.iload_n 1, 1) := dk_27 (dk_at dksX5_mark_0 22 rfl rfl)
theorem dX5_mark_23 : decode cX5_mark 23 = .ok (.baload, 1) := dk_51 (dk_at dksX5_mark_0 23 rfl rfl)
theorem dX5_mark_24 : decode cX5_mark 24 = .ok (.ifCond .ne 5, 3) := dk_154 0 5 (dk_at dksX5_mark_1 0 rfl rfl)
theorem dX5_mark_27 : decode cX5_mark 27 = .ok (.iconst 0, 1) := dk_3 (dk_at dksX5_mark_1 3 rfl rfl)
theorem dX5_mark_28 : decode cX5_mark 28 = .ok (.ireturn, 1) := dk_172 (dk_at dksX5_mark_1 4 rfl rfl)
theorem dX5_mark_29 : decode cX5_mark 29 = .ok (.aload_n 0, 1) := dk_42 (dk_at dksX5_mark_1 5 rfl rfl)
theorem dX5_mark_30 : decode cX5_mark 30 = .ok (.getfield 116, 3) := dk_180 0 116 (dk_at dksX5_mark_1 6 rfl rfl)
theorem dX5_mark_33 : decode cX5_mark 33 = .ok (.iload_n 1, 1) := dk_27 (dk_at dksX5_mark_1 9 rfl rfl)
theorem dX5_mark_34 : decode cX5_mark 34 = .ok (.iconst 1, 1) := dk_4 (dk_at dksX5_mark_1 10 rfl rfl)
theorem dX5_mark_35 : decode cX5_mark 35 = .ok (.bastore, 1) := dk_84 (dk_at dksX5_mark_1 11 rfl rfl)
theorem dX5_mark_36 : decode cX5_mark 36 = .ok (.aload_n 0, 1) := dk_42 (dk_at dksX5_mark_1 12 rfl rfl)
theorem dX5_mark_37 : decode cX5_mark 37 = .ok (.iload_n 2, 1) := dk_28 (dk_at dksX5_mark_1 13 rfl rfl)
theorem dX5_mark_38 : decode cX5_mark 38 = .ok (.ifCond .eq 12, 3) := dk_153 0 12 (dk_at dksX5_mark_1 14 rfl rfl)
theorem dX5_mark_41 : decode cX5_mark 41 = .ok (.bipush 54, 2) := dk_16 54 (dk_at dksX5_mark_1 17 rfl rfl)
theorem dX5_mark_43 : decode cX5_mark 43 = .ok (.iconst 1, 1) := dk_4 (dk_at dksX5_mark_1 19 rfl rfl)
theorem dX5_mark_44 : decode cX5_mark 44 = .ok (.iload_n 1, 1) := dk_27 (dk_at dksX5_mark_1 20 rfl rfl)
theorem dX5_mark_45 : decode cX5_mark 45 = .ok (.iadd, 1) := dk_96 (dk_at dksX5_mark_1 21 rfl rfl)
theorem dX5_mark_46 : decode cX5_mark 46 = .ok (.imul, 1) := dk_104 (dk_at dksX5_mark_1 22 rfl rfl)
theorem dX5_mark_47 : decode cX5_mark 47 = .ok (.goto 4, 3) := dk_167 0 4 (dk_at dksX5_mark_2 0 rfl rfl)
theorem dX5_mark_50 : decode cX5_mark 50 = .ok (.iconst 0, 1) := dk_3 (dk_at dksX5_mark_2 3 rfl rfl)
theorem dX5_mark_51 : decode cX5_mark 51 = .ok (.iload_n 2, 1) := dk_28 (dk_at dksX5_mark_2 4 rfl rfl)
theorem dX5_mark_52 : decode cX5_mark 52 = .ok (.ifCond .eq 7, 3) := dk_153 0 7 (dk_at dksX5_mark_2 5 rfl rfl)
theorem dX5_mark_55 : decode cX5_mark 55 = .ok (.iconst 0, 1) := dk_3 (dk_at dksX5_mark_2 8 rfl rfl)
theorem dX5_mark_56 : decode cX5_mark 56 = .ok (.goto 9, 3) := dk_167 0 9 (dk_at dksX5_mark_2 9 rfl rfl)
theorem dX5_mark_59 : decode cX5_mark 59 = .ok (.bipush 54, 2) := dk_16 54 (dk_at dksX5_mark_2 12 rfl rfl)
theorem dX5_mark_61 : decode cX5_mark 61 = .ok (.iconst 1, 1) := dk_4 (dk_at dksX5_mark_2 14 rfl rfl)
theorem dX5_mark_62 : decode cX5_mark 62 = .ok (.iload_n 1, 1) := dk_27 (dk_at dksX5_mark_2 15 rfl rfl)
theorem dX5_mark_63 : decode cX5_mark 63 = .ok (.iadd, 1) := dk_96 (dk_at dksX5_mark_2 16 rfl rfl)
theorem dX5_mark_64 : decode cX5_mark 64 = .ok (.imul, 1) := dk_104 (dk_at dksX5_mark_2 17 rfl rfl)
theorem dX5_mark_65 : decode cX5_mark 65 = .ok (.bipush 54, 2) := dk_16 54 (dk_at dksX5_mark_2 18 rfl rfl)
theorem dX5_mark_67 : decode cX5_mark 67 = .ok (.invokevirtual 288, 3) := dk_182 1 32 (dk_at dksX5_mark_2 20 rfl rfl)
theorem dX5_mark_70 : decode cX5_mark 70 = .ok (.aload_n 0, 1) := dk_42 (dk_at dksX5_mark_2 23 rfl rfl)
theorem dX5_mark_71 : decode cX5_mark 71 = .ok (.iload_n 2, 1) := dk_28 (dk_at dksX5_mark_3 0 rfl rfl)
theorem dX5_mark_72 : decode cX5_mark 72 = .ok (.ifCond .eq 7, 3) := dk_153 0 7 (dk_at dksX5_mark_3 1 rfl rfl)
theorem dX5_mark_75 : decode cX5_mark 75 = .ok (.iconst 0, 1) := dk_3 (dk_at dksX5_mark_3 4 rfl rfl)
theorem dX5_mark_76 : decode cX5_mark 76 = .ok (.goto 7, 3) := dk_167 0 7 (dk_at dksX5_mark_3 5 rfl rfl)
theorem dX5_mark_79 : decode cX5_mark 79 = .ok (.aload_n 0, 1) := dk_42 (dk_at dksX5_mark_3 8 rfl rfl)
theorem dX5_mark_80 : decode cX5_mark 80 = .ok (.getfield 285, 3) := dk_180 1 29 (dk_at dksX5_mark_3 9 rfl rfl)
theorem dX5_mark_83 : decode cX5_mark 83 = .ok (.putfield 285, 3) := dk_181 1 29 (dk_at dksX5_mark_3 12 rfl rfl)
theorem dX5_mark_86 : decode cX5_mark 86 = .ok (.iconst 1, 1) := dk_4 (dk_at dksX5_mark_3 15 rfl rfl)
theorem dX5_mark_87 : decode cX5_mark 87 = .ok (.ireturn, 1) := dk_172 (dk_at dksX5_mark_3 16 rfl rfl)
abbrev cX5_count : ByteArray := prog_23_method_111_code
def yX5_count : MethodName := ⟨RX5, "count", "(I)I"⟩
def dkwX5_count_5 : List UInt8 := [46, 172, 42, 180, 0, 113, 16, 28, 46, 172, 42, 180, 1, 29, 172, 42, 180, 0, 11, 172, 2, 172]
abbrev dktX5_count_5 : List UInt8 := dkwX5_count_5 ++ []
def dkwX5_count_4 : List UInt8 := [182, 1, 102, 182, 1, 129, 172, 42, 182, 1, 196, 172, 42, 180, 0, 89, 8, 46, 172, 42, 180, 0, 104, 3]
abbrev dktX5_count_4 : List UInt8 := dkwX5_count_4 ++ dktX5_count_5
def dkwX5_count_3 : List UInt8 := [172, 42, 180, 0, 113, 3, 46, 172, 42, 42, 180, 0, 113, 3, 46, 3, 182, 1, 76, 172, 42, 42, 3]
abbrev dktX5_count_3 : List UInt8 := dkwX5_count_3 ++ dktX5_count_4
def dkwX5_count_2 : List UInt8 := [42, 182, 1, 36, 172, 42, 180, 0, 113, 4, 46, 172, 42, 180, 0, 89, 6, 46, 172, 42, 3, 182, 1, 108]
abbrev dktX5_count_2 : List UInt8 := dkwX5_count_2 ++ dktX5_count_3
def dkwX5_count_1 : List UInt8 := [170, 0, 0, 0, 0, 157, 0, 0, 0, 0, 0, 0, 0, 12, 0, 0, 0, 66, 0, 0, 0, 71, 0, 0, 0, 78, 0, 0, 0, 85, 0, 0, 0, 91, 0, 0, 0, 98, 0, 0, 0, 110, 0, 0, 0, 120, 0, 0, 0, 125, 0, 0, 0, 132, 0, 0, 0, 139, 0, 0, 0, 147, 0, 0, 0, 152]
abbrev dktX5_count_1 : List UInt8 := dkwX5_count_1 ++ dktX5_count_2
def dkwX5_count_0 : List UInt8 := [42, 3, 181, 0, 1, 27]
abbrev dktX5_count_0 : List UInt8 := dkwX5_count_0 ++ dktX5_count_1
theorem dksX5_count_0 : cX5_count.data.toList.drop 0 = dktX5_count_0 := by decide +kernel
theorem dksX5_count_1 : cX5_count.data.toList.drop 6 = dktX5_count_1 := dk_seg dksX5_count_0 6 rfl rfl
theorem dksX5_count_2 : cX5_count.data.toList.drop 72 = dktX5_count_2 := dk_seg dksX5_count_1 66 rfl rfl
theorem dksX5_count_3 : cX5_count.data.toList.drop 96 = dktX5_count_3 := dk_seg dksX5_count_2 24 rfl rfl
theorem dksX5_count_4 : cX5_count.data.toList.drop 119 = dktX5_count_4 := dk_seg dksX5_count_3 23 rfl rfl
theorem dksX5_count_5 : cX5_count.data.toList.drop 143 = dktX5_count_5 := dk_seg dksX5_count_4 24 rfl rfl
theorem dX5_count_0 : decode cX5_count 0 = .ok (.aload_n 0, 1) := dk_42 (dk_at dksX5_count_0 0 rfl rfl)
theorem dX5_count_1 : decode cX5_count 1 = .ok (.iconst 0, 1) := dk_3 (dk_at dksX5_count_0 1 rfl rfl)
theorem dX5_count_2 : decode cX5_count 2 = .ok (.putfield 1, 3) := dk_181 0 1 (dk_at dksX5_count_0 2 rfl rfl)
theorem dX5_count_5 : decode cX5_count 5 = .ok (.iload_n 1, 1) := dk_27 (dk_at dksX5_count_0 5 rfl rfl)
theorem dX5_count_6 : decode cX5_count 6 = .ok (.tableswitch 157 0 12 #[66, 71, 78, 85, 91, 98, 110, 120, 125, 132, 139, 147, 152], 66) := by decide +kernel
theorem dX5_count_72 : decode cX5_count 72 = .ok (.aload_n 0, 1) := dk_42 (dk_at dksX5_count_2 0 rfl rfl)
theorem dX5_count_73 : decode cX5_count 73 = .ok (.invokevirtual 292, 3) := dk_182 1 36 (dk_at dksX5_count_2 1 rfl rfl)
theorem dX5_count_76 : decode cX5_count 76 = .ok (.ireturn, 1) := dk_172 (dk_at dksX5_count_2 4 rfl rfl)
theorem dX5_count_77 : decode cX5_count 77 = .ok (.aload_n 0, 1) := dk_42 (dk_at dksX5_count_2 5 rfl rfl)
theorem dX5_count_78 : decode cX5_count 78 = .ok (.getfield 113, 3) := dk_180 0 113 (dk_at dksX5_count_2 6 rfl rfl)
theorem dX5_count_81 : decode cX5_count 81 = .ok (.iconst 1, 1) := dk_4 (dk_at dksX5_count_2 9 rfl rfl)
theorem dX5_count_82 : decode cX5_count 82 = .ok (.iaload, 1) := dk_46 (dk_at dksX5_count_2 10 rfl rfl)
theorem dX5_count_83 : decode cX5_count 83 = .ok (.ireturn, 1) := dk_172 (dk_at dksX5_count_2 11 rfl rfl)
theorem dX5_count_84 : decode cX5_count 84 = .ok (.aload_n 0, 1) := dk_42 (dk_at dksX5_count_2 12 rfl rfl)
theorem dX5_count_85 : decode cX5_count 85 = .ok (.getfield 89, 3) := dk_180 0 89 (dk_at dksX5_count_2 13 rfl rfl)
theorem dX5_count_88 : decode cX5_count 88 = .ok (.iconst 3, 1) := dk_6 (dk_at dksX5_count_2 16 rfl rfl)
theorem dX5_count_89 : decode cX5_count 89 = .ok (.iaload, 1) := dk_46 (dk_at dksX5_count_2 17 rfl rfl)
theorem dX5_count_90 : decode cX5_count 90 = .ok (.ireturn, 1) := dk_172 (dk_at dksX5_count_2 18 rfl rfl)
theorem dX5_count_91 : decode cX5_count 91 = .ok (.aload_n 0, 1) := dk_42 (dk_at dksX5_count_2 19 rfl rfl)
theorem dX5_count_92 : decode cX5_count 92 = .ok (.iconst 0, 1) := dk_3 (dk_at dksX5_count_2 20 rfl rfl)
theorem dX5_count_93 : decode cX5_count 93 = .ok (.invokevirtual 364, 3) := dk_182 1 108 (dk_at dksX5_count_2 21 rfl rfl)
theorem dX5_count_96 : decode cX5_count 96 = .ok (.ireturn, 1) := dk_172 (dk_at dksX5_count_3 0 rfl rfl)
theorem dX5_count_97 : decode cX5_count 97 = .ok (.aload_n 0, 1) := dk_42 (dk_at dksX5_count_3 1 rfl rfl)
theorem dX5_count_98 : decode cX5_count 98 = .ok (.getfield 113, 3) := dk_180 0 113 (dk_at dksX5_count_3 2 rfl rfl)
theorem dX5_count_101 : decode cX5_count 101 = .ok (.iconst 0, 1) := dk_3 (dk_at dksX5_count_3 5 rfl rfl)
theorem dX5_count_102 : decode cX5_count 102 = .ok (.iaload, 1) := dk_46 (dk_at dksX5_count_3 6 rfl rfl)
theorem dX5_count_103 : decode cX5_count 103 = .ok (.ireturn, 1) := dk_172 (dk_at dksX5_count_3 7 rfl rfl)
theorem dX5_count_104 : decode cX5_count 104 = .ok (.aload_n 0, 1) := dk_42 (dk_at dksX5_count_3 8 rfl rfl)
theorem dX5_count_105 : decode cX5_count 105 = .ok (.aload_n 0, 1) := dk_42 (dk_at dksX5_count_3 9 rfl rfl)
theorem dX5_count_106 : decode cX5_count 106 = .ok (.getfield 113, 3) := dk_180 0 113 (dk_at dksX5_count_3 10 rfl rfl)
theorem dX5_count_109 : decode cX5_count 109 = .ok (.iconst 0, 1) := dk_3 (dk_at dksX5_count_3 13 rfl rfl)
theorem dX5_count_110 : decode cX5_count 110 = .ok (.iaload, 1) := dk_46 (dk_at dksX5_count_3 14 rfl rfl)
theorem dX5_count_111 : decode cX5_count 111 = .ok (.iconst 0, 1) := dk_3 (dk_at dksX5_count_3 15 rfl rfl)
theorem dX5_count_112 : decode cX5_count 112 = .ok (.invokevirtual 332, 3) := dk_182 1 76 (dk_at dksX5_count_3 16 rfl rfl)
theorem dX5_count_115 : decode cX5_count 115 = .ok (.ireturn, 1) := dk_172 (dk_at dksX5_count_3 19 rfl rfl)
theorem dX5_count_116 : decode cX5_count 116 = .ok (.aload_n 0, 1) := dk_42 (dk_at dksX5_count_3 20 rfl rfl)
theorem dX5_count_117 : decode cX5_count 117 = .ok (.aload_n 0, 1) := dk_42 (dk_at dksX5_count_3 21 rfl rfl)
theorem dX5_count_118 : decode cX5_count 118 = .ok (.iconst 0, 1) := dk_3 (dk_at dksX5_count_3 22 rfl rfl)
theorem dX5_count_119 : decode cX5_count 119 = .ok (.invokevirtual 358, 3) := dk_182 1 102 (dk_at dksX5_count_4 0 rfl rfl)
theorem dX5_count_122 : decode cX5_count 122 = .ok (.invokevirtual 385, 3) := dk_182 1 129 (dk_at dksX5_count_4 3 rfl rfl)
theorem dX5_count_125 : decode cX5_count 125 = .ok (.ireturn, 1) := dk_172 (dk_at dksX5_count_4 6 rfl rfl)
theorem dX5_count_126 : decode cX5_count 126 = .ok (.aload_n 0, 1) := dk_42 (dk_at dksX5_count_4 7 rfl rfl)
theorem dX5_count_127 : decode cX5_count 127 = .ok (.invokevirtual 452, 3) := dk_182 1 196 (dk_at dksX5_count_4 8 rfl rfl)
theorem dX5_count_130 : decode cX5_count 130 = .ok (.ireturn, 1) := dk_172 (dk_at dksX5_count_4 11 rfl rfl)
theorem dX5_count_131 : decode cX5_count 131 = .ok (.aload_n 0, 1) := dk_42 (dk_at dksX5_count_4 12 rfl rfl)
theorem dX5_count_132 : decode cX5_count 132 = .ok (.getfield 89, 3) := dk_180 0 89 (dk_at dksX5_count_4 13 rfl rfl)
theorem dX5_count_135 : decode cX5_count 135 = .ok (.iconst 5, 1) := dk_8 (dk_at dksX5_count_4 16 rfl rfl)
theorem dX5_count_136 : decode cX5_count 136 = .ok (.iaload, 1) := dk_46 (dk_at dksX5_count_4 17 rfl rfl)
theorem dX5_count_137 : decode cX5_count 137 = .ok (.ireturn, 1) := dk_172 (dk_at dksX5_count_4 18 rfl rfl)
theorem dX5_count_138 : decode cX5_count 138 = .ok (.aload_n 0, 1) := dk_42 (dk_at dksX5_count_4 19 rfl rfl)
theorem dX5_count_139 : decode cX5_count 139 = .ok (.getfield 104, 3) := dk_180 0 104 (dk_at dksX5_count_4 20 rfl rfl)
theorem dX5_count_142 : decode cX5_count 142 = .ok (.iconst 0, 1) := dk_3 (dk_at dksX5_count_4 23 rfl rfl)
theorem dX5_count_143 : decode cX5_count 143 = .ok (.iaload, 1) := dk_46 (dk_at dksX5_count_5 0 rfl rfl)
theorem dX5_count_144 : decode cX5_count 144 = .ok (.ireturn, 1) := dk_172 (dk_at dksX5_count_5 1 rfl rfl)
theorem dX5_count_145 : decode cX5_count 145 = .ok (.aload_n 0, 1) := dk_42 (dk_at dksX5_count_5 2 rfl rfl)
theorem dX5_count_146 : decode cX5_count 146 = .ok (.getfield 113, 3) := dk_180 0 113 (dk_at dksX5_count_5 3 rfl rfl)
theorem dX5_count_149 : decode cX5_count 149 = .ok (.bipush 28, 2) := dk_16 28 (dk_at dksX5_count_5 6 rfl rfl)
theorem dX5_count_151 : decode cX5_count 151 = .ok (.iaload, 1) := dk_46 (dk_at dksX5_count_5 8 rfl rfl)
theorem dX5_count_152 : decode cX5_count 152 = .ok (.ireturn, 1) := dk_172 (dk_at dksX5_count_5 9 rfl rfl)
theorem dX5_count_153 : decode cX5_count 153 = .ok (.aload_n 0, 1) := dk_42 (dk_at dksX5_count_5 10 rfl rfl)
theorem dX5_count_154 : decode cX5_count 154 = .ok (.getfield 285, 3) := dk_180 1 29 (dk_at dksX5_count_5 11 rfl rfl)
theorem dX5_count_157 : decode cX5_count 157 = .ok (.ireturn, 1) := dk_172 (dk_at dksX5_count_5 14 rfl rfl)
theorem dX5_count_158 : decode cX5_count 158 = .ok (.aload_n 0, 1) := dk_42 (dk_at dksX5_count_5 15 rfl rfl)
theorem dX5_count_159 : decode cX5_count 159 = .ok (.getfield 11, 3) := dk_180 0 11 (dk_at dksX5_count_5 16 rfl rfl)
theorem dX5_count_162 : decode cX5_count 162 = .ok (.ireturn, 1) := dk_172 (dk_at dksX5_count_5 19 rfl rfl)
theorem dX5_count_163 : decode cX5_count 163 = .ok (.iconst (-1), 1) := dk_2 (dk_at dksX5_count_5 20 rfl rfl)
theorem dX5_count_164 : decode cX5_count 164 = .ok (.ireturn, 1) := dk_172 (dk_at dksX5_count_5 21 rfl rfl)
abbrev cX5_turnedSet : ByteArray := prog_23_method_110_code
def yX5_turnedSet : MethodName := ⟨RX5, "turnedSet", "()I"⟩
def dkwX5_turnedSet_1 : List UInt8 := [120, 167, 0, 4, 3, 128, 60, 132, 2, 1, 167, 255, 226, 27, 172]
abbrev dktX5_turnedSet_1 : List UInt8 := dkwX5_turnedSet_1 ++ []
def dkwX5_turnedSet_0 : List UInt8 := [3, 60, 3, 61, 28, 42, 182, 1, 36, 162, 0, 28, 27, 42, 3, 28, 182, 1, 96, 153, 0, 9, 4, 28]
abbrev dktX5_turnedSet_0 : List UInt8 := dkwX5_turnedSet_0 ++ dktX5_turnedSet_1
theorem dksX5_turnedSet_0 : cX5_turnedSet.data.toList.drop 0 = dktX5_turnedSet_0 := by decide +kernel
theorem dksX5_turnedSet_1 : cX5_turnedSet.data.toList.drop 24 = dktX5_turnedSet_1 := dk_seg dksX5_turnedSet_0 24 rfl rfl
theorem dX5_turnedSet_0 : decode cX5_turnedSet 0 = .ok (.iconst 0, 1) := dk_3 (dk_at dksX5_turnedSet_0 0 rfl rfl)
theorem dX5_turnedSet_1 : decode cX5_turnedSet 1 = .ok (.istore_n 1, 1) := dk_60 (dk_at dksX5_turnedSet_0 1 rfl rfl)
theorem dX5_turnedSet_2 : decode cX5_turnedSet 2 = .ok (.iconst 0, 1) := dk_3 (dk_at dksX5_turnedSet_0 2 rfl rfl)
theorem dX5_turnedSet_3 : decode cX5_turnedSet 3 = .ok (.istore_n 2, 1) := dk_61 (dk_at dksX5_turnedSet_0 3 rfl rfl)
theorem dX5_turnedSet_4 : decode cX5_turnedSet 4 = .ok (.iload_n 2, 1) := dk_28 (dk_at dksX5_turnedSet_0 4 rfl rfl)
theorem dX5_turnedSet_5 : decode cX5_turnedSet 5 = .ok (.aload_n 0, 1) := dk_42 (dk_at dksX5_turnedSet_0 5 rfl rfl)
theorem dX5_turnedSet_6 : decode cX5_turnedSet 6 = .ok (.invokevirtual 292, 3) := dk_182 1 36 (dk_at dksX5_turnedSet_0 6 rfl rfl)
theorem dX5_turnedSet_9 : decode cX5_turnedSet 9 = .ok (.if_icmp .ge 28, 3) := dk_162 0 28 (dk_at dksX5_turnedSet_0 9 rfl rfl)
theorem dX5_turnedSet_12 : decode cX5_turnedSet 12 = .ok (.iload_n 1, 1) := dk_27 (dk_at dksX5_turnedSet_0 12 rfl rfl)
theorem dX5_turnedSet_13 : decode cX5_turnedSet 13 = .ok (.aload_n 0, 1) := dk_42 (dk_at dksX5_turnedSet_0 13 rfl rfl)
theorem dX5_turnedSet_14 : decode cX5_turnedSet 14 = .ok (.iconst 0, 1) := dk_3 (dk_at dksX5_turnedSet_0 14 rfl rfl)
theorem dX5_turnedSet_15 : decode cX5_turnedSet 15 = .ok (.iload_n 2, 1) := dk_28 (dk_at dksX5_turnedSet_0 15 rfl rfl)
theorem dX5_turnedSet_16 : decode cX5_turnedSet 16 = .ok (.invokevirtual 352, 3) := dk_182 1 96 (dk_at dksX5_turnedSet_0 16 rfl rfl)
theorem dX5_turnedSet_19 : decode cX5_turnedSet 19 = .ok (.ifCond .eq 9, 3) := dk_153 0 9 (dk_at dksX5_turnedSet_0 19 rfl rfl)
theorem dX5_turnedSet_22 : decode cX5_turnedSet 22 = .ok (.iconst 1, 1) := dk_4 (dk_at dksX5_turnedSet_0 22 rfl rfl)
theorem dX5_turnedSet_23 : decode cX5_turnedSet 23 = .ok (.iload_n 2, 1) := dk_28 (dk_at dksX5_turnedSet_0 23 rfl rfl)
theorem dX5_turnedSet_24 : decode cX5_turnedSet 24 = .ok (.ishl, 1) := dk_120 (dk_at dksX5_turnedSet_1 0 rfl rfl)
theorem dX5_turnedSet_25 : decode cX5_turnedSet 25 = .ok (.goto 4, 3) := dk_167 0 4 (dk_at dksX5_turnedSet_1 1 rfl rfl)
theorem dX5_turnedSet_28 : decode cX5_turnedSet 28 = .ok (.iconst 0, 1) := dk_3 (dk_at dksX5_turnedSet_1 4 rfl rfl)
theorem dX5_turnedSet_29 : decode cX5_turnedSet 29 = .ok (.ior, 1) := dk_128 (dk_at dksX5_turnedSet_1 5 rfl rfl)
theorem dX5_turnedSet_30 : decode cX5_turnedSet 30 = .ok (.istore_n 1, 1) := dk_60 (dk_at dksX5_turnedSet_1 6 rfl rfl)
theorem dX5_turnedSet_31 : decode cX5_turnedSet 31 = .ok (.iinc 2 1, 3) := dk_132 2 1 (dk_at dksX5_turnedSet_1 7 rfl rfl)
theorem dX5_turnedSet_34 : decode cX5_turnedSet 34 = .ok (.goto (-30), 3) := dk_167 255 226 (dk_at dksX5_turnedSet_1 10 rfl rfl)
theorem dX5_turnedSet_37 : decode cX5_turnedSet 37 = .ok (.iload_n 1, 1) := dk_27 (dk_at dksX5_turnedSet_1 13 rfl rfl)
theorem dX5_turnedSet_38 : decode cX5_turnedSet 38 = .ok (.ireturn, 1) := dk_172 (dk_at dksX5_turnedSet_1 14 rfl rfl)
theorem q140 : (Jvm.Cond.initialized "PegLawsModel") ∈ lw_all := lw_g (lw_at lw_m1 8 rfl) rfl
theorem q973 : (Jvm.Cond.selects "PegLawsModel" ({ cls := "java/lang/Object", name := "getClass", desc := "()Ljava/lang/Class;" } : Jvm.MethodName) ({ cls := "java/lang/Object", name := "getClass", desc := "()Ljava/lang/Class;" } : Jvm.MethodName)) ∈ lw_all := lw_g (lw_at lw_m4 121 rfl) rfl
theorem q1608 : (Jvm.Cond.instanceMethod ({ cls := "PegLawsModel", name := "thrown", desc := "()I" } : Jvm.MethodName)) ∈ lw_all := lw_g (lw_at lw_m7 36 rfl) rfl
theorem q1609 : (Jvm.Cond.selects "PegLawsModel" ({ cls := "PegLawsModel", name := "thrown", desc := "()I" } : Jvm.MethodName) ({ cls := "PegLawsModel", name := "thrown", desc := "()I" } : Jvm.MethodName)) ∈ lw_all := lw_g (lw_at lw_m7 37 rfl) rfl
theorem q1610 : (Jvm.Cond.code ({ cls := "PegLawsModel", name := "thrown", desc := "()I" } : Jvm.MethodName) prog_23_method_1_code (1 : Nat) (Option.some Jvm.ClassFile.FieldType.int)) ∈ lw_all := lw_g (lw_at lw_m7 38 rfl) rfl
theorem q1612 : (Jvm.Cond.instanceMethod ({ cls := "PegLawsModel", name := "feed", desc := "(JJJ)I" } : Jvm.MethodName)) ∈ lw_all := lw_g (lw_at lw_m7 40 rfl) rfl
theorem q1613 : (Jvm.Cond.selects "PegLawsModel" ({ cls := "PegLawsModel", name := "feed", desc := "(JJJ)I" } : Jvm.MethodName) ({ cls := "PegLawsModel", name := "feed", desc := "(JJJ)I" } : Jvm.MethodName)) ∈ lw_all := lw_g (lw_at lw_m7 41 rfl) rfl
theorem q1614 : (Jvm.Cond.code ({ cls := "PegLawsModel", name := "feed", desc := "(JJJ)I" } : Jvm.MethodName) prog_23_method_2_code (7 : Nat) (Option.some Jvm.ClassFile.FieldType.int)) ∈ lw_all := lw_g (lw_at lw_m7 42 rfl) rfl
theorem q1615 : (Jvm.Cond.methodLink "PegLawsModel" (7 : Nat) ({ cls := "PegLawsModel", name := "lay", desc := "(J)V" } : Jvm.MethodName)) ∈ lw_all := lw_g (lw_at lw_m7 43 rfl) rfl
theorem q1616 : (Jvm.Cond.privateMethod ({ cls := "PegLawsModel", name := "lay", desc := "(J)V" } : Jvm.MethodName)) ∈ lw_tbl := lw_at lw_m7 44 rfl
theorem q1617 : (Jvm.Cond.instanceMethod ({ cls := "PegLawsModel", name := "lay", desc := "(J)V" } : Jvm.MethodName)) ∈ lw_all := lw_g (lw_at lw_m7 45 rfl) rfl
theorem q1618 : (Jvm.Cond.instantiable "PegLawsModel" (38 : Nat)) ∈ lw_all := lw_g (lw_at lw_m7 46 rfl) rfl
theorem q1619 : (Jvm.Cond.code ({ cls := "PegLawsModel", name := "lay", desc := "(J)V" } : Jvm.MethodName) prog_23_method_3_code (5 : Nat) (Option.none : Option Jvm.ClassFile.FieldType)) ∈ lw_all := lw_g (lw_at lw_m7 47 rfl) rfl
theorem q1622 : (Jvm.Cond.instanceMethod ({ cls := "PegLawsModel", name := "<init>", desc := "()V" } : Jvm.MethodName)) ∈ lw_all := lw_g (lw_at lw_m7 50 rfl) rfl
theorem q1623 : (Jvm.Cond.code ({ cls := "PegLawsModel", name := "<init>", desc := "()V" } : Jvm.MethodName) prog_23_method_4_code (1 : Nat) (Option.none : Option Jvm.ClassFile.FieldType)) ∈ lw_all := lw_g (lw_at lw_m7 51 rfl) rfl
theorem q1624 : (Jvm.Cond.methodLink "PegLawsModel" (18 : Nat) ({ cls := "java/lang/Object", name := "<init>", desc := "()V" } : Jvm.MethodName)) ∈ lw_all := lw_g (lw_at lw_m7 52 rfl) rfl
theorem q1625 : (Jvm.Cond.constantLong "PegLawsModel" (34 : Nat) (6251602 : Int64)) ∈ lw_all := lw_g (lw_at lw_m7 53 rfl) rfl
theorem q1626 : (Jvm.Cond.constantLong "PegLawsModel" (36 : Nat) (1177493 : Int64)) ∈ lw_all := lw_g (lw_at lw_m7 54 rfl) rfl
theorem q1627 : (Jvm.Cond.constantLong "PegLawsModel" (38 : Nat) (1604747592 : Int64)) ∈ lw_all := lw_g (lw_at lw_m7 55 rfl) rfl
theorem q1628 : (Jvm.Cond.constantLong "PegLawsModel" (40 : Nat) (43890888 : Int64)) ∈ lw_all := lw_g (lw_at lw_m7 56 rfl) rfl
theorem q1629 : (Jvm.Cond.constantLong "PegLawsModel" (42 : Nat) (817571 : Int64)) ∈ lw_all := lw_g (lw_at lw_m7 57 rfl) rfl
theorem q1630 : (Jvm.Cond.constantLong "PegLawsModel" (44 : Nat) (43580913 : Int64)) ∈ lw_all := lw_g (lw_at lw_m7 58 rfl) rfl
theorem q1631 : (Jvm.Cond.constantLong "PegLawsModel" (46 : Nat) (46929487 : Int64)) ∈ lw_all := lw_g (lw_at lw_m7 59 rfl) rfl
theorem q1632 : (Jvm.Cond.constantLong "PegLawsModel" (48 : Nat) (14209610 : Int64)) ∈ lw_all := lw_g (lw_at lw_m7 60 rfl) rfl
theorem q1633 : (Jvm.Cond.constantLong "PegLawsModel" (50 : Nat) (6232399 : Int64)) ∈ lw_all := lw_g (lw_at lw_m7 61 rfl) rfl
theorem q1634 : (Jvm.Cond.constantLong "PegLawsModel" (52 : Nat) (31067180 : Int64)) ∈ lw_all := lw_g (lw_at lw_m7 62 rfl) rfl
theorem q1635 : (Jvm.Cond.constantLong "PegLawsModel" (54 : Nat) (8420923 : Int64)) ∈ lw_all := lw_g (lw_at lw_m7 63 rfl) rfl
theorem q1636 : (Jvm.Cond.constantLong "PegLawsModel" (56 : Nat) (407118 : Int64)) ∈ lw_all := lw_g (lw_at lw_m7 64 rfl) rfl
theorem q1637 : (Jvm.Cond.constantLong "PegLawsModel" (58 : Nat) (1014841 : Int64)) ∈ lw_all := lw_g (lw_at lw_m7 65 rfl) rfl
theorem q1638 : (Jvm.Cond.constantLong "PegLawsModel" (60 : Nat) (1167099 : Int64)) ∈ lw_all := lw_g (lw_at lw_m7 66 rfl) rfl
theorem q1639 : (Jvm.Cond.constantLong "PegLawsModel" (62 : Nat) (3540 : Int64)) ∈ lw_all := lw_g (lw_at lw_m7 67 rfl) rfl
theorem q1640 : (Jvm.Cond.constantLong "PegLawsModel" (64 : Nat) (426554 : Int64)) ∈ lw_all := lw_g (lw_at lw_m7 68 rfl) rfl
theorem q1641 : (Jvm.Cond.constantLong "PegLawsModel" (66 : Nat) (30596128 : Int64)) ∈ lw_all := lw_g (lw_at lw_m7 69 rfl) rfl
theorem q1642 : (Jvm.Cond.constantLong "PegLawsModel" (68 : Nat) (36021333 : Int64)) ∈ lw_all := lw_g (lw_at lw_m7 70 rfl) rfl
theorem q1643 : (Jvm.Cond.constantLong "PegLawsModel" (70 : Nat) (320390 : Int64)) ∈ lw_all := lw_g (lw_at lw_m7 71 rfl) rfl
theorem q1644 : (Jvm.Cond.constantLong "PegLawsModel" (72 : Nat) (1186121 : Int64)) ∈ lw_all := lw_g (lw_at lw_m7 72 rfl) rfl
theorem q1645 : (Jvm.Cond.constantLong "PegLawsModel" (74 : Nat) (19741 : Int64)) ∈ lw_all := lw_g (lw_at lw_m7 73 rfl) rfl
theorem q1646 : (Jvm.Cond.constantLong "PegLawsModel" (76 : Nat) (1891 : Int64)) ∈ lw_all := lw_g (lw_at lw_m7 74 rfl) rfl
theorem q1647 : (Jvm.Cond.constantLong "PegLawsModel" (78 : Nat) (573 : Int64)) ∈ lw_all := lw_g (lw_at lw_m7 75 rfl) rfl
theorem q1648 : (Jvm.Cond.constantLong "PegLawsModel" (80 : Nat) (1177862 : Int64)) ∈ lw_all := lw_g (lw_at lw_m7 76 rfl) rfl
theorem q1649 : (Jvm.Cond.constantLong "PegLawsModel" (82 : Nat) (660580 : Int64)) ∈ lw_all := lw_g (lw_at lw_m7 77 rfl) rfl
theorem q1650 : (Jvm.Cond.constantLong "PegLawsModel" (84 : Nat) (975695 : Int64)) ∈ lw_all := lw_g (lw_at lw_m7 78 rfl) rfl
theorem q1651 : (Jvm.Cond.methodLink "PegLawsModel" (144 : Nat) ({ cls := "PegLawsModel", name := "standsAsAlways", desc := "(I)V" } : Jvm.MethodName)) ∈ lw_all := lw_g (lw_at lw_m7 79 rfl) rfl
theorem q1652 : (Jvm.Cond.privateMethod ({ cls := "PegLawsModel", name := "standsAsAlways", desc := "(I)V" } : Jvm.MethodName)) ∈ lw_tbl := lw_at lw_m7 80 rfl
theorem q1653 : (Jvm.Cond.instanceMethod ({ cls := "PegLawsModel", name := "standsAsAlways", desc := "(I)V" } : Jvm.MethodName)) ∈ lw_all := lw_g (lw_at lw_m7 81 rfl) rfl
theorem q1654 : (Jvm.Cond.code ({ cls := "PegLawsModel", name := "standsAsAlways", desc := "(I)V" } : Jvm.MethodName) prog_23_method_18_code (3 : Nat) (Option.none : Option Jvm.ClassFile.FieldType)) ∈ lw_all := lw_g (lw_at lw_m7 82 rfl) rfl
theorem q1655 : (Jvm.Cond.methodLink "PegLawsModel" (148 : Nat) ({ cls := "PegLawsModel", name := "begins", desc := "()V" } : Jvm.MethodName)) ∈ lw_all := lw_g (lw_at lw_m7 83 rfl) rfl
theorem q1656 : (Jvm.Cond.privateMethod ({ cls := "PegLawsModel", name := "begins", desc := "()V" } : Jvm.MethodName)) ∈ lw_tbl := lw_at lw_m7 84 rfl
theorem q1657 : (Jvm.Cond.instanceMethod ({ cls := "PegLawsModel", name := "begins", desc := "()V" } : Jvm.MethodName)) ∈ lw_all := lw_g (lw_at lw_m7 85 rfl) rfl
theorem q1658 : (Jvm.Cond.code ({ cls := "PegLawsModel", name := "begins", desc := "()V" } : Jvm.MethodName) prog_23_method_44_code (2 : Nat) (Option.none : Option Jvm.ClassFile.FieldType)) ∈ lw_all := lw_g (lw_at lw_m7 86 rfl) rfl
theorem q1659 : (Jvm.Cond.methodLink "PegLawsModel" (282 : Nat) ({ cls := "PegLawsModel", name := "starts", desc := "(I)V" } : Jvm.MethodName)) ∈ lw_all := lw_g (lw_at lw_m7 87 rfl) rfl
theorem q1660 : (Jvm.Cond.privateMethod ({ cls := "PegLawsModel", name := "starts", desc := "(I)V" } : Jvm.MethodName)) ∈ lw_tbl := lw_at lw_m7 88 rfl
theorem q1661 : (Jvm.Cond.instanceMethod ({ cls := "PegLawsModel", name := "starts", desc := "(I)V" } : Jvm.MethodName)) ∈ lw_all := lw_g (lw_at lw_m7 89 rfl) rfl
theorem q1662 : (Jvm.Cond.code ({ cls := "PegLawsModel", name := "starts", desc := "(I)V" } : Jvm.MethodName) prog_23_method_43_code (3 : Nat) (Option.none : Option Jvm.ClassFile.FieldType)) ∈ lw_all := lw_g (lw_at lw_m7 90 rfl) rfl
theorem q1663 : (Jvm.Cond.fieldLink "PegLawsModel" (1 : Nat) "PegLawsModel" "thrown" "I") ∈ lw_all := lw_g (lw_at lw_m7 91 rfl) rfl
theorem q1664 : (Jvm.Cond.fieldLink "PegLawsModel" (14 : Nat) "PegLawsModel" "tape" "[I") ∈ lw_all := lw_g (lw_at lw_m7 92 rfl) rfl
theorem q1665 : (Jvm.Cond.fieldLink "PegLawsModel" (11 : Nat) "PegLawsModel" "taped" "I") ∈ lw_all := lw_g (lw_at lw_m7 93 rfl) rfl
theorem q1666 : (Jvm.Cond.fieldLink "PegLawsModel" (155 : Nat) "PegLawsModel" "size" "I") ∈ lw_all := lw_g (lw_at lw_m7 94 rfl) rfl
theorem q1667 : (Jvm.Cond.fieldLink "PegLawsModel" (24 : Nat) "PegLawsModel" "sort" "[I") ∈ lw_all := lw_g (lw_at lw_m7 95 rfl) rfl
theorem q1668 : (Jvm.Cond.fieldLink "PegLawsModel" (27 : Nat) "PegLawsModel" "place" "[I") ∈ lw_all := lw_g (lw_at lw_m7 96 rfl) rfl
theorem q1669 : (Jvm.Cond.fieldLink "PegLawsModel" (30 : Nat) "PegLawsModel" "value" "[J") ∈ lw_all := lw_g (lw_at lw_m7 97 rfl) rfl
theorem q1670 : (Jvm.Cond.fieldLink "PegLawsModel" (174 : Nat) "PegLawsModel" "at" "I") ∈ lw_all := lw_g (lw_at lw_m7 98 rfl) rfl
theorem q1671 : (Jvm.Cond.fieldLink "PegLawsModel" (177 : Nat) "PegLawsModel" "fault" "I") ∈ lw_all := lw_g (lw_at lw_m7 99 rfl) rfl
theorem q1672 : (Jvm.Cond.fieldLink "PegLawsModel" (86 : Nat) "PegLawsModel" "words" "[J") ∈ lw_all := lw_g (lw_at lw_m7 100 rfl) rfl
theorem q1673 : (Jvm.Cond.fieldLink "PegLawsModel" (89 : Nat) "PegLawsModel" "ropes" "[I") ∈ lw_all := lw_g (lw_at lw_m7 101 rfl) rfl
theorem q1674 : (Jvm.Cond.fieldLink "PegLawsModel" (92 : Nat) "PegLawsModel" "op" "[I") ∈ lw_all := lw_g (lw_at lw_m7 102 rfl) rfl
theorem q1675 : (Jvm.Cond.fieldLink "PegLawsModel" (95 : Nat) "PegLawsModel" "arg" "[I") ∈ lw_all := lw_g (lw_at lw_m7 103 rfl) rfl
theorem q1676 : (Jvm.Cond.fieldLink "PegLawsModel" (222 : Nat) "PegLawsModel" "codes" "I") ∈ lw_all := lw_g (lw_at lw_m7 104 rfl) rfl
theorem q1677 : (Jvm.Cond.fieldLink "PegLawsModel" (98 : Nat) "PegLawsModel" "names" "[J") ∈ lw_all := lw_g (lw_at lw_m7 105 rfl) rfl
theorem q1678 : (Jvm.Cond.fieldLink "PegLawsModel" (101 : Nat) "PegLawsModel" "readNames" "[J") ∈ lw_all := lw_g (lw_at lw_m7 106 rfl) rfl
theorem q1679 : (Jvm.Cond.fieldLink "PegLawsModel" (205 : Nat) "PegLawsModel" "namesMany" "I") ∈ lw_all := lw_g (lw_at lw_m7 107 rfl) rfl
theorem q1680 : (Jvm.Cond.fieldLink "PegLawsModel" (202 : Nat) "PegLawsModel" "readMany" "I") ∈ lw_all := lw_g (lw_at lw_m7 108 rfl) rfl
theorem q1681 : (Jvm.Cond.fieldLink "PegLawsModel" (225 : Nat) "PegLawsModel" "once" "I") ∈ lw_all := lw_g (lw_at lw_m7 109 rfl) rfl
theorem q1682 : (Jvm.Cond.fieldLink "PegLawsModel" (104 : Nat) "PegLawsModel" "lines" "[I") ∈ lw_all := lw_g (lw_at lw_m7 110 rfl) rfl
theorem q1683 : (Jvm.Cond.fieldLink "PegLawsModel" (107 : Nat) "PegLawsModel" "facts" "[I") ∈ lw_all := lw_g (lw_at lw_m7 111 rfl) rfl
theorem q1684 : (Jvm.Cond.fieldLink "PegLawsModel" (110 : Nat) "PegLawsModel" "pile" "[I") ∈ lw_all := lw_g (lw_at lw_m7 112 rfl) rfl
theorem q1685 : (Jvm.Cond.fieldLink "PegLawsModel" (113 : Nat) "PegLawsModel" "state" "[I") ∈ lw_all := lw_g (lw_at lw_m7 113 rfl) rfl
theorem q1686 : (Jvm.Cond.fieldLink "PegLawsModel" (285 : Nat) "PegLawsModel" "undos" "I") ∈ lw_all := lw_g (lw_at lw_m7 114 rfl) rfl
theorem q1687 : (Jvm.Cond.fieldLink "PegLawsModel" (116 : Nat) "PegLawsModel" "isMarked" "[Z") ∈ lw_all := lw_g (lw_at lw_m7 115 rfl) rfl
theorem q1688 : (Jvm.Cond.fieldLink "PegLawsModel" (120 : Nat) "PegLawsModel" "hardest" "[I") ∈ lw_all := lw_g (lw_at lw_m7 116 rfl) rfl
theorem q1689 : (Jvm.Cond.fieldLink "PegLawsModel" (123 : Nat) "PegLawsModel" "pegRow" "[I") ∈ lw_all := lw_g (lw_at lw_m7 117 rfl) rfl
theorem q1690 : (Jvm.Cond.fieldLink "PegLawsModel" (126 : Nat) "PegLawsModel" "bestPegs" "[I") ∈ lw_all := lw_g (lw_at lw_m7 118 rfl) rfl
theorem q1691 : (Jvm.Cond.fieldLink "PegLawsModel" (391 : Nat) "PegLawsModel" "mostWorth" "I") ∈ lw_all := lw_g (lw_at lw_m7 119 rfl) rfl
theorem q1692 : (Jvm.Cond.fieldLink "PegLawsModel" (394 : Nat) "PegLawsModel" "whole" "I") ∈ lw_all := lw_g (lw_at lw_m7 120 rfl) rfl
theorem q1693 : (Jvm.Cond.fieldLink "PegLawsModel" (129 : Nat) "PegLawsModel" "chanceGrips" "[I") ∈ lw_all := lw_g (lw_at lw_m7 121 rfl) rfl
theorem q1694 : (Jvm.Cond.fieldLink "PegLawsModel" (132 : Nat) "PegLawsModel" "dryAt" "[I") ∈ lw_all := lw_g (lw_at lw_m7 122 rfl) rfl
theorem q1695 : (Jvm.Cond.fieldLink "PegLawsModel" (135 : Nat) "PegLawsModel" "dryRow" "[I") ∈ lw_all := lw_g (lw_at lw_m7 123 rfl) rfl
theorem q1696 : (Jvm.Cond.fieldLink "PegLawsModel" (138 : Nat) "PegLawsModel" "bestDry" "[I") ∈ lw_all := lw_g (lw_at lw_m7 124 rfl) rfl
theorem q1697 : (Jvm.Cond.fieldLink "PegLawsModel" (413 : Nat) "PegLawsModel" "soonest" "I") ∈ lw_all := lw_g (lw_at lw_m7 125 rfl) rfl
theorem q1698 : (Jvm.Cond.fieldLink "PegLawsModel" (410 : Nat) "PegLawsModel" "toWash" "I") ∈ lw_all := lw_g (lw_at lw_m7 126 rfl) rfl
theorem q1699 : (Jvm.Cond.fieldLink "PegLawsModel" (141 : Nat) "PegLawsModel" "alike" "[I") ∈ lw_all := lw_g (lw_at lw_m7 127 rfl) rfl
theorem q1700 : (Jvm.Cond.fieldLink "PegLawsModel" (431 : Nat) "PegLawsModel" "g" "J") ∈ lw_all := lw_g (lw_at lw_m7 128 rfl) rfl
theorem q1701 : (Jvm.Cond.lays "PegLawsModel" "PegLawsModel" "thrown" "I") ∈ lw_all := lw_g (lw_at lw_m7 129 rfl) rfl
theorem q1702 : (Jvm.Cond.soleField "PegLawsModel" "thrown") ∈ lw_all := lw_g (lw_at lw_m7 130 rfl) rfl
theorem q1703 : (Jvm.Cond.laysFinal "PegLawsModel" "PegLawsModel" "tape" "[I") ∈ lw_all := lw_g (lw_at lw_m7 131 rfl) rfl
theorem q1704 : (Jvm.Cond.soleField "PegLawsModel" "tape") ∈ lw_all := lw_g (lw_at lw_m7 132 rfl) rfl
theorem q1705 : (Jvm.Cond.lays "PegLawsModel" "PegLawsModel" "taped" "I") ∈ lw_all := lw_g (lw_at lw_m7 133 rfl) rfl
theorem q1706 : (Jvm.Cond.soleField "PegLawsModel" "taped") ∈ lw_all := lw_g (lw_at lw_m7 134 rfl) rfl
theorem q1707 : (Jvm.Cond.lays "PegLawsModel" "PegLawsModel" "size" "I") ∈ lw_all := lw_g (lw_at lw_m7 135 rfl) rfl
theorem q1708 : (Jvm.Cond.soleField "PegLawsModel" "size") ∈ lw_all := lw_g (lw_at lw_m7 136 rfl) rfl
theorem q1709 : (Jvm.Cond.laysFinal "PegLawsModel" "PegLawsModel" "sort" "[I") ∈ lw_all := lw_g (lw_at lw_m7 137 rfl) rfl
theorem q1710 : (Jvm.Cond.soleField "PegLawsModel" "sort") ∈ lw_all := lw_g (lw_at lw_m7 138 rfl) rfl
theorem q1711 : (Jvm.Cond.laysFinal "PegLawsModel" "PegLawsModel" "place" "[I") ∈ lw_all := lw_g (lw_at lw_m7 139 rfl) rfl
theorem q1712 : (Jvm.Cond.soleField "PegLawsModel" "place") ∈ lw_all := lw_g (lw_at lw_m7 140 rfl) rfl
theorem q1713 : (Jvm.Cond.laysFinal "PegLawsModel" "PegLawsModel" "value" "[J") ∈ lw_all := lw_g (lw_at lw_m7 141 rfl) rfl
theorem q1714 : (Jvm.Cond.soleField "PegLawsModel" "value") ∈ lw_all := lw_g (lw_at lw_m7 142 rfl) rfl
theorem q1715 : (Jvm.Cond.lays "PegLawsModel" "PegLawsModel" "at" "I") ∈ lw_all := lw_g (lw_at lw_m7 143 rfl) rfl
theorem q1716 : (Jvm.Cond.soleField "PegLawsModel" "at") ∈ lw_all := lw_g (lw_at lw_m7 144 rfl) rfl
theorem q1717 : (Jvm.Cond.lays "PegLawsModel" "PegLawsModel" "fault" "I") ∈ lw_all := lw_g (lw_at lw_m7 145 rfl) rfl
theorem q1718 : (Jvm.Cond.soleField "PegLawsModel" "fault") ∈ lw_all := lw_g (lw_at lw_m7 146 rfl) rfl
theorem q1719 : (Jvm.Cond.laysFinal "PegLawsModel" "PegLawsModel" "words" "[J") ∈ lw_all := lw_g (lw_at lw_m7 147 rfl) rfl
theorem q1720 : (Jvm.Cond.soleField "PegLawsModel" "words") ∈ lw_all := lw_g (lw_at lw_m7 148 rfl) rfl
theorem q1721 : (Jvm.Cond.laysFinal "PegLawsModel" "PegLawsModel" "ropes" "[I") ∈ lw_all := lw_g (lw_at lw_m7 149 rfl) rfl
theorem q1722 : (Jvm.Cond.soleField "PegLawsModel" "ropes") ∈ lw_all := lw_g (lw_at lw_m7 150 rfl) rfl
theorem q1723 : (Jvm.Cond.laysFinal "PegLawsModel" "PegLawsModel" "op" "[I") ∈ lw_all := lw_g (lw_at lw_m7 151 rfl) rfl
theorem q1724 : (Jvm.Cond.soleField "PegLawsModel" "op") ∈ lw_all := lw_g (lw_at lw_m7 152 rfl) rfl
theorem q1725 : (Jvm.Cond.laysFinal "PegLawsModel" "PegLawsModel" "arg" "[I") ∈ lw_all := lw_g (lw_at lw_m7 153 rfl) rfl
theorem q1726 : (Jvm.Cond.soleField "PegLawsModel" "arg") ∈ lw_all := lw_g (lw_at lw_m7 154 rfl) rfl
theorem q1727 : (Jvm.Cond.lays "PegLawsModel" "PegLawsModel" "codes" "I") ∈ lw_all := lw_g (lw_at lw_m7 155 rfl) rfl
theorem q1728 : (Jvm.Cond.soleField "PegLawsModel" "codes") ∈ lw_all := lw_g (lw_at lw_m7 156 rfl) rfl
theorem q1729 : (Jvm.Cond.laysFinal "PegLawsModel" "PegLawsModel" "names" "[J") ∈ lw_all := lw_g (lw_at lw_m7 157 rfl) rfl
theorem q1730 : (Jvm.Cond.soleField "PegLawsModel" "names") ∈ lw_all := lw_g (lw_at lw_m7 158 rfl) rfl
theorem q1731 : (Jvm.Cond.laysFinal "PegLawsModel" "PegLawsModel" "readNames" "[J") ∈ lw_all := lw_g (lw_at lw_m7 159 rfl) rfl
theorem q1732 : (Jvm.Cond.soleField "PegLawsModel" "readNames") ∈ lw_all := lw_g (lw_at lw_m7 160 rfl) rfl
theorem q1733 : (Jvm.Cond.lays "PegLawsModel" "PegLawsModel" "namesMany" "I") ∈ lw_all := lw_g (lw_at lw_m7 161 rfl) rfl
theorem q1734 : (Jvm.Cond.soleField "PegLawsModel" "namesMany") ∈ lw_all := lw_g (lw_at lw_m7 162 rfl) rfl
theorem q1735 : (Jvm.Cond.lays "PegLawsModel" "PegLawsModel" "readMany" "I") ∈ lw_all := lw_g (lw_at lw_m7 163 rfl) rfl
theorem q1736 : (Jvm.Cond.soleField "PegLawsModel" "readMany") ∈ lw_all := lw_g (lw_at lw_m7 164 rfl) rfl
theorem q1737 : (Jvm.Cond.lays "PegLawsModel" "PegLawsModel" "once" "I") ∈ lw_all := lw_g (lw_at lw_m7 165 rfl) rfl
theorem q1738 : (Jvm.Cond.soleField "PegLawsModel" "once") ∈ lw_all := lw_g (lw_at lw_m7 166 rfl) rfl
theorem q1739 : (Jvm.Cond.laysFinal "PegLawsModel" "PegLawsModel" "lines" "[I") ∈ lw_all := lw_g (lw_at lw_m7 167 rfl) rfl
theorem q1740 : (Jvm.Cond.soleField "PegLawsModel" "lines") ∈ lw_all := lw_g (lw_at lw_m7 168 rfl) rfl
theorem q1741 : (Jvm.Cond.laysFinal "PegLawsModel" "PegLawsModel" "facts" "[I") ∈ lw_all := lw_g (lw_at lw_m7 169 rfl) rfl
theorem q1742 : (Jvm.Cond.soleField "PegLawsModel" "facts") ∈ lw_all := lw_g (lw_at lw_m7 170 rfl) rfl
theorem q1743 : (Jvm.Cond.laysFinal "PegLawsModel" "PegLawsModel" "pile" "[I") ∈ lw_all := lw_g (lw_at lw_m7 171 rfl) rfl
theorem q1744 : (Jvm.Cond.soleField "PegLawsModel" "pile") ∈ lw_all := lw_g (lw_at lw_m7 172 rfl) rfl
theorem q1745 : (Jvm.Cond.laysFinal "PegLawsModel" "PegLawsModel" "state" "[I") ∈ lw_all := lw_g (lw_at lw_m7 173 rfl) rfl
theorem q1746 : (Jvm.Cond.soleField "PegLawsModel" "state") ∈ lw_all := lw_g (lw_at lw_m7 174 rfl) rfl
theorem q1747 : (Jvm.Cond.lays "PegLawsModel" "PegLawsModel" "undos" "I") ∈ lw_all := lw_g (lw_at lw_m7 175 rfl) rfl
theorem q1748 : (Jvm.Cond.soleField "PegLawsModel" "undos") ∈ lw_all := lw_g (lw_at lw_m7 176 rfl) rfl
theorem q1749 : (Jvm.Cond.laysFinal "PegLawsModel" "PegLawsModel" "isMarked" "[Z") ∈ lw_all := lw_g (lw_at lw_m7 177 rfl) rfl
theorem q1750 : (Jvm.Cond.soleField "PegLawsModel" "isMarked") ∈ lw_all := lw_g (lw_at lw_m7 178 rfl) rfl
theorem q1751 : (Jvm.Cond.laysFinal "PegLawsModel" "PegLawsModel" "hardest" "[I") ∈ lw_all := lw_g (lw_at lw_m7 179 rfl) rfl
theorem q1752 : (Jvm.Cond.soleField "PegLawsModel" "hardest") ∈ lw_all := lw_g (lw_at lw_m7 180 rfl) rfl
theorem q1753 : (Jvm.Cond.laysFinal "PegLawsModel" "PegLawsModel" "pegRow" "[I") ∈ lw_all := lw_g (lw_at lw_m7 181 rfl) rfl
theorem q1754 : (Jvm.Cond.soleField "PegLawsModel" "pegRow") ∈ lw_all := lw_g (lw_at lw_m7 182 rfl) rfl
theorem q1755 : (Jvm.Cond.laysFinal "PegLawsModel" "PegLawsModel" "bestPegs" "[I") ∈ lw_all := lw_g (lw_at lw_m7 183 rfl) rfl
theorem q1756 : (Jvm.Cond.soleField "PegLawsModel" "bestPegs") ∈ lw_all := lw_g (lw_at lw_m7 184 rfl) rfl
theorem q1757 : (Jvm.Cond.lays "PegLawsModel" "PegLawsModel" "mostWorth" "I") ∈ lw_all := lw_g (lw_at lw_m7 185 rfl) rfl
theorem q1758 : (Jvm.Cond.soleField "PegLawsModel" "mostWorth") ∈ lw_all := lw_g (lw_at lw_m7 186 rfl) rfl
theorem q1759 : (Jvm.Cond.lays "PegLawsModel" "PegLawsModel" "whole" "I") ∈ lw_all := lw_g (lw_at lw_m7 187 rfl) rfl
theorem q1760 : (Jvm.Cond.soleField "PegLawsModel" "whole") ∈ lw_all := lw_g (lw_at lw_m7 188 rfl) rfl
theorem q1761 : (Jvm.Cond.laysFinal "PegLawsModel" "PegLawsModel" "chanceGrips" "[I") ∈ lw_all := lw_g (lw_at lw_m7 189 rfl) rfl
theorem q1762 : (Jvm.Cond.soleField "PegLawsModel" "chanceGrips") ∈ lw_all := lw_g (lw_at lw_m7 190 rfl) rfl
theorem q1763 : (Jvm.Cond.laysFinal "PegLawsModel" "PegLawsModel" "dryAt" "[I") ∈ lw_all := lw_g (lw_at lw_m7 191 rfl) rfl
theorem q1764 : (Jvm.Cond.soleField "PegLawsModel" "dryAt") ∈ lw_all := lw_g (lw_at lw_m7 192 rfl) rfl
theorem q1765 : (Jvm.Cond.laysFinal "PegLawsModel" "PegLawsModel" "dryRow" "[I") ∈ lw_all := lw_g (lw_at lw_m7 193 rfl) rfl
theorem q1766 : (Jvm.Cond.soleField "PegLawsModel" "dryRow") ∈ lw_all := lw_g (lw_at lw_m7 194 rfl) rfl
theorem q1767 : (Jvm.Cond.laysFinal "PegLawsModel" "PegLawsModel" "bestDry" "[I") ∈ lw_all := lw_g (lw_at lw_m7 195 rfl) rfl
theorem q1768 : (Jvm.Cond.soleField "PegLawsModel" "bestDry") ∈ lw_all := lw_g (lw_at lw_m7 196 rfl) rfl
theorem q1769 : (Jvm.Cond.lays "PegLawsModel" "PegLawsModel" "soonest" "I") ∈ lw_all := lw_g (lw_at lw_m7 197 rfl) rfl
theorem q1770 : (Jvm.Cond.soleField "PegLawsModel" "soonest") ∈ lw_all := lw_g (lw_at lw_m7 198 rfl) rfl
theorem q1771 : (Jvm.Cond.lays "PegLawsModel" "PegLawsModel" "toWash" "I") ∈ lw_all := lw_g (lw_at lw_m7 199 rfl) rfl
theorem q1772 : (Jvm.Cond.soleField "PegLawsModel" "toWash") ∈ lw_all := lw_g (lw_at lw_m7 200 rfl) rfl
theorem q1773 : (Jvm.Cond.laysFinal "PegLawsModel" "PegLawsModel" "alike" "[I") ∈ lw_all := lw_g (lw_at lw_m7 201 rfl) rfl
theorem q1774 : (Jvm.Cond.soleField "PegLawsModel" "alike") ∈ lw_all := lw_g (lw_at lw_m7 202 rfl) rfl
theorem q1775 : (Jvm.Cond.lays "PegLawsModel" "PegLawsModel" "g" "J") ∈ lw_all := lw_g (lw_at lw_m7 203 rfl) rfl
theorem q1776 : (Jvm.Cond.soleField "PegLawsModel" "g") ∈ lw_all := lw_g (lw_at lw_m7 204 rfl) rfl
theorem q1777 : (Jvm.Cond.superclass "PegLawsModel" "java/lang/Object") ∈ lw_all := lw_g (lw_at lw_m7 205 rfl) rfl
theorem q1781 : (Jvm.Cond.instanceMethod ({ cls := "PegLawsModel", name := "line", desc := "()I" } : Jvm.MethodName)) ∈ lw_all := lw_g (lw_at lw_m7 209 rfl) rfl
theorem q1782 : (Jvm.Cond.selects "PegLawsModel" ({ cls := "PegLawsModel", name := "line", desc := "()I" } : Jvm.MethodName) ({ cls := "PegLawsModel", name := "line", desc := "()I" } : Jvm.MethodName)) ∈ lw_all := lw_g (lw_at lw_m7 210 rfl) rfl
theorem q1783 : (Jvm.Cond.code ({ cls := "PegLawsModel", name := "line", desc := "()I" } : Jvm.MethodName) prog_23_method_27_code (2 : Nat) (Option.some Jvm.ClassFile.FieldType.int)) ∈ lw_all := lw_g (lw_at lw_m7 211 rfl) rfl
theorem q1784 : (Jvm.Cond.methodLink "PegLawsModel" (219 : Nat) ({ cls := "PegLawsModel", name := "cutAll", desc := "()V" } : Jvm.MethodName)) ∈ lw_all := lw_g (lw_at lw_m7 212 rfl) rfl
theorem q1785 : (Jvm.Cond.privateMethod ({ cls := "PegLawsModel", name := "cutAll", desc := "()V" } : Jvm.MethodName)) ∈ lw_tbl := lw_at lw_m7 213 rfl
theorem q1786 : (Jvm.Cond.instanceMethod ({ cls := "PegLawsModel", name := "cutAll", desc := "()V" } : Jvm.MethodName)) ∈ lw_all := lw_g (lw_at lw_m7 214 rfl) rfl
theorem q1787 : (Jvm.Cond.code ({ cls := "PegLawsModel", name := "cutAll", desc := "()V" } : Jvm.MethodName) prog_23_method_9_code (7 : Nat) (Option.none : Option Jvm.ClassFile.FieldType)) ∈ lw_all := lw_g (lw_at lw_m7 215 rfl) rfl
theorem q1788 : (Jvm.Cond.methodLink "PegLawsModel" (151 : Nat) ({ cls := "PegLawsModel", name := "isLetter", desc := "(I)Z" } : Jvm.MethodName)) ∈ lw_all := lw_g (lw_at lw_m7 216 rfl) rfl
theorem q1789 : (Jvm.Cond.static ({ cls := "PegLawsModel", name := "isLetter", desc := "(I)Z" } : Jvm.MethodName)) ∈ lw_all := lw_g (lw_at lw_m7 217 rfl) rfl
theorem q1790 : (Jvm.Cond.code ({ cls := "PegLawsModel", name := "isLetter", desc := "(I)Z" } : Jvm.MethodName) prog_23_method_5_code (1 : Nat) (Option.some Jvm.ClassFile.FieldType.boolean)) ∈ lw_all := lw_g (lw_at lw_m7 218 rfl) rfl
theorem q1791 : (Jvm.Cond.constantLong "PegLawsModel" (158 : Nat) (37 : Int64)) ∈ lw_all := lw_g (lw_at lw_m7 219 rfl) rfl
theorem q1792 : (Jvm.Cond.methodLink "PegLawsModel" (160 : Nat) ({ cls := "PegLawsModel", name := "rank", desc := "(I)I" } : Jvm.MethodName)) ∈ lw_all := lw_g (lw_at lw_m7 220 rfl) rfl
theorem q1793 : (Jvm.Cond.static ({ cls := "PegLawsModel", name := "rank", desc := "(I)I" } : Jvm.MethodName)) ∈ lw_all := lw_g (lw_at lw_m7 221 rfl) rfl
theorem q1794 : (Jvm.Cond.code ({ cls := "PegLawsModel", name := "rank", desc := "(I)I" } : Jvm.MethodName) prog_23_method_7_code (1 : Nat) (Option.some Jvm.ClassFile.FieldType.int)) ∈ lw_all := lw_g (lw_at lw_m7 222 rfl) rfl
theorem q1795 : (Jvm.Cond.methodLink "PegLawsModel" (164 : Nat) ({ cls := "PegLawsModel", name := "isDigit", desc := "(I)Z" } : Jvm.MethodName)) ∈ lw_all := lw_g (lw_at lw_m7 223 rfl) rfl
theorem q1796 : (Jvm.Cond.static ({ cls := "PegLawsModel", name := "isDigit", desc := "(I)Z" } : Jvm.MethodName)) ∈ lw_all := lw_g (lw_at lw_m7 224 rfl) rfl
theorem q1797 : (Jvm.Cond.code ({ cls := "PegLawsModel", name := "isDigit", desc := "(I)Z" } : Jvm.MethodName) prog_23_method_6_code (1 : Nat) (Option.some Jvm.ClassFile.FieldType.boolean)) ∈ lw_all := lw_g (lw_at lw_m7 225 rfl) rfl
theorem q1798 : (Jvm.Cond.constantLong "PegLawsModel" (167 : Nat) (10 : Int64)) ∈ lw_all := lw_g (lw_at lw_m7 226 rfl) rfl
theorem q1799 : (Jvm.Cond.constantLong "PegLawsModel" (169 : Nat) (48 : Int64)) ∈ lw_all := lw_g (lw_at lw_m7 227 rfl) rfl
theorem q1800 : (Jvm.Cond.methodLink "PegLawsModel" (171 : Nat) ({ cls := "PegLawsModel", name := "isSignOf", desc := "(I)Z" } : Jvm.MethodName)) ∈ lw_all := lw_g (lw_at lw_m7 228 rfl) rfl
theorem q1801 : (Jvm.Cond.static ({ cls := "PegLawsModel", name := "isSignOf", desc := "(I)Z" } : Jvm.MethodName)) ∈ lw_all := lw_g (lw_at lw_m7 229 rfl) rfl
theorem q1802 : (Jvm.Cond.code ({ cls := "PegLawsModel", name := "isSignOf", desc := "(I)Z" } : Jvm.MethodName) prog_23_method_8_code (1 : Nat) (Option.some Jvm.ClassFile.FieldType.boolean)) ∈ lw_all := lw_g (lw_at lw_m7 230 rfl) rfl
theorem q1803 : (Jvm.Cond.methodLink "PegLawsModel" (186 : Nat) ({ cls := "PegLawsModel", name := "isWord", desc := "(I)Z" } : Jvm.MethodName)) ∈ lw_all := lw_g (lw_at lw_m7 231 rfl) rfl
theorem q1804 : (Jvm.Cond.privateMethod ({ cls := "PegLawsModel", name := "isWord", desc := "(I)Z" } : Jvm.MethodName)) ∈ lw_tbl := lw_at lw_m7 232 rfl
theorem q1805 : (Jvm.Cond.instanceMethod ({ cls := "PegLawsModel", name := "isWord", desc := "(I)Z" } : Jvm.MethodName)) ∈ lw_all := lw_g (lw_at lw_m7 233 rfl) rfl
theorem q1806 : (Jvm.Cond.code ({ cls := "PegLawsModel", name := "isWord", desc := "(I)Z" } : Jvm.MethodName) prog_23_method_12_code (2 : Nat) (Option.some Jvm.ClassFile.FieldType.boolean)) ∈ lw_all := lw_g (lw_at lw_m7 234 rfl) rfl
theorem q1807 : (Jvm.Cond.methodLink "PegLawsModel" (228 : Nat) ({ cls := "PegLawsModel", name := "readCloth", desc := "()V" } : Jvm.MethodName)) ∈ lw_all := lw_g (lw_at lw_m7 235 rfl) rfl
theorem q1808 : (Jvm.Cond.privateMethod ({ cls := "PegLawsModel", name := "readCloth", desc := "()V" } : Jvm.MethodName)) ∈ lw_tbl := lw_at lw_m7 236 rfl
theorem q1809 : (Jvm.Cond.instanceMethod ({ cls := "PegLawsModel", name := "readCloth", desc := "()V" } : Jvm.MethodName)) ∈ lw_all := lw_g (lw_at lw_m7 237 rfl) rfl
theorem q1810 : (Jvm.Cond.code ({ cls := "PegLawsModel", name := "readCloth", desc := "()V" } : Jvm.MethodName) prog_23_method_28_code (3 : Nat) (Option.none : Option Jvm.ClassFile.FieldType)) ∈ lw_all := lw_g (lw_at lw_m7 238 rfl) rfl
theorem q1811 : (Jvm.Cond.methodLink "PegLawsModel" (183 : Nat) ({ cls := "PegLawsModel", name := "wrong", desc := "(I)V" } : Jvm.MethodName)) ∈ lw_all := lw_g (lw_at lw_m7 239 rfl) rfl
theorem q1812 : (Jvm.Cond.privateMethod ({ cls := "PegLawsModel", name := "wrong", desc := "(I)V" } : Jvm.MethodName)) ∈ lw_tbl := lw_at lw_m8 0 rfl
theorem q1813 : (Jvm.Cond.instanceMethod ({ cls := "PegLawsModel", name := "wrong", desc := "(I)V" } : Jvm.MethodName)) ∈ lw_all := lw_g (lw_at lw_m8 1 rfl) rfl
theorem q1814 : (Jvm.Cond.code ({ cls := "PegLawsModel", name := "wrong", desc := "(I)V" } : Jvm.MethodName) prog_23_method_10_code (2 : Nat) (Option.none : Option Jvm.ClassFile.FieldType)) ∈ lw_all := lw_g (lw_at lw_m8 2 rfl) rfl
theorem q1815 : (Jvm.Cond.methodLink "PegLawsModel" (208 : Nat) ({ cls := "PegLawsModel", name := "isName", desc := "()Z" } : Jvm.MethodName)) ∈ lw_all := lw_g (lw_at lw_m8 3 rfl) rfl
theorem q1816 : (Jvm.Cond.privateMethod ({ cls := "PegLawsModel", name := "isName", desc := "()Z" } : Jvm.MethodName)) ∈ lw_tbl := lw_at lw_m8 4 rfl
theorem q1817 : (Jvm.Cond.instanceMethod ({ cls := "PegLawsModel", name := "isName", desc := "()Z" } : Jvm.MethodName)) ∈ lw_all := lw_g (lw_at lw_m8 5 rfl) rfl
theorem q1818 : (Jvm.Cond.code ({ cls := "PegLawsModel", name := "isName", desc := "()Z" } : Jvm.MethodName) prog_23_method_23_code (1 : Nat) (Option.some Jvm.ClassFile.FieldType.boolean)) ∈ lw_all := lw_g (lw_at lw_m8 6 rfl) rfl
theorem q1819 : (Jvm.Cond.methodLink "PegLawsModel" (199 : Nat) ({ cls := "PegLawsModel", name := "wordHere", desc := "(II)I" } : Jvm.MethodName)) ∈ lw_all := lw_g (lw_at lw_m8 7 rfl) rfl
theorem q1820 : (Jvm.Cond.privateMethod ({ cls := "PegLawsModel", name := "wordHere", desc := "(II)I" } : Jvm.MethodName)) ∈ lw_tbl := lw_at lw_m8 8 rfl
theorem q1821 : (Jvm.Cond.instanceMethod ({ cls := "PegLawsModel", name := "wordHere", desc := "(II)I" } : Jvm.MethodName)) ∈ lw_all := lw_g (lw_at lw_m8 9 rfl) rfl
theorem q1822 : (Jvm.Cond.code ({ cls := "PegLawsModel", name := "wordHere", desc := "(II)I" } : Jvm.MethodName) prog_23_method_21_code (5 : Nat) (Option.some Jvm.ClassFile.FieldType.int)) ∈ lw_all := lw_g (lw_at lw_m8 10 rfl) rfl
theorem q1823 : (Jvm.Cond.methodLink "PegLawsModel" (212 : Nat) ({ cls := "PegLawsModel", name := "find", desc := "(Z)I" } : Jvm.MethodName)) ∈ lw_all := lw_g (lw_at lw_m8 11 rfl) rfl
theorem q1824 : (Jvm.Cond.privateMethod ({ cls := "PegLawsModel", name := "find", desc := "(Z)I" } : Jvm.MethodName)) ∈ lw_tbl := lw_at lw_m8 12 rfl
theorem q1825 : (Jvm.Cond.instanceMethod ({ cls := "PegLawsModel", name := "find", desc := "(Z)I" } : Jvm.MethodName)) ∈ lw_all := lw_g (lw_at lw_m8 13 rfl) rfl
theorem q1826 : (Jvm.Cond.code ({ cls := "PegLawsModel", name := "find", desc := "(Z)I" } : Jvm.MethodName) prog_23_method_24_code (4 : Nat) (Option.some Jvm.ClassFile.FieldType.int)) ∈ lw_all := lw_g (lw_at lw_m8 14 rfl) rfl
theorem q1827 : (Jvm.Cond.methodLink "PegLawsModel" (240 : Nat) ({ cls := "PegLawsModel", name := "takeOne", desc := "(II)I" } : Jvm.MethodName)) ∈ lw_all := lw_g (lw_at lw_m8 15 rfl) rfl
theorem q1828 : (Jvm.Cond.privateMethod ({ cls := "PegLawsModel", name := "takeOne", desc := "(II)I" } : Jvm.MethodName)) ∈ lw_tbl := lw_at lw_m8 16 rfl
theorem q1829 : (Jvm.Cond.instanceMethod ({ cls := "PegLawsModel", name := "takeOne", desc := "(II)I" } : Jvm.MethodName)) ∈ lw_all := lw_g (lw_at lw_m8 17 rfl) rfl
theorem q1830 : (Jvm.Cond.code ({ cls := "PegLawsModel", name := "takeOne", desc := "(II)I" } : Jvm.MethodName) prog_23_method_22_code (4 : Nat) (Option.some Jvm.ClassFile.FieldType.int)) ∈ lw_all := lw_g (lw_at lw_m8 18 rfl) rfl
theorem q1831 : (Jvm.Cond.methodLink "PegLawsModel" (243 : Nat) ({ cls := "PegLawsModel", name := "takeAfter", desc := "(III)I" } : Jvm.MethodName)) ∈ lw_all := lw_g (lw_at lw_m8 19 rfl) rfl
theorem q1832 : (Jvm.Cond.privateMethod ({ cls := "PegLawsModel", name := "takeAfter", desc := "(III)I" } : Jvm.MethodName)) ∈ lw_tbl := lw_at lw_m8 20 rfl
theorem q1833 : (Jvm.Cond.instanceMethod ({ cls := "PegLawsModel", name := "takeAfter", desc := "(III)I" } : Jvm.MethodName)) ∈ lw_all := lw_g (lw_at lw_m8 21 rfl) rfl
theorem q1834 : (Jvm.Cond.code ({ cls := "PegLawsModel", name := "takeAfter", desc := "(III)I" } : Jvm.MethodName) prog_23_method_20_code (4 : Nat) (Option.some Jvm.ClassFile.FieldType.int)) ∈ lw_all := lw_g (lw_at lw_m8 22 rfl) rfl
theorem q1835 : (Jvm.Cond.methodLink "PegLawsModel" (192 : Nat) ({ cls := "PegLawsModel", name := "takeWord", desc := "(I)V" } : Jvm.MethodName)) ∈ lw_all := lw_g (lw_at lw_m8 23 rfl) rfl
theorem q1836 : (Jvm.Cond.privateMethod ({ cls := "PegLawsModel", name := "takeWord", desc := "(I)V" } : Jvm.MethodName)) ∈ lw_tbl := lw_at lw_m8 24 rfl
theorem q1837 : (Jvm.Cond.instanceMethod ({ cls := "PegLawsModel", name := "takeWord", desc := "(I)V" } : Jvm.MethodName)) ∈ lw_all := lw_g (lw_at lw_m8 25 rfl) rfl
theorem q1838 : (Jvm.Cond.code ({ cls := "PegLawsModel", name := "takeWord", desc := "(I)V" } : Jvm.MethodName) prog_23_method_16_code (2 : Nat) (Option.none : Option Jvm.ClassFile.FieldType)) ∈ lw_all := lw_g (lw_at lw_m8 26 rfl) rfl
theorem q1839 : (Jvm.Cond.methodLink "PegLawsModel" (189 : Nat) ({ cls := "PegLawsModel", name := "hasWord", desc := "(I)Z" } : Jvm.MethodName)) ∈ lw_all := lw_g (lw_at lw_m8 27 rfl) rfl
theorem q1840 : (Jvm.Cond.privateMethod ({ cls := "PegLawsModel", name := "hasWord", desc := "(I)Z" } : Jvm.MethodName)) ∈ lw_tbl := lw_at lw_m8 28 rfl
theorem q1841 : (Jvm.Cond.instanceMethod ({ cls := "PegLawsModel", name := "hasWord", desc := "(I)Z" } : Jvm.MethodName)) ∈ lw_all := lw_g (lw_at lw_m8 29 rfl) rfl
theorem q1842 : (Jvm.Cond.code ({ cls := "PegLawsModel", name := "hasWord", desc := "(I)Z" } : Jvm.MethodName) prog_23_method_15_code (3 : Nat) (Option.some Jvm.ClassFile.FieldType.boolean)) ∈ lw_all := lw_g (lw_at lw_m8 30 rfl) rfl
theorem q1843 : (Jvm.Cond.methodLink "PegLawsModel" (195 : Nat) ({ cls := "PegLawsModel", name := "takeNumber", desc := "(II)I" } : Jvm.MethodName)) ∈ lw_all := lw_g (lw_at lw_m8 31 rfl) rfl
theorem q1844 : (Jvm.Cond.privateMethod ({ cls := "PegLawsModel", name := "takeNumber", desc := "(II)I" } : Jvm.MethodName)) ∈ lw_tbl := lw_at lw_m8 32 rfl
theorem q1845 : (Jvm.Cond.instanceMethod ({ cls := "PegLawsModel", name := "takeNumber", desc := "(II)I" } : Jvm.MethodName)) ∈ lw_all := lw_g (lw_at lw_m8 33 rfl) rfl
theorem q1846 : (Jvm.Cond.code ({ cls := "PegLawsModel", name := "takeNumber", desc := "(II)I" } : Jvm.MethodName) prog_23_method_19_code (3 : Nat) (Option.some Jvm.ClassFile.FieldType.int)) ∈ lw_all := lw_g (lw_at lw_m8 34 rfl) rfl
theorem q1847 : (Jvm.Cond.methodLink "PegLawsModel" (231 : Nat) ({ cls := "PegLawsModel", name := "readClash", desc := "()V" } : Jvm.MethodName)) ∈ lw_all := lw_g (lw_at lw_m8 35 rfl) rfl
theorem q1848 : (Jvm.Cond.privateMethod ({ cls := "PegLawsModel", name := "readClash", desc := "()V" } : Jvm.MethodName)) ∈ lw_tbl := lw_at lw_m8 36 rfl
theorem q1849 : (Jvm.Cond.instanceMethod ({ cls := "PegLawsModel", name := "readClash", desc := "()V" } : Jvm.MethodName)) ∈ lw_all := lw_g (lw_at lw_m8 37 rfl) rfl
theorem q1850 : (Jvm.Cond.code ({ cls := "PegLawsModel", name := "readClash", desc := "()V" } : Jvm.MethodName) prog_23_method_29_code (3 : Nat) (Option.none : Option Jvm.ClassFile.FieldType)) ∈ lw_all := lw_g (lw_at lw_m8 38 rfl) rfl
theorem q1851 : (Jvm.Cond.methodLink "PegLawsModel" (247 : Nat) ({ cls := "PegLawsModel", name := "takeTold", desc := "(Z)I" } : Jvm.MethodName)) ∈ lw_all := lw_g (lw_at lw_m8 39 rfl) rfl
theorem q1852 : (Jvm.Cond.privateMethod ({ cls := "PegLawsModel", name := "takeTold", desc := "(Z)I" } : Jvm.MethodName)) ∈ lw_tbl := lw_at lw_m8 40 rfl
theorem q1853 : (Jvm.Cond.instanceMethod ({ cls := "PegLawsModel", name := "takeTold", desc := "(Z)I" } : Jvm.MethodName)) ∈ lw_all := lw_g (lw_at lw_m8 41 rfl) rfl
theorem q1854 : (Jvm.Cond.code ({ cls := "PegLawsModel", name := "takeTold", desc := "(Z)I" } : Jvm.MethodName) prog_23_method_26_code (3 : Nat) (Option.some Jvm.ClassFile.FieldType.int)) ∈ lw_all := lw_g (lw_at lw_m8 42 rfl) rfl
theorem q1855 : (Jvm.Cond.methodLink "PegLawsModel" (216 : Nat) ({ cls := "PegLawsModel", name := "toldHere", desc := "(Z)I" } : Jvm.MethodName)) ∈ lw_all := lw_g (lw_at lw_m8 43 rfl) rfl
theorem q1856 : (Jvm.Cond.privateMethod ({ cls := "PegLawsModel", name := "toldHere", desc := "(Z)I" } : Jvm.MethodName)) ∈ lw_tbl := lw_at lw_m8 44 rfl
theorem q1857 : (Jvm.Cond.instanceMethod ({ cls := "PegLawsModel", name := "toldHere", desc := "(Z)I" } : Jvm.MethodName)) ∈ lw_all := lw_g (lw_at lw_m8 45 rfl) rfl
theorem q1858 : (Jvm.Cond.code ({ cls := "PegLawsModel", name := "toldHere", desc := "(Z)I" } : Jvm.MethodName) prog_23_method_25_code (3 : Nat) (Option.some Jvm.ClassFile.FieldType.int)) ∈ lw_all := lw_g (lw_at lw_m8 46 rfl) rfl
theorem q1859 : (Jvm.Cond.methodLink "PegLawsModel" (234 : Nat) ({ cls := "PegLawsModel", name := "readOnce", desc := "()V" } : Jvm.MethodName)) ∈ lw_all := lw_g (lw_at lw_m8 47 rfl) rfl
theorem q1860 : (Jvm.Cond.privateMethod ({ cls := "PegLawsModel", name := "readOnce", desc := "()V" } : Jvm.MethodName)) ∈ lw_tbl := lw_at lw_m8 48 rfl
theorem q1861 : (Jvm.Cond.instanceMethod ({ cls := "PegLawsModel", name := "readOnce", desc := "()V" } : Jvm.MethodName)) ∈ lw_all := lw_g (lw_at lw_m8 49 rfl) rfl
theorem q1862 : (Jvm.Cond.code ({ cls := "PegLawsModel", name := "readOnce", desc := "()V" } : Jvm.MethodName) prog_23_method_30_code (2 : Nat) (Option.none : Option Jvm.ClassFile.FieldType)) ∈ lw_all := lw_g (lw_at lw_m8 50 rfl) rfl
theorem q1863 : (Jvm.Cond.methodLink "PegLawsModel" (250 : Nat) ({ cls := "PegLawsModel", name := "readRow", desc := "(III)I" } : Jvm.MethodName)) ∈ lw_all := lw_g (lw_at lw_m8 51 rfl) rfl
theorem q1864 : (Jvm.Cond.privateMethod ({ cls := "PegLawsModel", name := "readRow", desc := "(III)I" } : Jvm.MethodName)) ∈ lw_tbl := lw_at lw_m8 52 rfl
theorem q1865 : (Jvm.Cond.instanceMethod ({ cls := "PegLawsModel", name := "readRow", desc := "(III)I" } : Jvm.MethodName)) ∈ lw_all := lw_g (lw_at lw_m8 53 rfl) rfl
theorem q1866 : (Jvm.Cond.code ({ cls := "PegLawsModel", name := "readRow", desc := "(III)I" } : Jvm.MethodName) prog_23_method_31_code (6 : Nat) (Option.some Jvm.ClassFile.FieldType.int)) ∈ lw_all := lw_g (lw_at lw_m8 54 rfl) rfl
theorem q1867 : (Jvm.Cond.methodLink "PegLawsModel" (253 : Nat) ({ cls := "PegLawsModel", name := "all", desc := "(I)V" } : Jvm.MethodName)) ∈ lw_all := lw_g (lw_at lw_m8 55 rfl) rfl
theorem q1868 : (Jvm.Cond.privateMethod ({ cls := "PegLawsModel", name := "all", desc := "(I)V" } : Jvm.MethodName)) ∈ lw_tbl := lw_at lw_m8 56 rfl
theorem q1869 : (Jvm.Cond.instanceMethod ({ cls := "PegLawsModel", name := "all", desc := "(I)V" } : Jvm.MethodName)) ∈ lw_all := lw_g (lw_at lw_m8 57 rfl) rfl
theorem q1870 : (Jvm.Cond.code ({ cls := "PegLawsModel", name := "all", desc := "(I)V" } : Jvm.MethodName) prog_23_method_35_code (3 : Nat) (Option.none : Option Jvm.ClassFile.FieldType)) ∈ lw_all := lw_g (lw_at lw_m8 58 rfl) rfl
theorem q1871 : (Jvm.Cond.methodLink "PegLawsModel" (264 : Nat) ({ cls := "PegLawsModel", name := "test", desc := "(I)V" } : Jvm.MethodName)) ∈ lw_all := lw_g (lw_at lw_m8 59 rfl) rfl
theorem q1872 : (Jvm.Cond.privateMethod ({ cls := "PegLawsModel", name := "test", desc := "(I)V" } : Jvm.MethodName)) ∈ lw_tbl := lw_at lw_m8 60 rfl
theorem q1873 : (Jvm.Cond.instanceMethod ({ cls := "PegLawsModel", name := "test", desc := "(I)V" } : Jvm.MethodName)) ∈ lw_all := lw_g (lw_at lw_m8 61 rfl) rfl
theorem q1874 : (Jvm.Cond.code ({ cls := "PegLawsModel", name := "test", desc := "(I)V" } : Jvm.MethodName) prog_23_method_36_code (3 : Nat) (Option.none : Option Jvm.ClassFile.FieldType)) ∈ lw_all := lw_g (lw_at lw_m8 62 rfl) rfl
theorem q1875 : (Jvm.Cond.methodLink "PegLawsModel" (267 : Nat) ({ cls := "PegLawsModel", name := "sums", desc := "(I)V" } : Jvm.MethodName)) ∈ lw_all := lw_g (lw_at lw_m8 63 rfl) rfl
theorem q1876 : (Jvm.Cond.privateMethod ({ cls := "PegLawsModel", name := "sums", desc := "(I)V" } : Jvm.MethodName)) ∈ lw_tbl := lw_at lw_m8 64 rfl
theorem q1877 : (Jvm.Cond.instanceMethod ({ cls := "PegLawsModel", name := "sums", desc := "(I)V" } : Jvm.MethodName)) ∈ lw_all := lw_g (lw_at lw_m8 65 rfl) rfl
theorem q1878 : (Jvm.Cond.code ({ cls := "PegLawsModel", name := "sums", desc := "(I)V" } : Jvm.MethodName) prog_23_method_37_code (3 : Nat) (Option.none : Option Jvm.ClassFile.FieldType)) ∈ lw_all := lw_g (lw_at lw_m8 66 rfl) rfl
theorem q1879 : (Jvm.Cond.methodLink "PegLawsModel" (273 : Nat) ({ cls := "PegLawsModel", name := "products", desc := "(I)V" } : Jvm.MethodName)) ∈ lw_all := lw_g (lw_at lw_m8 67 rfl) rfl
theorem q1880 : (Jvm.Cond.privateMethod ({ cls := "PegLawsModel", name := "products", desc := "(I)V" } : Jvm.MethodName)) ∈ lw_tbl := lw_at lw_m8 68 rfl
theorem q1881 : (Jvm.Cond.instanceMethod ({ cls := "PegLawsModel", name := "products", desc := "(I)V" } : Jvm.MethodName)) ∈ lw_all := lw_g (lw_at lw_m8 69 rfl) rfl
theorem q1882 : (Jvm.Cond.code ({ cls := "PegLawsModel", name := "products", desc := "(I)V" } : Jvm.MethodName) prog_23_method_38_code (2 : Nat) (Option.none : Option Jvm.ClassFile.FieldType)) ∈ lw_all := lw_g (lw_at lw_m8 70 rfl) rfl
theorem q1883 : (Jvm.Cond.methodLink "PegLawsModel" (276 : Nat) ({ cls := "PegLawsModel", name := "takePart", desc := "(I)V" } : Jvm.MethodName)) ∈ lw_all := lw_g (lw_at lw_m8 71 rfl) rfl
theorem q1884 : (Jvm.Cond.privateMethod ({ cls := "PegLawsModel", name := "takePart", desc := "(I)V" } : Jvm.MethodName)) ∈ lw_tbl := lw_at lw_m8 72 rfl
theorem q1885 : (Jvm.Cond.instanceMethod ({ cls := "PegLawsModel", name := "takePart", desc := "(I)V" } : Jvm.MethodName)) ∈ lw_all := lw_g (lw_at lw_m8 73 rfl) rfl
theorem q1886 : (Jvm.Cond.code ({ cls := "PegLawsModel", name := "takePart", desc := "(I)V" } : Jvm.MethodName) prog_23_method_39_code (4 : Nat) (Option.none : Option Jvm.ClassFile.FieldType)) ∈ lw_all := lw_g (lw_at lw_m8 74 rfl) rfl
theorem q1887 : (Jvm.Cond.methodLink "PegLawsModel" (180 : Nat) ({ cls := "PegLawsModel", name := "isSign", desc := "(I)Z" } : Jvm.MethodName)) ∈ lw_all := lw_g (lw_at lw_m8 75 rfl) rfl
theorem q1888 : (Jvm.Cond.privateMethod ({ cls := "PegLawsModel", name := "isSign", desc := "(I)Z" } : Jvm.MethodName)) ∈ lw_tbl := lw_at lw_m8 76 rfl
theorem q1889 : (Jvm.Cond.instanceMethod ({ cls := "PegLawsModel", name := "isSign", desc := "(I)Z" } : Jvm.MethodName)) ∈ lw_all := lw_g (lw_at lw_m8 77 rfl) rfl
theorem q1890 : (Jvm.Cond.code ({ cls := "PegLawsModel", name := "isSign", desc := "(I)Z" } : Jvm.MethodName) prog_23_method_11_code (2 : Nat) (Option.some Jvm.ClassFile.FieldType.boolean)) ∈ lw_all := lw_g (lw_at lw_m8 78 rfl) rfl
theorem q1891 : (Jvm.Cond.methodLink "PegLawsModel" (256 : Nat) ({ cls := "PegLawsModel", name := "emit", desc := "(II)V" } : Jvm.MethodName)) ∈ lw_all := lw_g (lw_at lw_m8 79 rfl) rfl
theorem q1892 : (Jvm.Cond.privateMethod ({ cls := "PegLawsModel", name := "emit", desc := "(II)V" } : Jvm.MethodName)) ∈ lw_tbl := lw_at lw_m8 80 rfl
theorem q1893 : (Jvm.Cond.instanceMethod ({ cls := "PegLawsModel", name := "emit", desc := "(II)V" } : Jvm.MethodName)) ∈ lw_all := lw_g (lw_at lw_m8 81 rfl) rfl
theorem q1894 : (Jvm.Cond.code ({ cls := "PegLawsModel", name := "emit", desc := "(II)V" } : Jvm.MethodName) prog_23_method_34_code (3 : Nat) (Option.none : Option Jvm.ClassFile.FieldType)) ∈ lw_all := lw_g (lw_at lw_m8 82 rfl) rfl
theorem q1895 : (Jvm.Cond.methodLink "PegLawsModel" (270 : Nat) ({ cls := "PegLawsModel", name := "hasSign", desc := "(I)Z" } : Jvm.MethodName)) ∈ lw_all := lw_g (lw_at lw_m8 83 rfl) rfl
theorem q1896 : (Jvm.Cond.privateMethod ({ cls := "PegLawsModel", name := "hasSign", desc := "(I)Z" } : Jvm.MethodName)) ∈ lw_tbl := lw_at lw_m8 84 rfl
theorem q1897 : (Jvm.Cond.instanceMethod ({ cls := "PegLawsModel", name := "hasSign", desc := "(I)Z" } : Jvm.MethodName)) ∈ lw_all := lw_g (lw_at lw_m8 85 rfl) rfl
theorem q1898 : (Jvm.Cond.code ({ cls := "PegLawsModel", name := "hasSign", desc := "(I)Z" } : Jvm.MethodName) prog_23_method_14_code (3 : Nat) (Option.some Jvm.ClassFile.FieldType.boolean)) ∈ lw_all := lw_g (lw_at lw_m8 86 rfl) rfl
theorem q1899 : (Jvm.Cond.methodLink "PegLawsModel" (237 : Nat) ({ cls := "PegLawsModel", name := "takeSign", desc := "(I)V" } : Jvm.MethodName)) ∈ lw_all := lw_g (lw_at lw_m8 87 rfl) rfl
theorem q1900 : (Jvm.Cond.privateMethod ({ cls := "PegLawsModel", name := "takeSign", desc := "(I)V" } : Jvm.MethodName)) ∈ lw_tbl := lw_at lw_m8 88 rfl
theorem q1901 : (Jvm.Cond.instanceMethod ({ cls := "PegLawsModel", name := "takeSign", desc := "(I)V" } : Jvm.MethodName)) ∈ lw_all := lw_g (lw_at lw_m8 89 rfl) rfl
theorem q1902 : (Jvm.Cond.code ({ cls := "PegLawsModel", name := "takeSign", desc := "(I)V" } : Jvm.MethodName) prog_23_method_13_code (2 : Nat) (Option.none : Option Jvm.ClassFile.FieldType)) ∈ lw_all := lw_g (lw_at lw_m8 90 rfl) rfl
theorem q1904 : (Jvm.Cond.instanceMethod ({ cls := "PegLawsModel", name := "day", desc := "()I" } : Jvm.MethodName)) ∈ lw_all := lw_g (lw_at lw_m8 92 rfl) rfl
theorem q1905 : (Jvm.Cond.selects "PegLawsModel" ({ cls := "PegLawsModel", name := "day", desc := "()I" } : Jvm.MethodName) ({ cls := "PegLawsModel", name := "day", desc := "()I" } : Jvm.MethodName)) ∈ lw_all := lw_g (lw_at lw_m8 93 rfl) rfl
theorem q1906 : (Jvm.Cond.code ({ cls := "PegLawsModel", name := "day", desc := "()I" } : Jvm.MethodName) prog_23_method_32_code (3 : Nat) (Option.some Jvm.ClassFile.FieldType.int)) ∈ lw_all := lw_g (lw_at lw_m8 94 rfl) rfl
theorem q1907 : (Jvm.Cond.methodLink "PegLawsModel" (260 : Nat) ({ cls := "PegLawsModel", name := "readPegs", desc := "()I" } : Jvm.MethodName)) ∈ lw_all := lw_g (lw_at lw_m8 95 rfl) rfl
theorem q1908 : (Jvm.Cond.privateMethod ({ cls := "PegLawsModel", name := "readPegs", desc := "()I" } : Jvm.MethodName)) ∈ lw_tbl := lw_at lw_m8 96 rfl
theorem q1909 : (Jvm.Cond.instanceMethod ({ cls := "PegLawsModel", name := "readPegs", desc := "()I" } : Jvm.MethodName)) ∈ lw_all := lw_g (lw_at lw_m8 97 rfl) rfl
theorem q1910 : (Jvm.Cond.code ({ cls := "PegLawsModel", name := "readPegs", desc := "()I" } : Jvm.MethodName) prog_23_method_33_code (5 : Nat) (Option.some Jvm.ClassFile.FieldType.int)) ∈ lw_all := lw_g (lw_at lw_m8 98 rfl) rfl
theorem q1912 : (Jvm.Cond.instanceMethod ({ cls := "PegLawsModel", name := "cloth", desc := "(II)I" } : Jvm.MethodName)) ∈ lw_all := lw_g (lw_at lw_m8 100 rfl) rfl
theorem q1913 : (Jvm.Cond.selects "PegLawsModel" ({ cls := "PegLawsModel", name := "cloth", desc := "(II)I" } : Jvm.MethodName) ({ cls := "PegLawsModel", name := "cloth", desc := "(II)I" } : Jvm.MethodName)) ∈ lw_all := lw_g (lw_at lw_m8 101 rfl) rfl
theorem q1914 : (Jvm.Cond.code ({ cls := "PegLawsModel", name := "cloth", desc := "(II)I" } : Jvm.MethodName) prog_23_method_68_code (3 : Nat) (Option.some Jvm.ClassFile.FieldType.int)) ∈ lw_all := lw_g (lw_at lw_m8 102 rfl) rfl
theorem q1915 : (Jvm.Cond.methodLink "PegLawsModel" (346 : Nat) ({ cls := "PegLawsModel", name := "isCloth", desc := "(I)Z" } : Jvm.MethodName)) ∈ lw_all := lw_g (lw_at lw_m8 103 rfl) rfl
theorem q1916 : (Jvm.Cond.privateMethod ({ cls := "PegLawsModel", name := "isCloth", desc := "(I)Z" } : Jvm.MethodName)) ∈ lw_tbl := lw_at lw_m8 104 rfl
theorem q1917 : (Jvm.Cond.instanceMethod ({ cls := "PegLawsModel", name := "isCloth", desc := "(I)Z" } : Jvm.MethodName)) ∈ lw_all := lw_g (lw_at lw_m8 105 rfl) rfl
theorem q1918 : (Jvm.Cond.code ({ cls := "PegLawsModel", name := "isCloth", desc := "(I)Z" } : Jvm.MethodName) prog_23_method_48_code (2 : Nat) (Option.some Jvm.ClassFile.FieldType.boolean)) ∈ lw_all := lw_g (lw_at lw_m8 106 rfl) rfl
theorem q1919 : (Jvm.Cond.methodLink "PegLawsModel" (292 : Nat) ({ cls := "PegLawsModel", name := "cloths", desc := "()I" } : Jvm.MethodName)) ∈ lw_all := lw_g (lw_at lw_m8 107 rfl) rfl
theorem q1920 : (Jvm.Cond.privateMethod ({ cls := "PegLawsModel", name := "cloths", desc := "()I" } : Jvm.MethodName)) ∈ lw_tbl := lw_at lw_m8 108 rfl
theorem q1921 : (Jvm.Cond.instanceMethod ({ cls := "PegLawsModel", name := "cloths", desc := "()I" } : Jvm.MethodName)) ∈ lw_all := lw_g (lw_at lw_m8 109 rfl) rfl
theorem q1922 : (Jvm.Cond.code ({ cls := "PegLawsModel", name := "cloths", desc := "()I" } : Jvm.MethodName) prog_23_method_46_code (1 : Nat) (Option.some Jvm.ClassFile.FieldType.int)) ∈ lw_all := lw_g (lw_at lw_m8 110 rfl) rfl
theorem q1923 : (Jvm.Cond.methodLink "PegLawsModel" (349 : Nat) ({ cls := "PegLawsModel", name := "within", desc := "(III)Z" } : Jvm.MethodName)) ∈ lw_all := lw_g (lw_at lw_m8 111 rfl) rfl
theorem q1924 : (Jvm.Cond.static ({ cls := "PegLawsModel", name := "within", desc := "(III)Z" } : Jvm.MethodName)) ∈ lw_all := lw_g (lw_at lw_m8 112 rfl) rfl
theorem q1925 : (Jvm.Cond.code ({ cls := "PegLawsModel", name := "within", desc := "(III)Z" } : Jvm.MethodName) prog_23_method_17_code (3 : Nat) (Option.some Jvm.ClassFile.FieldType.boolean)) ∈ lw_all := lw_g (lw_at lw_m8 113 rfl) rfl
theorem q1926 : (Jvm.Cond.methodLink "PegLawsModel" (295 : Nat) ({ cls := "PegLawsModel", name := "clothOf", desc := "(II)I" } : Jvm.MethodName)) ∈ lw_all := lw_g (lw_at lw_m8 114 rfl) rfl
theorem q1927 : (Jvm.Cond.privateMethod ({ cls := "PegLawsModel", name := "clothOf", desc := "(II)I" } : Jvm.MethodName)) ∈ lw_tbl := lw_at lw_m8 115 rfl
theorem q1928 : (Jvm.Cond.instanceMethod ({ cls := "PegLawsModel", name := "clothOf", desc := "(II)I" } : Jvm.MethodName)) ∈ lw_all := lw_g (lw_at lw_m8 116 rfl) rfl
theorem q1929 : (Jvm.Cond.code ({ cls := "PegLawsModel", name := "clothOf", desc := "(II)I" } : Jvm.MethodName) prog_23_method_47_code (3 : Nat) (Option.some Jvm.ClassFile.FieldType.int)) ∈ lw_all := lw_g (lw_at lw_m8 117 rfl) rfl
theorem q1930 : (Jvm.Cond.methodLink "PegLawsModel" (343 : Nat) ({ cls := "PegLawsModel", name := "isLaw", desc := "(II)Z" } : Jvm.MethodName)) ∈ lw_all := lw_g (lw_at lw_m8 118 rfl) rfl
theorem q1931 : (Jvm.Cond.privateMethod ({ cls := "PegLawsModel", name := "isLaw", desc := "(II)Z" } : Jvm.MethodName)) ∈ lw_tbl := lw_at lw_m8 119 rfl
theorem q1932 : (Jvm.Cond.instanceMethod ({ cls := "PegLawsModel", name := "isLaw", desc := "(II)Z" } : Jvm.MethodName)) ∈ lw_all := lw_g (lw_at lw_m8 120 rfl) rfl
theorem q1933 : (Jvm.Cond.code ({ cls := "PegLawsModel", name := "isLaw", desc := "(II)Z" } : Jvm.MethodName) prog_23_method_52_code (3 : Nat) (Option.some Jvm.ClassFile.FieldType.boolean)) ∈ lw_all := lw_g (lw_at lw_m8 121 rfl) rfl
theorem q1934 : (Jvm.Cond.methodLink "PegLawsModel" (298 : Nat) ({ cls := "PegLawsModel", name := "bits", desc := "(I)I" } : Jvm.MethodName)) ∈ lw_all := lw_g (lw_at lw_m8 122 rfl) rfl
theorem q1935 : (Jvm.Cond.static ({ cls := "PegLawsModel", name := "bits", desc := "(I)I" } : Jvm.MethodName)) ∈ lw_all := lw_g (lw_at lw_m8 123 rfl) rfl
theorem q1936 : (Jvm.Cond.code ({ cls := "PegLawsModel", name := "bits", desc := "(I)I" } : Jvm.MethodName) prog_23_method_49_code (3 : Nat) (Option.some Jvm.ClassFile.FieldType.int)) ∈ lw_all := lw_g (lw_at lw_m8 124 rfl) rfl
theorem q1937 : (Jvm.Cond.methodLink "PegLawsModel" (301 : Nat) ({ cls := "PegLawsModel", name := "needs", desc := "(I)I" } : Jvm.MethodName)) ∈ lw_all := lw_g (lw_at lw_m8 125 rfl) rfl
theorem q1938 : (Jvm.Cond.privateMethod ({ cls := "PegLawsModel", name := "needs", desc := "(I)I" } : Jvm.MethodName)) ∈ lw_tbl := lw_at lw_m8 126 rfl
theorem q1939 : (Jvm.Cond.instanceMethod ({ cls := "PegLawsModel", name := "needs", desc := "(I)I" } : Jvm.MethodName)) ∈ lw_all := lw_g (lw_at lw_m8 127 rfl) rfl
theorem q1940 : (Jvm.Cond.code ({ cls := "PegLawsModel", name := "needs", desc := "(I)I" } : Jvm.MethodName) prog_23_method_50_code (2 : Nat) (Option.some Jvm.ClassFile.FieldType.int)) ∈ lw_all := lw_g (lw_at lw_m8 128 rfl) rfl
theorem q1941 : (Jvm.Cond.methodLink "PegLawsModel" (352 : Nat) ({ cls := "PegLawsModel", name := "isTurned", desc := "(II)Z" } : Jvm.MethodName)) ∈ lw_all := lw_g (lw_at lw_m8 129 rfl) rfl
theorem q1942 : (Jvm.Cond.privateMethod ({ cls := "PegLawsModel", name := "isTurned", desc := "(II)Z" } : Jvm.MethodName)) ∈ lw_tbl := lw_at lw_m8 130 rfl
theorem q1943 : (Jvm.Cond.instanceMethod ({ cls := "PegLawsModel", name := "isTurned", desc := "(II)Z" } : Jvm.MethodName)) ∈ lw_all := lw_g (lw_at lw_m8 131 rfl) rfl
theorem q1944 : (Jvm.Cond.code ({ cls := "PegLawsModel", name := "isTurned", desc := "(II)Z" } : Jvm.MethodName) prog_23_method_53_code (3 : Nat) (Option.some Jvm.ClassFile.FieldType.boolean)) ∈ lw_all := lw_g (lw_at lw_m8 132 rfl) rfl
theorem q1945 : (Jvm.Cond.methodLink "PegLawsModel" (304 : Nat) ({ cls := "PegLawsModel", name := "isHung", desc := "(II)Z" } : Jvm.MethodName)) ∈ lw_all := lw_g (lw_at lw_m8 133 rfl) rfl
theorem q1946 : (Jvm.Cond.privateMethod ({ cls := "PegLawsModel", name := "isHung", desc := "(II)Z" } : Jvm.MethodName)) ∈ lw_tbl := lw_at lw_m8 134 rfl
theorem q1947 : (Jvm.Cond.instanceMethod ({ cls := "PegLawsModel", name := "isHung", desc := "(II)Z" } : Jvm.MethodName)) ∈ lw_all := lw_g (lw_at lw_m8 135 rfl) rfl
theorem q1948 : (Jvm.Cond.code ({ cls := "PegLawsModel", name := "isHung", desc := "(II)Z" } : Jvm.MethodName) prog_23_method_51_code (3 : Nat) (Option.some Jvm.ClassFile.FieldType.boolean)) ∈ lw_all := lw_g (lw_at lw_m8 136 rfl) rfl
theorem q1949 : (Jvm.Cond.methodLink "PegLawsModel" (308 : Nat) ({ cls := "PegLawsModel", name := "roomBy", desc := "(II)I" } : Jvm.MethodName)) ∈ lw_all := lw_g (lw_at lw_m8 137 rfl) rfl
theorem q1950 : (Jvm.Cond.privateMethod ({ cls := "PegLawsModel", name := "roomBy", desc := "(II)I" } : Jvm.MethodName)) ∈ lw_tbl := lw_at lw_m8 138 rfl
theorem q1951 : (Jvm.Cond.instanceMethod ({ cls := "PegLawsModel", name := "roomBy", desc := "(II)I" } : Jvm.MethodName)) ∈ lw_all := lw_g (lw_at lw_m8 139 rfl) rfl
theorem q1952 : (Jvm.Cond.code ({ cls := "PegLawsModel", name := "roomBy", desc := "(II)I" } : Jvm.MethodName) prog_23_method_54_code (3 : Nat) (Option.some Jvm.ClassFile.FieldType.int)) ∈ lw_all := lw_g (lw_at lw_m8 140 rfl) rfl
theorem q1953 : (Jvm.Cond.methodLink "PegLawsModel" (332 : Nat) ({ cls := "PegLawsModel", name := "windOf", desc := "(IZ)I" } : Jvm.MethodName)) ∈ lw_all := lw_g (lw_at lw_m8 141 rfl) rfl
theorem q1954 : (Jvm.Cond.privateMethod ({ cls := "PegLawsModel", name := "windOf", desc := "(IZ)I" } : Jvm.MethodName)) ∈ lw_tbl := lw_at lw_m8 142 rfl
theorem q1955 : (Jvm.Cond.instanceMethod ({ cls := "PegLawsModel", name := "windOf", desc := "(IZ)I" } : Jvm.MethodName)) ∈ lw_all := lw_g (lw_at lw_m8 143 rfl) rfl
theorem q1956 : (Jvm.Cond.code ({ cls := "PegLawsModel", name := "windOf", desc := "(IZ)I" } : Jvm.MethodName) prog_23_method_56_code (3 : Nat) (Option.some Jvm.ClassFile.FieldType.int)) ∈ lw_all := lw_g (lw_at lw_m8 144 rfl) rfl
theorem q1957 : (Jvm.Cond.methodLink "PegLawsModel" (317 : Nat) ({ cls := "PegLawsModel", name := "pullOf", desc := "(III)I" } : Jvm.MethodName)) ∈ lw_all := lw_g (lw_at lw_m8 145 rfl) rfl
theorem q1958 : (Jvm.Cond.privateMethod ({ cls := "PegLawsModel", name := "pullOf", desc := "(III)I" } : Jvm.MethodName)) ∈ lw_tbl := lw_at lw_m8 146 rfl
theorem q1959 : (Jvm.Cond.instanceMethod ({ cls := "PegLawsModel", name := "pullOf", desc := "(III)I" } : Jvm.MethodName)) ∈ lw_all := lw_g (lw_at lw_m8 147 rfl) rfl
theorem q1960 : (Jvm.Cond.code ({ cls := "PegLawsModel", name := "pullOf", desc := "(III)I" } : Jvm.MethodName) prog_23_method_58_code (5 : Nat) (Option.some Jvm.ClassFile.FieldType.int)) ∈ lw_all := lw_g (lw_at lw_m8 148 rfl) rfl
theorem q1961 : (Jvm.Cond.methodLink "PegLawsModel" (311 : Nat) ({ cls := "PegLawsModel", name := "laysFacts", desc := "(III)V" } : Jvm.MethodName)) ∈ lw_all := lw_g (lw_at lw_m8 149 rfl) rfl
theorem q1962 : (Jvm.Cond.privateMethod ({ cls := "PegLawsModel", name := "laysFacts", desc := "(III)V" } : Jvm.MethodName)) ∈ lw_tbl := lw_at lw_m8 150 rfl
theorem q1963 : (Jvm.Cond.instanceMethod ({ cls := "PegLawsModel", name := "laysFacts", desc := "(III)V" } : Jvm.MethodName)) ∈ lw_all := lw_g (lw_at lw_m8 151 rfl) rfl
theorem q1964 : (Jvm.Cond.code ({ cls := "PegLawsModel", name := "laysFacts", desc := "(III)V" } : Jvm.MethodName) prog_23_method_57_code (4 : Nat) (Option.none : Option Jvm.ClassFile.FieldType)) ∈ lw_all := lw_g (lw_at lw_m8 152 rfl) rfl
theorem q1965 : (Jvm.Cond.methodLink "PegLawsModel" (314 : Nat) ({ cls := "PegLawsModel", name := "worthAt", desc := "(I)I" } : Jvm.MethodName)) ∈ lw_all := lw_g (lw_at lw_m8 153 rfl) rfl
theorem q1966 : (Jvm.Cond.privateMethod ({ cls := "PegLawsModel", name := "worthAt", desc := "(I)I" } : Jvm.MethodName)) ∈ lw_tbl := lw_at lw_m8 154 rfl
theorem q1967 : (Jvm.Cond.instanceMethod ({ cls := "PegLawsModel", name := "worthAt", desc := "(I)I" } : Jvm.MethodName)) ∈ lw_all := lw_g (lw_at lw_m8 155 rfl) rfl
theorem q1968 : (Jvm.Cond.code ({ cls := "PegLawsModel", name := "worthAt", desc := "(I)I" } : Jvm.MethodName) prog_23_method_40_code (5 : Nat) (Option.some Jvm.ClassFile.FieldType.int)) ∈ lw_all := lw_g (lw_at lw_m8 156 rfl) rfl
theorem q1969 : (Jvm.Cond.methodLink "PegLawsModel" (279 : Nat) ({ cls := "PegLawsModel", name := "both", desc := "(III)I" } : Jvm.MethodName)) ∈ lw_all := lw_g (lw_at lw_m8 157 rfl) rfl
theorem q1970 : (Jvm.Cond.static ({ cls := "PegLawsModel", name := "both", desc := "(III)I" } : Jvm.MethodName)) ∈ lw_all := lw_g (lw_at lw_m8 158 rfl) rfl
theorem q1971 : (Jvm.Cond.code ({ cls := "PegLawsModel", name := "both", desc := "(III)I" } : Jvm.MethodName) prog_23_method_41_code (3 : Nat) (Option.some Jvm.ClassFile.FieldType.int)) ∈ lw_all := lw_g (lw_at lw_m8 159 rfl) rfl
theorem q1973 : (Jvm.Cond.instanceMethod ({ cls := "PegLawsModel", name := "peg", desc := "(II)I" } : Jvm.MethodName)) ∈ lw_all := lw_g (lw_at lw_m8 161 rfl) rfl
theorem q1974 : (Jvm.Cond.selects "PegLawsModel" ({ cls := "PegLawsModel", name := "peg", desc := "(II)I" } : Jvm.MethodName) ({ cls := "PegLawsModel", name := "peg", desc := "(II)I" } : Jvm.MethodName)) ∈ lw_all := lw_g (lw_at lw_m8 162 rfl) rfl
theorem q1975 : (Jvm.Cond.code ({ cls := "PegLawsModel", name := "peg", desc := "(II)I" } : Jvm.MethodName) prog_23_method_70_code (3 : Nat) (Option.some Jvm.ClassFile.FieldType.int)) ∈ lw_all := lw_g (lw_at lw_m8 163 rfl) rfl
theorem q1976 : (Jvm.Cond.methodLink "PegLawsModel" (355 : Nat) ({ cls := "PegLawsModel", name := "heldBy", desc := "(II)I" } : Jvm.MethodName)) ∈ lw_all := lw_g (lw_at lw_m8 164 rfl) rfl
theorem q1977 : (Jvm.Cond.privateMethod ({ cls := "PegLawsModel", name := "heldBy", desc := "(II)I" } : Jvm.MethodName)) ∈ lw_tbl := lw_at lw_m8 165 rfl
theorem q1978 : (Jvm.Cond.instanceMethod ({ cls := "PegLawsModel", name := "heldBy", desc := "(II)I" } : Jvm.MethodName)) ∈ lw_all := lw_g (lw_at lw_m8 166 rfl) rfl
theorem q1979 : (Jvm.Cond.code ({ cls := "PegLawsModel", name := "heldBy", desc := "(II)I" } : Jvm.MethodName) prog_23_method_69_code (5 : Nat) (Option.some Jvm.ClassFile.FieldType.int)) ∈ lw_all := lw_g (lw_at lw_m8 167 rfl) rfl
theorem q1981 : (Jvm.Cond.instanceMethod ({ cls := "PegLawsModel", name := "laws", desc := "()I" } : Jvm.MethodName)) ∈ lw_all := lw_g (lw_at lw_m8 169 rfl) rfl
theorem q1982 : (Jvm.Cond.selects "PegLawsModel" ({ cls := "PegLawsModel", name := "laws", desc := "()I" } : Jvm.MethodName) ({ cls := "PegLawsModel", name := "laws", desc := "()I" } : Jvm.MethodName)) ∈ lw_all := lw_g (lw_at lw_m8 170 rfl) rfl
theorem q1983 : (Jvm.Cond.code ({ cls := "PegLawsModel", name := "laws", desc := "()I" } : Jvm.MethodName) prog_23_method_71_code (1 : Nat) (Option.some Jvm.ClassFile.FieldType.int)) ∈ lw_all := lw_g (lw_at lw_m8 171 rfl) rfl
theorem q1984 : (Jvm.Cond.methodLink "PegLawsModel" (358 : Nat) ({ cls := "PegLawsModel", name := "lawsOf", desc := "(I)I" } : Jvm.MethodName)) ∈ lw_all := lw_g (lw_at lw_m8 172 rfl) rfl
theorem q1985 : (Jvm.Cond.privateMethod ({ cls := "PegLawsModel", name := "lawsOf", desc := "(I)I" } : Jvm.MethodName)) ∈ lw_tbl := lw_at lw_m8 173 rfl
theorem q1986 : (Jvm.Cond.instanceMethod ({ cls := "PegLawsModel", name := "lawsOf", desc := "(I)I" } : Jvm.MethodName)) ∈ lw_all := lw_g (lw_at lw_m8 174 rfl) rfl
theorem q1987 : (Jvm.Cond.code ({ cls := "PegLawsModel", name := "lawsOf", desc := "(I)I" } : Jvm.MethodName) prog_23_method_66_code (4 : Nat) (Option.some Jvm.ClassFile.FieldType.int)) ∈ lw_all := lw_g (lw_at lw_m8 175 rfl) rfl
theorem q1989 : (Jvm.Cond.instanceMethod ({ cls := "PegLawsModel", name := "free", desc := "()I" } : Jvm.MethodName)) ∈ lw_all := lw_g (lw_at lw_m8 177 rfl) rfl
theorem q1990 : (Jvm.Cond.selects "PegLawsModel" ({ cls := "PegLawsModel", name := "free", desc := "()I" } : Jvm.MethodName) ({ cls := "PegLawsModel", name := "free", desc := "()I" } : Jvm.MethodName)) ∈ lw_all := lw_g (lw_at lw_m8 178 rfl) rfl
theorem q1991 : (Jvm.Cond.code ({ cls := "PegLawsModel", name := "free", desc := "()I" } : Jvm.MethodName) prog_23_method_73_code (1 : Nat) (Option.some Jvm.ClassFile.FieldType.int)) ∈ lw_all := lw_g (lw_at lw_m8 179 rfl) rfl
theorem q1992 : (Jvm.Cond.methodLink "PegLawsModel" (361 : Nat) ({ cls := "PegLawsModel", name := "freePegs", desc := "(I)I" } : Jvm.MethodName)) ∈ lw_all := lw_g (lw_at lw_m8 180 rfl) rfl
theorem q1993 : (Jvm.Cond.privateMethod ({ cls := "PegLawsModel", name := "freePegs", desc := "(I)I" } : Jvm.MethodName)) ∈ lw_tbl := lw_at lw_m8 181 rfl
theorem q1994 : (Jvm.Cond.instanceMethod ({ cls := "PegLawsModel", name := "freePegs", desc := "(I)I" } : Jvm.MethodName)) ∈ lw_all := lw_g (lw_at lw_m8 182 rfl) rfl
theorem q1995 : (Jvm.Cond.code ({ cls := "PegLawsModel", name := "freePegs", desc := "(I)I" } : Jvm.MethodName) prog_23_method_72_code (4 : Nat) (Option.some Jvm.ClassFile.FieldType.int)) ∈ lw_all := lw_g (lw_at lw_m8 183 rfl) rfl
theorem q1997 : (Jvm.Cond.instanceMethod ({ cls := "PegLawsModel", name := "hang", desc := "(II)I" } : Jvm.MethodName)) ∈ lw_all := lw_g (lw_at lw_m8 185 rfl) rfl
theorem q1998 : (Jvm.Cond.selects "PegLawsModel" ({ cls := "PegLawsModel", name := "hang", desc := "(II)I" } : Jvm.MethodName) ({ cls := "PegLawsModel", name := "hang", desc := "(II)I" } : Jvm.MethodName)) ∈ lw_all := lw_g (lw_at lw_m8 186 rfl) rfl
theorem q1999 : (Jvm.Cond.code ({ cls := "PegLawsModel", name := "hang", desc := "(II)I" } : Jvm.MethodName) prog_23_method_75_code (3 : Nat) (Option.some Jvm.ClassFile.FieldType.int)) ∈ lw_all := lw_g (lw_at lw_m8 187 rfl) rfl
theorem q2000 : (Jvm.Cond.methodLink "PegLawsModel" (367 : Nat) ({ cls := "PegLawsModel", name := "mayHang", desc := "(III)Z" } : Jvm.MethodName)) ∈ lw_all := lw_g (lw_at lw_m8 188 rfl) rfl
theorem q2001 : (Jvm.Cond.privateMethod ({ cls := "PegLawsModel", name := "mayHang", desc := "(III)Z" } : Jvm.MethodName)) ∈ lw_tbl := lw_at lw_m8 189 rfl
theorem q2002 : (Jvm.Cond.instanceMethod ({ cls := "PegLawsModel", name := "mayHang", desc := "(III)Z" } : Jvm.MethodName)) ∈ lw_all := lw_g (lw_at lw_m8 190 rfl) rfl
theorem q2003 : (Jvm.Cond.code ({ cls := "PegLawsModel", name := "mayHang", desc := "(III)Z" } : Jvm.MethodName) prog_23_method_74_code (6 : Nat) (Option.some Jvm.ClassFile.FieldType.boolean)) ∈ lw_all := lw_g (lw_at lw_m8 191 rfl) rfl
theorem q2004 : (Jvm.Cond.methodLink "PegLawsModel" (364 : Nat) ({ cls := "PegLawsModel", name := "roomLeft", desc := "(I)I" } : Jvm.MethodName)) ∈ lw_all := lw_g (lw_at lw_m8 192 rfl) rfl
theorem q2005 : (Jvm.Cond.privateMethod ({ cls := "PegLawsModel", name := "roomLeft", desc := "(I)I" } : Jvm.MethodName)) ∈ lw_tbl := lw_at lw_m8 193 rfl
theorem q2006 : (Jvm.Cond.instanceMethod ({ cls := "PegLawsModel", name := "roomLeft", desc := "(I)I" } : Jvm.MethodName)) ∈ lw_all := lw_g (lw_at lw_m8 194 rfl) rfl
theorem q2007 : (Jvm.Cond.code ({ cls := "PegLawsModel", name := "roomLeft", desc := "(I)I" } : Jvm.MethodName) prog_23_method_55_code (4 : Nat) (Option.some Jvm.ClassFile.FieldType.int)) ∈ lw_all := lw_g (lw_at lw_m8 195 rfl) rfl
theorem q2008 : (Jvm.Cond.methodLink "PegLawsModel" (370 : Nat) ({ cls := "PegLawsModel", name := "keeps", desc := "()V" } : Jvm.MethodName)) ∈ lw_all := lw_g (lw_at lw_m8 196 rfl) rfl
theorem q2009 : (Jvm.Cond.privateMethod ({ cls := "PegLawsModel", name := "keeps", desc := "()V" } : Jvm.MethodName)) ∈ lw_tbl := lw_at lw_m8 197 rfl
theorem q2010 : (Jvm.Cond.instanceMethod ({ cls := "PegLawsModel", name := "keeps", desc := "()V" } : Jvm.MethodName)) ∈ lw_all := lw_g (lw_at lw_m8 198 rfl) rfl
theorem q2011 : (Jvm.Cond.code ({ cls := "PegLawsModel", name := "keeps", desc := "()V" } : Jvm.MethodName) prog_23_method_45_code (2 : Nat) (Option.none : Option Jvm.ClassFile.FieldType)) ∈ lw_all := lw_g (lw_at lw_m8 199 rfl) rfl
theorem q2012 : (Jvm.Cond.methodLink "PegLawsModel" (288 : Nat) ({ cls := "PegLawsModel", name := "copies", desc := "(III)V" } : Jvm.MethodName)) ∈ lw_all := lw_g (lw_at lw_m8 200 rfl) rfl
theorem q2013 : (Jvm.Cond.privateMethod ({ cls := "PegLawsModel", name := "copies", desc := "(III)V" } : Jvm.MethodName)) ∈ lw_tbl := lw_at lw_m8 201 rfl
theorem q2014 : (Jvm.Cond.instanceMethod ({ cls := "PegLawsModel", name := "copies", desc := "(III)V" } : Jvm.MethodName)) ∈ lw_all := lw_g (lw_at lw_m8 202 rfl) rfl
theorem q2015 : (Jvm.Cond.code ({ cls := "PegLawsModel", name := "copies", desc := "(III)V" } : Jvm.MethodName) prog_23_method_42_code (5 : Nat) (Option.none : Option Jvm.ClassFile.FieldType)) ∈ lw_all := lw_g (lw_at lw_m8 203 rfl) rfl
theorem q2017 : (Jvm.Cond.instanceMethod ({ cls := "PegLawsModel", name := "take", desc := "(I)Z" } : Jvm.MethodName)) ∈ lw_all := lw_g (lw_at lw_m8 205 rfl) rfl
theorem q2018 : (Jvm.Cond.selects "PegLawsModel" ({ cls := "PegLawsModel", name := "take", desc := "(I)Z" } : Jvm.MethodName) ({ cls := "PegLawsModel", name := "take", desc := "(I)Z" } : Jvm.MethodName)) ∈ lw_all := lw_g (lw_at lw_m8 206 rfl) rfl
theorem q2019 : (Jvm.Cond.code ({ cls := "PegLawsModel", name := "take", desc := "(I)Z" } : Jvm.MethodName) prog_23_method_76_code (2 : Nat) (Option.some Jvm.ClassFile.FieldType.boolean)) ∈ lw_all := lw_g (lw_at lw_m8 207 rfl) rfl
theorem q2021 : (Jvm.Cond.instanceMethod ({ cls := "PegLawsModel", name := "wash", desc := "(I)I" } : Jvm.MethodName)) ∈ lw_all := lw_g (lw_at lw_m8 209 rfl) rfl
theorem q2022 : (Jvm.Cond.selects "PegLawsModel" ({ cls := "PegLawsModel", name := "wash", desc := "(I)I" } : Jvm.MethodName) ({ cls := "PegLawsModel", name := "wash", desc := "(I)I" } : Jvm.MethodName)) ∈ lw_all := lw_g (lw_at lw_m8 210 rfl) rfl
theorem q2023 : (Jvm.Cond.code ({ cls := "PegLawsModel", name := "wash", desc := "(I)I" } : Jvm.MethodName) prog_23_method_78_code (2 : Nat) (Option.some Jvm.ClassFile.FieldType.int)) ∈ lw_all := lw_g (lw_at lw_m8 211 rfl) rfl
theorem q2024 : (Jvm.Cond.methodLink "PegLawsModel" (373 : Nat) ({ cls := "PegLawsModel", name := "washes", desc := "(II)I" } : Jvm.MethodName)) ∈ lw_all := lw_g (lw_at lw_m8 212 rfl) rfl
theorem q2025 : (Jvm.Cond.privateMethod ({ cls := "PegLawsModel", name := "washes", desc := "(II)I" } : Jvm.MethodName)) ∈ lw_tbl := lw_at lw_m8 213 rfl
theorem q2026 : (Jvm.Cond.instanceMethod ({ cls := "PegLawsModel", name := "washes", desc := "(II)I" } : Jvm.MethodName)) ∈ lw_all := lw_g (lw_at lw_m8 214 rfl) rfl
theorem q2027 : (Jvm.Cond.code ({ cls := "PegLawsModel", name := "washes", desc := "(II)I" } : Jvm.MethodName) prog_23_method_77_code (4 : Nat) (Option.some Jvm.ClassFile.FieldType.int)) ∈ lw_all := lw_g (lw_at lw_m8 215 rfl) rfl
theorem q2029 : (Jvm.Cond.instanceMethod ({ cls := "PegLawsModel", name := "buy", desc := "(I)I" } : Jvm.MethodName)) ∈ lw_all := lw_g (lw_at lw_m8 217 rfl) rfl
theorem q2030 : (Jvm.Cond.selects "PegLawsModel" ({ cls := "PegLawsModel", name := "buy", desc := "(I)I" } : Jvm.MethodName) ({ cls := "PegLawsModel", name := "buy", desc := "(I)I" } : Jvm.MethodName)) ∈ lw_all := lw_g (lw_at lw_m8 218 rfl) rfl
theorem q2031 : (Jvm.Cond.code ({ cls := "PegLawsModel", name := "buy", desc := "(I)I" } : Jvm.MethodName) prog_23_method_80_code (2 : Nat) (Option.some Jvm.ClassFile.FieldType.int)) ∈ lw_all := lw_g (lw_at lw_m8 219 rfl) rfl
theorem q2032 : (Jvm.Cond.methodLink "PegLawsModel" (376 : Nat) ({ cls := "PegLawsModel", name := "buys", desc := "(II)I" } : Jvm.MethodName)) ∈ lw_all := lw_g (lw_at lw_m8 220 rfl) rfl
theorem q2033 : (Jvm.Cond.privateMethod ({ cls := "PegLawsModel", name := "buys", desc := "(II)I" } : Jvm.MethodName)) ∈ lw_tbl := lw_at lw_m8 221 rfl
theorem q2034 : (Jvm.Cond.instanceMethod ({ cls := "PegLawsModel", name := "buys", desc := "(II)I" } : Jvm.MethodName)) ∈ lw_all := lw_g (lw_at lw_m8 222 rfl) rfl
theorem q2035 : (Jvm.Cond.code ({ cls := "PegLawsModel", name := "buys", desc := "(II)I" } : Jvm.MethodName) prog_23_method_79_code (4 : Nat) (Option.some Jvm.ClassFile.FieldType.int)) ∈ lw_all := lw_g (lw_at lw_m8 223 rfl) rfl
theorem q2037 : (Jvm.Cond.instanceMethod ({ cls := "PegLawsModel", name := "hour", desc := "()I" } : Jvm.MethodName)) ∈ lw_all := lw_g (lw_at lw_m8 225 rfl) rfl
theorem q2038 : (Jvm.Cond.selects "PegLawsModel" ({ cls := "PegLawsModel", name := "hour", desc := "()I" } : Jvm.MethodName) ({ cls := "PegLawsModel", name := "hour", desc := "()I" } : Jvm.MethodName)) ∈ lw_all := lw_g (lw_at lw_m8 226 rfl) rfl
theorem q2039 : (Jvm.Cond.code ({ cls := "PegLawsModel", name := "hour", desc := "()I" } : Jvm.MethodName) prog_23_method_81_code (1 : Nat) (Option.some Jvm.ClassFile.FieldType.int)) ∈ lw_all := lw_g (lw_at lw_m8 227 rfl) rfl
theorem q2040 : (Jvm.Cond.methodLink "PegLawsModel" (379 : Nat) ({ cls := "PegLawsModel", name := "passes", desc := "(IZ)I" } : Jvm.MethodName)) ∈ lw_all := lw_g (lw_at lw_m8 228 rfl) rfl
theorem q2041 : (Jvm.Cond.privateMethod ({ cls := "PegLawsModel", name := "passes", desc := "(IZ)I" } : Jvm.MethodName)) ∈ lw_tbl := lw_at lw_m8 229 rfl
theorem q2042 : (Jvm.Cond.instanceMethod ({ cls := "PegLawsModel", name := "passes", desc := "(IZ)I" } : Jvm.MethodName)) ∈ lw_all := lw_g (lw_at lw_m8 230 rfl) rfl
theorem q2043 : (Jvm.Cond.code ({ cls := "PegLawsModel", name := "passes", desc := "(IZ)I" } : Jvm.MethodName) prog_23_method_65_code (6 : Nat) (Option.some Jvm.ClassFile.FieldType.int)) ∈ lw_all := lw_g (lw_at lw_m8 231 rfl) rfl
theorem q2044 : (Jvm.Cond.methodLink "PegLawsModel" (336 : Nat) ({ cls := "PegLawsModel", name := "pulls", desc := "(III)Z" } : Jvm.MethodName)) ∈ lw_all := lw_g (lw_at lw_m8 232 rfl) rfl
theorem q2045 : (Jvm.Cond.privateMethod ({ cls := "PegLawsModel", name := "pulls", desc := "(III)Z" } : Jvm.MethodName)) ∈ lw_tbl := lw_at lw_m8 233 rfl
theorem q2046 : (Jvm.Cond.instanceMethod ({ cls := "PegLawsModel", name := "pulls", desc := "(III)Z" } : Jvm.MethodName)) ∈ lw_all := lw_g (lw_at lw_m8 234 rfl) rfl
theorem q2047 : (Jvm.Cond.code ({ cls := "PegLawsModel", name := "pulls", desc := "(III)Z" } : Jvm.MethodName) prog_23_method_64_code (7 : Nat) (Option.some Jvm.ClassFile.FieldType.boolean)) ∈ lw_all := lw_g (lw_at lw_m8 235 rfl) rfl
theorem q2048 : (Jvm.Cond.methodLink "PegLawsModel" (320 : Nat) ({ cls := "PegLawsModel", name := "gripsOf", desc := "(II)I" } : Jvm.MethodName)) ∈ lw_all := lw_g (lw_at lw_m8 236 rfl) rfl
theorem q2049 : (Jvm.Cond.privateMethod ({ cls := "PegLawsModel", name := "gripsOf", desc := "(II)I" } : Jvm.MethodName)) ∈ lw_tbl := lw_at lw_m8 237 rfl
theorem q2050 : (Jvm.Cond.instanceMethod ({ cls := "PegLawsModel", name := "gripsOf", desc := "(II)I" } : Jvm.MethodName)) ∈ lw_all := lw_g (lw_at lw_m8 238 rfl) rfl
theorem q2051 : (Jvm.Cond.code ({ cls := "PegLawsModel", name := "gripsOf", desc := "(II)I" } : Jvm.MethodName) prog_23_method_60_code (5 : Nat) (Option.some Jvm.ClassFile.FieldType.int)) ∈ lw_all := lw_g (lw_at lw_m8 239 rfl) rfl
theorem q2052 : (Jvm.Cond.methodLink "PegLawsModel" (323 : Nat) ({ cls := "PegLawsModel", name := "loosens", desc := "(II)V" } : Jvm.MethodName)) ∈ lw_all := lw_g (lw_at lw_m9 0 rfl) rfl
theorem q2053 : (Jvm.Cond.privateMethod ({ cls := "PegLawsModel", name := "loosens", desc := "(II)V" } : Jvm.MethodName)) ∈ lw_tbl := lw_at lw_m9 1 rfl
theorem q2054 : (Jvm.Cond.instanceMethod ({ cls := "PegLawsModel", name := "loosens", desc := "(II)V" } : Jvm.MethodName)) ∈ lw_all := lw_g (lw_at lw_m9 2 rfl) rfl
theorem q2055 : (Jvm.Cond.code ({ cls := "PegLawsModel", name := "loosens", desc := "(II)V" } : Jvm.MethodName) prog_23_method_62_code (4 : Nat) (Option.none : Option Jvm.ClassFile.FieldType)) ∈ lw_all := lw_g (lw_at lw_m9 3 rfl) rfl
theorem q2056 : (Jvm.Cond.methodLink "PegLawsModel" (326 : Nat) ({ cls := "PegLawsModel", name := "held", desc := "(II)I" } : Jvm.MethodName)) ∈ lw_all := lw_g (lw_at lw_m9 4 rfl) rfl
theorem q2057 : (Jvm.Cond.privateMethod ({ cls := "PegLawsModel", name := "held", desc := "(II)I" } : Jvm.MethodName)) ∈ lw_tbl := lw_at lw_m9 5 rfl
theorem q2058 : (Jvm.Cond.instanceMethod ({ cls := "PegLawsModel", name := "held", desc := "(II)I" } : Jvm.MethodName)) ∈ lw_all := lw_g (lw_at lw_m9 6 rfl) rfl
theorem q2059 : (Jvm.Cond.code ({ cls := "PegLawsModel", name := "held", desc := "(II)I" } : Jvm.MethodName) prog_23_method_63_code (5 : Nat) (Option.some Jvm.ClassFile.FieldType.int)) ∈ lw_all := lw_g (lw_at lw_m9 7 rfl) rfl
theorem q2060 : (Jvm.Cond.methodLink "PegLawsModel" (329 : Nat) ({ cls := "PegLawsModel", name := "falls", desc := "(II)V" } : Jvm.MethodName)) ∈ lw_all := lw_g (lw_at lw_m9 8 rfl) rfl
theorem q2061 : (Jvm.Cond.privateMethod ({ cls := "PegLawsModel", name := "falls", desc := "(II)V" } : Jvm.MethodName)) ∈ lw_tbl := lw_at lw_m9 9 rfl
theorem q2062 : (Jvm.Cond.instanceMethod ({ cls := "PegLawsModel", name := "falls", desc := "(II)V" } : Jvm.MethodName)) ∈ lw_all := lw_g (lw_at lw_m9 10 rfl) rfl
theorem q2063 : (Jvm.Cond.code ({ cls := "PegLawsModel", name := "falls", desc := "(II)V" } : Jvm.MethodName) prog_23_method_61_code (3 : Nat) (Option.none : Option Jvm.ClassFile.FieldType)) ∈ lw_all := lw_g (lw_at lw_m9 11 rfl) rfl
theorem q2064 : (Jvm.Cond.methodLink "PegLawsModel" (340 : Nat) ({ cls := "PegLawsModel", name := "driedOf", desc := "(III)I" } : Jvm.MethodName)) ∈ lw_all := lw_g (lw_at lw_m9 12 rfl) rfl
theorem q2065 : (Jvm.Cond.privateMethod ({ cls := "PegLawsModel", name := "driedOf", desc := "(III)I" } : Jvm.MethodName)) ∈ lw_tbl := lw_at lw_m9 13 rfl
theorem q2066 : (Jvm.Cond.instanceMethod ({ cls := "PegLawsModel", name := "driedOf", desc := "(III)I" } : Jvm.MethodName)) ∈ lw_all := lw_g (lw_at lw_m9 14 rfl) rfl
theorem q2067 : (Jvm.Cond.code ({ cls := "PegLawsModel", name := "driedOf", desc := "(III)I" } : Jvm.MethodName) prog_23_method_59_code (5 : Nat) (Option.some Jvm.ClassFile.FieldType.int)) ∈ lw_all := lw_g (lw_at lw_m9 15 rfl) rfl
theorem q2069 : (Jvm.Cond.instanceMethod ({ cls := "PegLawsModel", name := "undo", desc := "()Z" } : Jvm.MethodName)) ∈ lw_all := lw_g (lw_at lw_m9 17 rfl) rfl
theorem q2070 : (Jvm.Cond.selects "PegLawsModel" ({ cls := "PegLawsModel", name := "undo", desc := "()Z" } : Jvm.MethodName) ({ cls := "PegLawsModel", name := "undo", desc := "()Z" } : Jvm.MethodName)) ∈ lw_all := lw_g (lw_at lw_m9 18 rfl) rfl
theorem q2071 : (Jvm.Cond.code ({ cls := "PegLawsModel", name := "undo", desc := "()Z" } : Jvm.MethodName) prog_23_method_82_code (1 : Nat) (Option.some Jvm.ClassFile.FieldType.boolean)) ∈ lw_all := lw_g (lw_at lw_m9 19 rfl) rfl
theorem q2073 : (Jvm.Cond.instanceMethod ({ cls := "PegLawsModel", name := "judged", desc := "(I)I" } : Jvm.MethodName)) ∈ lw_all := lw_g (lw_at lw_m9 21 rfl) rfl
theorem q2074 : (Jvm.Cond.selects "PegLawsModel" ({ cls := "PegLawsModel", name := "judged", desc := "(I)I" } : Jvm.MethodName) ({ cls := "PegLawsModel", name := "judged", desc := "(I)I" } : Jvm.MethodName)) ∈ lw_all := lw_g (lw_at lw_m9 22 rfl) rfl
theorem q2075 : (Jvm.Cond.code ({ cls := "PegLawsModel", name := "judged", desc := "(I)I" } : Jvm.MethodName) prog_23_method_84_code (7 : Nat) (Option.some Jvm.ClassFile.FieldType.int)) ∈ lw_all := lw_g (lw_at lw_m9 23 rfl) rfl
theorem q2076 : (Jvm.Cond.methodLink "PegLawsModel" (382 : Nat) ({ cls := "PegLawsModel", name := "does", desc := "(III)Z" } : Jvm.MethodName)) ∈ lw_all := lw_g (lw_at lw_m9 24 rfl) rfl
theorem q2077 : (Jvm.Cond.privateMethod ({ cls := "PegLawsModel", name := "does", desc := "(III)Z" } : Jvm.MethodName)) ∈ lw_tbl := lw_at lw_m9 25 rfl
theorem q2078 : (Jvm.Cond.instanceMethod ({ cls := "PegLawsModel", name := "does", desc := "(III)Z" } : Jvm.MethodName)) ∈ lw_all := lw_g (lw_at lw_m9 26 rfl) rfl
theorem q2079 : (Jvm.Cond.code ({ cls := "PegLawsModel", name := "does", desc := "(III)Z" } : Jvm.MethodName) prog_23_method_83_code (5 : Nat) (Option.some Jvm.ClassFile.FieldType.boolean)) ∈ lw_all := lw_g (lw_at lw_m9 27 rfl) rfl
theorem q2080 : (Jvm.Cond.methodLink "PegLawsModel" (385 : Nat) ({ cls := "PegLawsModel", name := "worthOf", desc := "(I)I" } : Jvm.MethodName)) ∈ lw_all := lw_g (lw_at lw_m9 28 rfl) rfl
theorem q2081 : (Jvm.Cond.privateMethod ({ cls := "PegLawsModel", name := "worthOf", desc := "(I)I" } : Jvm.MethodName)) ∈ lw_tbl := lw_at lw_m9 29 rfl
theorem q2082 : (Jvm.Cond.instanceMethod ({ cls := "PegLawsModel", name := "worthOf", desc := "(I)I" } : Jvm.MethodName)) ∈ lw_all := lw_g (lw_at lw_m9 30 rfl) rfl
theorem q2083 : (Jvm.Cond.code ({ cls := "PegLawsModel", name := "worthOf", desc := "(I)I" } : Jvm.MethodName) prog_23_method_67_code (4 : Nat) (Option.some Jvm.ClassFile.FieldType.int)) ∈ lw_all := lw_g (lw_at lw_m9 31 rfl) rfl
theorem q2085 : (Jvm.Cond.instanceMethod ({ cls := "PegLawsModel", name := "holds", desc := "(I)I" } : Jvm.MethodName)) ∈ lw_all := lw_g (lw_at lw_m9 33 rfl) rfl
theorem q2086 : (Jvm.Cond.selects "PegLawsModel" ({ cls := "PegLawsModel", name := "holds", desc := "(I)I" } : Jvm.MethodName) ({ cls := "PegLawsModel", name := "holds", desc := "(I)I" } : Jvm.MethodName)) ∈ lw_all := lw_g (lw_at lw_m9 34 rfl) rfl
theorem q2087 : (Jvm.Cond.code ({ cls := "PegLawsModel", name := "holds", desc := "(I)I" } : Jvm.MethodName) prog_23_method_85_code (3 : Nat) (Option.some Jvm.ClassFile.FieldType.int)) ∈ lw_all := lw_g (lw_at lw_m9 35 rfl) rfl
theorem q2089 : (Jvm.Cond.instanceMethod ({ cls := "PegLawsModel", name := "clashes", desc := "()I" } : Jvm.MethodName)) ∈ lw_all := lw_g (lw_at lw_m9 37 rfl) rfl
theorem q2090 : (Jvm.Cond.selects "PegLawsModel" ({ cls := "PegLawsModel", name := "clashes", desc := "()I" } : Jvm.MethodName) ({ cls := "PegLawsModel", name := "clashes", desc := "()I" } : Jvm.MethodName)) ∈ lw_all := lw_g (lw_at lw_m9 38 rfl) rfl
theorem q2091 : (Jvm.Cond.code ({ cls := "PegLawsModel", name := "clashes", desc := "()I" } : Jvm.MethodName) prog_23_method_87_code (1 : Nat) (Option.some Jvm.ClassFile.FieldType.int)) ∈ lw_all := lw_g (lw_at lw_m9 39 rfl) rfl
theorem q2092 : (Jvm.Cond.methodLink "PegLawsModel" (388 : Nat) ({ cls := "PegLawsModel", name := "clashesIn", desc := "(I)I" } : Jvm.MethodName)) ∈ lw_all := lw_g (lw_at lw_m9 40 rfl) rfl
theorem q2093 : (Jvm.Cond.privateMethod ({ cls := "PegLawsModel", name := "clashesIn", desc := "(I)I" } : Jvm.MethodName)) ∈ lw_tbl := lw_at lw_m9 41 rfl
theorem q2094 : (Jvm.Cond.instanceMethod ({ cls := "PegLawsModel", name := "clashesIn", desc := "(I)I" } : Jvm.MethodName)) ∈ lw_all := lw_g (lw_at lw_m9 42 rfl) rfl
theorem q2095 : (Jvm.Cond.code ({ cls := "PegLawsModel", name := "clashesIn", desc := "(I)I" } : Jvm.MethodName) prog_23_method_86_code (5 : Nat) (Option.some Jvm.ClassFile.FieldType.int)) ∈ lw_all := lw_g (lw_at lw_m9 43 rfl) rfl
theorem q2097 : (Jvm.Cond.instanceMethod ({ cls := "PegLawsModel", name := "mend", desc := "(I)I" } : Jvm.MethodName)) ∈ lw_all := lw_g (lw_at lw_m9 45 rfl) rfl
theorem q2098 : (Jvm.Cond.selects "PegLawsModel" ({ cls := "PegLawsModel", name := "mend", desc := "(I)I" } : Jvm.MethodName) ({ cls := "PegLawsModel", name := "mend", desc := "(I)I" } : Jvm.MethodName)) ∈ lw_all := lw_g (lw_at lw_m9 46 rfl) rfl
theorem q2099 : (Jvm.Cond.code ({ cls := "PegLawsModel", name := "mend", desc := "(I)I" } : Jvm.MethodName) prog_23_method_88_code (6 : Nat) (Option.some Jvm.ClassFile.FieldType.int)) ∈ lw_all := lw_g (lw_at lw_m9 47 rfl) rfl
theorem q2101 : (Jvm.Cond.instanceMethod ({ cls := "PegLawsModel", name := "fill", desc := "(II)I" } : Jvm.MethodName)) ∈ lw_all := lw_g (lw_at lw_m9 49 rfl) rfl
theorem q2102 : (Jvm.Cond.selects "PegLawsModel" ({ cls := "PegLawsModel", name := "fill", desc := "(II)I" } : Jvm.MethodName) ({ cls := "PegLawsModel", name := "fill", desc := "(II)I" } : Jvm.MethodName)) ∈ lw_all := lw_g (lw_at lw_m9 50 rfl) rfl
theorem q2103 : (Jvm.Cond.code ({ cls := "PegLawsModel", name := "fill", desc := "(II)I" } : Jvm.MethodName) prog_23_method_91_code (5 : Nat) (Option.some Jvm.ClassFile.FieldType.int)) ∈ lw_all := lw_g (lw_at lw_m9 51 rfl) rfl
theorem q2104 : (Jvm.Cond.methodLink "PegLawsModel" (401 : Nat) ({ cls := "PegLawsModel", name := "findHardest", desc := "(I)V" } : Jvm.MethodName)) ∈ lw_all := lw_g (lw_at lw_m9 52 rfl) rfl
theorem q2105 : (Jvm.Cond.privateMethod ({ cls := "PegLawsModel", name := "findHardest", desc := "(I)V" } : Jvm.MethodName)) ∈ lw_tbl := lw_at lw_m9 53 rfl
theorem q2106 : (Jvm.Cond.instanceMethod ({ cls := "PegLawsModel", name := "findHardest", desc := "(I)V" } : Jvm.MethodName)) ∈ lw_all := lw_g (lw_at lw_m9 54 rfl) rfl
theorem q2107 : (Jvm.Cond.code ({ cls := "PegLawsModel", name := "findHardest", desc := "(I)V" } : Jvm.MethodName) prog_23_method_89_code (7 : Nat) (Option.none : Option Jvm.ClassFile.FieldType)) ∈ lw_all := lw_g (lw_at lw_m9 55 rfl) rfl
theorem q2108 : (Jvm.Cond.methodLink "PegLawsModel" (397 : Nat) ({ cls := "PegLawsModel", name := "fills", desc := "(IIII)V" } : Jvm.MethodName)) ∈ lw_all := lw_g (lw_at lw_m9 56 rfl) rfl
theorem q2109 : (Jvm.Cond.privateMethod ({ cls := "PegLawsModel", name := "fills", desc := "(IIII)V" } : Jvm.MethodName)) ∈ lw_tbl := lw_at lw_m9 57 rfl
theorem q2110 : (Jvm.Cond.instanceMethod ({ cls := "PegLawsModel", name := "fills", desc := "(IIII)V" } : Jvm.MethodName)) ∈ lw_all := lw_g (lw_at lw_m9 58 rfl) rfl
theorem q2111 : (Jvm.Cond.code ({ cls := "PegLawsModel", name := "fills", desc := "(IIII)V" } : Jvm.MethodName) prog_23_method_90_code (7 : Nat) (Option.none : Option Jvm.ClassFile.FieldType)) ∈ lw_all := lw_g (lw_at lw_m9 59 rfl) rfl
theorem q2113 : (Jvm.Cond.instanceMethod ({ cls := "PegLawsModel", name := "odds", desc := "(II)I" } : Jvm.MethodName)) ∈ lw_all := lw_g (lw_at lw_m9 61 rfl) rfl
theorem q2114 : (Jvm.Cond.selects "PegLawsModel" ({ cls := "PegLawsModel", name := "odds", desc := "(II)I" } : Jvm.MethodName) ({ cls := "PegLawsModel", name := "odds", desc := "(II)I" } : Jvm.MethodName)) ∈ lw_all := lw_g (lw_at lw_m9 62 rfl) rfl
theorem q2115 : (Jvm.Cond.code ({ cls := "PegLawsModel", name := "odds", desc := "(II)I" } : Jvm.MethodName) prog_23_method_93_code (6 : Nat) (Option.some Jvm.ClassFile.FieldType.int)) ∈ lw_all := lw_g (lw_at lw_m9 63 rfl) rfl
theorem q2116 : (Jvm.Cond.methodLink "PegLawsModel" (404 : Nat) ({ cls := "PegLawsModel", name := "hanging", desc := "(IIIII)J" } : Jvm.MethodName)) ∈ lw_all := lw_g (lw_at lw_m9 64 rfl) rfl
theorem q2117 : (Jvm.Cond.privateMethod ({ cls := "PegLawsModel", name := "hanging", desc := "(IIIII)J" } : Jvm.MethodName)) ∈ lw_tbl := lw_at lw_m9 65 rfl
theorem q2118 : (Jvm.Cond.instanceMethod ({ cls := "PegLawsModel", name := "hanging", desc := "(IIIII)J" } : Jvm.MethodName)) ∈ lw_all := lw_g (lw_at lw_m9 66 rfl) rfl
theorem q2119 : (Jvm.Cond.code ({ cls := "PegLawsModel", name := "hanging", desc := "(IIIII)J" } : Jvm.MethodName) prog_23_method_92_code (15 : Nat) (Option.some Jvm.ClassFile.FieldType.long)) ∈ lw_all := lw_g (lw_at lw_m9 67 rfl) rfl
theorem q2120 : (Jvm.Cond.constantLong "PegLawsModel" (408 : Nat) (1000000 : Int64)) ∈ lw_all := lw_g (lw_at lw_m9 68 rfl) rfl
theorem q2122 : (Jvm.Cond.instanceMethod ({ cls := "PegLawsModel", name := "dry", desc := "(I)I" } : Jvm.MethodName)) ∈ lw_all := lw_g (lw_at lw_m9 70 rfl) rfl
theorem q2123 : (Jvm.Cond.selects "PegLawsModel" ({ cls := "PegLawsModel", name := "dry", desc := "(I)I" } : Jvm.MethodName) ({ cls := "PegLawsModel", name := "dry", desc := "(I)I" } : Jvm.MethodName)) ∈ lw_all := lw_g (lw_at lw_m9 71 rfl) rfl
theorem q2124 : (Jvm.Cond.code ({ cls := "PegLawsModel", name := "dry", desc := "(I)I" } : Jvm.MethodName) prog_23_method_96_code (4 : Nat) (Option.some Jvm.ClassFile.FieldType.int)) ∈ lw_all := lw_g (lw_at lw_m9 72 rfl) rfl
theorem q2125 : (Jvm.Cond.methodLink "PegLawsModel" (419 : Nat) ({ cls := "PegLawsModel", name := "driedBehind", desc := "(II)I" } : Jvm.MethodName)) ∈ lw_all := lw_g (lw_at lw_m9 73 rfl) rfl
theorem q2126 : (Jvm.Cond.privateMethod ({ cls := "PegLawsModel", name := "driedBehind", desc := "(II)I" } : Jvm.MethodName)) ∈ lw_tbl := lw_at lw_m9 74 rfl
theorem q2127 : (Jvm.Cond.instanceMethod ({ cls := "PegLawsModel", name := "driedBehind", desc := "(II)I" } : Jvm.MethodName)) ∈ lw_all := lw_g (lw_at lw_m9 75 rfl) rfl
theorem q2128 : (Jvm.Cond.code ({ cls := "PegLawsModel", name := "driedBehind", desc := "(II)I" } : Jvm.MethodName) prog_23_method_94_code (5 : Nat) (Option.some Jvm.ClassFile.FieldType.int)) ∈ lw_all := lw_g (lw_at lw_m9 76 rfl) rfl
theorem q2129 : (Jvm.Cond.methodLink "PegLawsModel" (416 : Nat) ({ cls := "PegLawsModel", name := "washesFrom", desc := "(III)V" } : Jvm.MethodName)) ∈ lw_all := lw_g (lw_at lw_m9 77 rfl) rfl
theorem q2130 : (Jvm.Cond.privateMethod ({ cls := "PegLawsModel", name := "washesFrom", desc := "(III)V" } : Jvm.MethodName)) ∈ lw_tbl := lw_at lw_m9 78 rfl
theorem q2131 : (Jvm.Cond.instanceMethod ({ cls := "PegLawsModel", name := "washesFrom", desc := "(III)V" } : Jvm.MethodName)) ∈ lw_all := lw_g (lw_at lw_m9 79 rfl) rfl
theorem q2132 : (Jvm.Cond.code ({ cls := "PegLawsModel", name := "washesFrom", desc := "(III)V" } : Jvm.MethodName) prog_23_method_95_code (6 : Nat) (Option.none : Option Jvm.ClassFile.FieldType)) ∈ lw_all := lw_g (lw_at lw_m9 80 rfl) rfl
theorem q2134 : (Jvm.Cond.instanceMethod ({ cls := "PegLawsModel", name := "feel", desc := "(III)Z" } : Jvm.MethodName)) ∈ lw_all := lw_g (lw_at lw_m9 82 rfl) rfl
theorem q2135 : (Jvm.Cond.selects "PegLawsModel" ({ cls := "PegLawsModel", name := "feel", desc := "(III)Z" } : Jvm.MethodName) ({ cls := "PegLawsModel", name := "feel", desc := "(III)Z" } : Jvm.MethodName)) ∈ lw_all := lw_g (lw_at lw_m9 83 rfl) rfl
theorem q2136 : (Jvm.Cond.code ({ cls := "PegLawsModel", name := "feel", desc := "(III)Z" } : Jvm.MethodName) prog_23_method_97_code (5 : Nat) (Option.some Jvm.ClassFile.FieldType.boolean)) ∈ lw_all := lw_g (lw_at lw_m9 84 rfl) rfl
theorem q2138 : (Jvm.Cond.instanceMethod ({ cls := "PegLawsModel", name := "starts", desc := "()I" } : Jvm.MethodName)) ∈ lw_all := lw_g (lw_at lw_m9 86 rfl) rfl
theorem q2139 : (Jvm.Cond.selects "PegLawsModel" ({ cls := "PegLawsModel", name := "starts", desc := "()I" } : Jvm.MethodName) ({ cls := "PegLawsModel", name := "starts", desc := "()I" } : Jvm.MethodName)) ∈ lw_all := lw_g (lw_at lw_m9 87 rfl) rfl
theorem q2140 : (Jvm.Cond.code ({ cls := "PegLawsModel", name := "starts", desc := "()I" } : Jvm.MethodName) prog_23_method_100_code (1 : Nat) (Option.some Jvm.ClassFile.FieldType.int)) ∈ lw_all := lw_g (lw_at lw_m9 88 rfl) rfl
theorem q2141 : (Jvm.Cond.methodLink "PegLawsModel" (425 : Nat) ({ cls := "PegLawsModel", name := "startsNow", desc := "()I" } : Jvm.MethodName)) ∈ lw_all := lw_g (lw_at lw_m9 89 rfl) rfl
theorem q2142 : (Jvm.Cond.privateMethod ({ cls := "PegLawsModel", name := "startsNow", desc := "()I" } : Jvm.MethodName)) ∈ lw_tbl := lw_at lw_m9 90 rfl
theorem q2143 : (Jvm.Cond.instanceMethod ({ cls := "PegLawsModel", name := "startsNow", desc := "()I" } : Jvm.MethodName)) ∈ lw_all := lw_g (lw_at lw_m9 91 rfl) rfl
theorem q2144 : (Jvm.Cond.code ({ cls := "PegLawsModel", name := "startsNow", desc := "()I" } : Jvm.MethodName) prog_23_method_99_code (6 : Nat) (Option.some Jvm.ClassFile.FieldType.int)) ∈ lw_all := lw_g (lw_at lw_m9 92 rfl) rfl
theorem q2145 : (Jvm.Cond.methodLink "PegLawsModel" (422 : Nat) ({ cls := "PegLawsModel", name := "wetBehind", desc := "(III)I" } : Jvm.MethodName)) ∈ lw_all := lw_g (lw_at lw_m9 93 rfl) rfl
theorem q2146 : (Jvm.Cond.privateMethod ({ cls := "PegLawsModel", name := "wetBehind", desc := "(III)I" } : Jvm.MethodName)) ∈ lw_tbl := lw_at lw_m9 94 rfl
theorem q2147 : (Jvm.Cond.instanceMethod ({ cls := "PegLawsModel", name := "wetBehind", desc := "(III)I" } : Jvm.MethodName)) ∈ lw_all := lw_g (lw_at lw_m9 95 rfl) rfl
theorem q2148 : (Jvm.Cond.code ({ cls := "PegLawsModel", name := "wetBehind", desc := "(III)I" } : Jvm.MethodName) prog_23_method_98_code (6 : Nat) (Option.some Jvm.ClassFile.FieldType.int)) ∈ lw_all := lw_g (lw_at lw_m9 96 rfl) rfl
theorem q2150 : (Jvm.Cond.instanceMethod ({ cls := "PegLawsModel", name := "ask", desc := "(I)I" } : Jvm.MethodName)) ∈ lw_all := lw_g (lw_at lw_m9 98 rfl) rfl
theorem q2151 : (Jvm.Cond.selects "PegLawsModel" ({ cls := "PegLawsModel", name := "ask", desc := "(I)I" } : Jvm.MethodName) ({ cls := "PegLawsModel", name := "ask", desc := "(I)I" } : Jvm.MethodName)) ∈ lw_all := lw_g (lw_at lw_m9 99 rfl) rfl
theorem q2152 : (Jvm.Cond.code ({ cls := "PegLawsModel", name := "ask", desc := "(I)I" } : Jvm.MethodName) prog_23_method_101_code (9 : Nat) (Option.some Jvm.ClassFile.FieldType.int)) ∈ lw_all := lw_g (lw_at lw_m9 100 rfl) rfl
theorem q2154 : (Jvm.Cond.instanceMethod ({ cls := "PegLawsModel", name := "change", desc := "(I)I" } : Jvm.MethodName)) ∈ lw_all := lw_g (lw_at lw_m9 102 rfl) rfl
theorem q2155 : (Jvm.Cond.selects "PegLawsModel" ({ cls := "PegLawsModel", name := "change", desc := "(I)I" } : Jvm.MethodName) ({ cls := "PegLawsModel", name := "change", desc := "(I)I" } : Jvm.MethodName)) ∈ lw_all := lw_g (lw_at lw_m9 103 rfl) rfl
theorem q2156 : (Jvm.Cond.code ({ cls := "PegLawsModel", name := "change", desc := "(I)I" } : Jvm.MethodName) prog_23_method_103_code (6 : Nat) (Option.some Jvm.ClassFile.FieldType.int)) ∈ lw_all := lw_g (lw_at lw_m9 104 rfl) rfl
theorem q2157 : (Jvm.Cond.methodLink "PegLawsModel" (428 : Nat) ({ cls := "PegLawsModel", name := "worthBehind", desc := "(II)I" } : Jvm.MethodName)) ∈ lw_all := lw_g (lw_at lw_m9 105 rfl) rfl
theorem q2158 : (Jvm.Cond.privateMethod ({ cls := "PegLawsModel", name := "worthBehind", desc := "(II)I" } : Jvm.MethodName)) ∈ lw_tbl := lw_at lw_m9 106 rfl
theorem q2159 : (Jvm.Cond.instanceMethod ({ cls := "PegLawsModel", name := "worthBehind", desc := "(II)I" } : Jvm.MethodName)) ∈ lw_all := lw_g (lw_at lw_m9 107 rfl) rfl
theorem q2160 : (Jvm.Cond.code ({ cls := "PegLawsModel", name := "worthBehind", desc := "(II)I" } : Jvm.MethodName) prog_23_method_102_code (4 : Nat) (Option.some Jvm.ClassFile.FieldType.int)) ∈ lw_all := lw_g (lw_at lw_m9 108 rfl) rfl
theorem q2162 : (Jvm.Cond.instanceMethod ({ cls := "PegLawsModel", name := "rests", desc := "(IIII)I" } : Jvm.MethodName)) ∈ lw_all := lw_g (lw_at lw_m9 110 rfl) rfl
theorem q2163 : (Jvm.Cond.selects "PegLawsModel" ({ cls := "PegLawsModel", name := "rests", desc := "(IIII)I" } : Jvm.MethodName) ({ cls := "PegLawsModel", name := "rests", desc := "(IIII)I" } : Jvm.MethodName)) ∈ lw_all := lw_g (lw_at lw_m9 111 rfl) rfl
theorem q2164 : (Jvm.Cond.code ({ cls := "PegLawsModel", name := "rests", desc := "(IIII)I" } : Jvm.MethodName) prog_23_method_104_code (15 : Nat) (Option.some Jvm.ClassFile.FieldType.int)) ∈ lw_all := lw_g (lw_at lw_m9 112 rfl) rfl
theorem q2166 : (Jvm.Cond.instanceMethod ({ cls := "PegLawsModel", name := "decades", desc := "(III)I" } : Jvm.MethodName)) ∈ lw_all := lw_g (lw_at lw_m9 114 rfl) rfl
theorem q2167 : (Jvm.Cond.selects "PegLawsModel" ({ cls := "PegLawsModel", name := "decades", desc := "(III)I" } : Jvm.MethodName) ({ cls := "PegLawsModel", name := "decades", desc := "(III)I" } : Jvm.MethodName)) ∈ lw_all := lw_g (lw_at lw_m9 115 rfl) rfl
theorem q2168 : (Jvm.Cond.code ({ cls := "PegLawsModel", name := "decades", desc := "(III)I" } : Jvm.MethodName) prog_23_method_108_code (7 : Nat) (Option.some Jvm.ClassFile.FieldType.int)) ∈ lw_all := lw_g (lw_at lw_m9 116 rfl) rfl
theorem q2169 : (Jvm.Cond.methodLink "PegLawsModel" (449 : Nat) ({ cls := "PegLawsModel", name := "drawsCloth", desc := "()V" } : Jvm.MethodName)) ∈ lw_all := lw_g (lw_at lw_m9 117 rfl) rfl
theorem q2170 : (Jvm.Cond.privateMethod ({ cls := "PegLawsModel", name := "drawsCloth", desc := "()V" } : Jvm.MethodName)) ∈ lw_tbl := lw_at lw_m9 118 rfl
theorem q2171 : (Jvm.Cond.instanceMethod ({ cls := "PegLawsModel", name := "drawsCloth", desc := "()V" } : Jvm.MethodName)) ∈ lw_all := lw_g (lw_at lw_m9 119 rfl) rfl
theorem q2172 : (Jvm.Cond.code ({ cls := "PegLawsModel", name := "drawsCloth", desc := "()V" } : Jvm.MethodName) prog_23_method_107_code (3 : Nat) (Option.none : Option Jvm.ClassFile.FieldType)) ∈ lw_all := lw_g (lw_at lw_m9 120 rfl) rfl
theorem q2173 : (Jvm.Cond.methodLink "PegLawsModel" (443 : Nat) ({ cls := "PegLawsModel", name := "draw", desc := "(I)I" } : Jvm.MethodName)) ∈ lw_all := lw_g (lw_at lw_m9 121 rfl) rfl
theorem q2174 : (Jvm.Cond.privateMethod ({ cls := "PegLawsModel", name := "draw", desc := "(I)I" } : Jvm.MethodName)) ∈ lw_tbl := lw_at lw_m9 122 rfl
theorem q2175 : (Jvm.Cond.instanceMethod ({ cls := "PegLawsModel", name := "draw", desc := "(I)I" } : Jvm.MethodName)) ∈ lw_all := lw_g (lw_at lw_m9 123 rfl) rfl
theorem q2176 : (Jvm.Cond.code ({ cls := "PegLawsModel", name := "draw", desc := "(I)I" } : Jvm.MethodName) prog_23_method_105_code (2 : Nat) (Option.some Jvm.ClassFile.FieldType.int)) ∈ lw_all := lw_g (lw_at lw_m9 124 rfl) rfl
theorem q2177 : (Jvm.Cond.constantLong "PegLawsModel" (435 : Nat) (1103515245 : Int64)) ∈ lw_all := lw_g (lw_at lw_m9 125 rfl) rfl
theorem q2178 : (Jvm.Cond.constantLong "PegLawsModel" (437 : Nat) (12345 : Int64)) ∈ lw_all := lw_g (lw_at lw_m9 126 rfl) rfl
theorem q2179 : (Jvm.Cond.constantLong "PegLawsModel" (439 : Nat) (2147483648 : Int64)) ∈ lw_all := lw_g (lw_at lw_m9 127 rfl) rfl
theorem q2180 : (Jvm.Cond.constantLong "PegLawsModel" (441 : Nat) (65536 : Int64)) ∈ lw_all := lw_g (lw_at lw_m9 128 rfl) rfl
theorem q2181 : (Jvm.Cond.methodLink "PegLawsModel" (446 : Nat) ({ cls := "PegLawsModel", name := "firstFree", desc := "(II)I" } : Jvm.MethodName)) ∈ lw_all := lw_g (lw_at lw_m9 129 rfl) rfl
theorem q2182 : (Jvm.Cond.privateMethod ({ cls := "PegLawsModel", name := "firstFree", desc := "(II)I" } : Jvm.MethodName)) ∈ lw_tbl := lw_at lw_m9 130 rfl
theorem q2183 : (Jvm.Cond.instanceMethod ({ cls := "PegLawsModel", name := "firstFree", desc := "(II)I" } : Jvm.MethodName)) ∈ lw_all := lw_g (lw_at lw_m9 131 rfl) rfl
theorem q2184 : (Jvm.Cond.code ({ cls := "PegLawsModel", name := "firstFree", desc := "(II)I" } : Jvm.MethodName) prog_23_method_106_code (8 : Nat) (Option.some Jvm.ClassFile.FieldType.int)) ∈ lw_all := lw_g (lw_at lw_m9 132 rfl) rfl
theorem q2186 : (Jvm.Cond.instanceMethod ({ cls := "PegLawsModel", name := "mark", desc := "(IZ)Z" } : Jvm.MethodName)) ∈ lw_all := lw_g (lw_at lw_m9 134 rfl) rfl
theorem q2187 : (Jvm.Cond.selects "PegLawsModel" ({ cls := "PegLawsModel", name := "mark", desc := "(IZ)Z" } : Jvm.MethodName) ({ cls := "PegLawsModel", name := "mark", desc := "(IZ)Z" } : Jvm.MethodName)) ∈ lw_all := lw_g (lw_at lw_m9 135 rfl) rfl
theorem q2188 : (Jvm.Cond.code ({ cls := "PegLawsModel", name := "mark", desc := "(IZ)Z" } : Jvm.MethodName) prog_23_method_109_code (3 : Nat) (Option.some Jvm.ClassFile.FieldType.boolean)) ∈ lw_all := lw_g (lw_at lw_m9 136 rfl) rfl
theorem q2190 : (Jvm.Cond.instanceMethod ({ cls := "PegLawsModel", name := "count", desc := "(I)I" } : Jvm.MethodName)) ∈ lw_all := lw_g (lw_at lw_m9 138 rfl) rfl
theorem q2191 : (Jvm.Cond.selects "PegLawsModel" ({ cls := "PegLawsModel", name := "count", desc := "(I)I" } : Jvm.MethodName) ({ cls := "PegLawsModel", name := "count", desc := "(I)I" } : Jvm.MethodName)) ∈ lw_all := lw_g (lw_at lw_m9 139 rfl) rfl
theorem q2192 : (Jvm.Cond.code ({ cls := "PegLawsModel", name := "count", desc := "(I)I" } : Jvm.MethodName) prog_23_method_111_code (2 : Nat) (Option.some Jvm.ClassFile.FieldType.int)) ∈ lw_all := lw_g (lw_at lw_m9 140 rfl) rfl
theorem q2193 : (Jvm.Cond.methodLink "PegLawsModel" (452 : Nat) ({ cls := "PegLawsModel", name := "turnedSet", desc := "()I" } : Jvm.MethodName)) ∈ lw_all := lw_g (lw_at lw_m9 141 rfl) rfl
theorem q2194 : (Jvm.Cond.privateMethod ({ cls := "PegLawsModel", name := "turnedSet", desc := "()I" } : Jvm.MethodName)) ∈ lw_tbl := lw_at lw_m9 142 rfl
theorem q2195 : (Jvm.Cond.instanceMethod ({ cls := "PegLawsModel", name := "turnedSet", desc := "()I" } : Jvm.MethodName)) ∈ lw_all := lw_g (lw_at lw_m9 143 rfl) rfl
theorem q2196 : (Jvm.Cond.code ({ cls := "PegLawsModel", name := "turnedSet", desc := "()I" } : Jvm.MethodName) prog_23_method_110_code (3 : Nat) (Option.some Jvm.ClassFile.FieldType.int)) ∈ lw_all := lw_g (lw_at lw_m9 144 rfl) rfl
theorem q2218 : (Jvm.Cond.castable "PegLawsModel" "java/lang/Object") ∈ lw_tbl := lw_at lw_m9 166 rfl
theorem in_X5 : ∀ w ∈ wsX50, w ∈ lw_all := lw_in wsX50 [1701, 1703, 1705, 1707, 1709, 1711, 1713, 1715, 1717, 1719, 1721, 1723, 1725, 1727, 1729, 1731, 1733, 1735, 1737, 1739, 1741, 1743, 1745, 1747, 1749, 1751, 1753, 1755, 1757, 1759, 1761, 1763, 1765, 1767, 1769, 1771, 1773, 1775] (by decide +kernel) (by decide +kernel)
