/-! PegLaws$Reader -/
set_option maxRecDepth 100000
def RX2 : String := "PegLaws$Reader"
def TX2 : u_T := fun k => match k with
  | 0 => ("PegLaws$Reader", "text", "[B", false)
  | 1 => ("PegLaws$Reader", "size", "I", false)
  | 2 => ("PegLaws$Reader", "to", "I", false)
  | 3 => ("PegLaws$Reader", "kind", "I", false)
  | 4 => ("PegLaws$Reader", "from", "I", false)
  | 5 => ("PegLaws$Reader", "value", "I", false)
  | 6 => ("PegLaws$Reader", "within", "I", false)
  | _ => ("PegLaws$Reader", "rope", "LPegLaws$Rope;", false)
def tyX2 : Nat → FieldType := fun k => match k with
  | 0 => .array .byte
  | 1 => .int
  | 2 => .int
  | 3 => .int
  | 4 => .int
  | 5 => .int
  | 6 => .int
  | _ => .object "PegLaws$Rope"
abbrev wsX20 : List Cond := u_ws RX2 TX2 8
theorem nmX2 : ∀ a, a < 8 → ∀ b, b < 8 → a ≠ b → (TX2 a).2.1 ≠ (TX2 b).2.1 := by decide +kernel
theorem tyX2_ok : ∀ k, k < 8 → parseFieldDescriptor (TX2 k).2.2.1 = some (tyX2 k) := by decide +kernel
abbrev cX2_init : ByteArray := prog_13_method_1_code
def yX2_init : MethodName := ⟨RX2, "<init>", "()V"⟩
theorem dX2_init_0 : decode cX2_init 0 = .ok (.aload_n 0, 1) := by decide +kernel
theorem dX2_init_1 : decode cX2_init 1 = .ok (.invokespecial 3, 3) := by decide +kernel
theorem dX2_init_4 : decode cX2_init 4 = .ok (.return_, 1) := by decide +kernel
abbrev cX2_begin : ByteArray := prog_13_method_2_code
def yX2_begin : MethodName := ⟨RX2, "begin", "([BI)V"⟩
def dkwX2_begin_1 : List UInt8 := [177]
abbrev dktX2_begin_1 : List UInt8 := dkwX2_begin_1 ++ []
def dkwX2_begin_0 : List UInt8 := [42, 43, 181, 0, 9, 42, 28, 181, 0, 15, 42, 3, 181, 0, 19, 42, 3, 181, 0, 22, 42, 182, 0, 25]
abbrev dktX2_begin_0 : List UInt8 := dkwX2_begin_0 ++ dktX2_begin_1
theorem dksX2_begin_0 : cX2_begin.data.toList.drop 0 = dktX2_begin_0 := by decide +kernel
theorem dksX2_begin_1 : cX2_begin.data.toList.drop 24 = dktX2_begin_1 := dk_seg dksX2_begin_0 24 rfl rfl
theorem dX2_begin_0 : decode cX2_begin 0 = .ok (.aload_n 0, 1) := dk_42 (dk_at dksX2_begin_0 0 rfl rfl)
theorem dX2_begin_1 : decode cX2_begin 1 = .ok (.aload_n 1, 1) := dk_43 (dk_at dksX2_begin_0 1 rfl rfl)
theorem dX2_begin_2 : decode cX2_begin 2 = .ok (.putfield 9, 3) := dk_181 0 9 (dk_at dksX2_begin_0 2 rfl rfl)
theorem dX2_begin_5 : decode cX2_begin 5 = .ok (.aload_n 0, 1) := dk_42 (dk_at dksX2_begin_0 5 rfl rfl)
theorem dX2_begin_6 : decode cX2_begin 6 = .ok (.iload_n 2, 1) := dk_28 (dk_at dksX2_begin_0 6 rfl rfl)
theorem dX2_begin_7 : decode cX2_begin 7 = .ok (.putfield 15, 3) := dk_181 0 15 (dk_at dksX2_begin_0 7 rfl rfl)
theorem dX2_begin_10 : decode cX2_begin 10 = .ok (.aload_n 0, 1) := dk_42 (dk_at dksX2_begin_0 10 rfl rfl)
theorem dX2_begin_11 : decode cX2_begin 11 = .ok (.iconst 0, 1) := dk_3 (dk_at dksX2_begin_0 11 rfl rfl)
theorem dX2_begin_12 : decode cX2_begin 12 = .ok (.putfield 19, 3) := dk_181 0 19 (dk_at dksX2_begin_0 12 rfl rfl)
theorem dX2_begin_15 : decode cX2_begin 15 = .ok (.aload_n 0, 1) := dk_42 (dk_at dksX2_begin_0 15 rfl rfl)
theorem dX2_begin_16 : decode cX2_begin 16 = .ok (.iconst 0, 1) := dk_3 (dk_at dksX2_begin_0 16 rfl rfl)
theorem dX2_begin_17 : decode cX2_begin 17 = .ok (.putfield 22, 3) := dk_181 0 22 (dk_at dksX2_begin_0 17 rfl rfl)
theorem dX2_begin_20 : decode cX2_begin 20 = .ok (.aload_n 0, 1) := dk_42 (dk_at dksX2_begin_0 20 rfl rfl)
theorem dX2_begin_21 : decode cX2_begin 21 = .ok (.invokevirtual 25, 3) := dk_182 0 25 (dk_at dksX2_begin_0 21 rfl rfl)
theorem dX2_begin_24 : decode cX2_begin 24 = .ok (.return_, 1) := dk_177 (dk_at dksX2_begin_1 0 rfl rfl)
abbrev cX2_next : ByteArray := prog_13_method_6_code
def yX2_next : MethodName := ⟨RX2, "next", "()V"⟩
def dkwX2_next_12 : List UInt8 := [6, 167, 0, 4, 7, 181, 0, 31, 42, 89, 180, 0, 19, 4, 96, 181, 0, 19, 177]
abbrev dktX2_next_12 : List UInt8 := dkwX2_next_12 ++ []
def dkwX2_next_11 : List UInt8 := [181, 0, 31, 167, 0, 39, 42, 18, 48, 42, 42, 180, 0, 19, 182, 0, 34, 146, 182, 0, 50, 155, 0, 7]
abbrev dktX2_next_11 : List UInt8 := dkwX2_next_11 ++ dktX2_next_12
def dkwX2_next_10 : List UInt8 := [167, 255, 189, 42, 42, 180, 0, 19, 42, 180, 0, 28, 100, 7, 164, 0, 7, 7, 167, 0, 4, 5]
abbrev dktX2_next_10 : List UInt8 := dkwX2_next_10 ++ dktX2_next_11
def dkwX2_next_9 : List UInt8 := [96, 16, 48, 100, 167, 0, 7, 42, 180, 0, 45, 181, 0, 45, 42, 89, 180, 0, 19, 4, 96, 181, 0, 19]
abbrev dktX2_next_9 : List UInt8 := dkwX2_next_9 ++ dktX2_next_10
def dkwX2_next_8 : List UInt8 := [42, 180, 0, 28, 100, 7, 162, 0, 25, 16, 10, 42, 180, 0, 45, 104, 42, 42, 180, 0, 19, 182, 0, 34]
abbrev dktX2_next_8 : List UInt8 := dkwX2_next_8 ++ dktX2_next_9
def dkwX2_next_7 : List UInt8 := [42, 3, 181, 0, 45, 42, 42, 180, 0, 19, 182, 0, 34, 184, 0, 42, 153, 0, 59, 42, 42, 180, 0, 19]
abbrev dktX2_next_7 : List UInt8 := dkwX2_next_7 ++ dktX2_next_8
def dkwX2_next_6 : List UInt8 := [167, 0, 4, 4, 181, 0, 31, 167, 0, 153, 42, 42, 180, 0, 19, 182, 0, 34, 184, 0, 42, 153, 0, 103]
abbrev dktX2_next_6 : List UInt8 := dkwX2_next_6 ++ dktX2_next_7
def dkwX2_next_5 : List UInt8 := [181, 0, 19, 167, 255, 232, 42, 42, 180, 0, 19, 42, 180, 0, 28, 100, 16, 8, 164, 0, 7, 7]
abbrev dktX2_next_5 : List UInt8 := dkwX2_next_5 ++ dktX2_next_6
def dkwX2_next_4 : List UInt8 := [153, 0, 56, 42, 42, 180, 0, 19, 182, 0, 34, 184, 0, 38, 153, 0, 16, 42, 89, 180, 0, 19, 4, 96]
abbrev dktX2_next_4 : List UInt8 := dkwX2_next_4 ++ dktX2_next_5
def dkwX2_next_3 : List UInt8 := [160, 0, 11, 42, 3, 181, 0, 31, 167, 0, 220, 42, 42, 180, 0, 19, 182, 0, 34, 184, 0, 38]
abbrev dktX2_next_3 : List UInt8 := dkwX2_next_3 ++ dktX2_next_4
def dkwX2_next_2 : List UInt8 := [181, 0, 19, 167, 255, 207, 42, 42, 180, 0, 19, 181, 0, 28, 42, 180, 0, 19, 42, 180, 0, 15]
abbrev dktX2_next_2 : List UInt8 := dkwX2_next_2 ++ dktX2_next_3
def dkwX2_next_1 : List UInt8 := [159, 0, 17, 42, 180, 0, 9, 42, 180, 0, 19, 51, 16, 32, 160, 0, 16, 42, 89, 180, 0, 19, 4, 96]
abbrev dktX2_next_1 : List UInt8 := dkwX2_next_1 ++ dktX2_next_2
def dkwX2_next_0 : List UInt8 := [42, 180, 0, 19, 42, 180, 0, 15, 162, 0, 44, 42, 180, 0, 9, 42, 180, 0, 19, 51, 16, 10]
abbrev dktX2_next_0 : List UInt8 := dkwX2_next_0 ++ dktX2_next_1
theorem dksX2_next_0 : cX2_next.data.toList.drop 0 = dktX2_next_0 := by decide +kernel
theorem dksX2_next_1 : cX2_next.data.toList.drop 22 = dktX2_next_1 := dk_seg dksX2_next_0 22 rfl rfl
theorem dksX2_next_2 : cX2_next.data.toList.drop 46 = dktX2_next_2 := dk_seg dksX2_next_1 24 rfl rfl
theorem dksX2_next_3 : cX2_next.data.toList.drop 68 = dktX2_next_3 := dk_seg dksX2_next_2 22 rfl rfl
theorem dksX2_next_4 : cX2_next.data.toList.drop 90 = dktX2_next_4 := dk_seg dksX2_next_3 22 rfl rfl
theorem dksX2_next_5 : cX2_next.data.toList.drop 114 = dktX2_next_5 := dk_seg dksX2_next_4 24 rfl rfl
theorem dksX2_next_6 : cX2_next.data.toList.drop 136 = dktX2_next_6 := dk_seg dksX2_next_5 22 rfl rfl
theorem dksX2_next_7 : cX2_next.data.toList.drop 160 = dktX2_next_7 := dk_seg dksX2_next_6 24 rfl rfl
theorem dksX2_next_8 : cX2_next.data.toList.drop 184 = dktX2_next_8 := dk_seg dksX2_next_7 24 rfl rfl
theorem dksX2_next_9 : cX2_next.data.toList.drop 208 = dktX2_next_9 := dk_seg dksX2_next_8 24 rfl rfl
theorem dksX2_next_10 : cX2_next.data.toList.drop 232 = dktX2_next_10 := dk_seg dksX2_next_9 24 rfl rfl
theorem dksX2_next_11 : cX2_next.data.toList.drop 254 = dktX2_next_11 := dk_seg dksX2_next_10 22 rfl rfl
theorem dksX2_next_12 : cX2_next.data.toList.drop 278 = dktX2_next_12 := dk_seg dksX2_next_11 24 rfl rfl
theorem dX2_next_0 : decode cX2_next 0 = .ok (.aload_n 0, 1) := dk_42 (dk_at dksX2_next_0 0 rfl rfl)
theorem dX2_next_1 : decode cX2_next 1 = .ok (.getfield 19, 3) := dk_180 0 19 (dk_at dksX2_next_0 1 rfl rfl)
theorem dX2_next_4 : decode cX2_next 4 = .ok (.aload_n 0, 1) := dk_42 (dk_at dksX2_next_0 4 rfl rfl)
theorem dX2_next_5 : decode cX2_next 5 = .ok (.getfield 15, 3) := dk_180 0 15 (dk_at dksX2_next_0 5 rfl rfl)
theorem dX2_next_8 : decode cX2_next 8 = .ok (.if_icmp .ge 44, 3) := dk_162 0 44 (dk_at dksX2_next_0 8 rfl rfl)
theorem dX2_next_11 : decode cX2_next 11 = .ok (.aload_n 0, 1) := dk_42 (dk_at dksX2_next_0 11 rfl rfl)
theorem dX2_next_12 : decode cX2_next 12 = .ok (.getfield 9, 3) := dk_180 0 9 (dk_at dksX2_next_0 12 rfl rfl)
theorem dX2_next_15 : decode cX2_next 15 = .ok (.aload_n 0, 1) := dk_42 (dk_at dksX2_next_0 15 rfl rfl)
theorem dX2_next_16 : decode cX2_next 16 = .ok (.getfield 19, 3) := dk_180 0 19 (dk_at dksX2_next_0 16 rfl rfl)
theorem dX2_next_19 : decode cX2_next 19 = .ok (.baload, 1) := dk_51 (dk_at dksX2_next_0 19 rfl rfl)
theorem dX2_next_20 : decode cX2_next 20 = .ok (.bipush 10, 2) := dk_16 10 (dk_at dksX2_next_0 20 rfl rfl)
theorem dX2_next_22 : decode cX2_next 22 = .ok (.if_icmp .eq 17, 3) := dk_159 0 17 (dk_at dksX2_next_1 0 rfl rfl)
theorem dX2_next_25 : decode cX2_next 25 = .ok (.aload_n 0, 1) := dk_42 (dk_at dksX2_next_1 3 rfl rfl)
theorem dX2_next_26 : decode cX2_next 26 = .ok (.getfield 9, 3) := dk_180 0 9 (dk_at dksX2_next_1 4 rfl rfl)
theorem dX2_next_29 : decode cX2_next 29 = .ok (.aload_n 0, 1) := dk_42 (dk_at dksX2_next_1 7 rfl rfl)
theorem dX2_next_30 : decode cX2_next 30 = .ok (.getfield 19, 3) := dk_180 0 19 (dk_at dksX2_next_1 8 rfl rfl)
theorem dX2_next_33 : decode cX2_next 33 = .ok (.baload, 1) := dk_51 (dk_at dksX2_next_1 11 rfl rfl)
theorem dX2_next_34 : decode cX2_next 34 = .ok (.bipush 32, 2) := dk_16 32 (dk_at dksX2_next_1 12 rfl rfl)
theorem dX2_next_36 : decode cX2_next 36 = .ok (.if_icmp .ne 16, 3) := dk_160 0 16 (dk_at dksX2_next_1 14 rfl rfl)
theorem dX2_next_39 : decode cX2_next 39 = .ok (.aload_n 0, 1) := dk_42 (dk_at dksX2_next_1 17 rfl rfl)
theorem dX2_next_40 : decode cX2_next 40 = .ok (.dup, 1) := dk_89 (dk_at dksX2_next_1 18 rfl rfl)
theorem dX2_next_41 : decode cX2_next 41 = .ok (.getfield 19, 3) := dk_180 0 19 (dk_at dksX2_next_1 19 rfl rfl)
theorem dX2_next_44 : decode cX2_next 44 = .ok (.iconst 1, 1) := dk_4 (dk_at dksX2_next_1 22 rfl rfl)
theorem dX2_next_45 : decode cX2_next 45 = .ok (.iadd, 1) := dk_96 (dk_at dksX2_next_1 23 rfl rfl)
theorem dX2_next_46 : decode cX2_next 46 = .ok (.putfield 19, 3) := dk_181 0 19 (dk_at dksX2_next_2 0 rfl rfl)
theorem dX2_next_49 : decode cX2_next 49 = .ok (.goto (-49), 3) := dk_167 255 207 (dk_at dksX2_next_2 3 rfl rfl)
theorem dX2_next_52 : decode cX2_next 52 = .ok (.aload_n 0, 1) := dk_42 (dk_at dksX2_next_2 6 rfl rfl)
theorem dX2_next_53 : decode cX2_next 53 = .ok (.aload_n 0, 1) := dk_42 (dk_at dksX2_next_2 7 rfl rfl)
theorem dX2_next_54 : decode cX2_next 54 = .ok (.getfield 19, 3) := dk_180 0 19 (dk_at dksX2_next_2 8 rfl rfl)
theorem dX2_next_57 : decode cX2_next 57 = .ok (.putfield 28, 3) := dk_181 0 28 (dk_at dksX2_next_2 11 rfl rfl)
theorem dX2_next_60 : decode cX2_next 60 = .ok (.aload_n 0, 1) := dk_42 (dk_at dksX2_next_2 14 rfl rfl)
theorem dX2_next_61 : decode cX2_next 61 = .ok (.getfield 19, 3) := dk_180 0 19 (dk_at dksX2_next_2 15 rfl rfl)
theorem dX2_next_64 : decode cX2_next 64 = .ok (.aload_n 0, 1) := dk_42 (dk_at dksX2_next_2 18 rfl rfl)
theorem dX2_next_65 : decode cX2_next 65 = .ok (.getfield 15, 3) := dk_180 0 15 (dk_at dksX2_next_2 19 rfl rfl)
theorem dX2_next_68 : decode cX2_next 68 = .ok (.if_icmp .ne 11, 3) := dk_160 0 11 (dk_at dksX2_next_3 0 rfl rfl)
theorem dX2_next_71 : decode cX2_next 71 = .ok (.aload_n 0, 1) := dk_42 (dk_at dksX2_next_3 3 rfl rfl)
theorem dX2_next_72 : decode cX2_next 72 = .ok (.iconst 0, 1) := dk_3 (dk_at dksX2_next_3 4 rfl rfl)
theorem dX2_next_73 : decode cX2_next 73 = .ok (.putfield 31, 3) := dk_181 0 31 (dk_at dksX2_next_3 5 rfl rfl)
theorem dX2_next_76 : decode cX2_next 76 = .ok (.goto 220, 3) := dk_167 0 220 (dk_at dksX2_next_3 8 rfl rfl)
theorem dX2_next_79 : decode cX2_next 79 = .ok (.aload_n 0, 1) := dk_42 (dk_at dksX2_next_3 11 rfl rfl)
theorem dX2_next_80 : decode cX2_next 80 = .ok (.aload_n 0, 1) := dk_42 (dk_at dksX2_next_3 12 rfl rfl)
theorem dX2_next_81 : decode cX2_next 81 = .ok (.getfield 19, 3) := dk_180 0 19 (dk_at dksX2_next_3 13 rfl rfl)
theorem dX2_next_84 : decode cX2_next 84 = .ok (.invokevirtual 34, 3) := dk_182 0 34 (dk_at dksX2_next_3 16 rfl rfl)
theorem dX2_next_87 : decode cX2_next 87 = .ok (.invokestatic 38, 3) := dk_184 0 38 (dk_at dksX2_next_3 19 rfl rfl)
theorem dX2_next_90 : decode cX2_next 90 = .ok (.ifCond .eq 56, 3) := dk_153 0 56 (dk_at dksX2_next_4 0 rfl rfl)
theorem dX2_next_93 : decode cX2_next 93 = .ok (.aload_n 0, 1) := dk_42 (dk_at dksX2_next_4 3 rfl rfl)
theorem dX2_next_94 : decode cX2_next 94 = .ok (.aload_n 0, 1) := dk_42 (dk_at dksX2_next_4 4 rfl rfl)
theorem dX2_next_95 : decode cX2_next 95 = .ok (.getfield 19, 3) := dk_180 0 19 (dk_at dksX2_next_4 5 rfl rfl)
theorem dX2_next_98 : decode cX2_next 98 = .ok (.invokevirtual 34, 3) := dk_182 0 34 (dk_at dksX2_next_4 8 rfl rfl)
theorem dX2_next_101 : decode cX2_next 101 = .ok (.invokestatic 38, 3) := dk_184 0 38 (dk_at dksX2_next_4 11 rfl rfl)
theorem dX2_next_104 : decode cX2_next 104 = .ok (.ifCond .eq 16, 3) := dk_153 0 16 (dk_at dksX2_next_4 14 rfl rfl)
theorem dX2_next_107 : decode cX2_next 107 = .ok (.aload_n 0, 1) := dk_42 (dk_at dksX2_next_4 17 rfl rfl)
theorem dX2_next_108 : decode cX2_next 108 = .ok (.dup, 1) := dk_89 (dk_at dksX2_next_4 18 rfl rfl)
theorem dX2_next_109 : decode cX2_next 109 = .ok (.getfield 19, 3) := dk_180 0 19 (dk_at dksX2_next_4 19 rfl rfl)
theorem dX2_next_112 : decode cX2_next 112 = .ok (.iconst 1, 1) := dk_4 (dk_at dksX2_next_4 22 rfl rfl)
theorem dX2_next_113 : decode cX2_next 113 = .ok (.iadd, 1) := dk_96 (dk_at dksX2_next_4 23 rfl rfl)
theorem dX2_next_114 : decode cX2_next 114 = .ok (.putfield 19, 3) := dk_181 0 19 (dk_at dksX2_next_5 0 rfl rfl)
theorem dX2_next_117 : decode cX2_next 117 = .ok (.goto (-24), 3) := dk_167 255 232 (dk_at dksX2_next_5 3 rfl rfl)
theorem dX2_next_120 : decode cX2_next 120 = .ok (.aload_n 0, 1) := dk_42 (dk_at dksX2_next_5 6 rfl rfl)
theorem dX2_next_121 : decode cX2_next 121 = .ok (.aload_n 0, 1) := dk_42 (dk_at dksX2_next_5 7 rfl rfl)
theorem dX2_next_122 : decode cX2_next 122 = .ok (.getfield 19, 3) := dk_180 0 19 (dk_at dksX2_next_5 8 rfl rfl)
theorem dX2_next_125 : decode cX2_next 125 = .ok (.aload_n 0, 1) := dk_42 (dk_at dksX2_next_5 11 rfl rfl)
theorem dX2_next_126 : decode cX2_next 126 = .ok (.getfield 28, 3) := dk_180 0 28 (dk_at dksX2_next_5 12 rfl rfl)
theorem dX2_next_129 : decode cX2_next 129 = .ok (.isub, 1) := dk_100 (dk_at dksX2_next_5 15 rfl rfl)
theorem dX2_next_130 : decode cX2_next 130 = .ok (.bipush 8, 2) := dk_16 8 (dk_at dksX2_next_5 16 rfl rfl)
theorem dX2_next_132 : decode cX2_next 132 = .ok (.if_icmp .le 7, 3) := dk_164 0 7 (dk_at dksX2_next_5 18 rfl rfl)
theorem dX2_next_135 : decode cX2_next 135 = .ok (.iconst 4, 1) := dk_7 (dk_at dksX2_next_5 21 rfl rfl)
theorem dX2_next_136 : decode cX2_next 136 = .ok (.goto 4, 3) := dk_167 0 4 (dk_at dksX2_next_6 0 rfl rfl)
theorem dX2_next_139 : decode cX2_next 139 = .ok (.iconst 1, 1) := dk_4 (dk_at dksX2_next_6 3 rfl rfl)
theorem dX2_next_140 : decode cX2_next 140 = .ok (.putfield 31, 3) := dk_181 0 31 (dk_at dksX2_next_6 4 rfl rfl)
theorem dX2_next_143 : decode cX2_next 143 = .ok (.goto 153, 3) := dk_167 0 153 (dk_at dksX2_next_6 7 rfl rfl)
theorem dX2_next_146 : decode cX2_next 146 = .ok (.aload_n 0, 1) := dk_42 (dk_at dksX2_next_6 10 rfl rfl)
theorem dX2_next_147 : decode cX2_next 147 = .ok (.aload_n 0, 1) := dk_42 (dk_at dksX2_next_6 11 rfl rfl)
theorem dX2_next_148 : decode cX2_next 148 = .ok (.getfield 19, 3) := dk_180 0 19 (dk_at dksX2_next_6 12 rfl rfl)
theorem dX2_next_151 : decode cX2_next 151 = .ok (.invokevirtual 34, 3) := dk_182 0 34 (dk_at dksX2_next_6 15 rfl rfl)
theorem dX2_next_154 : decode cX2_next 154 = .ok (.invokestatic 42, 3) := dk_184 0 42 (dk_at dksX2_next_6 18 rfl rfl)
theorem dX2_next_157 : decode cX2_next 157 = .ok (.ifCond .eq 103, 3) := dk_153 0 103 (dk_at dksX2_next_6 21 rfl rfl)
theorem dX2_next_160 : decode cX2_next 160 = .ok (.aload_n 0, 1) := dk_42 (dk_at dksX2_next_7 0 rfl rfl)
theorem dX2_next_161 : decode cX2_next 161 = .ok (.iconst 0, 1) := dk_3 (dk_at dksX2_next_7 1 rfl rfl)
theorem dX2_next_162 : decode cX2_next 162 = .ok (.putfield 45, 3) := dk_181 0 45 (dk_at dksX2_next_7 2 rfl rfl)
theorem dX2_next_165 : decode cX2_next 165 = .ok (.aload_n 0, 1) := dk_42 (dk_at dksX2_next_7 5 rfl rfl)
theorem dX2_next_166 : decode cX2_next 166 = .ok (.aload_n 0, 1) := dk_42 (dk_at dksX2_next_7 6 rfl rfl)
theorem dX2_next_167 : decode cX2_next 167 = .ok (.getfield 19, 3) := dk_180 0 19 (dk_at dksX2_next_7 7 rfl rfl)
theorem dX2_next_170 : decode cX2_next 170 = .ok (.invokevirtual 34, 3) := dk_182 0 34 (dk_at dksX2_next_7 10 rfl rfl)
theorem dX2_next_173 : decode cX2_next 173 = .ok (.invokestatic 42, 3) := dk_184 0 42 (dk_at dksX2_next_7 13 rfl rfl)
theorem dX2_next_176 : decode cX2_next 176 = .ok (.ifCond .eq 59, 3) := dk_153 0 59 (dk_at dksX2_next_7 16 rfl rfl)
theorem dX2_next_179 : decode cX2_next 179 = .ok (.aload_n 0, 1) := dk_42 (dk_at dksX2_next_7 19 rfl rfl)
theorem dX2_next_180 : decode cX2_next 180 = .ok (.aload_n 0, 1) := dk_42 (dk_at dksX2_next_7 20 rfl rfl)
theorem dX2_next_181 : decode cX2_next 181 = .ok (.getfield 19, 3) := dk_180 0 19 (dk_at dksX2_next_7 21 rfl rfl)
theorem dX2_next_184 : decode cX2_next 184 = .ok (.aload_n 0, 1) := dk_42 (dk_at dksX2_next_8 0 rfl rfl)
theorem dX2_next_185 : decode cX2_next 185 = .ok (.getfield 28, 3) := dk_180 0 28 (dk_at dksX2_next_8 1 rfl rfl)
theorem dX2_next_188 : decode cX2_next 188 = .ok (.isub, 1) := dk_100 (dk_at dksX2_next_8 4 rfl rfl)
theorem dX2_next_189 : decode cX2_next 189 = .ok (.iconst 4, 1) := dk_7 (dk_at dksX2_next_8 5 rfl rfl)
theorem dX2_next_190 : decode cX2_next 190 = .ok (.if_icmp .ge 25, 3) := dk_162 0 25 (dk_at dksX2_next_8 6 rfl rfl)
theorem dX2_next_193 : decode cX2_next 193 = .ok (.bipush 10, 2) := dk_16 10 (dk_at dksX2_next_8 9 rfl rfl)
theorem dX2_next_195 : decode cX2_next 195 = .ok (.aload_n 0, 1) := dk_42 (dk_at dksX2_next_8 11 rfl rfl)
theorem dX2_next_196 : decode cX2_next 196 = .ok (.getfield 45, 3) := dk_180 0 45 (dk_at dksX2_next_8 12 rfl rfl)
theorem dX2_next_199 : decode cX2_next 199 = .ok (.imul, 1) := dk_104 (dk_at dksX2_next_8 15 rfl rfl)
theorem dX2_next_200 : decode cX2_next 200 = .ok (.aload_n 0, 1) := dk_42 (dk_at dksX2_next_8 16 rfl rfl)
theorem dX2_next_201 : decode cX2_next 201 = .ok (.aload_n 0, 1) := dk_42 (dk_at dksX2_next_8 17 rfl rfl)
theorem dX2_next_202 : decode cX2_next 202 = .ok (.getfield 19, 3) := dk_180 0 19 (dk_at dksX2_next_8 18 rfl rfl)
theorem dX2_next_205 : decode cX2_next 205 = .ok (.invokevirtual 34, 3) := dk_182 0 34 (dk_at dksX2_next_8 21 rfl rfl)
theorem dX2_next_208 : decode cX2_next 208 = .ok (.iadd, 1) := dk_96 (dk_at dksX2_next_9 0 rfl rfl)
theorem dX2_next_209 : decode cX2_next 209 = .ok (.bipush 48, 2) := dk_16 48 (dk_at dksX2_next_9 1 rfl rfl)
theorem dX2_next_211 : decode cX2_next 211 = .ok (.isub, 1) := dk_100 (dk_at dksX2_next_9 3 rfl rfl)
theorem dX2_next_212 : decode cX2_next 212 = .ok (.goto 7, 3) := dk_167 0 7 (dk_at dksX2_next_9 4 rfl rfl)
theorem dX2_next_215 : decode cX2_next 215 = .ok (.aload_n 0, 1) := dk_42 (dk_at dksX2_next_9 7 rfl rfl)
theorem dX2_next_216 : decode cX2_next 216 = .ok (.getfield 45, 3) := dk_180 0 45 (dk_at dksX2_next_9 8 rfl rfl)
theorem dX2_next_219 : decode cX2_next 219 = .ok (.putfield 45, 3) := dk_181 0 45 (dk_at dksX2_next_9 11 rfl rfl)
theorem dX2_next_222 : decode cX2_next 222 = .ok (.aload_n 0, 1) := dk_42 (dk_at dksX2_next_9 14 rfl rfl)
theorem dX2_next_223 : decode cX2_next 223 = .ok (.dup, 1) := dk_89 (dk_at dksX2_next_9 15 rfl rfl)
theorem dX2_next_224 : decode cX2_next 224 = .ok (.getfield 19, 3) := dk_180 0 19 (dk_at dksX2_next_9 16 rfl rfl)
theorem dX2_next_227 : decode cX2_next 227 = .ok (.iconst 1, 1) := dk_4 (dk_at dksX2_next_9 19 rfl rfl)
theorem dX2_next_228 : decode cX2_next 228 = .ok (.iadd, 1) := dk_96 (dk_at dksX2_next_9 20 rfl rfl)
theorem dX2_next_229 : decode cX2_next 229 = .ok (.putfield 19, 3) := dk_181 0 19 (dk_at dksX2_next_9 21 rfl rfl)
theorem dX2_next_232 : decode cX2_next 232 = .ok (.goto (-67), 3) := dk_167 255 189 (dk_at dksX2_next_10 0 rfl rfl)
theorem dX2_next_235 : decode cX2_next 235 = .ok (.aload_n 0, 1) := dk_42 (dk_at dksX2_next_10 3 rfl rfl)
theorem dX2_next_236 : decode cX2_next 236 = .ok (.aload_n 0, 1) := dk_42 (dk_at dksX2_next_10 4 rfl rfl)
theorem dX2_next_237 : decode cX2_next 237 = .ok (.getfield 19, 3) := dk_180 0 19 (dk_at dksX2_next_10 5 rfl rfl)
theorem dX2_next_240 : decode cX2_next 240 = .ok (.aload_n 0, 1) := dk_42 (dk_at dksX2_next_10 8 rfl rfl)
theorem dX2_next_241 : decode cX2_next 241 = .ok (.getfield 28, 3) := dk_180 0 28 (dk_at dksX2_next_10 9 rfl rfl)
theorem dX2_next_244 : decode cX2_next 244 = .ok (.isub, 1) := dk_100 (dk_at dksX2_next_10 12 rfl rfl)
theorem dX2_next_245 : decode cX2_next 245 = .ok (.iconst 4, 1) := dk_7 (dk_at dksX2_next_10 13 rfl rfl)
theorem dX2_next_246 : decode cX2_next 246 = .ok (.if_icmp .le 7, 3) := dk_164 0 7 (dk_at dksX2_next_10 14 rfl rfl)
theorem dX2_next_249 : decode cX2_next 249 = .ok (.iconst 4, 1) := dk_7 (dk_at dksX2_next_10 17 rfl rfl)
theorem dX2_next_250 : decode cX2_next 250 = .ok (.goto 4, 3) := dk_167 0 4 (dk_at dksX2_next_10 18 rfl rfl)
theorem dX2_next_253 : decode cX2_next 253 = .ok (.iconst 2, 1) := dk_5 (dk_at dksX2_next_10 21 rfl rfl)
theorem dX2_next_254 : decode cX2_next 254 = .ok (.putfield 31, 3) := dk_181 0 31 (dk_at dksX2_next_11 0 rfl rfl)
theorem dX2_next_257 : decode cX2_next 257 = .ok (.goto 39, 3) := dk_167 0 39 (dk_at dksX2_next_11 3 rfl rfl)
theorem dX2_next_260 : decode cX2_next 260 = .ok (.aload_n 0, 1) := dk_42 (dk_at dksX2_next_11 6 rfl rfl)
theorem dX2_next_261 : decode cX2_next 261 = .ok (.ldc 48, 2) := dk_18 48 (dk_at dksX2_next_11 7 rfl rfl)
theorem dX2_next_263 : decode cX2_next 263 = .ok (.aload_n 0, 1) := dk_42 (dk_at dksX2_next_11 9 rfl rfl)
theorem dX2_next_264 : decode cX2_next 264 = .ok (.aload_n 0, 1) := dk_42 (dk_at dksX2_next_11 10 rfl rfl)
theorem dX2_next_265 : decode cX2_next 265 = .ok (.getfield 19, 3) := dk_180 0 19 (dk_at dksX2_next_11 11 rfl rfl)
theorem dX2_next_268 : decode cX2_next 268 = .ok (.invokevirtual 34, 3) := dk_182 0 34 (dk_at dksX2_next_11 14 rfl rfl)
theorem dX2_next_271 : decode cX2_next 271 = .ok (.i2c, 1) := dk_146 (dk_at dksX2_next_11 17 rfl rfl)
theorem dX2_next_272 : decode cX2_next 272 = .ok (.invokevirtual 50, 3) := dk_182 0 50 (dk_at dksX2_next_11 18 rfl rfl)
theorem dX2_next_275 : decode cX2_next 275 = .ok (.ifCond .lt 7, 3) := dk_155 0 7 (dk_at dksX2_next_11 21 rfl rfl)
theorem dX2_next_278 : decode cX2_next 278 = .ok (.iconst 3, 1) := dk_6 (dk_at dksX2_next_12 0 rfl rfl)
theorem dX2_next_279 : decode cX2_next 279 = .ok (.goto 4, 3) := dk_167 0 4 (dk_at dksX2_next_12 1 rfl rfl)
theorem dX2_next_282 : decode cX2_next 282 = .ok (.iconst 4, 1) := dk_7 (dk_at dksX2_next_12 4 rfl rfl)
theorem dX2_next_283 : decode cX2_next 283 = .ok (.putfield 31, 3) := dk_181 0 31 (dk_at dksX2_next_12 5 rfl rfl)
theorem dX2_next_286 : decode cX2_next 286 = .ok (.aload_n 0, 1) := dk_42 (dk_at dksX2_next_12 8 rfl rfl)
theorem dX2_next_287 : decode cX2_next 287 = .ok (.dup, 1) := dk_89 (dk_at dksX2_next_12 9 rfl rfl)
theorem dX2_next_288 : decode cX2_next 288 = .ok (.getfield 19, 3) := dk_180 0 19 (dk_at dksX2_next_12 10 rfl rfl)
theorem dX2_next_291 : decode cX2_next 291 = .ok (.iconst 1, 1) := dk_4 (dk_at dksX2_next_12 13 rfl rfl)
theorem dX2_next_292 : decode cX2_next 292 = .ok (.iadd, 1) := dk_96 (dk_at dksX2_next_12 14 rfl rfl)
theorem dX2_next_293 : decode cX2_next 293 = .ok (.putfield 19, 3) := dk_181 0 19 (dk_at dksX2_next_12 15 rfl rfl)
theorem dX2_next_296 : decode cX2_next 296 = .ok (.return_, 1) := dk_177 (dk_at dksX2_next_12 18 rfl rfl)
abbrev cX2_at : ByteArray := prog_13_method_3_code
def yX2_at : MethodName := ⟨RX2, "at", "(I)I"⟩
def dkwX2_at_0 : List UInt8 := [27, 42, 180, 0, 15, 162, 0, 12, 42, 180, 0, 9, 27, 51, 167, 0, 4, 3, 172]
abbrev dktX2_at_0 : List UInt8 := dkwX2_at_0 ++ []
theorem dksX2_at_0 : cX2_at.data.toList.drop 0 = dktX2_at_0 := by decide +kernel
theorem dX2_at_0 : decode cX2_at 0 = .ok (.iload_n 1, 1) := dk_27 (dk_at dksX2_at_0 0 rfl rfl)
theorem dX2_at_1 : decode cX2_at 1 = .ok (.aload_n 0, 1) := dk_42 (dk_at dksX2_at_0 1 rfl rfl)
theorem dX2_at_2 : decode cX2_at 2 = .ok (.getfield 15, 3) := dk_180 0 15 (dk_at dksX2_at_0 2 rfl rfl)
theorem dX2_at_5 : decode cX2_at 5 = .ok (.if_icmp .ge 12, 3) := dk_162 0 12 (dk_at dksX2_at_0 5 rfl rfl)
theorem dX2_at_8 : decode cX2_at 8 = .ok (.aload_n 0, 1) := dk_42 (dk_at dksX2_at_0 8 rfl rfl)
theorem dX2_at_9 : decode cX2_at 9 = .ok (.getfield 9, 3) := dk_180 0 9 (dk_at dksX2_at_0 9 rfl rfl)
theorem dX2_at_12 : decode cX2_at 12 = .ok (.iload_n 1, 1) := dk_27 (dk_at dksX2_at_0 12 rfl rfl)
theorem dX2_at_13 : decode cX2_at 13 = .ok (.baload, 1) := dk_51 (dk_at dksX2_at_0 13 rfl rfl)
theorem dX2_at_14 : decode cX2_at 14 = .ok (.goto 4, 3) := dk_167 0 4 (dk_at dksX2_at_0 14 rfl rfl)
theorem dX2_at_17 : decode cX2_at 17 = .ok (.iconst 0, 1) := dk_3 (dk_at dksX2_at_0 17 rfl rfl)
theorem dX2_at_18 : decode cX2_at 18 = .ok (.ireturn, 1) := dk_172 (dk_at dksX2_at_0 18 rfl rfl)
abbrev cX2_isLetter : ByteArray := prog_13_method_4_code
def yX2_isLetter : MethodName := ⟨RX2, "isLetter", "(I)Z"⟩
def dkwX2_isLetter_0 : List UInt8 := [26, 16, 97, 161, 0, 13, 26, 16, 122, 163, 0, 7, 4, 167, 0, 4, 3, 172]
abbrev dktX2_isLetter_0 : List UInt8 := dkwX2_isLetter_0 ++ []
theorem dksX2_isLetter_0 : cX2_isLetter.data.toList.drop 0 = dktX2_isLetter_0 := by decide +kernel
theorem dX2_isLetter_0 : decode cX2_isLetter 0 = .ok (.iload_n 0, 1) := dk_26 (dk_at dksX2_isLetter_0 0 rfl rfl)
theorem dX2_isLetter_1 : decode cX2_isLetter 1 = .ok (.bipush 97, 2) := dk_16 97 (dk_at dksX2_isLetter_0 1 rfl rfl)
theorem dX2_isLetter_3 : decode cX2_isLetter 3 = .ok (.if_icmp .lt 13, 3) := dk_161 0 13 (dk_at dksX2_isLetter_0 3 rfl rfl)
theorem dX2_isLetter_6 : decode cX2_isLetter 6 = .ok (.iload_n 0, 1) := dk_26 (dk_at dksX2_isLetter_0 6 rfl rfl)
theorem dX2_isLetter_7 : decode cX2_isLetter 7 = .ok (.bipush 122, 2) := dk_16 122 (dk_at dksX2_isLetter_0 7 rfl rfl)
theorem dX2_isLetter_9 : decode cX2_isLetter 9 = .ok (.if_icmp .gt 7, 3) := dk_163 0 7 (dk_at dksX2_isLetter_0 9 rfl rfl)
theorem dX2_isLetter_12 : decode cX2_isLetter 12 = .ok (.iconst 1, 1) := dk_4 (dk_at dksX2_isLetter_0 12 rfl rfl)
theorem dX2_isLetter_13 : decode cX2_isLetter 13 = .ok (.goto 4, 3) := dk_167 0 4 (dk_at dksX2_isLetter_0 13 rfl rfl)
theorem dX2_isLetter_16 : decode cX2_isLetter 16 = .ok (.iconst 0, 1) := dk_3 (dk_at dksX2_isLetter_0 16 rfl rfl)
theorem dX2_isLetter_17 : decode cX2_isLetter 17 = .ok (.ireturn, 1) := dk_172 (dk_at dksX2_isLetter_0 17 rfl rfl)
abbrev cX2_isDigit : ByteArray := prog_13_method_5_code
def yX2_isDigit : MethodName := ⟨RX2, "isDigit", "(I)Z"⟩
def dkwX2_isDigit_0 : List UInt8 := [26, 16, 48, 161, 0, 13, 26, 16, 57, 163, 0, 7, 4, 167, 0, 4, 3, 172]
abbrev dktX2_isDigit_0 : List UInt8 := dkwX2_isDigit_0 ++ []
theorem dksX2_isDigit_0 : cX2_isDigit.data.toList.drop 0 = dktX2_isDigit_0 := by decide +kernel
theorem dX2_isDigit_0 : decode cX2_isDigit 0 = .ok (.iload_n 0, 1) := dk_26 (dk_at dksX2_isDigit_0 0 rfl rfl)
theorem dX2_isDigit_1 : decode cX2_isDigit 1 = .ok (.bipush 48, 2) := dk_16 48 (dk_at dksX2_isDigit_0 1 rfl rfl)
theorem dX2_isDigit_3 : decode cX2_isDigit 3 = .ok (.if_icmp .lt 13, 3) := dk_161 0 13 (dk_at dksX2_isDigit_0 3 rfl rfl)
theorem dX2_isDigit_6 : decode cX2_isDigit 6 = .ok (.iload_n 0, 1) := dk_26 (dk_at dksX2_isDigit_0 6 rfl rfl)
theorem dX2_isDigit_7 : decode cX2_isDigit 7 = .ok (.bipush 57, 2) := dk_16 57 (dk_at dksX2_isDigit_0 7 rfl rfl)
theorem dX2_isDigit_9 : decode cX2_isDigit 9 = .ok (.if_icmp .gt 7, 3) := dk_163 0 7 (dk_at dksX2_isDigit_0 9 rfl rfl)
theorem dX2_isDigit_12 : decode cX2_isDigit 12 = .ok (.iconst 1, 1) := dk_4 (dk_at dksX2_isDigit_0 12 rfl rfl)
theorem dX2_isDigit_13 : decode cX2_isDigit 13 = .ok (.goto 4, 3) := dk_167 0 4 (dk_at dksX2_isDigit_0 13 rfl rfl)
theorem dX2_isDigit_16 : decode cX2_isDigit 16 = .ok (.iconst 0, 1) := dk_3 (dk_at dksX2_isDigit_0 16 rfl rfl)
theorem dX2_isDigit_17 : decode cX2_isDigit 17 = .ok (.ireturn, 1) := dk_172 (dk_at dksX2_isDigit_0 17 rfl rfl)
abbrev cX2_line : ByteArray := prog_13_method_19_code
def yX2_line : MethodName := ⟨RX2, "line", "()LPegLaws$Rope;"⟩
def dkwX2_line_4 : List UInt8 := [180, 0, 105, 176]
abbrev dktX2_line_4 : List UInt8 := dkwX2_line_4 ++ []
def dkwX2_line_3 : List UInt8 := [182, 0, 75, 191, 42, 182, 0, 25, 42, 27, 182, 0, 154, 42, 16, 59, 182, 0, 157, 167, 255, 178, 42]
abbrev dktX2_line_3 : List UInt8 := dkwX2_line_3 ++ dktX2_line_4
def dkwX2_line_2 : List UInt8 := [191, 27, 154, 0, 24, 42, 180, 0, 105, 180, 0, 146, 182, 0, 150, 16, 6, 160, 0, 9, 42, 8]
abbrev dktX2_line_2 : List UInt8 := dkwX2_line_2 ++ dktX2_line_3
def dkwX2_line_1 : List UInt8 := [60, 27, 156, 0, 9, 42, 4, 182, 0, 75, 191, 42, 27, 182, 0, 143, 153, 0, 9, 42, 6, 182, 0, 75]
abbrev dktX2_line_1 : List UInt8 := dkwX2_line_1 ++ dktX2_line_2
def dkwX2_line_0 : List UInt8 := [42, 187, 0, 113, 89, 183, 0, 140, 181, 0, 105, 42, 180, 0, 31, 153, 0, 77, 42, 18, 141, 182, 0, 71]
abbrev dktX2_line_0 : List UInt8 := dkwX2_line_0 ++ dktX2_line_1
theorem dksX2_line_0 : cX2_line.data.toList.drop 0 = dktX2_line_0 := by decide +kernel
theorem dksX2_line_1 : cX2_line.data.toList.drop 24 = dktX2_line_1 := dk_seg dksX2_line_0 24 rfl rfl
theorem dksX2_line_2 : cX2_line.data.toList.drop 48 = dktX2_line_2 := dk_seg dksX2_line_1 24 rfl rfl
theorem dksX2_line_3 : cX2_line.data.toList.drop 70 = dktX2_line_3 := dk_seg dksX2_line_2 22 rfl rfl
theorem dksX2_line_4 : cX2_line.data.toList.drop 93 = dktX2_line_4 := dk_seg dksX2_line_3 23 rfl rfl
theorem dX2_line_0 : decode cX2_line 0 = .ok (.aload_n 0, 1) := dk_42 (dk_at dksX2_line_0 0 rfl rfl)
theorem dX2_line_1 : decode cX2_line 1 = .ok (.new 113, 3) := dk_187 0 113 (dk_at dksX2_line_0 1 rfl rfl)
theorem dX2_line_4 : decode cX2_line 4 = .ok (.dup, 1) := dk_89 (dk_at dksX2_line_0 4 rfl rfl)
theorem dX2_line_5 : decode cX2_line 5 = .ok (.invokespecial 140, 3) := dk_183 0 140 (dk_at dksX2_line_0 5 rfl rfl)
theorem dX2_line_8 : decode cX2_line 8 = .ok (.putfield 105, 3) := dk_181 0 105 (dk_at dksX2_line_0 8 rfl rfl)
theorem dX2_line_11 : decode cX2_line 11 = .ok (.aload_n 0, 1) := dk_42 (dk_at dksX2_line_0 11 rfl rfl)
theorem dX2_line_12 : decode cX2_line 12 = .ok (.getfield 31, 3) := dk_180 0 31 (dk_at dksX2_line_0 12 rfl rfl)
theorem dX2_line_15 : decode cX2_line 15 = .ok (.ifCond .eq 77, 3) := dk_153 0 77 (dk_at dksX2_line_0 15 rfl rfl)
theorem dX2_line_18 : decode cX2_line 18 = .ok (.aload_n 0, 1) := dk_42 (dk_at dksX2_line_0 18 rfl rfl)
theorem dX2_line_19 : decode cX2_line 19 = .ok (.ldc 141, 2) := dk_18 141 (dk_at dksX2_line_0 19 rfl rfl)
theorem dX2_line_21 : decode cX2_line 21 = .ok (.invokevirtual 71, 3) := dk_182 0 71 (dk_at dksX2_line_0 21 rfl rfl)
theorem dX2_line_24 : decode cX2_line 24 = .ok (.istore_n 1, 1) := dk_60 (dk_at dksX2_line_1 0 rfl rfl)
theorem dX2_line_25 : decode cX2_line 25 = .ok (.iload_n 1, 1) := dk_27 (dk_at dksX2_line_1 1 rfl rfl)
theorem dX2_line_26 : decode cX2_line 26 = .ok (.ifCond .ge 9, 3) := dk_156 0 9 (dk_at dksX2_line_1 2 rfl rfl)
theorem dX2_line_29 : decode cX2_line 29 = .ok (.aload_n 0, 1) := dk_42 (dk_at dksX2_line_1 5 rfl rfl)
theorem dX2_line_30 : decode cX2_line 30 = .ok (.iconst 1, 1) := dk_4 (dk_at dksX2_line_1 6 rfl rfl)
theorem dX2_line_31 : decode cX2_line 31 = .ok (.invokevirtual 75, 3) := dk_182 0 75 (dk_at dksX2_line_1 7 rfl rfl)
theorem dX2_line_34 : decode cX2_line 34 = .ok (.athrow, 1) := dk_191 (dk_at dksX2_line_1 10 rfl rfl)
theorem dX2_line_35 : decode cX2_line 35 = .ok (.aload_n 0, 1) := dk_42 (dk_at dksX2_line_1 11 rfl rfl)
theorem dX2_line_36 : decode cX2_line 36 = .ok (.iload_n 1, 1) := dk_27 (dk_at dksX2_line_1 12 rfl rfl)
theorem dX2_line_37 : decode cX2_line 37 = .ok (.invokevirtual 143, 3) := dk_182 0 143 (dk_at dksX2_line_1 13 rfl rfl)
theorem dX2_line_40 : decode cX2_line 40 = .ok (.ifCond .eq 9, 3) := dk_153 0 9 (dk_at dksX2_line_1 16 rfl rfl)
theorem dX2_line_43 : decode cX2_line 43 = .ok (.aload_n 0, 1) := dk_42 (dk_at dksX2_line_1 19 rfl rfl)
theorem dX2_line_44 : decode cX2_line 44 = .ok (.iconst 3, 1) := dk_6 (dk_at dksX2_line_1 20 rfl rfl)
theorem dX2_line_45 : decode cX2_line 45 = .ok (.invokevirtual 75, 3) := dk_182 0 75 (dk_at dksX2_line_1 21 rfl rfl)
theorem dX2_line_48 : decode cX2_line 48 = .ok (.athrow, 1) := dk_191 (dk_at dksX2_line_2 0 rfl rfl)
theorem dX2_line_49 : decode cX2_line 49 = .ok (.iload_n 1, 1) := dk_27 (dk_at dksX2_line_2 1 rfl rfl)
theorem dX2_line_50 : decode cX2_line 50 = .ok (.ifCond .ne 24, 3) := dk_154 0 24 (dk_at dksX2_line_2 2 rfl rfl)
theorem dX2_line_53 : decode cX2_line 53 = .ok (.aload_n 0, 1) := dk_42 (dk_at dksX2_line_2 5 rfl rfl)
theorem dX2_line_54 : decode cX2_line 54 = .ok (.getfield 105, 3) := dk_180 0 105 (dk_at dksX2_line_2 6 rfl rfl)
theorem dX2_line_57 : decode cX2_line 57 = .ok (.getfield 146, 3) := dk_180 0 146 (dk_at dksX2_line_2 9 rfl rfl)
theorem dX2_line_60 : decode cX2_line 60 = .ok (.invokevirtual 150, 3) := dk_182 0 150 (dk_at dksX2_line_2 12 rfl rfl)
theorem dX2_line_63 : decode cX2_line 63 = .ok (.bipush 6, 2) := dk_16 6 (dk_at dksX2_line_2 15 rfl rfl)
theorem dX2_line_65 : decode cX2_line 65 = .ok (.if_icmp .ne 9, 3) := dk_160 0 9 (dk_at dksX2_line_2 17 rfl rfl)
theorem dX2_line_68 : decode cX2_line 68 = .ok (.aload_n 0, 1) := dk_42 (dk_at dksX2_line_2 20 rfl rfl)
theorem dX2_line_69 : decode cX2_line 69 = .ok (.iconst 5, 1) := dk_8 (dk_at dksX2_line_2 21 rfl rfl)
theorem dX2_line_70 : decode cX2_line 70 = .ok (.invokevirtual 75, 3) := dk_182 0 75 (dk_at dksX2_line_3 0 rfl rfl)
theorem dX2_line_73 : decode cX2_line 73 = .ok (.athrow, 1) := dk_191 (dk_at dksX2_line_3 3 rfl rfl)
theorem dX2_line_74 : decode cX2_line 74 = .ok (.aload_n 0, 1) := dk_42 (dk_at dksX2_line_3 4 rfl rfl)
theorem dX2_line_75 : decode cX2_line 75 = .ok (.invokevirtual 25, 3) := dk_182 0 25 (dk_at dksX2_line_3 5 rfl rfl)
theorem dX2_line_78 : decode cX2_line 78 = .ok (.aload_n 0, 1) := dk_42 (dk_at dksX2_line_3 8 rfl rfl)
theorem dX2_line_79 : decode cX2_line 79 = .ok (.iload_n 1, 1) := dk_27 (dk_at dksX2_line_3 9 rfl rfl)
theorem dX2_line_80 : decode cX2_line 80 = .ok (.invokevirtual 154, 3) := dk_182 0 154 (dk_at dksX2_line_3 10 rfl rfl)
theorem dX2_line_83 : decode cX2_line 83 = .ok (.aload_n 0, 1) := dk_42 (dk_at dksX2_line_3 13 rfl rfl)
theorem dX2_line_84 : decode cX2_line 84 = .ok (.bipush 59, 2) := dk_16 59 (dk_at dksX2_line_3 14 rfl rfl)
theorem dX2_line_86 : decode cX2_line 86 = .ok (.invokevirtual 157, 3) := dk_182 0 157 (dk_at dksX2_line_3 16 rfl rfl)
theorem dX2_line_89 : decode cX2_line 89 = .ok (.goto (-78), 3) := dk_167 255 178 (dk_at dksX2_line_3 19 rfl rfl)
theorem dX2_line_92 : decode cX2_line 92 = .ok (.aload_n 0, 1) := dk_42 (dk_at dksX2_line_3 22 rfl rfl)
theorem dX2_line_93 : decode cX2_line 93 = .ok (.getfield 105, 3) := dk_180 0 105 (dk_at dksX2_line_4 0 rfl rfl)
theorem dX2_line_96 : decode cX2_line 96 = .ok (.areturn, 1) := dk_176 (dk_at dksX2_line_4 3 rfl rfl)
abbrev cX2_which : ByteArray := prog_13_method_8_code
def yX2_which : MethodName := ⟨RX2, "which", "(Ljava/lang/String;)I"⟩
def dkwX2_which_5 : List UInt8 := [96, 62, 132, 2, 1, 167, 255, 140, 2, 172]
abbrev dktX2_which_5 : List UInt8 := dkwX2_which_5 ++ []
def dkwX2_which_4 : List UInt8 := [167, 0, 4, 3, 54, 5, 132, 6, 1, 167, 255, 211, 21, 5, 153, 0, 5, 28, 172, 29, 21, 4, 4, 96]
abbrev dktX2_which_4 : List UInt8 := dkwX2_which_4 ++ dktX2_which_5
def dkwX2_which_3 : List UInt8 := [180, 0, 9, 42, 180, 0, 28, 21, 6, 96, 51, 43, 29, 21, 6, 96, 182, 0, 67, 160, 0, 7, 4]
abbrev dktX2_which_3 : List UInt8 := dkwX2_which_3 ++ dktX2_which_4
def dkwX2_which_2 : List UInt8 := [167, 0, 4, 3, 54, 5, 3, 54, 6, 21, 5, 153, 0, 46, 21, 6, 21, 4, 162, 0, 39, 42]
abbrev dktX2_which_2 : List UInt8 := dkwX2_which_2 ++ dktX2_which_3
def dkwX2_which_1 : List UInt8 := [182, 0, 64, 29, 100, 54, 4, 42, 180, 0, 19, 42, 180, 0, 28, 100, 21, 4, 160, 0, 7, 4]
abbrev dktX2_which_1 : List UInt8 := dkwX2_which_1 ++ dktX2_which_2
def dkwX2_which_0 : List UInt8 := [3, 61, 3, 62, 29, 43, 182, 0, 60, 162, 0, 114, 42, 180, 0, 31, 4, 160, 0, 106, 43, 16, 32, 29]
abbrev dktX2_which_0 : List UInt8 := dkwX2_which_0 ++ dktX2_which_1
theorem dksX2_which_0 : cX2_which.data.toList.drop 0 = dktX2_which_0 := by decide +kernel
theorem dksX2_which_1 : cX2_which.data.toList.drop 24 = dktX2_which_1 := dk_seg dksX2_which_0 24 rfl rfl
theorem dksX2_which_2 : cX2_which.data.toList.drop 46 = dktX2_which_2 := dk_seg dksX2_which_1 22 rfl rfl
theorem dksX2_which_3 : cX2_which.data.toList.drop 68 = dktX2_which_3 := dk_seg dksX2_which_2 22 rfl rfl
theorem dksX2_which_4 : cX2_which.data.toList.drop 91 = dktX2_which_4 := dk_seg dksX2_which_3 23 rfl rfl
theorem dksX2_which_5 : cX2_which.data.toList.drop 115 = dktX2_which_5 := dk_seg dksX2_which_4 24 rfl rfl
theorem dX2_which_0 : decode cX2_which 0 = .ok (.iconst 0, 1) := dk_3 (dk_at dksX2_which_0 0 rfl rfl)
theorem dX2_which_1 : decode cX2_which 1 = .ok (.istore_n 2, 1) := dk_61 (dk_at dksX2_which_0 1 rfl rfl)
theorem dX2_which_2 : decode cX2_which 2 = .ok (.iconst 0, 1) := dk_3 (dk_at dksX2_which_0 2 rfl rfl)
theorem dX2_which_3 : decode cX2_which 3 = .ok (.istore_n 3, 1) := dk_62 (dk_at dksX2_which_0 3 rfl rfl)
theorem dX2_which_4 : decode cX2_which 4 = .ok (.iload_n 3, 1) := dk_29 (dk_at dksX2_which_0 4 rfl rfl)
theorem dX2_which_5 : decode cX2_which 5 = .ok (.aload_n 1, 1) := dk_43 (dk_at dksX2_which_0 5 rfl rfl)
theorem dX2_which_6 : decode cX2_which 6 = .ok (.invokevirtual 60, 3) := dk_182 0 60 (dk_at dksX2_which_0 6 rfl rfl)
theorem dX2_which_9 : decode cX2_which 9 = .ok (.if_icmp .ge 114, 3) := dk_162 0 114 (dk_at dksX2_which_0 9 rfl rfl)
theorem dX2_which_12 : decode cX2_which 12 = .ok (.aload_n 0, 1) := dk_42 (dk_at dksX2_which_0 12 rfl rfl)
theorem dX2_which_13 : decode cX2_which 13 = .ok (.getfield 31, 3) := dk_180 0 31 (dk_at dksX2_which_0 13 rfl rfl)
theorem dX2_which_16 : decode cX2_which 16 = .ok (.iconst 1, 1) := dk_4 (dk_at dksX2_which_0 16 rfl rfl)
theorem dX2_which_17 : decode cX2_which 17 = .ok (.if_icmp .ne 106, 3) := dk_160 0 106 (dk_at dksX2_which_0 17 rfl rfl)
theorem dX2_which_20 : decode cX2_which 20 = .ok (.aload_n 1, 1) := dk_43 (dk_at dksX2_which_0 20 rfl rfl)
theorem dX2_which_21 : decode cX2_which 21 = .ok (.bipush 32, 2) := dk_16 32 (dk_at dksX2_which_0 21 rfl rfl)
theorem dX2_which_23 : decode cX2_which 23 = .ok (.iload_n 3, 1) := dk_29 (dk_at dksX2_which_0 23 rfl rfl)
theorem dX2_which_24 : decode cX2_which 24 = .ok (.invokevirtual 64, 3) := dk_182 0 64 (dk_at dksX2_which_1 0 rfl rfl)
theorem dX2_which_27 : decode cX2_which 27 = .ok (.iload_n 3, 1) := dk_29 (dk_at dksX2_which_1 3 rfl rfl)
theorem dX2_which_28 : decode cX2_which 28 = .ok (.isub, 1) := dk_100 (dk_at dksX2_which_1 4 rfl rfl)
theorem dX2_which_29 : decode cX2_which 29 = .ok (.istore 4, 2) := dk_54 4 (dk_at dksX2_which_1 5 rfl rfl)
theorem dX2_which_31 : decode cX2_which 31 = .ok (.aload_n 0, 1) := dk_42 (dk_at dksX2_which_1 7 rfl rfl)
theorem dX2_which_32 : decode cX2_which 32 = .ok (.getfield 19, 3) := dk_180 0 19 (dk_at dksX2_which_1 8 rfl rfl)
theorem dX2_which_35 : decode cX2_which 35 = .ok (.aload_n 0, 1) := dk_42 (dk_at dksX2_which_1 11 rfl rfl)
theorem dX2_which_36 : decode cX2_which 36 = .ok (.getfield 28, 3) := dk_180 0 28 (dk_at dksX2_which_1 12 rfl rfl)
theorem dX2_which_39 : decode cX2_which 39 = .ok (.isub, 1) := dk_100 (dk_at dksX2_which_1 15 rfl rfl)
theorem dX2_which_40 : decode cX2_which 40 = .ok (.iload 4, 2) := dk_21 4 (dk_at dksX2_which_1 16 rfl rfl)
theorem dX2_which_42 : decode cX2_which 42 = .ok (.if_icmp .ne 7, 3) := dk_160 0 7 (dk_at dksX2_which_1 18 rfl rfl)
theorem dX2_which_45 : decode cX2_which 45 = .ok (.iconst 1, 1) := dk_4 (dk_at dksX2_which_1 21 rfl rfl)
theorem dX2_which_46 : decode cX2_which 46 = .ok (.goto 4, 3) := dk_167 0 4 (dk_at dksX2_which_2 0 rfl rfl)
theorem dX2_which_49 : decode cX2_which 49 = .ok (.iconst 0, 1) := dk_3 (dk_at dksX2_which_2 3 rfl rfl)
theorem dX2_which_50 : decode cX2_which 50 = .ok (.istore 5, 2) := dk_54 5 (dk_at dksX2_which_2 4 rfl rfl)
theorem dX2_which_52 : decode cX2_which 52 = .ok (.iconst 0, 1) := dk_3 (dk_at dksX2_which_2 6 rfl rfl)
theorem dX2_which_53 : decode cX2_which 53 = .ok (.istore 6, 2) := dk_54 6 (dk_at dksX2_which_2 7 rfl rfl)
theorem dX2_which_55 : decode cX2_which 55 = .ok (.iload 5, 2) := dk_21 5 (dk_at dksX2_which_2 9 rfl rfl)
theorem dX2_which_57 : decode cX2_which 57 = .ok (.ifCond .eq 46, 3) := dk_153 0 46 (dk_at dksX2_which_2 11 rfl rfl)
theorem dX2_which_60 : decode cX2_which 60 = .ok (.iload 6, 2) := dk_21 6 (dk_at dksX2_which_2 14 rfl rfl)
theorem dX2_which_62 : decode cX2_which 62 = .ok (.iload 4, 2) := dk_21 4 (dk_at dksX2_which_2 16 rfl rfl)
theorem dX2_which_64 : decode cX2_which 64 = .ok (.if_icmp .ge 39, 3) := dk_162 0 39 (dk_at dksX2_which_2 18 rfl rfl)
theorem dX2_which_67 : decode cX2_which 67 = .ok (.aload_n 0, 1) := dk_42 (dk_at dksX2_which_2 21 rfl rfl)
theorem dX2_which_68 : decode cX2_which 68 = .ok (.getfield 9, 3) := dk_180 0 9 (dk_at dksX2_which_3 0 rfl rfl)
theorem dX2_which_71 : decode cX2_which 71 = .ok (.aload_n 0, 1) := dk_42 (dk_at dksX2_which_3 3 rfl rfl)
theorem dX2_which_72 : decode cX2_which 72 = .ok (.getfield 28, 3) := dk_180 0 28 (dk_at dksX2_which_3 4 rfl rfl)
theorem dX2_which_75 : decode cX2_which 75 = .ok (.iload 6, 2) := dk_21 6 (dk_at dksX2_which_3 7 rfl rfl)
theorem dX2_which_77 : decode cX2_which 77 = .ok (.iadd, 1) := dk_96 (dk_at dksX2_which_3 9 rfl rfl)
theorem dX2_which_78 : decode cX2_which 78 = .ok (.baload, 1) := dk_51 (dk_at dksX2_which_3 10 rfl rfl)
theorem dX2_which_79 : decode cX2_which 79 = .ok (.aload_n 1, 1) := dk_43 (dk_at dksX2_which_3 11 rfl rfl)
theorem dX2_which_80 : decode cX2_which 80 = .ok (.iload_n 3, 1) := dk_29 (dk_at dksX2_which_3 12 rfl rfl)
theorem dX2_which_81 : decode cX2_which 81 = .ok (.iload 6, 2) := dk_21 6 (dk_at dksX2_which_3 13 rfl rfl)
theorem dX2_which_83 : decode cX2_which 83 = .ok (.iadd, 1) := dk_96 (dk_at dksX2_which_3 15 rfl rfl)
theorem dX2_which_84 : decode cX2_which 84 = .ok (.invokevirtual 67, 3) := dk_182 0 67 (dk_at dksX2_which_3 16 rfl rfl)
theorem dX2_which_87 : decode cX2_which 87 = .ok (.if_icmp .ne 7, 3) := dk_160 0 7 (dk_at dksX2_which_3 19 rfl rfl)
theorem dX2_which_90 : decode cX2_which 90 = .ok (.iconst 1, 1) := dk_4 (dk_at dksX2_which_3 22 rfl rfl)
theorem dX2_which_91 : decode cX2_which 91 = .ok (.goto 4, 3) := dk_167 0 4 (dk_at dksX2_which_4 0 rfl rfl)
theorem dX2_which_94 : decode cX2_which 94 = .ok (.iconst 0, 1) := dk_3 (dk_at dksX2_which_4 3 rfl rfl)
theorem dX2_which_95 : decode cX2_which 95 = .ok (.istore 5, 2) := dk_54 5 (dk_at dksX2_which_4 4 rfl rfl)
theorem dX2_which_97 : decode cX2_which 97 = .ok (.iinc 6 1, 3) := dk_132 6 1 (dk_at dksX2_which_4 6 rfl rfl)
theorem dX2_which_100 : decode cX2_which 100 = .ok (.goto (-45), 3) := dk_167 255 211 (dk_at dksX2_which_4 9 rfl rfl)
theorem dX2_which_103 : decode cX2_which 103 = .ok (.iload 5, 2) := dk_21 5 (dk_at dksX2_which_4 12 rfl rfl)
theorem dX2_which_105 : decode cX2_which 105 = .ok (.ifCond .eq 5, 3) := dk_153 0 5 (dk_at dksX2_which_4 14 rfl rfl)
theorem dX2_which_108 : decode cX2_which 108 = .ok (.iload_n 2, 1) := dk_28 (dk_at dksX2_which_4 17 rfl rfl)
theorem dX2_which_109 : decode cX2_which 109 = .ok (.ireturn, 1) := dk_172 (dk_at dksX2_which_4 18 rfl rfl)
theorem dX2_which_110 : decode cX2_which 110 = .ok (.iload_n 3, 1) := dk_29 (dk_at dksX2_which_4 19 rfl rfl)
theorem dX2_which_111 : decode cX2_which 111 = .ok (.iload 4, 2) := dk_21 4 (dk_at dksX2_which_4 20 rfl rfl)
theorem dX2_which_113 : decode cX2_which 113 = .ok (.iconst 1, 1) := dk_4 (dk_at dksX2_which_4 22 rfl rfl)
theorem dX2_which_114 : decode cX2_which 114 = .ok (.iadd, 1) := dk_96 (dk_at dksX2_which_4 23 rfl rfl)
theorem dX2_which_115 : decode cX2_which 115 = .ok (.iadd, 1) := dk_96 (dk_at dksX2_which_5 0 rfl rfl)
theorem dX2_which_116 : decode cX2_which 116 = .ok (.istore_n 3, 1) := dk_62 (dk_at dksX2_which_5 1 rfl rfl)
theorem dX2_which_117 : decode cX2_which 117 = .ok (.iinc 2 1, 3) := dk_132 2 1 (dk_at dksX2_which_5 2 rfl rfl)
theorem dX2_which_120 : decode cX2_which 120 = .ok (.goto (-116), 3) := dk_167 255 140 (dk_at dksX2_which_5 5 rfl rfl)
theorem dX2_which_123 : decode cX2_which 123 = .ok (.iconst (-1), 1) := dk_2 (dk_at dksX2_which_5 8 rfl rfl)
theorem dX2_which_124 : decode cX2_which 124 = .ok (.ireturn, 1) := dk_172 (dk_at dksX2_which_5 9 rfl rfl)
abbrev cX2_wrong : ByteArray := prog_13_method_7_code
def yX2_wrong : MethodName := ⟨RX2, "wrong", "(I)LPegLaws$Wrong;"⟩
def dkwX2_wrong_0 : List UInt8 := [187, 0, 55, 89, 27, 42, 180, 0, 28, 183, 0, 57, 176]
abbrev dktX2_wrong_0 : List UInt8 := dkwX2_wrong_0 ++ []
theorem dksX2_wrong_0 : cX2_wrong.data.toList.drop 0 = dktX2_wrong_0 := by decide +kernel
theorem dX2_wrong_0 : decode cX2_wrong 0 = .ok (.new 55, 3) := dk_187 0 55 (dk_at dksX2_wrong_0 0 rfl rfl)
theorem dX2_wrong_3 : decode cX2_wrong 3 = .ok (.dup, 1) := dk_89 (dk_at dksX2_wrong_0 3 rfl rfl)
theorem dX2_wrong_4 : decode cX2_wrong 4 = .ok (.iload_n 1, 1) := dk_27 (dk_at dksX2_wrong_0 4 rfl rfl)
theorem dX2_wrong_5 : decode cX2_wrong 5 = .ok (.aload_n 0, 1) := dk_42 (dk_at dksX2_wrong_0 5 rfl rfl)
theorem dX2_wrong_6 : decode cX2_wrong 6 = .ok (.getfield 28, 3) := dk_180 0 28 (dk_at dksX2_wrong_0 6 rfl rfl)
theorem dX2_wrong_9 : decode cX2_wrong 9 = .ok (.invokespecial 57, 3) := dk_183 0 57 (dk_at dksX2_wrong_0 9 rfl rfl)
theorem dX2_wrong_12 : decode cX2_wrong 12 = .ok (.areturn, 1) := dk_176 (dk_at dksX2_wrong_0 12 rfl rfl)
abbrev cX2_isTold : ByteArray := prog_13_method_18_code
def yX2_isTold : MethodName := ⟨RX2, "isTold", "(I)Z"⟩
def dkwX2_isTold_6 : List UInt8 := [172, 3, 172]
abbrev dktX2_isTold_6 : List UInt8 := dkwX2_isTold_6 ++ []
def dkwX2_isTold_5 : List UInt8 := [198, 0, 7, 4, 167, 0, 4, 3, 172, 42, 180, 0, 105, 180, 0, 137, 198, 0, 7, 4, 167, 0, 4, 3]
abbrev dktX2_isTold_5 : List UInt8 := dkwX2_isTold_5 ++ dktX2_isTold_6
def dkwX2_isTold_4 : List UInt8 := [172, 42, 180, 0, 105, 180, 0, 130, 155, 0, 7, 4, 167, 0, 4, 3, 172, 42, 180, 0, 105, 180, 0, 133]
abbrev dktX2_isTold_4 : List UInt8 := dkwX2_isTold_4 ++ dktX2_isTold_5
def dkwX2_isTold_3 : List UInt8 := [158, 0, 7, 4, 167, 0, 4, 3, 172, 42, 180, 0, 105, 180, 0, 127, 155, 0, 7, 4, 167, 0, 4, 3]
abbrev dktX2_isTold_3 : List UInt8 := dkwX2_isTold_3 ++ dktX2_isTold_4
def dkwX2_isTold_2 : List UInt8 := [42, 180, 0, 105, 180, 0, 121, 158, 0, 7, 4, 167, 0, 4, 3, 172, 42, 180, 0, 105, 180, 0, 124]
abbrev dktX2_isTold_2 : List UInt8 := dkwX2_isTold_2 ++ dktX2_isTold_3
def dkwX2_isTold_1 : List UInt8 := [170, 0, 0, 0, 0, 0, 139, 0, 0, 0, 1, 0, 0, 0, 7, 0, 0, 0, 43, 0, 0, 0, 59, 0, 0, 0, 75, 0, 0, 0, 91, 0, 0, 0, 139, 0, 0, 0, 107, 0, 0, 0, 123]
abbrev dktX2_isTold_1 : List UInt8 := dkwX2_isTold_1 ++ dktX2_isTold_2
def dkwX2_isTold_0 : List UInt8 := [27]
abbrev dktX2_isTold_0 : List UInt8 := dkwX2_isTold_0 ++ dktX2_isTold_1
theorem dksX2_isTold_0 : cX2_isTold.data.toList.drop 0 = dktX2_isTold_0 := by decide +kernel
theorem dksX2_isTold_1 : cX2_isTold.data.toList.drop 1 = dktX2_isTold_1 := dk_seg dksX2_isTold_0 1 rfl rfl
theorem dksX2_isTold_2 : cX2_isTold.data.toList.drop 44 = dktX2_isTold_2 := dk_seg dksX2_isTold_1 43 rfl rfl
theorem dksX2_isTold_3 : cX2_isTold.data.toList.drop 67 = dktX2_isTold_3 := dk_seg dksX2_isTold_2 23 rfl rfl
theorem dksX2_isTold_4 : cX2_isTold.data.toList.drop 91 = dktX2_isTold_4 := dk_seg dksX2_isTold_3 24 rfl rfl
theorem dksX2_isTold_5 : cX2_isTold.data.toList.drop 115 = dktX2_isTold_5 := dk_seg dksX2_isTold_4 24 rfl rfl
theorem dksX2_isTold_6 : cX2_isTold.data.toList.drop 139 = dktX2_isTold_6 := dk_seg dksX2_isTold_5 24 rfl rfl
theorem dX2_isTold_0 : decode cX2_isTold 0 = .ok (.iload_n 1, 1) := dk_27 (dk_at dksX2_isTold_0 0 rfl rfl)
theorem dX2_isTold_1 : decode cX2_isTold 1 = .ok (.tableswitch 139 1 7 #[43, 59, 75, 91, 139, 107, 123], 43) := by decide +kernel
theorem dX2_isTold_44 : decode cX2_isTold 44 = .ok (.aload_n 0, 1) := dk_42 (dk_at dksX2_isTold_2 0 rfl rfl)
theorem dX2_isTold_45 : decode cX2_isTold 45 = .ok (.getfield 105, 3) := dk_180 0 105 (dk_at dksX2_isTold_2 1 rfl rfl)
theorem dX2_isTold_48 : decode cX2_isTold 48 = .ok (.getfield 121, 3) := dk_180 0 121 (dk_at dksX2_isTold_2 4 rfl rfl)
theorem dX2_isTold_51 : decode cX2_isTold 51 = .ok (.ifCond .le 7, 3) := dk_158 0 7 (dk_at dksX2_isTold_2 7 rfl rfl)
theorem dX2_isTold_54 : decode cX2_isTold 54 = .ok (.iconst 1, 1) := dk_4 (dk_at dksX2_isTold_2 10 rfl rfl)
theorem dX2_isTold_55 : decode cX2_isTold 55 = .ok (.goto 4, 3) := dk_167 0 4 (dk_at dksX2_isTold_2 11 rfl rfl)
theorem dX2_isTold_58 : decode cX2_isTold 58 = .ok (.iconst 0, 1) := dk_3 (dk_at dksX2_isTold_2 14 rfl rfl)
theorem dX2_isTold_59 : decode cX2_isTold 59 = .ok (.ireturn, 1) := dk_172 (dk_at dksX2_isTold_2 15 rfl rfl)
theorem dX2_isTold_60 : decode cX2_isTold 60 = .ok (.aload_n 0, 1) := dk_42 (dk_at dksX2_isTold_2 16 rfl rfl)
theorem dX2_isTold_61 : decode cX2_isTold 61 = .ok (.getfield 105, 3) := dk_180 0 105 (dk_at dksX2_isTold_2 17 rfl rfl)
theorem dX2_isTold_64 : decode cX2_isTold 64 = .ok (.getfield 124, 3) := dk_180 0 124 (dk_at dksX2_isTold_2 20 rfl rfl)
theorem dX2_isTold_67 : decode cX2_isTold 67 = .ok (.ifCond .le 7, 3) := dk_158 0 7 (dk_at dksX2_isTold_3 0 rfl rfl)
theorem dX2_isTold_70 : decode cX2_isTold 70 = .ok (.iconst 1, 1) := dk_4 (dk_at dksX2_isTold_3 3 rfl rfl)
theorem dX2_isTold_71 : decode cX2_isTold 71 = .ok (.goto 4, 3) := dk_167 0 4 (dk_at dksX2_isTold_3 4 rfl rfl)
theorem dX2_isTold_74 : decode cX2_isTold 74 = .ok (.iconst 0, 1) := dk_3 (dk_at dksX2_isTold_3 7 rfl rfl)
theorem dX2_isTold_75 : decode cX2_isTold 75 = .ok (.ireturn, 1) := dk_172 (dk_at dksX2_isTold_3 8 rfl rfl)
theorem dX2_isTold_76 : decode cX2_isTold 76 = .ok (.aload_n 0, 1) := dk_42 (dk_at dksX2_isTold_3 9 rfl rfl)
theorem dX2_isTold_77 : decode cX2_isTold 77 = .ok (.getfield 105, 3) := dk_180 0 105 (dk_at dksX2_isTold_3 10 rfl rfl)
theorem dX2_isTold_80 : decode cX2_isTold 80 = .ok (.getfield 127, 3) := dk_180 0 127 (dk_at dksX2_isTold_3 13 rfl rfl)
theorem dX2_isTold_83 : decode cX2_isTold 83 = .ok (.ifCond .lt 7, 3) := dk_155 0 7 (dk_at dksX2_isTold_3 16 rfl rfl)
theorem dX2_isTold_86 : decode cX2_isTold 86 = .ok (.iconst 1, 1) := dk_4 (dk_at dksX2_isTold_3 19 rfl rfl)
theorem dX2_isTold_87 : decode cX2_isTold 87 = .ok (.goto 4, 3) := dk_167 0 4 (dk_at dksX2_isTold_3 20 rfl rfl)
theorem dX2_isTold_90 : decode cX2_isTold 90 = .ok (.iconst 0, 1) := dk_3 (dk_at dksX2_isTold_3 23 rfl rfl)
theorem dX2_isTold_91 : decode cX2_isTold 91 = .ok (.ireturn, 1) := dk_172 (dk_at dksX2_isTold_4 0 rfl rfl)
theorem dX2_isTold_92 : decode cX2_isTold 92 = .ok (.aload_n 0, 1) := dk_42 (dk_at dksX2_isTold_4 1 rfl rfl)
theorem dX2_isTold_93 : decode cX2_isTold 93 = .ok (.getfield 105, 3) := dk_180 0 105 (dk_at dksX2_isTold_4 2 rfl rfl)
theorem dX2_isTold_96 : decode cX2_isTold 96 = .ok (.getfield 130, 3) := dk_180 0 130 (dk_at dksX2_isTold_4 5 rfl rfl)
theorem dX2_isTold_99 : decode cX2_isTold 99 = .ok (.ifCond .lt 7, 3) := dk_155 0 7 (dk_at dksX2_isTold_4 8 rfl rfl)
theorem dX2_isTold_102 : decode cX2_isTold 102 = .ok (.iconst 1, 1) := dk_4 (dk_at dksX2_isTold_4 11 rfl rfl)
theorem dX2_isTold_103 : decode cX2_isTold 103 = .ok (.goto 4, 3) := dk_167 0 4 (dk_at dksX2_isTold_4 12 rfl rfl)
theorem dX2_isTold_106 : decode cX2_isTold 106 = .ok (.iconst 0, 1) := dk_3 (dk_at dksX2_isTold_4 15 rfl rfl)
theorem dX2_isTold_107 : decode cX2_isTold 107 = .ok (.ireturn, 1) := dk_172 (dk_at dksX2_isTold_4 16 rfl rfl)
theorem dX2_isTold_108 : decode cX2_isTold 108 = .ok (.aload_n 0, 1) := dk_42 (dk_at dksX2_isTold_4 17 rfl rfl)
theorem dX2_isTold_109 : decode cX2_isTold 109 = .ok (.getfield 105, 3) := dk_180 0 105 (dk_at dksX2_isTold_4 18 rfl rfl)
theorem dX2_isTold_112 : decode cX2_isTold 112 = .ok (.getfield 133, 3) := dk_180 0 133 (dk_at dksX2_isTold_4 21 rfl rfl)
theorem dX2_isTold_115 : decode cX2_isTold 115 = .ok (.ifnull 7, 3) := dk_198 0 7 (dk_at dksX2_isTold_5 0 rfl rfl)
theorem dX2_isTold_118 : decode cX2_isTold 118 = .ok (.iconst 1, 1) := dk_4 (dk_at dksX2_isTold_5 3 rfl rfl)
theorem dX2_isTold_119 : decode cX2_isTold 119 = .ok (.goto 4, 3) := dk_167 0 4 (dk_at dksX2_isTold_5 4 rfl rfl)
theorem dX2_isTold_122 : decode cX2_isTold 122 = .ok (.iconst 0, 1) := dk_3 (dk_at dksX2_isTold_5 7 rfl rfl)
theorem dX2_isTold_123 : decode cX2_isTold 123 = .ok (.ireturn, 1) := dk_172 (dk_at dksX2_isTold_5 8 rfl rfl)
theorem dX2_isTold_124 : decode cX2_isTold 124 = .ok (.aload_n 0, 1) := dk_42 (dk_at dksX2_isTold_5 9 rfl rfl)
theorem dX2_isTold_125 : decode cX2_isTold 125 = .ok (.getfield 105, 3) := dk_180 0 105 (dk_at dksX2_isTold_5 10 rfl rfl)
theorem dX2_isTold_128 : decode cX2_isTold 128 = .ok (.getfield 137, 3) := dk_180 0 137 (dk_at dksX2_isTold_5 13 rfl rfl)
theorem dX2_isTold_131 : decode cX2_isTold 131 = .ok (.ifnull 7, 3) := dk_198 0 7 (dk_at dksX2_isTold_5 16 rfl rfl)
theorem dX2_isTold_134 : decode cX2_isTold 134 = .ok (.iconst 1, 1) := dk_4 (dk_at dksX2_isTold_5 19 rfl rfl)
theorem dX2_isTold_135 : decode cX2_isTold 135 = .ok (.goto 4, 3) := dk_167 0 4 (dk_at dksX2_isTold_5 20 rfl rfl)
theorem dX2_isTold_138 : decode cX2_isTold 138 = .ok (.iconst 0, 1) := dk_3 (dk_at dksX2_isTold_5 23 rfl rfl)
theorem dX2_isTold_139 : decode cX2_isTold 139 = .ok (.ireturn, 1) := dk_172 (dk_at dksX2_isTold_6 0 rfl rfl)
theorem dX2_isTold_140 : decode cX2_isTold 140 = .ok (.iconst 0, 1) := dk_3 (dk_at dksX2_isTold_6 1 rfl rfl)
theorem dX2_isTold_141 : decode cX2_isTold 141 = .ok (.ireturn, 1) := dk_172 (dk_at dksX2_isTold_6 2 rfl rfl)
abbrev cX2_told : ByteArray := prog_13_method_21_code
def yX2_told : MethodName := ⟨RX2, "told", "(I)V"⟩
def dkwX2_told_10 : List UInt8 := [181, 0, 133, 167, 0, 14, 42, 180, 0, 105, 42, 182, 0, 189, 181, 0, 137, 177]
abbrev dktX2_told_10 : List UInt8 := dkwX2_told_10 ++ []
def dkwX2_told_9 : List UInt8 := [180, 0, 105, 89, 180, 0, 186, 4, 96, 181, 0, 186, 167, 0, 28, 42, 180, 0, 105, 42, 182, 0, 189]
abbrev dktX2_told_9 : List UInt8 := dkwX2_told_9 ++ dktX2_told_10
def dkwX2_told_8 : List UInt8 := [28, 92, 46, 4, 29, 120, 128, 79, 42, 180, 0, 105, 180, 0, 179, 29, 92, 46, 4, 28, 120, 128, 79, 42]
abbrev dktX2_told_8 : List UInt8 := dkwX2_told_8 ++ dktX2_told_9
def dkwX2_told_7 : List UInt8 := [29, 184, 0, 182, 153, 0, 9, 42, 6, 182, 0, 75, 191, 42, 182, 0, 25, 42, 180, 0, 105, 180, 0, 179]
abbrev dktX2_told_7 : List UInt8 := dkwX2_told_7 ++ dktX2_told_8
def dkwX2_told_6 : List UInt8 := [61, 42, 182, 0, 25, 42, 182, 0, 177, 62, 28, 29, 159, 0, 19, 42, 180, 0, 105, 180, 0, 179, 28, 46]
abbrev dktX2_told_6 : List UInt8 := dkwX2_told_6 ++ dktX2_told_7
def dkwX2_told_5 : List UInt8 := [167, 0, 136, 42, 180, 0, 105, 42, 3, 16, 10, 182, 0, 102, 181, 0, 130, 167, 0, 119, 42, 182, 0, 177]
abbrev dktX2_told_5 : List UInt8 := dkwX2_told_5 ++ dktX2_told_6
def dkwX2_told_4 : List UInt8 := [182, 0, 170, 181, 0, 124, 167, 0, 153, 42, 180, 0, 105, 42, 4, 16, 60, 182, 0, 102, 181, 0, 127]
abbrev dktX2_told_4 : List UInt8 := dkwX2_told_4 ++ dktX2_told_5
def dkwX2_told_3 : List UInt8 := [182, 0, 170, 181, 0, 121, 167, 0, 177, 42, 180, 0, 105, 42, 42, 180, 0, 105, 180, 0, 174, 3, 16, 9]
abbrev dktX2_told_3 : List UInt8 := dkwX2_told_3 ++ dktX2_told_4
def dkwX2_told_2 : List UInt8 := [42, 182, 0, 163, 167, 0, 201, 42, 180, 0, 105, 42, 42, 180, 0, 105, 180, 0, 166, 4, 16, 9]
abbrev dktX2_told_2 : List UInt8 := dkwX2_told_2 ++ dktX2_told_3
def dkwX2_told_1 : List UInt8 := [170, 0, 0, 0, 0, 0, 237, 0, 0, 0, 0, 0, 0, 0, 6, 0, 0, 0, 43, 0, 0, 0, 50, 0, 0, 0, 74, 0, 0, 0, 98, 0, 0, 0, 115, 0, 0, 0, 132, 0, 0, 0, 223]
abbrev dktX2_told_1 : List UInt8 := dkwX2_told_1 ++ dktX2_told_2
def dkwX2_told_0 : List UInt8 := [27]
abbrev dktX2_told_0 : List UInt8 := dkwX2_told_0 ++ dktX2_told_1
theorem dksX2_told_0 : cX2_told.data.toList.drop 0 = dktX2_told_0 := by decide +kernel
theorem dksX2_told_1 : cX2_told.data.toList.drop 1 = dktX2_told_1 := dk_seg dksX2_told_0 1 rfl rfl
theorem dksX2_told_2 : cX2_told.data.toList.drop 44 = dktX2_told_2 := dk_seg dksX2_told_1 43 rfl rfl
theorem dksX2_told_3 : cX2_told.data.toList.drop 66 = dktX2_told_3 := dk_seg dksX2_told_2 22 rfl rfl
theorem dksX2_told_4 : cX2_told.data.toList.drop 90 = dktX2_told_4 := dk_seg dksX2_told_3 24 rfl rfl
theorem dksX2_told_5 : cX2_told.data.toList.drop 113 = dktX2_told_5 := dk_seg dksX2_told_4 23 rfl rfl
theorem dksX2_told_6 : cX2_told.data.toList.drop 137 = dktX2_told_6 := dk_seg dksX2_told_5 24 rfl rfl
theorem dksX2_told_7 : cX2_told.data.toList.drop 161 = dktX2_told_7 := dk_seg dksX2_told_6 24 rfl rfl
theorem dksX2_told_8 : cX2_told.data.toList.drop 185 = dktX2_told_8 := dk_seg dksX2_told_7 24 rfl rfl
theorem dksX2_told_9 : cX2_told.data.toList.drop 209 = dktX2_told_9 := dk_seg dksX2_told_8 24 rfl rfl
theorem dksX2_told_10 : cX2_told.data.toList.drop 232 = dktX2_told_10 := dk_seg dksX2_told_9 23 rfl rfl
theorem dX2_told_0 : decode cX2_told 0 = .ok (.iload_n 1, 1) := dk_27 (dk_at dksX2_told_0 0 rfl rfl)
theorem dX2_told_1 : decode cX2_told 1 = .ok (.tableswitch 237 0 6 #[43, 50, 74, 98, 115, 132, 223], 43) := by decide +kernel
theorem dX2_told_44 : decode cX2_told 44 = .ok (.aload_n 0, 1) := dk_42 (dk_at dksX2_told_2 0 rfl rfl)
theorem dX2_told_45 : decode cX2_told 45 = .ok (.invokevirtual 163, 3) := dk_182 0 163 (dk_at dksX2_told_2 1 rfl rfl)
theorem dX2_told_48 : decode cX2_told 48 = .ok (.goto 201, 3) := dk_167 0 201 (dk_at dksX2_told_2 4 rfl rfl)
theorem dX2_told_51 : decode cX2_told 51 = .ok (.aload_n 0, 1) := dk_42 (dk_at dksX2_told_2 7 rfl rfl)
theorem dX2_told_52 : decode cX2_told 52 = .ok (.getfield 105, 3) := dk_180 0 105 (dk_at dksX2_told_2 8 rfl rfl)
theorem dX2_told_55 : decode cX2_told 55 = .ok (.aload_n 0, 1) := dk_42 (dk_at dksX2_told_2 11 rfl rfl)
theorem dX2_told_56 : decode cX2_told 56 = .ok (.aload_n 0, 1) := dk_42 (dk_at dksX2_told_2 12 rfl rfl)
theorem dX2_told_57 : decode cX2_told 57 = .ok (.getfield 105, 3) := dk_180 0 105 (dk_at dksX2_told_2 13 rfl rfl)
theorem dX2_told_60 : decode cX2_told 60 = .ok (.getfield 166, 3) := dk_180 0 166 (dk_at dksX2_told_2 16 rfl rfl)
theorem dX2_told_63 : decode cX2_told 63 = .ok (.iconst 1, 1) := dk_4 (dk_at dksX2_told_2 19 rfl rfl)
theorem dX2_told_64 : decode cX2_told 64 = .ok (.bipush 9, 2) := dk_16 9 (dk_at dksX2_told_2 20 rfl rfl)
theorem dX2_told_66 : decode cX2_told 66 = .ok (.invokevirtual 170, 3) := dk_182 0 170 (dk_at dksX2_told_3 0 rfl rfl)
theorem dX2_told_69 : decode cX2_told 69 = .ok (.putfield 121, 3) := dk_181 0 121 (dk_at dksX2_told_3 3 rfl rfl)
theorem dX2_told_72 : decode cX2_told 72 = .ok (.goto 177, 3) := dk_167 0 177 (dk_at dksX2_told_3 6 rfl rfl)
theorem dX2_told_75 : decode cX2_told 75 = .ok (.aload_n 0, 1) := dk_42 (dk_at dksX2_told_3 9 rfl rfl)
theorem dX2_told_76 : decode cX2_told 76 = .ok (.getfield 105, 3) := dk_180 0 105 (dk_at dksX2_told_3 10 rfl rfl)
theorem dX2_told_79 : decode cX2_told 79 = .ok (.aload_n 0, 1) := dk_42 (dk_at dksX2_told_3 13 rfl rfl)
theorem dX2_told_80 : decode cX2_told 80 = .ok (.aload_n 0, 1) := dk_42 (dk_at dksX2_told_3 14 rfl rfl)
theorem dX2_told_81 : decode cX2_told 81 = .ok (.getfield 105, 3) := dk_180 0 105 (dk_at dksX2_told_3 15 rfl rfl)
theorem dX2_told_84 : decode cX2_told 84 = .ok (.getfield 174, 3) := dk_180 0 174 (dk_at dksX2_told_3 18 rfl rfl)
theorem dX2_told_87 : decode cX2_told 87 = .ok (.iconst 0, 1) := dk_3 (dk_at dksX2_told_3 21 rfl rfl)
theorem dX2_told_88 : decode cX2_told 88 = .ok (.bipush 9, 2) := dk_16 9 (dk_at dksX2_told_3 22 rfl rfl)
theorem dX2_told_90 : decode cX2_told 90 = .ok (.invokevirtual 170, 3) := dk_182 0 170 (dk_at dksX2_told_4 0 rfl rfl)
theorem dX2_told_93 : decode cX2_told 93 = .ok (.putfield 124, 3) := dk_181 0 124 (dk_at dksX2_told_4 3 rfl rfl)
theorem dX2_told_96 : decode cX2_told 96 = .ok (.goto 153, 3) := dk_167 0 153 (dk_at dksX2_told_4 6 rfl rfl)
theorem dX2_told_99 : decode cX2_told 99 = .ok (.aload_n 0, 1) := dk_42 (dk_at dksX2_told_4 9 rfl rfl)
theorem dX2_told_100 : decode cX2_told 100 = .ok (.getfield 105, 3) := dk_180 0 105 (dk_at dksX2_told_4 10 rfl rfl)
theorem dX2_told_103 : decode cX2_told 103 = .ok (.aload_n 0, 1) := dk_42 (dk_at dksX2_told_4 13 rfl rfl)
theorem dX2_told_104 : decode cX2_told 104 = .ok (.iconst 1, 1) := dk_4 (dk_at dksX2_told_4 14 rfl rfl)
theorem dX2_told_105 : decode cX2_told 105 = .ok (.bipush 60, 2) := dk_16 60 (dk_at dksX2_told_4 15 rfl rfl)
theorem dX2_told_107 : decode cX2_told 107 = .ok (.invokevirtual 102, 3) := dk_182 0 102 (dk_at dksX2_told_4 17 rfl rfl)
theorem dX2_told_110 : decode cX2_told 110 = .ok (.putfield 127, 3) := dk_181 0 127 (dk_at dksX2_told_4 20 rfl rfl)
theorem dX2_told_113 : decode cX2_told 113 = .ok (.goto 136, 3) := dk_167 0 136 (dk_at dksX2_told_5 0 rfl rfl)
theorem dX2_told_116 : decode cX2_told 116 = .ok (.aload_n 0, 1) := dk_42 (dk_at dksX2_told_5 3 rfl rfl)
theorem dX2_told_117 : decode cX2_told 117 = .ok (.getfield 105, 3) := dk_180 0 105 (dk_at dksX2_told_5 4 rfl rfl)
theorem dX2_told_120 : decode cX2_told 120 = .ok (.aload_n 0, 1) := dk_42 (dk_at dksX2_told_5 7 rfl rfl)
theorem dX2_told_121 : decode cX2_told 121 = .ok (.iconst 0, 1) := dk_3 (dk_at dksX2_told_5 8 rfl rfl)
theorem dX2_told_122 : decode cX2_told 122 = .ok (.bipush 10, 2) := dk_16 10 (dk_at dksX2_told_5 9 rfl rfl)
theorem dX2_told_124 : decode cX2_told 124 = .ok (.invokevirtual 102, 3) := dk_182 0 102 (dk_at dksX2_told_5 11 rfl rfl)
theorem dX2_told_127 : decode cX2_told 127 = .ok (.putfield 130, 3) := dk_181 0 130 (dk_at dksX2_told_5 14 rfl rfl)
theorem dX2_told_130 : decode cX2_told 130 = .ok (.goto 119, 3) := dk_167 0 119 (dk_at dksX2_told_5 17 rfl rfl)
theorem dX2_told_133 : decode cX2_told 133 = .ok (.aload_n 0, 1) := dk_42 (dk_at dksX2_told_5 20 rfl rfl)
theorem dX2_told_134 : decode cX2_told 134 = .ok (.invokevirtual 177, 3) := dk_182 0 177 (dk_at dksX2_told_5 21 rfl rfl)
theorem dX2_told_137 : decode cX2_told 137 = .ok (.istore_n 2, 1) := dk_61 (dk_at dksX2_told_6 0 rfl rfl)
theorem dX2_told_138 : decode cX2_told 138 = .ok (.aload_n 0, 1) := dk_42 (dk_at dksX2_told_6 1 rfl rfl)
theorem dX2_told_139 : decode cX2_told 139 = .ok (.invokevirtual 25, 3) := dk_182 0 25 (dk_at dksX2_told_6 2 rfl rfl)
theorem dX2_told_142 : decode cX2_told 142 = .ok (.aload_n 0, 1) := dk_42 (dk_at dksX2_told_6 5 rfl rfl)
theorem dX2_told_143 : decode cX2_told 143 = .ok (.invokevirtual 177, 3) := dk_182 0 177 (dk_at dksX2_told_6 6 rfl rfl)
theorem dX2_told_146 : decode cX2_told 146 = .ok (.istore_n 3, 1) := dk_62 (dk_at dksX2_told_6 9 rfl rfl)
theorem dX2_told_147 : decode cX2_told 147 = .ok (.iload_n 2, 1) := dk_28 (dk_at dksX2_told_6 10 rfl rfl)
theorem dX2_told_148 : decode cX2_told 148 = .ok (.iload_n 3, 1) := dk_29 (dk_at dksX2_told_6 11 rfl rfl)
theorem dX2_told_149 : decode cX2_told 149 = .ok (.if_icmp .eq 19, 3) := dk_159 0 19 (dk_at dksX2_told_6 12 rfl rfl)
theorem dX2_told_152 : decode cX2_told 152 = .ok (.aload_n 0, 1) := dk_42 (dk_at dksX2_told_6 15 rfl rfl)
theorem dX2_told_153 : decode cX2_told 153 = .ok (.getfield 105, 3) := dk_180 0 105 (dk_at dksX2_told_6 16 rfl rfl)
theorem dX2_told_156 : decode cX2_told 156 = .ok (.getfield 179, 3) := dk_180 0 179 (dk_at dksX2_told_6 19 rfl rfl)
theorem dX2_told_159 : decode cX2_told 159 = .ok (.iload_n 2, 1) := dk_28 (dk_at dksX2_told_6 22 rfl rfl)
theorem dX2_told_160 : decode cX2_told 160 = .ok (.iaload, 1) := dk_46 (dk_at dksX2_told_6 23 rfl rfl)
theorem dX2_told_161 : decode cX2_told 161 = .ok (.iload_n 3, 1) := dk_29 (dk_at dksX2_told_7 0 rfl rfl)
theorem dX2_told_162 : decode cX2_told 162 = .ok (.invokestatic 182, 3) := dk_184 0 182 (dk_at dksX2_told_7 1 rfl rfl)
theorem dX2_told_165 : decode cX2_told 165 = .ok (.ifCond .eq 9, 3) := dk_153 0 9 (dk_at dksX2_told_7 4 rfl rfl)
theorem dX2_told_168 : decode cX2_told 168 = .ok (.aload_n 0, 1) := dk_42 (dk_at dksX2_told_7 7 rfl rfl)
theorem dX2_told_169 : decode cX2_told 169 = .ok (.iconst 3, 1) := dk_6 (dk_at dksX2_told_7 8 rfl rfl)
theorem dX2_told_170 : decode cX2_told 170 = .ok (.invokevirtual 75, 3) := dk_182 0 75 (dk_at dksX2_told_7 9 rfl rfl)
theorem dX2_told_173 : decode cX2_told 173 = .ok (.athrow, 1) := dk_191 (dk_at dksX2_told_7 12 rfl rfl)
theorem dX2_told_174 : decode cX2_told 174 = .ok (.aload_n 0, 1) := dk_42 (dk_at dksX2_told_7 13 rfl rfl)
theorem dX2_told_175 : decode cX2_told 175 = .ok (.invokevirtual 25, 3) := dk_182 0 25 (dk_at dksX2_told_7 14 rfl rfl)
theorem dX2_told_178 : decode cX2_told 178 = .ok (.aload_n 0, 1) := dk_42 (dk_at dksX2_told_7 17 rfl rfl)
theorem dX2_told_179 : decode cX2_told 179 = .ok (.getfield 105, 3) := dk_180 0 105 (dk_at dksX2_told_7 18 rfl rfl)
theorem dX2_told_182 : decode cX2_told 182 = .ok (.getfield 179, 3) := dk_180 0 179 (dk_at dksX2_told_7 21 rfl rfl)
theorem dX2_told_185 : decode cX2_told 185 = .ok (.iload_n 2, 1) := dk_28 (dk_at dksX2_told_8 0 rfl rfl)
theorem dX2_told_186 : decode cX2_told 186 = .ok (.dup2, 1) := dk_92 (dk_at dksX2_told_8 1 rfl rfl)
theorem dX2_told_187 : decode cX2_told 187 = .ok (.iaload, 1) := dk_46 (dk_at dksX2_told_8 2 rfl rfl)
theorem dX2_told_188 : decode cX2_told 188 = .ok (.iconst 1, 1) := dk_4 (dk_at dksX2_told_8 3 rfl rfl)
theorem dX2_told_189 : decode cX2_told 189 = .ok (.iload_n 3, 1) := dk_29 (dk_at dksX2_told_8 4 rfl rfl)
theorem dX2_told_190 : decode cX2_told 190 = .ok (.ishl, 1) := dk_120 (dk_at dksX2_told_8 5 rfl rfl)
theorem dX2_told_191 : decode cX2_told 191 = .ok (.ior, 1) := dk_128 (dk_at dksX2_told_8 6 rfl rfl)
theorem dX2_told_192 : decode cX2_told 192 = .ok (.iastore, 1) := dk_79 (dk_at dksX2_told_8 7 rfl rfl)
theorem dX2_told_193 : decode cX2_told 193 = .ok (.aload_n 0, 1) := dk_42 (dk_at dksX2_told_8 8 rfl rfl)
theorem dX2_told_194 : decode cX2_told 194 = .ok (.getfield 105, 3) := dk_180 0 105 (dk_at dksX2_told_8 9 rfl rfl)
theorem dX2_told_197 : decode cX2_told 197 = .ok (.getfield 179, 3) := dk_180 0 179 (dk_at dksX2_told_8 12 rfl rfl)
theorem dX2_told_200 : decode cX2_told 200 = .ok (.iload_n 3, 1) := dk_29 (dk_at dksX2_told_8 15 rfl rfl)
theorem dX2_told_201 : decode cX2_told 201 = .ok (.dup2, 1) := dk_92 (dk_at dksX2_told_8 16 rfl rfl)
theorem dX2_told_202 : decode cX2_told 202 = .ok (.iaload, 1) := dk_46 (dk_at dksX2_told_8 17 rfl rfl)
theorem dX2_told_203 : decode cX2_told 203 = .ok (.iconst 1, 1) := dk_4 (dk_at dksX2_told_8 18 rfl rfl)
theorem dX2_told_204 : decode cX2_told 204 = .ok (.iload_n 2, 1) := dk_28 (dk_at dksX2_told_8 19 rfl rfl)
theorem dX2_told_205 : decode cX2_told 205 = .ok (.ishl, 1) := dk_120 (dk_at dksX2_told_8 20 rfl rfl)
theorem dX2_told_206 : decode cX2_told 206 = .ok (.ior, 1) := dk_128 (dk_at dksX2_told_8 21 rfl rfl)
theorem dX2_told_207 : decode cX2_told 207 = .ok (.iastore, 1) := dk_79 (dk_at dksX2_told_8 22 rfl rfl)
theorem dX2_told_208 : decode cX2_told 208 = .ok (.aload_n 0, 1) := dk_42 (dk_at dksX2_told_8 23 rfl rfl)
theorem dX2_told_209 : decode cX2_told 209 = .ok (.getfield 105, 3) := dk_180 0 105 (dk_at dksX2_told_9 0 rfl rfl)
theorem dX2_told_212 : decode cX2_told 212 = .ok (.dup, 1) := dk_89 (dk_at dksX2_told_9 3 rfl rfl)
theorem dX2_told_213 : decode cX2_told 213 = .ok (.getfield 186, 3) := dk_180 0 186 (dk_at dksX2_told_9 4 rfl rfl)
theorem dX2_told_216 : decode cX2_told 216 = .ok (.iconst 1, 1) := dk_4 (dk_at dksX2_told_9 7 rfl rfl)
theorem dX2_told_217 : decode cX2_told 217 = .ok (.iadd, 1) := dk_96 (dk_at dksX2_told_9 8 rfl rfl)
theorem dX2_told_218 : decode cX2_told 218 = .ok (.putfield 186, 3) := dk_181 0 186 (dk_at dksX2_told_9 9 rfl rfl)
theorem dX2_told_221 : decode cX2_told 221 = .ok (.goto 28, 3) := dk_167 0 28 (dk_at dksX2_told_9 12 rfl rfl)
theorem dX2_told_224 : decode cX2_told 224 = .ok (.aload_n 0, 1) := dk_42 (dk_at dksX2_told_9 15 rfl rfl)
theorem dX2_told_225 : decode cX2_told 225 = .ok (.getfield 105, 3) := dk_180 0 105 (dk_at dksX2_told_9 16 rfl rfl)
theorem dX2_told_228 : decode cX2_told 228 = .ok (.aload_n 0, 1) := dk_42 (dk_at dksX2_told_9 19 rfl rfl)
theorem dX2_told_229 : decode cX2_told 229 = .ok (.invokevirtual 189, 3) := dk_182 0 189 (dk_at dksX2_told_9 20 rfl rfl)
theorem dX2_told_232 : decode cX2_told 232 = .ok (.putfield 133, 3) := dk_181 0 133 (dk_at dksX2_told_10 0 rfl rfl)
theorem dX2_told_235 : decode cX2_told 235 = .ok (.goto 14, 3) := dk_167 0 14 (dk_at dksX2_told_10 3 rfl rfl)
theorem dX2_told_238 : decode cX2_told 238 = .ok (.aload_n 0, 1) := dk_42 (dk_at dksX2_told_10 6 rfl rfl)
theorem dX2_told_239 : decode cX2_told 239 = .ok (.getfield 105, 3) := dk_180 0 105 (dk_at dksX2_told_10 7 rfl rfl)
theorem dX2_told_242 : decode cX2_told 242 = .ok (.aload_n 0, 1) := dk_42 (dk_at dksX2_told_10 10 rfl rfl)
theorem dX2_told_243 : decode cX2_told 243 = .ok (.invokevirtual 189, 3) := dk_182 0 189 (dk_at dksX2_told_10 11 rfl rfl)
theorem dX2_told_246 : decode cX2_told 246 = .ok (.putfield 137, 3) := dk_181 0 137 (dk_at dksX2_told_10 14 rfl rfl)
theorem dX2_told_249 : decode cX2_told 249 = .ok (.return_, 1) := dk_177 (dk_at dksX2_told_10 17 rfl rfl)
abbrev cX2_comes : ByteArray := prog_13_method_22_code
def yX2_comes : MethodName := ⟨RX2, "comes", "()V"⟩
def dkwX2_comes_5 : List UInt8 := [18, 224, 3, 16, 99, 182, 0, 213, 181, 0, 226, 42, 180, 0, 105, 180, 0, 146, 45, 182, 0, 229, 87, 177]
abbrev dktX2_comes_5 : List UInt8 := dkwX2_comes_5 ++ []
def dkwX2_comes_4 : List UInt8 := [4, 16, 20, 182, 0, 213, 181, 0, 216, 45, 42, 18, 219, 3, 16, 20, 182, 0, 213, 181, 0, 221, 45, 42]
abbrev dktX2_comes_4 : List UInt8 := dkwX2_comes_4 ++ dktX2_comes_5
def dkwX2_comes_3 : List UInt8 := [187, 0, 205, 89, 43, 183, 0, 207, 167, 0, 11, 187, 0, 208, 89, 43, 183, 0, 210, 78, 45, 42, 18, 211]
abbrev dktX2_comes_3 : List UInt8 := dkwX2_comes_3 ++ dktX2_comes_4
def dkwX2_comes_2 : List UInt8 := [167, 0, 43, 28, 4, 160, 0, 14, 187, 0, 202, 89, 43, 183, 0, 204, 167, 0, 27, 28, 5, 160, 0, 14]
abbrev dktX2_comes_2 : List UInt8 := dkwX2_comes_2 ++ dktX2_comes_3
def dkwX2_comes_1 : List UInt8 := [182, 0, 25, 42, 18, 193, 182, 0, 195, 61, 28, 154, 0, 14, 187, 0, 198, 89, 43, 183, 0, 200]
abbrev dktX2_comes_1 : List UInt8 := dkwX2_comes_1 ++ dktX2_comes_2
def dkwX2_comes_0 : List UInt8 := [42, 182, 0, 109, 76, 42, 180, 0, 105, 43, 182, 0, 112, 155, 0, 9, 42, 6, 182, 0, 75, 191, 42]
abbrev dktX2_comes_0 : List UInt8 := dkwX2_comes_0 ++ dktX2_comes_1
theorem dksX2_comes_0 : cX2_comes.data.toList.drop 0 = dktX2_comes_0 := by decide +kernel
theorem dksX2_comes_1 : cX2_comes.data.toList.drop 23 = dktX2_comes_1 := dk_seg dksX2_comes_0 23 rfl rfl
theorem dksX2_comes_2 : cX2_comes.data.toList.drop 45 = dktX2_comes_2 := dk_seg dksX2_comes_1 22 rfl rfl
theorem dksX2_comes_3 : cX2_comes.data.toList.drop 69 = dktX2_comes_3 := dk_seg dksX2_comes_2 24 rfl rfl
theorem dksX2_comes_4 : cX2_comes.data.toList.drop 93 = dktX2_comes_4 := dk_seg dksX2_comes_3 24 rfl rfl
theorem dksX2_comes_5 : cX2_comes.data.toList.drop 117 = dktX2_comes_5 := dk_seg dksX2_comes_4 24 rfl rfl
theorem dX2_comes_0 : decode cX2_comes 0 = .ok (.aload_n 0, 1) := dk_42 (dk_at dksX2_comes_0 0 rfl rfl)
theorem dX2_comes_1 : decode cX2_comes 1 = .ok (.invokevirtual 109, 3) := dk_182 0 109 (dk_at dksX2_comes_0 1 rfl rfl)
theorem dX2_comes_4 : decode cX2_comes 4 = .ok (.astore_n 1, 1) := dk_76 (dk_at dksX2_comes_0 4 rfl rfl)
theorem dX2_comes_5 : decode cX2_comes 5 = .ok (.aload_n 0, 1) := dk_42 (dk_at dksX2_comes_0 5 rfl rfl)
theorem dX2_comes_6 : decode cX2_comes 6 = .ok (.getfield 105, 3) := dk_180 0 105 (dk_at dksX2_comes_0 6 rfl rfl)
theorem dX2_comes_9 : decode cX2_comes 9 = .ok (.aload_n 1, 1) := dk_43 (dk_at dksX2_comes_0 9 rfl rfl)
theorem dX2_comes_10 : decode cX2_comes 10 = .ok (.invokevirtual 112, 3) := dk_182 0 112 (dk_at dksX2_comes_0 10 rfl rfl)
theorem dX2_comes_13 : decode cX2_comes 13 = .ok (.ifCond .lt 9, 3) := dk_155 0 9 (dk_at dksX2_comes_0 13 rfl rfl)
theorem dX2_comes_16 : decode cX2_comes 16 = .ok (.aload_n 0, 1) := dk_42 (dk_at dksX2_comes_0 16 rfl rfl)
theorem dX2_comes_17 : decode cX2_comes 17 = .ok (.iconst 3, 1) := dk_6 (dk_at dksX2_comes_0 17 rfl rfl)
theorem dX2_comes_18 : decode cX2_comes 18 = .ok (.invokevirtual 75, 3) := dk_182 0 75 (dk_at dksX2_comes_0 18 rfl rfl)
theorem dX2_comes_21 : decode cX2_comes 21 = .ok (.athrow, 1) := dk_191 (dk_at dksX2_comes_0 21 rfl rfl)
theorem dX2_comes_22 : decode cX2_comes 22 = .ok (.aload_n 0, 1) := dk_42 (dk_at dksX2_comes_0 22 rfl rfl)
theorem dX2_comes_23 : decode cX2_comes 23 = .ok (.invokevirtual 25, 3) := dk_182 0 25 (dk_at dksX2_comes_1 0 rfl rfl)
theorem dX2_comes_26 : decode cX2_comes 26 = .ok (.aload_n 0, 1) := dk_42 (dk_at dksX2_comes_1 3 rfl rfl)
theorem dX2_comes_27 : decode cX2_comes 27 = .ok (.ldc 193, 2) := dk_18 193 (dk_at dksX2_comes_1 4 rfl rfl)
theorem dX2_comes_29 : decode cX2_comes 29 = .ok (.invokevirtual 195, 3) := dk_182 0 195 (dk_at dksX2_comes_1 6 rfl rfl)
theorem dX2_comes_32 : decode cX2_comes 32 = .ok (.istore_n 2, 1) := dk_61 (dk_at dksX2_comes_1 9 rfl rfl)
theorem dX2_comes_33 : decode cX2_comes 33 = .ok (.iload_n 2, 1) := dk_28 (dk_at dksX2_comes_1 10 rfl rfl)
theorem dX2_comes_34 : decode cX2_comes 34 = .ok (.ifCond .ne 14, 3) := dk_154 0 14 (dk_at dksX2_comes_1 11 rfl rfl)
theorem dX2_comes_37 : decode cX2_comes 37 = .ok (.new 198, 3) := dk_187 0 198 (dk_at dksX2_comes_1 14 rfl rfl)
theorem dX2_comes_40 : decode cX2_comes 40 = .ok (.dup, 1) := dk_89 (dk_at dksX2_comes_1 17 rfl rfl)
theorem dX2_comes_41 : decode cX2_comes 41 = .ok (.aload_n 1, 1) := dk_43 (dk_at dksX2_comes_1 18 rfl rfl)
theorem dX2_comes_42 : decode cX2_comes 42 = .ok (.invokespecial 200, 3) := dk_183 0 200 (dk_at dksX2_comes_1 19 rfl rfl)
theorem dX2_comes_45 : decode cX2_comes 45 = .ok (.goto 43, 3) := dk_167 0 43 (dk_at dksX2_comes_2 0 rfl rfl)
theorem dX2_comes_48 : decode cX2_comes 48 = .ok (.iload_n 2, 1) := dk_28 (dk_at dksX2_comes_2 3 rfl rfl)
theorem dX2_comes_49 : decode cX2_comes 49 = .ok (.iconst 1, 1) := dk_4 (dk_at dksX2_comes_2 4 rfl rfl)
theorem dX2_comes_50 : decode cX2_comes 50 = .ok (.if_icmp .ne 14, 3) := dk_160 0 14 (dk_at dksX2_comes_2 5 rfl rfl)
theorem dX2_comes_53 : decode cX2_comes 53 = .ok (.new 202, 3) := dk_187 0 202 (dk_at dksX2_comes_2 8 rfl rfl)
theorem dX2_comes_56 : decode cX2_comes 56 = .ok (.dup, 1) := dk_89 (dk_at dksX2_comes_2 11 rfl rfl)
theorem dX2_comes_57 : decode cX2_comes 57 = .ok (.aload_n 1, 1) := dk_43 (dk_at dksX2_comes_2 12 rfl rfl)
theorem dX2_comes_58 : decode cX2_comes 58 = .ok (.invokespecial 204, 3) := dk_183 0 204 (dk_at dksX2_comes_2 13 rfl rfl)
theorem dX2_comes_61 : decode cX2_comes 61 = .ok (.goto 27, 3) := dk_167 0 27 (dk_at dksX2_comes_2 16 rfl rfl)
theorem dX2_comes_64 : decode cX2_comes 64 = .ok (.iload_n 2, 1) := dk_28 (dk_at dksX2_comes_2 19 rfl rfl)
theorem dX2_comes_65 : decode cX2_comes 65 = .ok (.iconst 2, 1) := dk_5 (dk_at dksX2_comes_2 20 rfl rfl)
theorem dX2_comes_66 : decode cX2_comes 66 = .ok (.if_icmp .ne 14, 3) := dk_160 0 14 (dk_at dksX2_comes_2 21 rfl rfl)
theorem dX2_comes_69 : decode cX2_comes 69 = .ok (.new 205, 3) := dk_187 0 205 (dk_at dksX2_comes_3 0 rfl rfl)
theorem dX2_comes_72 : decode cX2_comes 72 = .ok (.dup, 1) := dk_89 (dk_at dksX2_comes_3 3 rfl rfl)
theorem dX2_comes_73 : decode cX2_comes 73 = .ok (.aload_n 1, 1) := dk_43 (dk_at dksX2_comes_3 4 rfl rfl)
theorem dX2_comes_74 : decode cX2_comes 74 = .ok (.invokespecial 207, 3) := dk_183 0 207 (dk_at dksX2_comes_3 5 rfl rfl)
theorem dX2_comes_77 : decode cX2_comes 77 = .ok (.goto 11, 3) := dk_167 0 11 (dk_at dksX2_comes_3 8 rfl rfl)
theorem dX2_comes_80 : decode cX2_comes 80 = .ok (.new 208, 3) := dk_187 0 208 (dk_at dksX2_comes_3 11 rfl rfl)
theorem dX2_comes_83 : decode cX2_comes 83 = .ok (.dup, 1) := dk_89 (dk_at dksX2_comes_3 14 rfl rfl)
theorem dX2_comes_84 : decode cX2_comes 84 = .ok (.aload_n 1, 1) := dk_43 (dk_at dksX2_comes_3 15 rfl rfl)
theorem dX2_comes_85 : decode cX2_comes 85 = .ok (.invokespecial 210, 3) := dk_183 0 210 (dk_at dksX2_comes_3 16 rfl rfl)
theorem dX2_comes_88 : decode cX2_comes 88 = .ok (.astore_n 3, 1) := dk_78 (dk_at dksX2_comes_3 19 rfl rfl)
theorem dX2_comes_89 : decode cX2_comes 89 = .ok (.aload_n 3, 1) := dk_45 (dk_at dksX2_comes_3 20 rfl rfl)
theorem dX2_comes_90 : decode cX2_comes 90 = .ok (.aload_n 0, 1) := dk_42 (dk_at dksX2_comes_3 21 rfl rfl)
theorem dX2_comes_91 : decode cX2_comes 91 = .ok (.ldc 211, 2) := dk_18 211 (dk_at dksX2_comes_3 22 rfl rfl)
theorem dX2_comes_93 : decode cX2_comes 93 = .ok (.iconst 1, 1) := dk_4 (dk_at dksX2_comes_4 0 rfl rfl)
theorem dX2_comes_94 : decode cX2_comes 94 = .ok (.bipush 20, 2) := dk_16 20 (dk_at dksX2_comes_4 1 rfl rfl)
theorem dX2_comes_96 : decode cX2_comes 96 = .ok (.invokevirtual 213, 3) := dk_182 0 213 (dk_at dksX2_comes_4 3 rfl rfl)
theorem dX2_comes_99 : decode cX2_comes 99 = .ok (.putfield 216, 3) := dk_181 0 216 (dk_at dksX2_comes_4 6 rfl rfl)
theorem dX2_comes_102 : decode cX2_comes 102 = .ok (.aload_n 3, 1) := dk_45 (dk_at dksX2_comes_4 9 rfl rfl)
theorem dX2_comes_103 : decode cX2_comes 103 = .ok (.aload_n 0, 1) := dk_42 (dk_at dksX2_comes_4 10 rfl rfl)
theorem dX2_comes_104 : decode cX2_comes 104 = .ok (.ldc 219, 2) := dk_18 219 (dk_at dksX2_comes_4 11 rfl rfl)
theorem dX2_comes_106 : decode cX2_comes 106 = .ok (.iconst 0, 1) := dk_3 (dk_at dksX2_comes_4 13 rfl rfl)
theorem dX2_comes_107 : decode cX2_comes 107 = .ok (.bipush 20, 2) := dk_16 20 (dk_at dksX2_comes_4 14 rfl rfl)
theorem dX2_comes_109 : decode cX2_comes 109 = .ok (.invokevirtual 213, 3) := dk_182 0 213 (dk_at dksX2_comes_4 16 rfl rfl)
theorem dX2_comes_112 : decode cX2_comes 112 = .ok (.putfield 221, 3) := dk_181 0 221 (dk_at dksX2_comes_4 19 rfl rfl)
theorem dX2_comes_115 : decode cX2_comes 115 = .ok (.aload_n 3, 1) := dk_45 (dk_at dksX2_comes_4 22 rfl rfl)
theorem dX2_comes_116 : decode cX2_comes 116 = .ok (.aload_n 0, 1) := dk_42 (dk_at dksX2_comes_4 23 rfl rfl)
theorem dX2_comes_117 : decode cX2_comes 117 = .ok (.ldc 224, 2) := dk_18 224 (dk_at dksX2_comes_5 0 rfl rfl)
theorem dX2_comes_119 : decode cX2_comes 119 = .ok (.iconst 0, 1) := dk_3 (dk_at dksX2_comes_5 2 rfl rfl)
theorem dX2_comes_120 : decode cX2_comes 120 = .ok (.bipush 99, 2) := dk_16 99 (dk_at dksX2_comes_5 3 rfl rfl)
theorem dX2_comes_122 : decode cX2_comes 122 = .ok (.invokevirtual 213, 3) := dk_182 0 213 (dk_at dksX2_comes_5 5 rfl rfl)
theorem dX2_comes_125 : decode cX2_comes 125 = .ok (.putfield 226, 3) := dk_181 0 226 (dk_at dksX2_comes_5 8 rfl rfl)
theorem dX2_comes_128 : decode cX2_comes 128 = .ok (.aload_n 0, 1) := dk_42 (dk_at dksX2_comes_5 11 rfl rfl)
theorem dX2_comes_129 : decode cX2_comes 129 = .ok (.getfield 105, 3) := dk_180 0 105 (dk_at dksX2_comes_5 12 rfl rfl)
theorem dX2_comes_132 : decode cX2_comes 132 = .ok (.getfield 146, 3) := dk_180 0 146 (dk_at dksX2_comes_5 15 rfl rfl)
theorem dX2_comes_135 : decode cX2_comes 135 = .ok (.aload_n 3, 1) := dk_45 (dk_at dksX2_comes_5 18 rfl rfl)
theorem dX2_comes_136 : decode cX2_comes 136 = .ok (.invokevirtual 229, 3) := dk_182 0 229 (dk_at dksX2_comes_5 19 rfl rfl)
theorem dX2_comes_139 : decode cX2_comes 139 = .ok (.pop, 1) := dk_87 (dk_at dksX2_comes_5 22 rfl rfl)
theorem dX2_comes_140 : decode cX2_comes 140 = .ok (.return_, 1) := dk_177 (dk_at dksX2_comes_5 23 rfl rfl)
abbrev cX2_name : ByteArray := prog_13_method_13_code
def yX2_name : MethodName := ⟨RX2, "name", "()Ljava/lang/String;"⟩
def dkwX2_name_2 : List UInt8 := [42, 180, 0, 9, 28, 51, 146, 182, 0, 90, 87, 132, 2, 1, 167, 255, 233, 43, 182, 0, 94, 176]
abbrev dktX2_name_2 : List UInt8 := dkwX2_name_2 ++ []
def dkwX2_name_1 : List UInt8 := [187, 0, 85, 89, 16, 8, 183, 0, 87, 76, 42, 180, 0, 28, 61, 28, 42, 180, 0, 19, 162, 0, 21, 43]
abbrev dktX2_name_1 : List UInt8 := dkwX2_name_1 ++ dktX2_name_2
def dkwX2_name_0 : List UInt8 := [42, 180, 0, 31, 4, 160, 0, 12, 42, 18, 83, 182, 0, 71, 155, 0, 9, 42, 4, 182, 0, 75, 191]
abbrev dktX2_name_0 : List UInt8 := dkwX2_name_0 ++ dktX2_name_1
theorem dksX2_name_0 : cX2_name.data.toList.drop 0 = dktX2_name_0 := by decide +kernel
theorem dksX2_name_1 : cX2_name.data.toList.drop 23 = dktX2_name_1 := dk_seg dksX2_name_0 23 rfl rfl
theorem dksX2_name_2 : cX2_name.data.toList.drop 47 = dktX2_name_2 := dk_seg dksX2_name_1 24 rfl rfl
theorem dX2_name_0 : decode cX2_name 0 = .ok (.aload_n 0, 1) := dk_42 (dk_at dksX2_name_0 0 rfl rfl)
theorem dX2_name_1 : decode cX2_name 1 = .ok (.getfield 31, 3) := dk_180 0 31 (dk_at dksX2_name_0 1 rfl rfl)
theorem dX2_name_4 : decode cX2_name 4 = .ok (.iconst 1, 1) := dk_4 (dk_at dksX2_name_0 4 rfl rfl)
theorem dX2_name_5 : decode cX2_name 5 = .ok (.if_icmp .ne 12, 3) := dk_160 0 12 (dk_at dksX2_name_0 5 rfl rfl)
theorem dX2_name_8 : decode cX2_name 8 = .ok (.aload_n 0, 1) := dk_42 (dk_at dksX2_name_0 8 rfl rfl)
theorem dX2_name_9 : decode cX2_name 9 = .ok (.ldc 83, 2) := dk_18 83 (dk_at dksX2_name_0 9 rfl rfl)
theorem dX2_name_11 : decode cX2_name 11 = .ok (.invokevirtual 71, 3) := dk_182 0 71 (dk_at dksX2_name_0 11 rfl rfl)
theorem dX2_name_14 : decode cX2_name 14 = .ok (.ifCond .lt 9, 3) := dk_155 0 9 (dk_at dksX2_name_0 14 rfl rfl)
theorem dX2_name_17 : decode cX2_name 17 = .ok (.aload_n 0, 1) := dk_42 (dk_at dksX2_name_0 17 rfl rfl)
theorem dX2_name_18 : decode cX2_name 18 = .ok (.iconst 1, 1) := dk_4 (dk_at dksX2_name_0 18 rfl rfl)
theorem dX2_name_19 : decode cX2_name 19 = .ok (.invokevirtual 75, 3) := dk_182 0 75 (dk_at dksX2_name_0 19 rfl rfl)
theorem dX2_name_22 : decode cX2_name 22 = .ok (.athrow, 1) := dk_191 (dk_at dksX2_name_0 22 rfl rfl)
theorem dX2_name_23 : decode cX2_name 23 = .ok (.new 85, 3) := dk_187 0 85 (dk_at dksX2_name_1 0 rfl rfl)
theorem dX2_name_26 : decode cX2_name 26 = .ok (.dup, 1) := dk_89 (dk_at dksX2_name_1 3 rfl rfl)
theorem dX2_name_27 : decode cX2_name 27 = .ok (.bipush 8, 2) := dk_16 8 (dk_at dksX2_name_1 4 rfl rfl)
theorem dX2_name_29 : decode cX2_name 29 = .ok (.invokespecial 87, 3) := dk_183 0 87 (dk_at dksX2_name_1 6 rfl rfl)
theorem dX2_name_32 : decode cX2_name 32 = .ok (.astore_n 1, 1) := dk_76 (dk_at dksX2_name_1 9 rfl rfl)
theorem dX2_name_33 : decode cX2_name 33 = .ok (.aload_n 0, 1) := dk_42 (dk_at dksX2_name_1 10 rfl rfl)
theorem dX2_name_34 : decode cX2_name 34 = .ok (.getfield 28, 3) := dk_180 0 28 (dk_at dksX2_name_1 11 rfl rfl)
theorem dX2_name_37 : decode cX2_name 37 = .ok (.istore_n 2, 1) := dk_61 (dk_at dksX2_name_1 14 rfl rfl)
theorem dX2_name_38 : decode cX2_name 38 = .ok (.iload_n 2, 1) := dk_28 (dk_at dksX2_name_1 15 rfl rfl)
theorem dX2_name_39 : decode cX2_name 39 = .ok (.aload_n 0, 1) := dk_42 (dk_at dksX2_name_1 16 rfl rfl)
theorem dX2_name_40 : decode cX2_name 40 = .ok (.getfield 19, 3) := dk_180 0 19 (dk_at dksX2_name_1 17 rfl rfl)
theorem dX2_name_43 : decode cX2_name 43 = .ok (.if_icmp .ge 21, 3) := dk_162 0 21 (dk_at dksX2_name_1 20 rfl rfl)
theorem dX2_name_46 : decode cX2_name 46 = .ok (.aload_n 1, 1) := dk_43 (dk_at dksX2_name_1 23 rfl rfl)
theorem dX2_name_47 : decode cX2_name 47 = .ok (.aload_n 0, 1) := dk_42 (dk_at dksX2_name_2 0 rfl rfl)
theorem dX2_name_48 : decode cX2_name 48 = .ok (.getfield 9, 3) := dk_180 0 9 (dk_at dksX2_name_2 1 rfl rfl)
theorem dX2_name_51 : decode cX2_name 51 = .ok (.iload_n 2, 1) := dk_28 (dk_at dksX2_name_2 4 rfl rfl)
theorem dX2_name_52 : decode cX2_name 52 = .ok (.baload, 1) := dk_51 (dk_at dksX2_name_2 5 rfl rfl)
theorem dX2_name_53 : decode cX2_name 53 = .ok (.i2c, 1) := dk_146 (dk_at dksX2_name_2 6 rfl rfl)
theorem dX2_name_54 : decode cX2_name 54 = .ok (.invokevirtual 90, 3) := dk_182 0 90 (dk_at dksX2_name_2 7 rfl rfl)
theorem dX2_name_57 : decode cX2_name 57 = .ok (.pop, 1) := dk_87 (dk_at dksX2_name_2 10 rfl rfl)
theorem dX2_name_58 : decode cX2_name 58 = .ok (.iinc 2 1, 3) := dk_132 2 1 (dk_at dksX2_name_2 11 rfl rfl)
theorem dX2_name_61 : decode cX2_name 61 = .ok (.goto (-23), 3) := dk_167 255 233 (dk_at dksX2_name_2 14 rfl rfl)
theorem dX2_name_64 : decode cX2_name 64 = .ok (.aload_n 1, 1) := dk_43 (dk_at dksX2_name_2 17 rfl rfl)
theorem dX2_name_65 : decode cX2_name 65 = .ok (.invokevirtual 94, 3) := dk_182 0 94 (dk_at dksX2_name_2 18 rfl rfl)
theorem dX2_name_68 : decode cX2_name 68 = .ok (.areturn, 1) := dk_176 (dk_at dksX2_name_2 21 rfl rfl)
abbrev cX2_one : ByteArray := prog_13_method_15_code
def yX2_one : MethodName := ⟨RX2, "one", "(Ljava/lang/String;)I"⟩
def dkwX2_one_0 : List UInt8 := [42, 43, 182, 0, 71, 61, 28, 156, 0, 9, 42, 4, 182, 0, 75, 191, 42, 182, 0, 25, 28, 172]
abbrev dktX2_one_0 : List UInt8 := dkwX2_one_0 ++ []
theorem dksX2_one_0 : cX2_one.data.toList.drop 0 = dktX2_one_0 := by decide +kernel
theorem dX2_one_0 : decode cX2_one 0 = .ok (.aload_n 0, 1) := dk_42 (dk_at dksX2_one_0 0 rfl rfl)
theorem dX2_one_1 : decode cX2_one 1 = .ok (.aload_n 1, 1) := dk_43 (dk_at dksX2_one_0 1 rfl rfl)
theorem dX2_one_2 : decode cX2_one 2 = .ok (.invokevirtual 71, 3) := dk_182 0 71 (dk_at dksX2_one_0 2 rfl rfl)
theorem dX2_one_5 : decode cX2_one 5 = .ok (.istore_n 2, 1) := dk_61 (dk_at dksX2_one_0 5 rfl rfl)
theorem dX2_one_6 : decode cX2_one 6 = .ok (.iload_n 2, 1) := dk_28 (dk_at dksX2_one_0 6 rfl rfl)
theorem dX2_one_7 : decode cX2_one 7 = .ok (.ifCond .ge 9, 3) := dk_156 0 9 (dk_at dksX2_one_0 7 rfl rfl)
theorem dX2_one_10 : decode cX2_one 10 = .ok (.aload_n 0, 1) := dk_42 (dk_at dksX2_one_0 10 rfl rfl)
theorem dX2_one_11 : decode cX2_one 11 = .ok (.iconst 1, 1) := dk_4 (dk_at dksX2_one_0 11 rfl rfl)
theorem dX2_one_12 : decode cX2_one 12 = .ok (.invokevirtual 75, 3) := dk_182 0 75 (dk_at dksX2_one_0 12 rfl rfl)
theorem dX2_one_15 : decode cX2_one 15 = .ok (.athrow, 1) := dk_191 (dk_at dksX2_one_0 15 rfl rfl)
theorem dX2_one_16 : decode cX2_one 16 = .ok (.aload_n 0, 1) := dk_42 (dk_at dksX2_one_0 16 rfl rfl)
theorem dX2_one_17 : decode cX2_one 17 = .ok (.invokevirtual 25, 3) := dk_182 0 25 (dk_at dksX2_one_0 17 rfl rfl)
theorem dX2_one_20 : decode cX2_one 20 = .ok (.iload_n 2, 1) := dk_28 (dk_at dksX2_one_0 20 rfl rfl)
theorem dX2_one_21 : decode cX2_one 21 = .ok (.ireturn, 1) := dk_172 (dk_at dksX2_one_0 21 rfl rfl)
abbrev cX2_number : ByteArray := prog_13_method_14_code
def yX2_number : MethodName := ⟨RX2, "number", "(Ljava/lang/String;II)I"⟩
def dkwX2_number_0 : List UInt8 := [42, 43, 182, 0, 98, 42, 28, 29, 182, 0, 102, 172]
abbrev dktX2_number_0 : List UInt8 := dkwX2_number_0 ++ []
theorem dksX2_number_0 : cX2_number.data.toList.drop 0 = dktX2_number_0 := by decide +kernel
theorem dX2_number_0 : decode cX2_number 0 = .ok (.aload_n 0, 1) := dk_42 (dk_at dksX2_number_0 0 rfl rfl)
theorem dX2_number_1 : decode cX2_number 1 = .ok (.aload_n 1, 1) := dk_43 (dk_at dksX2_number_0 1 rfl rfl)
theorem dX2_number_2 : decode cX2_number 2 = .ok (.invokevirtual 98, 3) := dk_182 0 98 (dk_at dksX2_number_0 2 rfl rfl)
theorem dX2_number_5 : decode cX2_number 5 = .ok (.aload_n 0, 1) := dk_42 (dk_at dksX2_number_0 5 rfl rfl)
theorem dX2_number_6 : decode cX2_number 6 = .ok (.iload_n 2, 1) := dk_28 (dk_at dksX2_number_0 6 rfl rfl)
theorem dX2_number_7 : decode cX2_number 7 = .ok (.iload_n 3, 1) := dk_29 (dk_at dksX2_number_0 7 rfl rfl)
theorem dX2_number_8 : decode cX2_number 8 = .ok (.invokevirtual 102, 3) := dk_182 0 102 (dk_at dksX2_number_0 8 rfl rfl)
theorem dX2_number_11 : decode cX2_number 11 = .ok (.ireturn, 1) := dk_172 (dk_at dksX2_number_0 11 rfl rfl)
abbrev cX2_need : ByteArray := prog_13_method_9_code
def yX2_need : MethodName := ⟨RX2, "need", "(Ljava/lang/String;)V"⟩
def dkwX2_need_0 : List UInt8 := [42, 43, 182, 0, 71, 156, 0, 9, 42, 4, 182, 0, 75, 191, 42, 182, 0, 25, 177]
abbrev dktX2_need_0 : List UInt8 := dkwX2_need_0 ++ []
theorem dksX2_need_0 : cX2_need.data.toList.drop 0 = dktX2_need_0 := by decide +kernel
theorem dX2_need_0 : decode cX2_need 0 = .ok (.aload_n 0, 1) := dk_42 (dk_at dksX2_need_0 0 rfl rfl)
theorem dX2_need_1 : decode cX2_need 1 = .ok (.aload_n 1, 1) := dk_43 (dk_at dksX2_need_0 1 rfl rfl)
theorem dX2_need_2 : decode cX2_need 2 = .ok (.invokevirtual 71, 3) := dk_182 0 71 (dk_at dksX2_need_0 2 rfl rfl)
theorem dX2_need_5 : decode cX2_need 5 = .ok (.ifCond .ge 9, 3) := dk_156 0 9 (dk_at dksX2_need_0 5 rfl rfl)
theorem dX2_need_8 : decode cX2_need 8 = .ok (.aload_n 0, 1) := dk_42 (dk_at dksX2_need_0 8 rfl rfl)
theorem dX2_need_9 : decode cX2_need 9 = .ok (.iconst 1, 1) := dk_4 (dk_at dksX2_need_0 9 rfl rfl)
theorem dX2_need_10 : decode cX2_need 10 = .ok (.invokevirtual 75, 3) := dk_182 0 75 (dk_at dksX2_need_0 10 rfl rfl)
theorem dX2_need_13 : decode cX2_need 13 = .ok (.athrow, 1) := dk_191 (dk_at dksX2_need_0 13 rfl rfl)
theorem dX2_need_14 : decode cX2_need 14 = .ok (.aload_n 0, 1) := dk_42 (dk_at dksX2_need_0 14 rfl rfl)
theorem dX2_need_15 : decode cX2_need 15 = .ok (.invokevirtual 25, 3) := dk_182 0 25 (dk_at dksX2_need_0 15 rfl rfl)
theorem dX2_need_18 : decode cX2_need 18 = .ok (.return_, 1) := dk_177 (dk_at dksX2_need_0 18 rfl rfl)
abbrev cX2_number_2 : ByteArray := prog_13_method_12_code
def yX2_number_2 : MethodName := ⟨RX2, "number", "(II)I"⟩
def dkwX2_number_2_1 : List UInt8 := [180, 0, 45, 28, 164, 0, 9, 42, 7, 182, 0, 75, 191, 42, 180, 0, 45, 62, 42, 182, 0, 25, 29, 172]
abbrev dktX2_number_2_1 : List UInt8 := dkwX2_number_2_1 ++ []
def dkwX2_number_2_0 : List UInt8 := [42, 180, 0, 31, 5, 159, 0, 9, 42, 4, 182, 0, 75, 191, 42, 180, 0, 45, 27, 161, 0, 11, 42]
abbrev dktX2_number_2_0 : List UInt8 := dkwX2_number_2_0 ++ dktX2_number_2_1
theorem dksX2_number_2_0 : cX2_number_2.data.toList.drop 0 = dktX2_number_2_0 := by decide +kernel
theorem dksX2_number_2_1 : cX2_number_2.data.toList.drop 23 = dktX2_number_2_1 := dk_seg dksX2_number_2_0 23 rfl rfl
theorem dX2_number_2_0 : decode cX2_number_2 0 = .ok (.aload_n 0, 1) := dk_42 (dk_at dksX2_number_2_0 0 rfl rfl)
theorem dX2_number_2_1 : decode cX2_number_2 1 = .ok (.getfield 31, 3) := dk_180 0 31 (dk_at dksX2_number_2_0 1 rfl rfl)
theorem dX2_number_2_4 : decode cX2_number_2 4 = .ok (.iconst 2, 1) := dk_5 (dk_at dksX2_number_2_0 4 rfl rfl)
theorem dX2_number_2_5 : decode cX2_number_2 5 = .ok (.if_icmp .eq 9, 3) := dk_159 0 9 (dk_at dksX2_number_2_0 5 rfl rfl)
theorem dX2_number_2_8 : decode cX2_number_2 8 = .ok (.aload_n 0, 1) := dk_42 (dk_at dksX2_number_2_0 8 rfl rfl)
theorem dX2_number_2_9 : decode cX2_number_2 9 = .ok (.iconst 1, 1) := dk_4 (dk_at dksX2_number_2_0 9 rfl rfl)
theorem dX2_number_2_10 : decode cX2_number_2 10 = .ok (.invokevirtual 75, 3) := dk_182 0 75 (dk_at dksX2_number_2_0 10 rfl rfl)
theorem dX2_number_2_13 : decode cX2_number_2 13 = .ok (.athrow, 1) := dk_191 (dk_at dksX2_number_2_0 13 rfl rfl)
theorem dX2_number_2_14 : decode cX2_number_2 14 = .ok (.aload_n 0, 1) := dk_42 (dk_at dksX2_number_2_0 14 rfl rfl)
theorem dX2_number_2_15 : decode cX2_number_2 15 = .ok (.getfield 45, 3) := dk_180 0 45 (dk_at dksX2_number_2_0 15 rfl rfl)
theorem dX2_number_2_18 : decode cX2_number_2 18 = .ok (.iload_n 1, 1) := dk_27 (dk_at dksX2_number_2_0 18 rfl rfl)
theorem dX2_number_2_19 : decode cX2_number_2 19 = .ok (.if_icmp .lt 11, 3) := dk_161 0 11 (dk_at dksX2_number_2_0 19 rfl rfl)
theorem dX2_number_2_22 : decode cX2_number_2 22 = .ok (.aload_n 0, 1) := dk_42 (dk_at dksX2_number_2_0 22 rfl rfl)
theorem dX2_number_2_23 : decode cX2_number_2 23 = .ok (.getfield 45, 3) := dk_180 0 45 (dk_at dksX2_number_2_1 0 rfl rfl)
theorem dX2_number_2_26 : decode cX2_number_2 26 = .ok (.iload_n 2, 1) := dk_28 (dk_at dksX2_number_2_1 3 rfl rfl)
theorem dX2_number_2_27 : decode cX2_number_2 27 = .ok (.if_icmp .le 9, 3) := dk_164 0 9 (dk_at dksX2_number_2_1 4 rfl rfl)
theorem dX2_number_2_30 : decode cX2_number_2 30 = .ok (.aload_n 0, 1) := dk_42 (dk_at dksX2_number_2_1 7 rfl rfl)
theorem dX2_number_2_31 : decode cX2_number_2 31 = .ok (.iconst 4, 1) := dk_7 (dk_at dksX2_number_2_1 8 rfl rfl)
theorem dX2_number_2_32 : decode cX2_number_2 32 = .ok (.invokevirtual 75, 3) := dk_182 0 75 (dk_at dksX2_number_2_1 9 rfl rfl)
theorem dX2_number_2_35 : decode cX2_number_2 35 = .ok (.athrow, 1) := dk_191 (dk_at dksX2_number_2_1 12 rfl rfl)
theorem dX2_number_2_36 : decode cX2_number_2 36 = .ok (.aload_n 0, 1) := dk_42 (dk_at dksX2_number_2_1 13 rfl rfl)
theorem dX2_number_2_37 : decode cX2_number_2 37 = .ok (.getfield 45, 3) := dk_180 0 45 (dk_at dksX2_number_2_1 14 rfl rfl)
theorem dX2_number_2_40 : decode cX2_number_2 40 = .ok (.istore_n 3, 1) := dk_62 (dk_at dksX2_number_2_1 17 rfl rfl)
theorem dX2_number_2_41 : decode cX2_number_2 41 = .ok (.aload_n 0, 1) := dk_42 (dk_at dksX2_number_2_1 18 rfl rfl)
theorem dX2_number_2_42 : decode cX2_number_2 42 = .ok (.invokevirtual 25, 3) := dk_182 0 25 (dk_at dksX2_number_2_1 19 rfl rfl)
theorem dX2_number_2_45 : decode cX2_number_2 45 = .ok (.iload_n 3, 1) := dk_29 (dk_at dksX2_number_2_1 22 rfl rfl)
theorem dX2_number_2_46 : decode cX2_number_2 46 = .ok (.ireturn, 1) := dk_172 (dk_at dksX2_number_2_1 23 rfl rfl)
abbrev cX2_row : ByteArray := prog_13_method_20_code
def yX2_row : MethodName := ⟨RX2, "row", "([III)I"⟩
def dkwX2_row_2 : List UInt8 := [172]
abbrev dktX2_row_2 : List UInt8 := dkwX2_row_2 ++ []
def dkwX2_row_1 : List UInt8 := [42, 182, 0, 25, 43, 21, 4, 132, 4, 1, 21, 5, 79, 42, 16, 59, 182, 0, 79, 153, 255, 216, 21, 4]
abbrev dktX2_row_1 : List UInt8 := dkwX2_row_1 ++ dktX2_row_2
def dkwX2_row_0 : List UInt8 := [3, 54, 4, 42, 28, 29, 182, 0, 160, 54, 5, 21, 4, 43, 190, 160, 0, 9, 42, 8, 182, 0, 75, 191]
abbrev dktX2_row_0 : List UInt8 := dkwX2_row_0 ++ dktX2_row_1
theorem dksX2_row_0 : cX2_row.data.toList.drop 0 = dktX2_row_0 := by decide +kernel
theorem dksX2_row_1 : cX2_row.data.toList.drop 24 = dktX2_row_1 := dk_seg dksX2_row_0 24 rfl rfl
theorem dksX2_row_2 : cX2_row.data.toList.drop 48 = dktX2_row_2 := dk_seg dksX2_row_1 24 rfl rfl
theorem dX2_row_0 : decode cX2_row 0 = .ok (.iconst 0, 1) := dk_3 (dk_at dksX2_row_0 0 rfl rfl)
theorem dX2_row_1 : decode cX2_row 1 = .ok (.istore 4, 2) := dk_54 4 (dk_at dksX2_row_0 1 rfl rfl)
theorem dX2_row_3 : decode cX2_row 3 = .ok (.aload_n 0, 1) := dk_42 (dk_at dksX2_row_0 3 rfl rfl)
theorem dX2_row_4 : decode cX2_row 4 = .ok (.iload_n 2, 1) := dk_28 (dk_at dksX2_row_0 4 rfl rfl)
theorem dX2_row_5 : decode cX2_row 5 = .ok (.iload_n 3, 1) := dk_29 (dk_at dksX2_row_0 5 rfl rfl)
theorem dX2_row_6 : decode cX2_row 6 = .ok (.invokevirtual 160, 3) := dk_182 0 160 (dk_at dksX2_row_0 6 rfl rfl)
theorem dX2_row_9 : decode cX2_row 9 = .ok (.istore 5, 2) := dk_54 5 (dk_at dksX2_row_0 9 rfl rfl)
theorem dX2_row_11 : decode cX2_row 11 = .ok (.iload 4, 2) := dk_21 4 (dk_at dksX2_row_0 11 rfl rfl)
theorem dX2_row_13 : decode cX2_row 13 = .ok (.aload_n 1, 1) := dk_43 (dk_at dksX2_row_0 13 rfl rfl)
theorem dX2_row_14 : decode cX2_row 14 = .ok (.arraylength, 1) := dk_190 (dk_at dksX2_row_0 14 rfl rfl)
theorem dX2_row_15 : decode cX2_row 15 = .ok (.if_icmp .ne 9, 3) := dk_160 0 9 (dk_at dksX2_row_0 15 rfl rfl)
theorem dX2_row_18 : decode cX2_row 18 = .ok (.aload_n 0, 1) := dk_42 (dk_at dksX2_row_0 18 rfl rfl)
theorem dX2_row_19 : decode cX2_row 19 = .ok (.iconst 5, 1) := dk_8 (dk_at dksX2_row_0 19 rfl rfl)
theorem dX2_row_20 : decode cX2_row 20 = .ok (.invokevirtual 75, 3) := dk_182 0 75 (dk_at dksX2_row_0 20 rfl rfl)
theorem dX2_row_23 : decode cX2_row 23 = .ok (.athrow, 1) := dk_191 (dk_at dksX2_row_0 23 rfl rfl)
theorem dX2_row_24 : decode cX2_row 24 = .ok (.aload_n 0, 1) := dk_42 (dk_at dksX2_row_1 0 rfl rfl)
theorem dX2_row_25 : decode cX2_row 25 = .ok (.invokevirtual 25, 3) := dk_182 0 25 (dk_at dksX2_row_1 1 rfl rfl)
theorem dX2_row_28 : decode cX2_row 28 = .ok (.aload_n 1, 1) := dk_43 (dk_at dksX2_row_1 4 rfl rfl)
theorem dX2_row_29 : decode cX2_row 29 = .ok (.iload 4, 2) := dk_21 4 (dk_at dksX2_row_1 5 rfl rfl)
theorem dX2_row_31 : decode cX2_row 31 = .ok (.iinc 4 1, 3) := dk_132 4 1 (dk_at dksX2_row_1 7 rfl rfl)
theorem dX2_row_34 : decode cX2_row 34 = .ok (.iload 5, 2) := dk_21 5 (dk_at dksX2_row_1 10 rfl rfl)
theorem dX2_row_36 : decode cX2_row 36 = .ok (.iastore, 1) := dk_79 (dk_at dksX2_row_1 12 rfl rfl)
theorem dX2_row_37 : decode cX2_row 37 = .ok (.aload_n 0, 1) := dk_42 (dk_at dksX2_row_1 13 rfl rfl)
theorem dX2_row_38 : decode cX2_row 38 = .ok (.bipush 59, 2) := dk_16 59 (dk_at dksX2_row_1 14 rfl rfl)
theorem dX2_row_40 : decode cX2_row 40 = .ok (.invokevirtual 79, 3) := dk_182 0 79 (dk_at dksX2_row_1 16 rfl rfl)
theorem dX2_row_43 : decode cX2_row 43 = .ok (.ifCond .eq (-40), 3) := dk_153 255 216 (dk_at dksX2_row_1 19 rfl rfl)
theorem dX2_row_46 : decode cX2_row 46 = .ok (.iload 4, 2) := dk_21 4 (dk_at dksX2_row_1 22 rfl rfl)
theorem dX2_row_48 : decode cX2_row 48 = .ok (.ireturn, 1) := dk_172 (dk_at dksX2_row_2 0 rfl rfl)
abbrev cX2_ahead : ByteArray := prog_13_method_17_code
def yX2_ahead : MethodName := ⟨RX2, "ahead", "(II)I"⟩
def dkwX2_ahead_2 : List UInt8 := [132, 4, 1, 167, 255, 228, 29, 27, 28, 184, 0, 117, 154, 0, 9, 42, 7, 182, 0, 75, 191, 29, 172]
abbrev dktX2_ahead_2 : List UInt8 := dkwX2_ahead_2 ++ []
def dkwX2_ahead_1 : List UInt8 := [42, 180, 0, 19, 162, 0, 25, 29, 16, 10, 104, 42, 180, 0, 9, 21, 4, 51, 96, 16, 48, 100, 62]
abbrev dktX2_ahead_1 : List UInt8 := dkwX2_ahead_1 ++ dktX2_ahead_2
def dkwX2_ahead_0 : List UInt8 := [42, 180, 0, 31, 5, 159, 0, 9, 42, 4, 182, 0, 75, 191, 3, 62, 42, 180, 0, 28, 54, 4, 21, 4]
abbrev dktX2_ahead_0 : List UInt8 := dkwX2_ahead_0 ++ dktX2_ahead_1
theorem dksX2_ahead_0 : cX2_ahead.data.toList.drop 0 = dktX2_ahead_0 := by decide +kernel
theorem dksX2_ahead_1 : cX2_ahead.data.toList.drop 24 = dktX2_ahead_1 := dk_seg dksX2_ahead_0 24 rfl rfl
theorem dksX2_ahead_2 : cX2_ahead.data.toList.drop 47 = dktX2_ahead_2 := dk_seg dksX2_ahead_1 23 rfl rfl
theorem dX2_ahead_0 : decode cX2_ahead 0 = .ok (.aload_n 0, 1) := dk_42 (dk_at dksX2_ahead_0 0 rfl rfl)
theorem dX2_ahead_1 : decode cX2_ahead 1 = .ok (.getfield 31, 3) := dk_180 0 31 (dk_at dksX2_ahead_0 1 rfl rfl)
theorem dX2_ahead_4 : decode cX2_ahead 4 = .ok (.iconst 2, 1) := dk_5 (dk_at dksX2_ahead_0 4 rfl rfl)
theorem dX2_ahead_5 : decode cX2_ahead 5 = .ok (.if_icmp .eq 9, 3) := dk_159 0 9 (dk_at dksX2_ahead_0 5 rfl rfl)
theorem dX2_ahead_8 : decode cX2_ahead 8 = .ok (.aload_n 0, 1) := dk_42 (dk_at dksX2_ahead_0 8 rfl rfl)
theorem dX2_ahead_9 : decode cX2_ahead 9 = .ok (.iconst 1, 1) := dk_4 (dk_at dksX2_ahead_0 9 rfl rfl)
theorem dX2_ahead_10 : decode cX2_ahead 10 = .ok (.invokevirtual 75, 3) := dk_182 0 75 (dk_at dksX2_ahead_0 10 rfl rfl)
theorem dX2_ahead_13 : decode cX2_ahead 13 = .ok (.athrow, 1) := dk_191 (dk_at dksX2_ahead_0 13 rfl rfl)
theorem dX2_ahead_14 : decode cX2_ahead 14 = .ok (.iconst 0, 1) := dk_3 (dk_at dksX2_ahead_0 14 rfl rfl)
theorem dX2_ahead_15 : decode cX2_ahead 15 = .ok (.istore_n 3, 1) := dk_62 (dk_at dksX2_ahead_0 15 rfl rfl)
theorem dX2_ahead_16 : decode cX2_ahead 16 = .ok (.aload_n 0, 1) := dk_42 (dk_at dksX2_ahead_0 16 rfl rfl)
theorem dX2_ahead_17 : decode cX2_ahead 17 = .ok (.getfield 28, 3) := dk_180 0 28 (dk_at dksX2_ahead_0 17 rfl rfl)
theorem dX2_ahead_20 : decode cX2_ahead 20 = .ok (.istore 4, 2) := dk_54 4 (dk_at dksX2_ahead_0 20 rfl rfl)
theorem dX2_ahead_22 : decode cX2_ahead 22 = .ok (.iload 4, 2) := dk_21 4 (dk_at dksX2_ahead_0 22 rfl rfl)
theorem dX2_ahead_24 : decode cX2_ahead 24 = .ok (.aload_n 0, 1) := dk_42 (dk_at dksX2_ahead_1 0 rfl rfl)
theorem dX2_ahead_25 : decode cX2_ahead 25 = .ok (.getfield 19, 3) := dk_180 0 19 (dk_at dksX2_ahead_1 1 rfl rfl)
theorem dX2_ahead_28 : decode cX2_ahead 28 = .ok (.if_icmp .ge 25, 3) := dk_162 0 25 (dk_at dksX2_ahead_1 4 rfl rfl)
theorem dX2_ahead_31 : decode cX2_ahead 31 = .ok (.iload_n 3, 1) := dk_29 (dk_at dksX2_ahead_1 7 rfl rfl)
theorem dX2_ahead_32 : decode cX2_ahead 32 = .ok (.bipush 10, 2) := dk_16 10 (dk_at dksX2_ahead_1 8 rfl rfl)
theorem dX2_ahead_34 : decode cX2_ahead 34 = .ok (.imul, 1) := dk_104 (dk_at dksX2_ahead_1 10 rfl rfl)
theorem dX2_ahead_35 : decode cX2_ahead 35 = .ok (.aload_n 0, 1) := dk_42 (dk_at dksX2_ahead_1 11 rfl rfl)
theorem dX2_ahead_36 : decode cX2_ahead 36 = .ok (.getfield 9, 3) := dk_180 0 9 (dk_at dksX2_ahead_1 12 rfl rfl)
theorem dX2_ahead_39 : decode cX2_ahead 39 = .ok (.iload 4, 2) := dk_21 4 (dk_at dksX2_ahead_1 15 rfl rfl)
theorem dX2_ahead_41 : decode cX2_ahead 41 = .ok (.baload, 1) := dk_51 (dk_at dksX2_ahead_1 17 rfl rfl)
theorem dX2_ahead_42 : decode cX2_ahead 42 = .ok (.iadd, 1) := dk_96 (dk_at dksX2_ahead_1 18 rfl rfl)
theorem dX2_ahead_43 : decode cX2_ahead 43 = .ok (.bipush 48, 2) := dk_16 48 (dk_at dksX2_ahead_1 19 rfl rfl)
theorem dX2_ahead_45 : decode cX2_ahead 45 = .ok (.isub, 1) := dk_100 (dk_at dksX2_ahead_1 21 rfl rfl)
theorem dX2_ahead_46 : decode cX2_ahead 46 = .ok (.istore_n 3, 1) := dk_62 (dk_at dksX2_ahead_1 22 rfl rfl)
theorem dX2_ahead_47 : decode cX2_ahead 47 = .ok (.iinc 4 1, 3) := dk_132 4 1 (dk_at dksX2_ahead_2 0 rfl rfl)
theorem dX2_ahead_50 : decode cX2_ahead 50 = .ok (.goto (-28), 3) := dk_167 255 228 (dk_at dksX2_ahead_2 3 rfl rfl)
theorem dX2_ahead_53 : decode cX2_ahead 53 = .ok (.iload_n 3, 1) := dk_29 (dk_at dksX2_ahead_2 6 rfl rfl)
theorem dX2_ahead_54 : decode cX2_ahead 54 = .ok (.iload_n 1, 1) := dk_27 (dk_at dksX2_ahead_2 7 rfl rfl)
theorem dX2_ahead_55 : decode cX2_ahead 55 = .ok (.iload_n 2, 1) := dk_28 (dk_at dksX2_ahead_2 8 rfl rfl)
theorem dX2_ahead_56 : decode cX2_ahead 56 = .ok (.invokestatic 117, 3) := dk_184 0 117 (dk_at dksX2_ahead_2 9 rfl rfl)
theorem dX2_ahead_59 : decode cX2_ahead 59 = .ok (.ifCond .ne 9, 3) := dk_154 0 9 (dk_at dksX2_ahead_2 12 rfl rfl)
theorem dX2_ahead_62 : decode cX2_ahead 62 = .ok (.aload_n 0, 1) := dk_42 (dk_at dksX2_ahead_2 15 rfl rfl)
theorem dX2_ahead_63 : decode cX2_ahead 63 = .ok (.iconst 4, 1) := dk_7 (dk_at dksX2_ahead_2 16 rfl rfl)
theorem dX2_ahead_64 : decode cX2_ahead 64 = .ok (.invokevirtual 75, 3) := dk_182 0 75 (dk_at dksX2_ahead_2 17 rfl rfl)
theorem dX2_ahead_67 : decode cX2_ahead 67 = .ok (.athrow, 1) := dk_191 (dk_at dksX2_ahead_2 20 rfl rfl)
theorem dX2_ahead_68 : decode cX2_ahead 68 = .ok (.iload_n 3, 1) := dk_29 (dk_at dksX2_ahead_2 21 rfl rfl)
theorem dX2_ahead_69 : decode cX2_ahead 69 = .ok (.ireturn, 1) := dk_172 (dk_at dksX2_ahead_2 22 rfl rfl)
abbrev cX2_isSign : ByteArray := prog_13_method_10_code
def yX2_isSign : MethodName := ⟨RX2, "isSign", "(C)Z"⟩
def dkwX2_isSign_1 : List UInt8 := [167, 0, 4, 3, 172]
abbrev dktX2_isSign_1 : List UInt8 := dkwX2_isSign_1 ++ []
def dkwX2_isSign_0 : List UInt8 := [42, 180, 0, 31, 6, 160, 0, 20, 42, 180, 0, 9, 42, 180, 0, 28, 51, 27, 160, 0, 7, 4]
abbrev dktX2_isSign_0 : List UInt8 := dkwX2_isSign_0 ++ dktX2_isSign_1
theorem dksX2_isSign_0 : cX2_isSign.data.toList.drop 0 = dktX2_isSign_0 := by decide +kernel
theorem dksX2_isSign_1 : cX2_isSign.data.toList.drop 22 = dktX2_isSign_1 := dk_seg dksX2_isSign_0 22 rfl rfl
theorem dX2_isSign_0 : decode cX2_isSign 0 = .ok (.aload_n 0, 1) := dk_42 (dk_at dksX2_isSign_0 0 rfl rfl)
theorem dX2_isSign_1 : decode cX2_isSign 1 = .ok (.getfield 31, 3) := dk_180 0 31 (dk_at dksX2_isSign_0 1 rfl rfl)
theorem dX2_isSign_4 : decode cX2_isSign 4 = .ok (.iconst 3, 1) := dk_6 (dk_at dksX2_isSign_0 4 rfl rfl)
theorem dX2_isSign_5 : decode cX2_isSign 5 = .ok (.if_icmp .ne 20, 3) := dk_160 0 20 (dk_at dksX2_isSign_0 5 rfl rfl)
theorem dX2_isSign_8 : decode cX2_isSign 8 = .ok (.aload_n 0, 1) := dk_42 (dk_at dksX2_isSign_0 8 rfl rfl)
theorem dX2_isSign_9 : decode cX2_isSign 9 = .ok (.getfield 9, 3) := dk_180 0 9 (dk_at dksX2_isSign_0 9 rfl rfl)
theorem dX2_isSign_12 : decode cX2_isSign 12 = .ok (.aload_n 0, 1) := dk_42 (dk_at dksX2_isSign_0 12 rfl rfl)
theorem dX2_isSign_13 : decode cX2_isSign 13 = .ok (.getfield 28, 3) := dk_180 0 28 (dk_at dksX2_isSign_0 13 rfl rfl)
theorem dX2_isSign_16 : decode cX2_isSign 16 = .ok (.baload, 1) := dk_51 (dk_at dksX2_isSign_0 16 rfl rfl)
theorem dX2_isSign_17 : decode cX2_isSign 17 = .ok (.iload_n 1, 1) := dk_27 (dk_at dksX2_isSign_0 17 rfl rfl)
theorem dX2_isSign_18 : decode cX2_isSign 18 = .ok (.if_icmp .ne 7, 3) := dk_160 0 7 (dk_at dksX2_isSign_0 18 rfl rfl)
theorem dX2_isSign_21 : decode cX2_isSign 21 = .ok (.iconst 1, 1) := dk_4 (dk_at dksX2_isSign_0 21 rfl rfl)
theorem dX2_isSign_22 : decode cX2_isSign 22 = .ok (.goto 4, 3) := dk_167 0 4 (dk_at dksX2_isSign_1 0 rfl rfl)
theorem dX2_isSign_25 : decode cX2_isSign 25 = .ok (.iconst 0, 1) := dk_3 (dk_at dksX2_isSign_1 3 rfl rfl)
theorem dX2_isSign_26 : decode cX2_isSign 26 = .ok (.ireturn, 1) := dk_172 (dk_at dksX2_isSign_1 4 rfl rfl)
abbrev cX2_cloth : ByteArray := prog_13_method_16_code
def yX2_cloth : MethodName := ⟨RX2, "cloth", "()I"⟩
def dkwX2_cloth_0 : List UInt8 := [42, 180, 0, 105, 42, 182, 0, 109, 182, 0, 112, 60, 27, 156, 0, 9, 42, 5, 182, 0, 75, 191, 27, 172]
abbrev dktX2_cloth_0 : List UInt8 := dkwX2_cloth_0 ++ []
theorem dksX2_cloth_0 : cX2_cloth.data.toList.drop 0 = dktX2_cloth_0 := by decide +kernel
theorem dX2_cloth_0 : decode cX2_cloth 0 = .ok (.aload_n 0, 1) := dk_42 (dk_at dksX2_cloth_0 0 rfl rfl)
theorem dX2_cloth_1 : decode cX2_cloth 1 = .ok (.getfield 105, 3) := dk_180 0 105 (dk_at dksX2_cloth_0 1 rfl rfl)
theorem dX2_cloth_4 : decode cX2_cloth 4 = .ok (.aload_n 0, 1) := dk_42 (dk_at dksX2_cloth_0 4 rfl rfl)
theorem dX2_cloth_5 : decode cX2_cloth 5 = .ok (.invokevirtual 109, 3) := dk_182 0 109 (dk_at dksX2_cloth_0 5 rfl rfl)
theorem dX2_cloth_8 : decode cX2_cloth 8 = .ok (.invokevirtual 112, 3) := dk_182 0 112 (dk_at dksX2_cloth_0 8 rfl rfl)
theorem dX2_cloth_11 : decode cX2_cloth 11 = .ok (.istore_n 1, 1) := dk_60 (dk_at dksX2_cloth_0 11 rfl rfl)
theorem dX2_cloth_12 : decode cX2_cloth 12 = .ok (.iload_n 1, 1) := dk_27 (dk_at dksX2_cloth_0 12 rfl rfl)
theorem dX2_cloth_13 : decode cX2_cloth 13 = .ok (.ifCond .ge 9, 3) := dk_156 0 9 (dk_at dksX2_cloth_0 13 rfl rfl)
theorem dX2_cloth_16 : decode cX2_cloth 16 = .ok (.aload_n 0, 1) := dk_42 (dk_at dksX2_cloth_0 16 rfl rfl)
theorem dX2_cloth_17 : decode cX2_cloth 17 = .ok (.iconst 2, 1) := dk_5 (dk_at dksX2_cloth_0 17 rfl rfl)
theorem dX2_cloth_18 : decode cX2_cloth 18 = .ok (.invokevirtual 75, 3) := dk_182 0 75 (dk_at dksX2_cloth_0 18 rfl rfl)
theorem dX2_cloth_21 : decode cX2_cloth 21 = .ok (.athrow, 1) := dk_191 (dk_at dksX2_cloth_0 21 rfl rfl)
theorem dX2_cloth_22 : decode cX2_cloth 22 = .ok (.iload_n 1, 1) := dk_27 (dk_at dksX2_cloth_0 22 rfl rfl)
theorem dX2_cloth_23 : decode cX2_cloth 23 = .ok (.ireturn, 1) := dk_172 (dk_at dksX2_cloth_0 23 rfl rfl)
abbrev cX2_expression : ByteArray := prog_13_method_25_code
def yX2_expression : MethodName := ⟨RX2, "expression", "()LPegLaws$Expression;"⟩
def dkwX2_expression_2 : List UInt8 := [167, 255, 214]
abbrev dktX2_expression_2 : List UInt8 := dkwX2_expression_2 ++ []
def dkwX2_expression_1 : List UInt8 := [187, 1, 9, 89, 28, 154, 0, 8, 16, 38, 167, 0, 5, 16, 124, 43, 42, 182, 1, 4, 183, 1, 11, 76]
abbrev dktX2_expression_1 : List UInt8 := dkwX2_expression_1 ++ dktX2_expression_2
def dkwX2_expression_0 : List UInt8 := [42, 182, 1, 4, 76, 42, 19, 1, 7, 182, 0, 71, 61, 28, 156, 0, 5, 43, 176, 42, 182, 0, 25]
abbrev dktX2_expression_0 : List UInt8 := dkwX2_expression_0 ++ dktX2_expression_1
theorem dksX2_expression_0 : cX2_expression.data.toList.drop 0 = dktX2_expression_0 := by decide +kernel
theorem dksX2_expression_1 : cX2_expression.data.toList.drop 23 = dktX2_expression_1 := dk_seg dksX2_expression_0 23 rfl rfl
theorem dksX2_expression_2 : cX2_expression.data.toList.drop 47 = dktX2_expression_2 := dk_seg dksX2_expression_1 24 rfl rfl
theorem dX2_expression_0 : decode cX2_expression 0 = .ok (.aload_n 0, 1) := dk_42 (dk_at dksX2_expression_0 0 rfl rfl)
theorem dX2_expression_1 : decode cX2_expression 1 = .ok (.invokevirtual 260, 3) := dk_182 1 4 (dk_at dksX2_expression_0 1 rfl rfl)
theorem dX2_expression_4 : decode cX2_expression 4 = .ok (.astore_n 1, 1) := dk_76 (dk_at dksX2_expression_0 4 rfl rfl)
theorem dX2_expression_5 : decode cX2_expression 5 = .ok (.aload_n 0, 1) := dk_42 (dk_at dksX2_expression_0 5 rfl rfl)
theorem dX2_expression_6 : decode cX2_expression 6 = .ok (.ldc_w 263, 3) := dk_19 1 7 (dk_at dksX2_expression_0 6 rfl rfl)
theorem dX2_expression_9 : decode cX2_expression 9 = .ok (.invokevirtual 71, 3) := dk_182 0 71 (dk_at dksX2_expression_0 9 rfl rfl)
theorem dX2_expression_12 : decode cX2_expression 12 = .ok (.istore_n 2, 1) := dk_61 (dk_at dksX2_expression_0 12 rfl rfl)
theorem dX2_expression_13 : decode cX2_expression 13 = .ok (.iload_n 2, 1) := dk_28 (dk_at dksX2_expression_0 13 rfl rfl)
theorem dX2_expression_14 : decode cX2_expression 14 = .ok (.ifCond .ge 5, 3) := dk_156 0 5 (dk_at dksX2_expression_0 14 rfl rfl)
theorem dX2_expression_17 : decode cX2_expression 17 = .ok (.aload_n 1, 1) := dk_43 (dk_at dksX2_expression_0 17 rfl rfl)
theorem dX2_expression_18 : decode cX2_expression 18 = .ok (.areturn, 1) := dk_176 (dk_at dksX2_expression_0 18 rfl rfl)
theorem dX2_expression_19 : decode cX2_expression 19 = .ok (.aload_n 0, 1) := dk_42 (dk_at dksX2_expression_0 19 rfl rfl)
theorem dX2_expression_20 : decode cX2_expression 20 = .ok (.invokevirtual 25, 3) := dk_182 0 25 (dk_at dksX2_expression_0 20 rfl rfl)
theorem dX2_expression_23 : decode cX2_expression 23 = .ok (.new 265, 3) := dk_187 1 9 (dk_at dksX2_expression_1 0 rfl rfl)
theorem dX2_expression_26 : decode cX2_expression 26 = .ok (.dup, 1) := dk_89 (dk_at dksX2_expression_1 3 rfl rfl)
theorem dX2_expression_27 : decode cX2_expression 27 = .ok (.iload_n 2, 1) := dk_28 (dk_at dksX2_expression_1 4 rfl rfl)
theorem dX2_expression_28 : decode cX2_expression 28 = .ok (.ifCond .ne 8, 3) := dk_154 0 8 (dk_at dksX2_expression_1 5 rfl rfl)
theorem dX2_expression_31 : decode cX2_expression 31 = .ok (.bipush 38, 2) := dk_16 38 (dk_at dksX2_expression_1 8 rfl rfl)
theorem dX2_expression_33 : decode cX2_expression 33 = .ok (.goto 5, 3) := dk_167 0 5 (dk_at dksX2_expression_1 10 rfl rfl)
theorem dX2_expression_36 : decode cX2_expression 36 = .ok (.bipush 124, 2) := dk_16 124 (dk_at dksX2_expression_1 13 rfl rfl)
theorem dX2_expression_38 : decode cX2_expression 38 = .ok (.aload_n 1, 1) := dk_43 (dk_at dksX2_expression_1 15 rfl rfl)
theorem dX2_expression_39 : decode cX2_expression 39 = .ok (.aload_n 0, 1) := dk_42 (dk_at dksX2_expression_1 16 rfl rfl)
theorem dX2_expression_40 : decode cX2_expression 40 = .ok (.invokevirtual 260, 3) := dk_182 1 4 (dk_at dksX2_expression_1 17 rfl rfl)
theorem dX2_expression_43 : decode cX2_expression 43 = .ok (.invokespecial 267, 3) := dk_183 1 11 (dk_at dksX2_expression_1 20 rfl rfl)
theorem dX2_expression_46 : decode cX2_expression 46 = .ok (.astore_n 1, 1) := dk_76 (dk_at dksX2_expression_1 23 rfl rfl)
theorem dX2_expression_47 : decode cX2_expression 47 = .ok (.goto (-42), 3) := dk_167 255 214 (dk_at dksX2_expression_2 0 rfl rfl)
abbrev cX2_test : ByteArray := prog_13_method_26_code
def yX2_test : MethodName := ⟨RX2, "test", "()LPegLaws$Expression;"⟩
def dkwX2_test_2 : List UInt8 := [182, 0, 25, 187, 1, 9, 89, 28, 43, 42, 182, 1, 14, 183, 1, 11, 176]
abbrev dktX2_test_2 : List UInt8 := dkwX2_test_2 ++ []
def dkwX2_test_1 : List UInt8 := [182, 0, 79, 153, 0, 8, 16, 61, 167, 0, 5, 16, 32, 61, 28, 16, 32, 160, 0, 5, 43, 176, 42]
abbrev dktX2_test_1 : List UInt8 := dkwX2_test_1 ++ dktX2_test_2
def dkwX2_test_0 : List UInt8 := [42, 182, 1, 14, 76, 42, 16, 60, 182, 0, 79, 153, 0, 8, 16, 60, 167, 0, 19, 42, 16, 61]
abbrev dktX2_test_0 : List UInt8 := dkwX2_test_0 ++ dktX2_test_1
theorem dksX2_test_0 : cX2_test.data.toList.drop 0 = dktX2_test_0 := by decide +kernel
theorem dksX2_test_1 : cX2_test.data.toList.drop 22 = dktX2_test_1 := dk_seg dksX2_test_0 22 rfl rfl
theorem dksX2_test_2 : cX2_test.data.toList.drop 45 = dktX2_test_2 := dk_seg dksX2_test_1 23 rfl rfl
theorem dX2_test_0 : decode cX2_test 0 = .ok (.aload_n 0, 1) := dk_42 (dk_at dksX2_test_0 0 rfl rfl)
theorem dX2_test_1 : decode cX2_test 1 = .ok (.invokevirtual 270, 3) := dk_182 1 14 (dk_at dksX2_test_0 1 rfl rfl)
theorem dX2_test_4 : decode cX2_test 4 = .ok (.astore_n 1, 1) := dk_76 (dk_at dksX2_test_0 4 rfl rfl)
theorem dX2_test_5 : decode cX2_test 5 = .ok (.aload_n 0, 1) := dk_42 (dk_at dksX2_test_0 5 rfl rfl)
theorem dX2_test_6 : decode cX2_test 6 = .ok (.bipush 60, 2) := dk_16 60 (dk_at dksX2_test_0 6 rfl rfl)
theorem dX2_test_8 : decode cX2_test 8 = .ok (.invokevirtual 79, 3) := dk_182 0 79 (dk_at dksX2_test_0 8 rfl rfl)
theorem dX2_test_11 : decode cX2_test 11 = .ok (.ifCond .eq 8, 3) := dk_153 0 8 (dk_at dksX2_test_0 11 rfl rfl)
theorem dX2_test_14 : decode cX2_test 14 = .ok (.bipush 60, 2) := dk_16 60 (dk_at dksX2_test_0 14 rfl rfl)
theorem dX2_test_16 : decode cX2_test 16 = .ok (.goto 19, 3) := dk_167 0 19 (dk_at dksX2_test_0 16 rfl rfl)
theorem dX2_test_19 : decode cX2_test 19 = .ok (.aload_n 0, 1) := dk_42 (dk_at dksX2_test_0 19 rfl rfl)
theorem dX2_test_20 : decode cX2_test 20 = .ok (.bipush 61, 2) := dk_16 61 (dk_at dksX2_test_0 20 rfl rfl)
theorem dX2_test_22 : decode cX2_test 22 = .ok (.invokevirtual 79, 3) := dk_182 0 79 (dk_at dksX2_test_1 0 rfl rfl)
theorem dX2_test_25 : decode cX2_test 25 = .ok (.ifCond .eq 8, 3) := dk_153 0 8 (dk_at dksX2_test_1 3 rfl rfl)
theorem dX2_test_28 : decode cX2_test 28 = .ok (.bipush 61, 2) := dk_16 61 (dk_at dksX2_test_1 6 rfl rfl)
theorem dX2_test_30 : decode cX2_test 30 = .ok (.goto 5, 3) := dk_167 0 5 (dk_at dksX2_test_1 8 rfl rfl)
theorem dX2_test_33 : decode cX2_test 33 = .ok (.bipush 32, 2) := dk_16 32 (dk_at dksX2_test_1 11 rfl rfl)
theorem dX2_test_35 : decode cX2_test 35 = .ok (.istore_n 2, 1) := dk_61 (dk_at dksX2_test_1 13 rfl rfl)
theorem dX2_test_36 : decode cX2_test 36 = .ok (.iload_n 2, 1) := dk_28 (dk_at dksX2_test_1 14 rfl rfl)
theorem dX2_test_37 : decode cX2_test 37 = .ok (.bipush 32, 2) := dk_16 32 (dk_at dksX2_test_1 15 rfl rfl)
theorem dX2_test_39 : decode cX2_test 39 = .ok (.if_icmp .ne 5, 3) := dk_160 0 5 (dk_at dksX2_test_1 17 rfl rfl)
theorem dX2_test_42 : decode cX2_test 42 = .ok (.aload_n 1, 1) := dk_43 (dk_at dksX2_test_1 20 rfl rfl)
theorem dX2_test_43 : decode cX2_test 43 = .ok (.areturn, 1) := dk_176 (dk_at dksX2_test_1 21 rfl rfl)
theorem dX2_test_44 : decode cX2_test 44 = .ok (.aload_n 0, 1) := dk_42 (dk_at dksX2_test_1 22 rfl rfl)
theorem dX2_test_45 : decode cX2_test 45 = .ok (.invokevirtual 25, 3) := dk_182 0 25 (dk_at dksX2_test_2 0 rfl rfl)
theorem dX2_test_48 : decode cX2_test 48 = .ok (.new 265, 3) := dk_187 1 9 (dk_at dksX2_test_2 3 rfl rfl)
theorem dX2_test_51 : decode cX2_test 51 = .ok (.dup, 1) := dk_89 (dk_at dksX2_test_2 6 rfl rfl)
theorem dX2_test_52 : decode cX2_test 52 = .ok (.iload_n 2, 1) := dk_28 (dk_at dksX2_test_2 7 rfl rfl)
theorem dX2_test_53 : decode cX2_test 53 = .ok (.aload_n 1, 1) := dk_43 (dk_at dksX2_test_2 8 rfl rfl)
theorem dX2_test_54 : decode cX2_test 54 = .ok (.aload_n 0, 1) := dk_42 (dk_at dksX2_test_2 9 rfl rfl)
theorem dX2_test_55 : decode cX2_test 55 = .ok (.invokevirtual 270, 3) := dk_182 1 14 (dk_at dksX2_test_2 10 rfl rfl)
theorem dX2_test_58 : decode cX2_test 58 = .ok (.invokespecial 267, 3) := dk_183 1 11 (dk_at dksX2_test_2 13 rfl rfl)
theorem dX2_test_61 : decode cX2_test 61 = .ok (.areturn, 1) := dk_176 (dk_at dksX2_test_2 16 rfl rfl)
abbrev cX2_sum : ByteArray := prog_13_method_27_code
def yX2_sum : MethodName := ⟨RX2, "sum", "()LPegLaws$Expression;"⟩
def dkwX2_sum_2 : List UInt8 := [28, 43, 42, 182, 1, 17, 183, 1, 11, 76, 167, 255, 203, 43, 176]
abbrev dktX2_sum_2 : List UInt8 := dkwX2_sum_2 ++ []
def dkwX2_sum_1 : List UInt8 := [16, 43, 182, 0, 79, 153, 0, 8, 16, 43, 167, 0, 5, 16, 45, 61, 42, 182, 0, 25, 187, 1, 9, 89]
abbrev dktX2_sum_1 : List UInt8 := dkwX2_sum_1 ++ dktX2_sum_2
def dkwX2_sum_0 : List UInt8 := [42, 182, 1, 17, 76, 42, 16, 43, 182, 0, 79, 154, 0, 12, 42, 16, 45, 182, 0, 79, 153, 0, 41, 42]
abbrev dktX2_sum_0 : List UInt8 := dkwX2_sum_0 ++ dktX2_sum_1
theorem dksX2_sum_0 : cX2_sum.data.toList.drop 0 = dktX2_sum_0 := by decide +kernel
theorem dksX2_sum_1 : cX2_sum.data.toList.drop 24 = dktX2_sum_1 := dk_seg dksX2_sum_0 24 rfl rfl
theorem dksX2_sum_2 : cX2_sum.data.toList.drop 48 = dktX2_sum_2 := dk_seg dksX2_sum_1 24 rfl rfl
theorem dX2_sum_0 : decode cX2_sum 0 = .ok (.aload_n 0, 1) := dk_42 (dk_at dksX2_sum_0 0 rfl rfl)
theorem dX2_sum_1 : decode cX2_sum 1 = .ok (.invokevirtual 273, 3) := dk_182 1 17 (dk_at dksX2_sum_0 1 rfl rfl)
theorem dX2_sum_4 : decode cX2_sum 4 = .ok (.astore_n 1, 1) := dk_76 (dk_at dksX2_sum_0 4 rfl rfl)
theorem dX2_sum_5 : decode cX2_sum 5 = .ok (.aload_n 0, 1) := dk_42 (dk_at dksX2_sum_0 5 rfl rfl)
theorem dX2_sum_6 : decode cX2_sum 6 = .ok (.bipush 43, 2) := dk_16 43 (dk_at dksX2_sum_0 6 rfl rfl)
theorem dX2_sum_8 : decode cX2_sum 8 = .ok (.invokevirtual 79, 3) := dk_182 0 79 (dk_at dksX2_sum_0 8 rfl rfl)
theorem dX2_sum_11 : decode cX2_sum 11 = .ok (.ifCond .ne 12, 3) := dk_154 0 12 (dk_at dksX2_sum_0 11 rfl rfl)
theorem dX2_sum_14 : decode cX2_sum 14 = .ok (.aload_n 0, 1) := dk_42 (dk_at dksX2_sum_0 14 rfl rfl)
theorem dX2_sum_15 : decode cX2_sum 15 = .ok (.bipush 45, 2) := dk_16 45 (dk_at dksX2_sum_0 15 rfl rfl)
theorem dX2_sum_17 : decode cX2_sum 17 = .ok (.invokevirtual 79, 3) := dk_182 0 79 (dk_at dksX2_sum_0 17 rfl rfl)
theorem dX2_sum_20 : decode cX2_sum 20 = .ok (.ifCond .eq 41, 3) := dk_153 0 41 (dk_at dksX2_sum_0 20 rfl rfl)
theorem dX2_sum_23 : decode cX2_sum 23 = .ok (.aload_n 0, 1) := dk_42 (dk_at dksX2_sum_0 23 rfl rfl)
theorem dX2_sum_24 : decode cX2_sum 24 = .ok (.bipush 43, 2) := dk_16 43 (dk_at dksX2_sum_1 0 rfl rfl)
theorem dX2_sum_26 : decode cX2_sum 26 = .ok (.invokevirtual 79, 3) := dk_182 0 79 (dk_at dksX2_sum_1 2 rfl rfl)
theorem dX2_sum_29 : decode cX2_sum 29 = .ok (.ifCond .eq 8, 3) := dk_153 0 8 (dk_at dksX2_sum_1 5 rfl rfl)
theorem dX2_sum_32 : decode cX2_sum 32 = .ok (.bipush 43, 2) := dk_16 43 (dk_at dksX2_sum_1 8 rfl rfl)
theorem dX2_sum_34 : decode cX2_sum 34 = .ok (.goto 5, 3) := dk_167 0 5 (dk_at dksX2_sum_1 10 rfl rfl)
theorem dX2_sum_37 : decode cX2_sum 37 = .ok (.bipush 45, 2) := dk_16 45 (dk_at dksX2_sum_1 13 rfl rfl)
theorem dX2_sum_39 : decode cX2_sum 39 = .ok (.istore_n 2, 1) := dk_61 (dk_at dksX2_sum_1 15 rfl rfl)
theorem dX2_sum_40 : decode cX2_sum 40 = .ok (.aload_n 0, 1) := dk_42 (dk_at dksX2_sum_1 16 rfl rfl)
theorem dX2_sum_41 : decode cX2_sum 41 = .ok (.invokevirtual 25, 3) := dk_182 0 25 (dk_at dksX2_sum_1 17 rfl rfl)
theorem dX2_sum_44 : decode cX2_sum 44 = .ok (.new 265, 3) := dk_187 1 9 (dk_at dksX2_sum_1 20 rfl rfl)
theorem dX2_sum_47 : decode cX2_sum 47 = .ok (.dup, 1) := dk_89 (dk_at dksX2_sum_1 23 rfl rfl)
theorem dX2_sum_48 : decode cX2_sum 48 = .ok (.iload_n 2, 1) := dk_28 (dk_at dksX2_sum_2 0 rfl rfl)
theorem dX2_sum_49 : decode cX2_sum 49 = .ok (.aload_n 1, 1) := dk_43 (dk_at dksX2_sum_2 1 rfl rfl)
theorem dX2_sum_50 : decode cX2_sum 50 = .ok (.aload_n 0, 1) := dk_42 (dk_at dksX2_sum_2 2 rfl rfl)
theorem dX2_sum_51 : decode cX2_sum 51 = .ok (.invokevirtual 273, 3) := dk_182 1 17 (dk_at dksX2_sum_2 3 rfl rfl)
theorem dX2_sum_54 : decode cX2_sum 54 = .ok (.invokespecial 267, 3) := dk_183 1 11 (dk_at dksX2_sum_2 6 rfl rfl)
theorem dX2_sum_57 : decode cX2_sum 57 = .ok (.astore_n 1, 1) := dk_76 (dk_at dksX2_sum_2 9 rfl rfl)
theorem dX2_sum_58 : decode cX2_sum 58 = .ok (.goto (-53), 3) := dk_167 255 203 (dk_at dksX2_sum_2 10 rfl rfl)
theorem dX2_sum_61 : decode cX2_sum 61 = .ok (.aload_n 1, 1) := dk_43 (dk_at dksX2_sum_2 13 rfl rfl)
theorem dX2_sum_62 : decode cX2_sum 62 = .ok (.areturn, 1) := dk_176 (dk_at dksX2_sum_2 14 rfl rfl)
abbrev cX2_product : ByteArray := prog_13_method_28_code
def yX2_product : MethodName := ⟨RX2, "product", "()LPegLaws$Expression;"⟩
def dkwX2_product_1 : List UInt8 := [43, 42, 182, 1, 20, 183, 1, 11, 76, 167, 255, 228, 43, 176]
abbrev dktX2_product_1 : List UInt8 := dkwX2_product_1 ++ []
def dkwX2_product_0 : List UInt8 := [42, 182, 1, 20, 76, 42, 16, 42, 182, 0, 79, 153, 0, 25, 42, 182, 0, 25, 187, 1, 9, 89, 16, 42]
abbrev dktX2_product_0 : List UInt8 := dkwX2_product_0 ++ dktX2_product_1
theorem dksX2_product_0 : cX2_product.data.toList.drop 0 = dktX2_product_0 := by decide +kernel
theorem dksX2_product_1 : cX2_product.data.toList.drop 24 = dktX2_product_1 := dk_seg dksX2_product_0 24 rfl rfl
theorem dX2_product_0 : decode cX2_product 0 = .ok (.aload_n 0, 1) := dk_42 (dk_at dksX2_product_0 0 rfl rfl)
theorem dX2_product_1 : decode cX2_product 1 = .ok (.invokevirtual 276, 3) := dk_182 1 20 (dk_at dksX2_product_0 1 rfl rfl)
theorem dX2_product_4 : decode cX2_product 4 = .ok (.astore_n 1, 1) := dk_76 (dk_at dksX2_product_0 4 rfl rfl)
theorem dX2_product_5 : decode cX2_product 5 = .ok (.aload_n 0, 1) := dk_42 (dk_at dksX2_product_0 5 rfl rfl)
theorem dX2_product_6 : decode cX2_product 6 = .ok (.bipush 42, 2) := dk_16 42 (dk_at dksX2_product_0 6 rfl rfl)
theorem dX2_product_8 : decode cX2_product 8 = .ok (.invokevirtual 79, 3) := dk_182 0 79 (dk_at dksX2_product_0 8 rfl rfl)
theorem dX2_product_11 : decode cX2_product 11 = .ok (.ifCond .eq 25, 3) := dk_153 0 25 (dk_at dksX2_product_0 11 rfl rfl)
theorem dX2_product_14 : decode cX2_product 14 = .ok (.aload_n 0, 1) := dk_42 (dk_at dksX2_product_0 14 rfl rfl)
theorem dX2_product_15 : decode cX2_product 15 = .ok (.invokevirtual 25, 3) := dk_182 0 25 (dk_at dksX2_product_0 15 rfl rfl)
theorem dX2_product_18 : decode cX2_product 18 = .ok (.new 265, 3) := dk_187 1 9 (dk_at dksX2_product_0 18 rfl rfl)
theorem dX2_product_21 : decode cX2_product 21 = .ok (.dup, 1) := dk_89 (dk_at dksX2_product_0 21 rfl rfl)
theorem dX2_product_22 : decode cX2_product 22 = .ok (.bipush 42, 2) := dk_16 42 (dk_at dksX2_product_0 22 rfl rfl)
theorem dX2_product_24 : decode cX2_product 24 = .ok (.aload_n 1, 1) := dk_43 (dk_at dksX2_product_1 0 rfl rfl)
theorem dX2_product_25 : decode cX2_product 25 = .ok (.aload_n 0, 1) := dk_42 (dk_at dksX2_product_1 1 rfl rfl)
theorem dX2_product_26 : decode cX2_product 26 = .ok (.invokevirtual 276, 3) := dk_182 1 20 (dk_at dksX2_product_1 2 rfl rfl)
theorem dX2_product_29 : decode cX2_product 29 = .ok (.invokespecial 267, 3) := dk_183 1 11 (dk_at dksX2_product_1 5 rfl rfl)
theorem dX2_product_32 : decode cX2_product 32 = .ok (.astore_n 1, 1) := dk_76 (dk_at dksX2_product_1 8 rfl rfl)
theorem dX2_product_33 : decode cX2_product 33 = .ok (.goto (-28), 3) := dk_167 255 228 (dk_at dksX2_product_1 9 rfl rfl)
theorem dX2_product_36 : decode cX2_product 36 = .ok (.aload_n 1, 1) := dk_43 (dk_at dksX2_product_1 12 rfl rfl)
theorem dX2_product_37 : decode cX2_product 37 = .ok (.areturn, 1) := dk_176 (dk_at dksX2_product_1 13 rfl rfl)
abbrev cX2_part : ByteArray := prog_13_method_29_code
def yX2_part : MethodName := ⟨RX2, "part", "()LPegLaws$Expression;"⟩
def dkwX2_part_7 : List UInt8 := [181, 0, 22, 25, 4, 176]
abbrev dktX2_part_7 : List UInt8 := dkwX2_part_7 ++ []
def dkwX2_part_6 : List UInt8 := [182, 0, 189, 58, 4, 29, 153, 0, 9, 42, 16, 41, 182, 0, 157, 42, 89, 180, 0, 22, 4, 100]
abbrev dktX2_part_6 : List UInt8 := dkwX2_part_6 ++ dktX2_part_7
def dkwX2_part_5 : List UInt8 := [181, 0, 22, 28, 153, 0, 17, 187, 1, 33, 89, 42, 182, 1, 20, 183, 1, 35, 167, 0, 7, 42]
abbrev dktX2_part_5 : List UInt8 := dkwX2_part_5 ++ dktX2_part_6
def dkwX2_part_4 : List UInt8 := [182, 0, 25, 27, 155, 0, 12, 187, 1, 30, 89, 27, 183, 1, 32, 176, 42, 89, 180, 0, 22, 4, 96]
abbrev dktX2_part_4 : List UInt8 := dkwX2_part_4 ++ dktX2_part_5
def dkwX2_part_3 : List UInt8 := [180, 0, 31, 5, 160, 0, 19, 187, 1, 27, 89, 42, 3, 17, 39, 15, 182, 0, 102, 183, 1, 29, 176, 42]
abbrev dktX2_part_3 : List UInt8 := dkwX2_part_3 ++ dktX2_part_4
def dkwX2_part_2 : List UInt8 := [159, 0, 9, 42, 4, 182, 0, 75, 191, 42, 180, 0, 22, 8, 160, 0, 9, 42, 8, 182, 0, 75, 191, 42]
abbrev dktX2_part_2 : List UInt8 := dkwX2_part_2 ++ dktX2_part_3
def dkwX2_part_1 : List UInt8 := [42, 16, 40, 182, 0, 79, 62, 27, 156, 0, 25, 28, 154, 0, 21, 29, 154, 0, 17, 42, 180, 0, 31, 5]
abbrev dktX2_part_1 : List UInt8 := dkwX2_part_1 ++ dktX2_part_2
def dkwX2_part_0 : List UInt8 := [42, 19, 1, 23, 182, 0, 71, 60, 42, 19, 1, 25, 182, 0, 71, 155, 0, 7, 4, 167, 0, 4, 3, 61]
abbrev dktX2_part_0 : List UInt8 := dkwX2_part_0 ++ dktX2_part_1
theorem dksX2_part_0 : cX2_part.data.toList.drop 0 = dktX2_part_0 := by decide +kernel
theorem dksX2_part_1 : cX2_part.data.toList.drop 24 = dktX2_part_1 := dk_seg dksX2_part_0 24 rfl rfl
theorem dksX2_part_2 : cX2_part.data.toList.drop 48 = dktX2_part_2 := dk_seg dksX2_part_1 24 rfl rfl
theorem dksX2_part_3 : cX2_part.data.toList.drop 72 = dktX2_part_3 := dk_seg dksX2_part_2 24 rfl rfl
theorem dksX2_part_4 : cX2_part.data.toList.drop 96 = dktX2_part_4 := dk_seg dksX2_part_3 24 rfl rfl
theorem dksX2_part_5 : cX2_part.data.toList.drop 119 = dktX2_part_5 := dk_seg dksX2_part_4 23 rfl rfl
theorem dksX2_part_6 : cX2_part.data.toList.drop 141 = dktX2_part_6 := dk_seg dksX2_part_5 22 rfl rfl
theorem dksX2_part_7 : cX2_part.data.toList.drop 163 = dktX2_part_7 := dk_seg dksX2_part_6 22 rfl rfl
theorem dX2_part_0 : decode cX2_part 0 = .ok (.aload_n 0, 1) := dk_42 (dk_at dksX2_part_0 0 rfl rfl)
theorem dX2_part_1 : decode cX2_part 1 = .ok (.ldc_w 279, 3) := dk_19 1 23 (dk_at dksX2_part_0 1 rfl rfl)
theorem dX2_part_4 : decode cX2_part 4 = .ok (.invokevirtual 71, 3) := dk_182 0 71 (dk_at dksX2_part_0 4 rfl rfl)
theorem dX2_part_7 : decode cX2_part 7 = .ok (.istore_n 1, 1) := dk_60 (dk_at dksX2_part_0 7 rfl rfl)
theorem dX2_part_8 : decode cX2_part 8 = .ok (.aload_n 0, 1) := dk_42 (dk_at dksX2_part_0 8 rfl rfl)
theorem dX2_part_9 : decode cX2_part 9 = .ok (.ldc_w 281, 3) := dk_19 1 25 (dk_at dksX2_part_0 9 rfl rfl)
theorem dX2_part_12 : decode cX2_part 12 = .ok (.invokevirtual 71, 3) := dk_182 0 71 (dk_at dksX2_part_0 12 rfl rfl)
theorem dX2_part_15 : decode cX2_part 15 = .ok (.ifCond .lt 7, 3) := dk_155 0 7 (dk_at dksX2_part_0 15 rfl rfl)
theorem dX2_part_18 : decode cX2_part 18 = .ok (.iconst 1, 1) := dk_4 (dk_at dksX2_part_0 18 rfl rfl)
theorem dX2_part_19 : decode cX2_part 19 = .ok (.goto 4, 3) := dk_167 0 4 (dk_at dksX2_part_0 19 rfl rfl)
theorem dX2_part_22 : decode cX2_part 22 = .ok (.iconst 0, 1) := dk_3 (dk_at dksX2_part_0 22 rfl rfl)
theorem dX2_part_23 : decode cX2_part 23 = .ok (.istore_n 2, 1) := dk_61 (dk_at dksX2_part_0 23 rfl rfl)
theorem dX2_part_24 : decode cX2_part 24 = .ok (.aload_n 0, 1) := dk_42 (dk_at dksX2_part_1 0 rfl rfl)
theorem dX2_part_25 : decode cX2_part 25 = .ok (.bipush 40, 2) := dk_16 40 (dk_at dksX2_part_1 1 rfl rfl)
theorem dX2_part_27 : decode cX2_part 27 = .ok (.invokevirtual 79, 3) := dk_182 0 79 (dk_at dksX2_part_1 3 rfl rfl)
theorem dX2_part_30 : decode cX2_part 30 = .ok (.istore_n 3, 1) := dk_62 (dk_at dksX2_part_1 6 rfl rfl)
theorem dX2_part_31 : decode cX2_part 31 = .ok (.iload_n 1, 1) := dk_27 (dk_at dksX2_part_1 7 rfl rfl)
theorem dX2_part_32 : decode cX2_part 32 = .ok (.ifCond .ge 25, 3) := dk_156 0 25 (dk_at dksX2_part_1 8 rfl rfl)
theorem dX2_part_35 : decode cX2_part 35 = .ok (.iload_n 2, 1) := dk_28 (dk_at dksX2_part_1 11 rfl rfl)
theorem dX2_part_36 : decode cX2_part 36 = .ok (.ifCond .ne 21, 3) := dk_154 0 21 (dk_at dksX2_part_1 12 rfl rfl)
theorem dX2_part_39 : decode cX2_part 39 = .ok (.iload_n 3, 1) := dk_29 (dk_at dksX2_part_1 15 rfl rfl)
theorem dX2_part_40 : decode cX2_part 40 = .ok (.ifCond .ne 17, 3) := dk_154 0 17 (dk_at dksX2_part_1 16 rfl rfl)
theorem dX2_part_43 : decode cX2_part 43 = .ok (.aload_n 0, 1) := dk_42 (dk_at dksX2_part_1 19 rfl rfl)
theorem dX2_part_44 : decode cX2_part 44 = .ok (.getfield 31, 3) := dk_180 0 31 (dk_at dksX2_part_1 20 rfl rfl)
theorem dX2_part_47 : decode cX2_part 47 = .ok (.iconst 2, 1) := dk_5 (dk_at dksX2_part_1 23 rfl rfl)
theorem dX2_part_48 : decode cX2_part 48 = .ok (.if_icmp .eq 9, 3) := dk_159 0 9 (dk_at dksX2_part_2 0 rfl rfl)
theorem dX2_part_51 : decode cX2_part 51 = .ok (.aload_n 0, 1) := dk_42 (dk_at dksX2_part_2 3 rfl rfl)
theorem dX2_part_52 : decode cX2_part 52 = .ok (.iconst 1, 1) := dk_4 (dk_at dksX2_part_2 4 rfl rfl)
theorem dX2_part_53 : decode cX2_part 53 = .ok (.invokevirtual 75, 3) := dk_182 0 75 (dk_at dksX2_part_2 5 rfl rfl)
theorem dX2_part_56 : decode cX2_part 56 = .ok (.athrow, 1) := dk_191 (dk_at dksX2_part_2 8 rfl rfl)
theorem dX2_part_57 : decode cX2_part 57 = .ok (.aload_n 0, 1) := dk_42 (dk_at dksX2_part_2 9 rfl rfl)
theorem dX2_part_58 : decode cX2_part 58 = .ok (.getfield 22, 3) := dk_180 0 22 (dk_at dksX2_part_2 10 rfl rfl)
theorem dX2_part_61 : decode cX2_part 61 = .ok (.iconst 5, 1) := dk_8 (dk_at dksX2_part_2 13 rfl rfl)
theorem dX2_part_62 : decode cX2_part 62 = .ok (.if_icmp .ne 9, 3) := dk_160 0 9 (dk_at dksX2_part_2 14 rfl rfl)
theorem dX2_part_65 : decode cX2_part 65 = .ok (.aload_n 0, 1) := dk_42 (dk_at dksX2_part_2 17 rfl rfl)
theorem dX2_part_66 : decode cX2_part 66 = .ok (.iconst 5, 1) := dk_8 (dk_at dksX2_part_2 18 rfl rfl)
theorem dX2_part_67 : decode cX2_part 67 = .ok (.invokevirtual 75, 3) := dk_182 0 75 (dk_at dksX2_part_2 19 rfl rfl)
theorem dX2_part_70 : decode cX2_part 70 = .ok (.athrow, 1) := dk_191 (dk_at dksX2_part_2 22 rfl rfl)
theorem dX2_part_71 : decode cX2_part 71 = .ok (.aload_n 0, 1) := dk_42 (dk_at dksX2_part_2 23 rfl rfl)
theorem dX2_part_72 : decode cX2_part 72 = .ok (.getfield 31, 3) := dk_180 0 31 (dk_at dksX2_part_3 0 rfl rfl)
theorem dX2_part_75 : decode cX2_part 75 = .ok (.iconst 2, 1) := dk_5 (dk_at dksX2_part_3 3 rfl rfl)
theorem dX2_part_76 : decode cX2_part 76 = .ok (.if_icmp .ne 19, 3) := dk_160 0 19 (dk_at dksX2_part_3 4 rfl rfl)
theorem dX2_part_79 : decode cX2_part 79 = .ok (.new 283, 3) := dk_187 1 27 (dk_at dksX2_part_3 7 rfl rfl)
theorem dX2_part_82 : decode cX2_part 82 = .ok (.dup, 1) := dk_89 (dk_at dksX2_part_3 10 rfl rfl)
theorem dX2_part_83 : decode cX2_part 83 = .ok (.aload_n 0, 1) := dk_42 (dk_at dksX2_part_3 11 rfl rfl)
theorem dX2_part_84 : decode cX2_part 84 = .ok (.iconst 0, 1) := dk_3 (dk_at dksX2_part_3 12 rfl rfl)
theorem dX2_part_85 : decode cX2_part 85 = .ok (.sipush 9999, 3) := dk_17 39 15 (dk_at dksX2_part_3 13 rfl rfl)
theorem dX2_part_88 : decode cX2_part 88 = .ok (.invokevirtual 102, 3) := dk_182 0 102 (dk_at dksX2_part_3 16 rfl rfl)
theorem dX2_part_91 : decode cX2_part 91 = .ok (.invokespecial 285, 3) := dk_183 1 29 (dk_at dksX2_part_3 19 rfl rfl)
theorem dX2_part_94 : decode cX2_part 94 = .ok (.areturn, 1) := dk_176 (dk_at dksX2_part_3 22 rfl rfl)
theorem dX2_part_95 : decode cX2_part 95 = .ok (.aload_n 0, 1) := dk_42 (dk_at dksX2_part_3 23 rfl rfl)
theorem dX2_part_96 : decode cX2_part 96 = .ok (.invokevirtual 25, 3) := dk_182 0 25 (dk_at dksX2_part_4 0 rfl rfl)
theorem dX2_part_99 : decode cX2_part 99 = .ok (.iload_n 1, 1) := dk_27 (dk_at dksX2_part_4 3 rfl rfl)
theorem dX2_part_100 : decode cX2_part 100 = .ok (.ifCond .lt 12, 3) := dk_155 0 12 (dk_at dksX2_part_4 4 rfl rfl)
theorem dX2_part_103 : decode cX2_part 103 = .ok (.new 286, 3) := dk_187 1 30 (dk_at dksX2_part_4 7 rfl rfl)
theorem dX2_part_106 : decode cX2_part 106 = .ok (.dup, 1) := dk_89 (dk_at dksX2_part_4 10 rfl rfl)
theorem dX2_part_107 : decode cX2_part 107 = .ok (.iload_n 1, 1) := dk_27 (dk_at dksX2_part_4 11 rfl rfl)
theorem dX2_part_108 : decode cX2_part 108 = .ok (.invokespecial 288, 3) := dk_183 1 32 (dk_at dksX2_part_4 12 rfl rfl)
theorem dX2_part_111 : decode cX2_part 111 = .ok (.areturn, 1) := dk_176 (dk_at dksX2_part_4 15 rfl rfl)
theorem dX2_part_112 : decode cX2_part 112 = .ok (.aload_n 0, 1) := dk_42 (dk_at dksX2_part_4 16 rfl rfl)
theorem dX2_part_113 : decode cX2_part 113 = .ok (.dup, 1) := dk_89 (dk_at dksX2_part_4 17 rfl rfl)
theorem dX2_part_114 : decode cX2_part 114 = .ok (.getfield 22, 3) := dk_180 0 22 (dk_at dksX2_part_4 18 rfl rfl)
theorem dX2_part_117 : decode cX2_part 117 = .ok (.iconst 1, 1) := dk_4 (dk_at dksX2_part_4 21 rfl rfl)
theorem dX2_part_118 : decode cX2_part 118 = .ok (.iadd, 1) := dk_96 (dk_at dksX2_part_4 22 rfl rfl)
theorem dX2_part_119 : decode cX2_part 119 = .ok (.putfield 22, 3) := dk_181 0 22 (dk_at dksX2_part_5 0 rfl rfl)
theorem dX2_part_122 : decode cX2_part 122 = .ok (.iload_n 2, 1) := dk_28 (dk_at dksX2_part_5 3 rfl rfl)
theorem dX2_part_123 : decode cX2_part 123 = .ok (.ifCond .eq 17, 3) := dk_153 0 17 (dk_at dksX2_part_5 4 rfl rfl)
theorem dX2_part_126 : decode cX2_part 126 = .ok (.new 289, 3) := dk_187 1 33 (dk_at dksX2_part_5 7 rfl rfl)
theorem dX2_part_129 : decode cX2_part 129 = .ok (.dup, 1) := dk_89 (dk_at dksX2_part_5 10 rfl rfl)
theorem dX2_part_130 : decode cX2_part 130 = .ok (.aload_n 0, 1) := dk_42 (dk_at dksX2_part_5 11 rfl rfl)
theorem dX2_part_131 : decode cX2_part 131 = .ok (.invokevirtual 276, 3) := dk_182 1 20 (dk_at dksX2_part_5 12 rfl rfl)
theorem dX2_part_134 : decode cX2_part 134 = .ok (.invokespecial 291, 3) := dk_183 1 35 (dk_at dksX2_part_5 15 rfl rfl)
theorem dX2_part_137 : decode cX2_part 137 = .ok (.goto 7, 3) := dk_167 0 7 (dk_at dksX2_part_5 18 rfl rfl)
theorem dX2_part_140 : decode cX2_part 140 = .ok (.aload_n 0, 1) := dk_42 (dk_at dksX2_part_5 21 rfl rfl)
theorem dX2_part_141 : decode cX2_part 141 = .ok (.invokevirtual 189, 3) := dk_182 0 189 (dk_at dksX2_part_6 0 rfl rfl)
theorem dX2_part_144 : decode cX2_part 144 = .ok (.astore 4, 2) := dk_58 4 (dk_at dksX2_part_6 3 rfl rfl)
theorem dX2_part_146 : decode cX2_part 146 = .ok (.iload_n 3, 1) := dk_29 (dk_at dksX2_part_6 5 rfl rfl)
theorem dX2_part_147 : decode cX2_part 147 = .ok (.ifCond .eq 9, 3) := dk_153 0 9 (dk_at dksX2_part_6 6 rfl rfl)
theorem dX2_part_150 : decode cX2_part 150 = .ok (.aload_n 0, 1) := dk_42 (dk_at dksX2_part_6 9 rfl rfl)
theorem dX2_part_151 : decode cX2_part 151 = .ok (.bipush 41, 2) := dk_16 41 (dk_at dksX2_part_6 10 rfl rfl)
theorem dX2_part_153 : decode cX2_part 153 = .ok (.invokevirtual 157, 3) := dk_182 0 157 (dk_at dksX2_part_6 12 rfl rfl)
theorem dX2_part_156 : decode cX2_part 156 = .ok (.aload_n 0, 1) := dk_42 (dk_at dksX2_part_6 15 rfl rfl)
theorem dX2_part_157 : decode cX2_part 157 = .ok (.dup, 1) := dk_89 (dk_at dksX2_part_6 16 rfl rfl)
theorem dX2_part_158 : decode cX2_part 158 = .ok (.getfield 22, 3) := dk_180 0 22 (dk_at dksX2_part_6 17 rfl rfl)
theorem dX2_part_161 : decode cX2_part 161 = .ok (.iconst 1, 1) := dk_4 (dk_at dksX2_part_6 20 rfl rfl)
theorem dX2_part_162 : decode cX2_part 162 = .ok (.isub, 1) := dk_100 (dk_at dksX2_part_6 21 rfl rfl)
theorem dX2_part_163 : decode cX2_part 163 = .ok (.putfield 22, 3) := dk_181 0 22 (dk_at dksX2_part_7 0 rfl rfl)
theorem dX2_part_166 : decode cX2_part 166 = .ok (.aload 4, 2) := dk_25 4 (dk_at dksX2_part_7 3 rfl rfl)
theorem dX2_part_168 : decode cX2_part 168 = .ok (.areturn, 1) := dk_176 (dk_at dksX2_part_7 5 rfl rfl)
abbrev cX2_need_2 : ByteArray := prog_13_method_11_code
def yX2_need_2 : MethodName := ⟨RX2, "need", "(C)V"⟩
def dkwX2_need_2_0 : List UInt8 := [42, 27, 182, 0, 79, 154, 0, 9, 42, 4, 182, 0, 75, 191, 42, 182, 0, 25, 177]
abbrev dktX2_need_2_0 : List UInt8 := dkwX2_need_2_0 ++ []
theorem dksX2_need_2_0 : cX2_need_2.data.toList.drop 0 = dktX2_need_2_0 := by decide +kernel
theorem dX2_need_2_0 : decode cX2_need_2 0 = .ok (.aload_n 0, 1) := dk_42 (dk_at dksX2_need_2_0 0 rfl rfl)
theorem dX2_need_2_1 : decode cX2_need_2 1 = .ok (.iload_n 1, 1) := dk_27 (dk_at dksX2_need_2_0 1 rfl rfl)
theorem dX2_need_2_2 : decode cX2_need_2 2 = .ok (.invokevirtual 79, 3) := dk_182 0 79 (dk_at dksX2_need_2_0 2 rfl rfl)
theorem dX2_need_2_5 : decode cX2_need_2 5 = .ok (.ifCond .ne 9, 3) := dk_154 0 9 (dk_at dksX2_need_2_0 5 rfl rfl)
theorem dX2_need_2_8 : decode cX2_need_2 8 = .ok (.aload_n 0, 1) := dk_42 (dk_at dksX2_need_2_0 8 rfl rfl)
theorem dX2_need_2_9 : decode cX2_need_2 9 = .ok (.iconst 1, 1) := dk_4 (dk_at dksX2_need_2_0 9 rfl rfl)
theorem dX2_need_2_10 : decode cX2_need_2 10 = .ok (.invokevirtual 75, 3) := dk_182 0 75 (dk_at dksX2_need_2_0 10 rfl rfl)
theorem dX2_need_2_13 : decode cX2_need_2 13 = .ok (.athrow, 1) := dk_191 (dk_at dksX2_need_2_0 13 rfl rfl)
theorem dX2_need_2_14 : decode cX2_need_2 14 = .ok (.aload_n 0, 1) := dk_42 (dk_at dksX2_need_2_0 14 rfl rfl)
theorem dX2_need_2_15 : decode cX2_need_2 15 = .ok (.invokevirtual 25, 3) := dk_182 0 25 (dk_at dksX2_need_2_0 15 rfl rfl)
theorem dX2_need_2_18 : decode cX2_need_2 18 = .ok (.return_, 1) := dk_177 (dk_at dksX2_need_2_0 18 rfl rfl)
abbrev cX2_day : ByteArray := prog_13_method_23_code
def yX2_day : MethodName := ⟨RX2, "day", "(LPegLaws$Rope;)Ljava/util/ArrayList;"⟩
def dkwX2_day_3 : List UInt8 := [182, 0, 157, 167, 255, 197, 44, 176]
abbrev dktX2_day_3 : List UInt8 := dkwX2_day_3 ++ []
def dkwX2_day_2 : List UInt8 := [8, 182, 0, 75, 191, 42, 182, 0, 25, 44, 42, 29, 182, 0, 236, 182, 0, 229, 87, 42, 16, 59]
abbrev dktX2_day_2 : List UInt8 := dkwX2_day_2 ++ dktX2_day_3
def dkwX2_day_1 : List UInt8 := [182, 0, 71, 62, 29, 156, 0, 9, 42, 4, 182, 0, 75, 191, 44, 182, 0, 150, 16, 30, 160, 0, 9, 42]
abbrev dktX2_day_1 : List UInt8 := dkwX2_day_1 ++ dktX2_day_2
def dkwX2_day_0 : List UInt8 := [42, 43, 181, 0, 105, 187, 0, 151, 89, 7, 183, 0, 233, 77, 42, 180, 0, 31, 153, 0, 58, 42, 18, 234]
abbrev dktX2_day_0 : List UInt8 := dkwX2_day_0 ++ dktX2_day_1
theorem dksX2_day_0 : cX2_day.data.toList.drop 0 = dktX2_day_0 := by decide +kernel
theorem dksX2_day_1 : cX2_day.data.toList.drop 24 = dktX2_day_1 := dk_seg dksX2_day_0 24 rfl rfl
theorem dksX2_day_2 : cX2_day.data.toList.drop 48 = dktX2_day_2 := dk_seg dksX2_day_1 24 rfl rfl
theorem dksX2_day_3 : cX2_day.data.toList.drop 70 = dktX2_day_3 := dk_seg dksX2_day_2 22 rfl rfl
theorem dX2_day_0 : decode cX2_day 0 = .ok (.aload_n 0, 1) := dk_42 (dk_at dksX2_day_0 0 rfl rfl)
theorem dX2_day_1 : decode cX2_day 1 = .ok (.aload_n 1, 1) := dk_43 (dk_at dksX2_day_0 1 rfl rfl)
theorem dX2_day_2 : decode cX2_day 2 = .ok (.putfield 105, 3) := dk_181 0 105 (dk_at dksX2_day_0 2 rfl rfl)
theorem dX2_day_5 : decode cX2_day 5 = .ok (.new 151, 3) := dk_187 0 151 (dk_at dksX2_day_0 5 rfl rfl)
theorem dX2_day_8 : decode cX2_day 8 = .ok (.dup, 1) := dk_89 (dk_at dksX2_day_0 8 rfl rfl)
theorem dX2_day_9 : decode cX2_day 9 = .ok (.iconst 4, 1) := dk_7 (dk_at dksX2_day_0 9 rfl rfl)
theorem dX2_day_10 : decode cX2_day 10 = .ok (.invokespecial 233, 3) := dk_183 0 233 (dk_at dksX2_day_0 10 rfl rfl)
theorem dX2_day_13 : decode cX2_day 13 = .ok (.astore_n 2, 1) := dk_77 (dk_at dksX2_day_0 13 rfl rfl)
theorem dX2_day_14 : decode cX2_day 14 = .ok (.aload_n 0, 1) := dk_42 (dk_at dksX2_day_0 14 rfl rfl)
theorem dX2_day_15 : decode cX2_day 15 = .ok (.getfield 31, 3) := dk_180 0 31 (dk_at dksX2_day_0 15 rfl rfl)
theorem dX2_day_18 : decode cX2_day 18 = .ok (.ifCond .eq 58, 3) := dk_153 0 58 (dk_at dksX2_day_0 18 rfl rfl)
theorem dX2_day_21 : decode cX2_day 21 = .ok (.aload_n 0, 1) := dk_42 (dk_at dksX2_day_0 21 rfl rfl)
theorem dX2_day_22 : decode cX2_day 22 = .ok (.ldc 234, 2) := dk_18 234 (dk_at dksX2_day_0 22 rfl rfl)
theorem dX2_day_24 : decode cX2_day 24 = .ok (.invokevirtual 71, 3) := dk_182 0 71 (dk_at dksX2_day_1 0 rfl rfl)
theorem dX2_day_27 : decode cX2_day 27 = .ok (.istore_n 3, 1) := dk_62 (dk_at dksX2_day_1 3 rfl rfl)
theorem dX2_day_28 : decode cX2_day 28 = .ok (.iload_n 3, 1) := dk_29 (dk_at dksX2_day_1 4 rfl rfl)
theorem dX2_day_29 : decode cX2_day 29 = .ok (.ifCond .ge 9, 3) := dk_156 0 9 (dk_at dksX2_day_1 5 rfl rfl)
theorem dX2_day_32 : decode cX2_day 32 = .ok (.aload_n 0, 1) := dk_42 (dk_at dksX2_day_1 8 rfl rfl)
theorem dX2_day_33 : decode cX2_day 33 = .ok (.iconst 1, 1) := dk_4 (dk_at dksX2_day_1 9 rfl rfl)
theorem dX2_day_34 : decode cX2_day 34 = .ok (.invokevirtual 75, 3) := dk_182 0 75 (dk_at dksX2_day_1 10 rfl rfl)
theorem dX2_day_37 : decode cX2_day 37 = .ok (.athrow, 1) := dk_191 (dk_at dksX2_day_1 13 rfl rfl)
theorem dX2_day_38 : decode cX2_day 38 = .ok (.aload_n 2, 1) := dk_44 (dk_at dksX2_day_1 14 rfl rfl)
theorem dX2_day_39 : decode cX2_day 39 = .ok (.invokevirtual 150, 3) := dk_182 0 150 (dk_at dksX2_day_1 15 rfl rfl)
theorem dX2_day_42 : decode cX2_day 42 = .ok (.bipush 30, 2) := dk_16 30 (dk_at dksX2_day_1 18 rfl rfl)
theorem dX2_day_44 : decode cX2_day 44 = .ok (.if_icmp .ne 9, 3) := dk_160 0 9 (dk_at dksX2_day_1 20 rfl rfl)
theorem dX2_day_47 : decode cX2_day 47 = .ok (.aload_n 0, 1) := dk_42 (dk_at dksX2_day_1 23 rfl rfl)
theorem dX2_day_48 : decode cX2_day 48 = .ok (.iconst 5, 1) := dk_8 (dk_at dksX2_day_2 0 rfl rfl)
theorem dX2_day_49 : decode cX2_day 49 = .ok (.invokevirtual 75, 3) := dk_182 0 75 (dk_at dksX2_day_2 1 rfl rfl)
theorem dX2_day_52 : decode cX2_day 52 = .ok (.athrow, 1) := dk_191 (dk_at dksX2_day_2 4 rfl rfl)
theorem dX2_day_53 : decode cX2_day 53 = .ok (.aload_n 0, 1) := dk_42 (dk_at dksX2_day_2 5 rfl rfl)
theorem dX2_day_54 : decode cX2_day 54 = .ok (.invokevirtual 25, 3) := dk_182 0 25 (dk_at dksX2_day_2 6 rfl rfl)
theorem dX2_day_57 : decode cX2_day 57 = .ok (.aload_n 2, 1) := dk_44 (dk_at dksX2_day_2 9 rfl rfl)
theorem dX2_day_58 : decode cX2_day 58 = .ok (.aload_n 0, 1) := dk_42 (dk_at dksX2_day_2 10 rfl rfl)
theorem dX2_day_59 : decode cX2_day 59 = .ok (.iload_n 3, 1) := dk_29 (dk_at dksX2_day_2 11 rfl rfl)
theorem dX2_day_60 : decode cX2_day 60 = .ok (.invokevirtual 236, 3) := dk_182 0 236 (dk_at dksX2_day_2 12 rfl rfl)
theorem dX2_day_63 : decode cX2_day 63 = .ok (.invokevirtual 229, 3) := dk_182 0 229 (dk_at dksX2_day_2 15 rfl rfl)
theorem dX2_day_66 : decode cX2_day 66 = .ok (.pop, 1) := dk_87 (dk_at dksX2_day_2 18 rfl rfl)
theorem dX2_day_67 : decode cX2_day 67 = .ok (.aload_n 0, 1) := dk_42 (dk_at dksX2_day_2 19 rfl rfl)
theorem dX2_day_68 : decode cX2_day 68 = .ok (.bipush 59, 2) := dk_16 59 (dk_at dksX2_day_2 20 rfl rfl)
theorem dX2_day_70 : decode cX2_day 70 = .ok (.invokevirtual 157, 3) := dk_182 0 157 (dk_at dksX2_day_3 0 rfl rfl)
theorem dX2_day_73 : decode cX2_day 73 = .ok (.goto (-59), 3) := dk_167 255 197 (dk_at dksX2_day_3 3 rfl rfl)
theorem dX2_day_76 : decode cX2_day 76 = .ok (.aload_n 2, 1) := dk_44 (dk_at dksX2_day_3 6 rfl rfl)
theorem dX2_day_77 : decode cX2_day 77 = .ok (.areturn, 1) := dk_176 (dk_at dksX2_day_3 7 rfl rfl)
abbrev cX2_done : ByteArray := prog_13_method_24_code
def yX2_done : MethodName := ⟨RX2, "done", "(I)LPegLaws$Line;"⟩
def dkwX2_done_5 : List UInt8 := [128, 62, 42, 16, 59, 182, 0, 79, 153, 255, 201, 187, 1, 1, 89, 28, 29, 183, 1, 3, 176]
abbrev dktX2_done_5 : List UInt8 := dkwX2_done_5 ++ []
def dkwX2_done_4 : List UInt8 := [191, 29, 184, 0, 252, 7, 160, 0, 9, 42, 8, 182, 0, 75, 191, 42, 182, 0, 25, 29, 4, 21, 4, 120]
abbrev dktX2_done_4 : List UInt8 := dkwX2_done_4 ++ dktX2_done_5
def dkwX2_done_3 : List UInt8 := [62, 42, 3, 16, 7, 182, 0, 160, 54, 4, 29, 21, 4, 184, 0, 182, 153, 0, 9, 42, 6, 182, 0, 75]
abbrev dktX2_done_3 : List UInt8 := dkwX2_done_3 ++ dktX2_done_4
def dkwX2_done_2 : List UInt8 := [160, 0, 14, 187, 0, 246, 89, 28, 183, 0, 248, 167, 0, 11, 187, 0, 249, 89, 28, 183, 0, 251, 176, 3]
abbrev dktX2_done_2 : List UInt8 := dkwX2_done_2 ++ dktX2_done_3
def dkwX2_done_1 : List UInt8 := [16, 9, 182, 0, 102, 183, 0, 245, 176, 42, 182, 0, 177, 61, 42, 182, 0, 25, 27, 158, 0, 28, 27, 4]
abbrev dktX2_done_1 : List UInt8 := dkwX2_done_1 ++ dktX2_done_2
def dkwX2_done_0 : List UInt8 := [27, 7, 160, 0, 11, 187, 0, 240, 89, 183, 0, 242, 176, 27, 6, 160, 0, 18, 187, 0, 243, 89, 42, 4]
abbrev dktX2_done_0 : List UInt8 := dkwX2_done_0 ++ dktX2_done_1
theorem dksX2_done_0 : cX2_done.data.toList.drop 0 = dktX2_done_0 := by decide +kernel
theorem dksX2_done_1 : cX2_done.data.toList.drop 24 = dktX2_done_1 := dk_seg dksX2_done_0 24 rfl rfl
theorem dksX2_done_2 : cX2_done.data.toList.drop 48 = dktX2_done_2 := dk_seg dksX2_done_1 24 rfl rfl
theorem dksX2_done_3 : cX2_done.data.toList.drop 72 = dktX2_done_3 := dk_seg dksX2_done_2 24 rfl rfl
theorem dksX2_done_4 : cX2_done.data.toList.drop 96 = dktX2_done_4 := dk_seg dksX2_done_3 24 rfl rfl
theorem dksX2_done_5 : cX2_done.data.toList.drop 120 = dktX2_done_5 := dk_seg dksX2_done_4 24 rfl rfl
theorem dX2_done_0 : decode cX2_done 0 = .ok (.iload_n 1, 1) := dk_27 (dk_at dksX2_done_0 0 rfl rfl)
theorem dX2_done_1 : decode cX2_done 1 = .ok (.iconst 4, 1) := dk_7 (dk_at dksX2_done_0 1 rfl rfl)
theorem dX2_done_2 : decode cX2_done 2 = .ok (.if_icmp .ne 11, 3) := dk_160 0 11 (dk_at dksX2_done_0 2 rfl rfl)
theorem dX2_done_5 : decode cX2_done 5 = .ok (.new 240, 3) := dk_187 0 240 (dk_at dksX2_done_0 5 rfl rfl)
theorem dX2_done_8 : decode cX2_done 8 = .ok (.dup, 1) := dk_89 (dk_at dksX2_done_0 8 rfl rfl)
theorem dX2_done_9 : decode cX2_done 9 = .ok (.invokespecial 242, 3) := dk_183 0 242 (dk_at dksX2_done_0 9 rfl rfl)
theorem dX2_done_12 : decode cX2_done 12 = .ok (.areturn, 1) := dk_176 (dk_at dksX2_done_0 12 rfl rfl)
theorem dX2_done_13 : decode cX2_done 13 = .ok (.iload_n 1, 1) := dk_27 (dk_at dksX2_done_0 13 rfl rfl)
theorem dX2_done_14 : decode cX2_done 14 = .ok (.iconst 3, 1) := dk_6 (dk_at dksX2_done_0 14 rfl rfl)
theorem dX2_done_15 : decode cX2_done 15 = .ok (.if_icmp .ne 18, 3) := dk_160 0 18 (dk_at dksX2_done_0 15 rfl rfl)
theorem dX2_done_18 : decode cX2_done 18 = .ok (.new 243, 3) := dk_187 0 243 (dk_at dksX2_done_0 18 rfl rfl)
theorem dX2_done_21 : decode cX2_done 21 = .ok (.dup, 1) := dk_89 (dk_at dksX2_done_0 21 rfl rfl)
theorem dX2_done_22 : decode cX2_done 22 = .ok (.aload_n 0, 1) := dk_42 (dk_at dksX2_done_0 22 rfl rfl)
theorem dX2_done_23 : decode cX2_done 23 = .ok (.iconst 1, 1) := dk_4 (dk_at dksX2_done_0 23 rfl rfl)
theorem dX2_done_24 : decode cX2_done 24 = .ok (.bipush 9, 2) := dk_16 9 (dk_at dksX2_done_1 0 rfl rfl)
theorem dX2_done_26 : decode cX2_done 26 = .ok (.invokevirtual 102, 3) := dk_182 0 102 (dk_at dksX2_done_1 2 rfl rfl)
theorem dX2_done_29 : decode cX2_done 29 = .ok (.invokespecial 245, 3) := dk_183 0 245 (dk_at dksX2_done_1 5 rfl rfl)
theorem dX2_done_32 : decode cX2_done 32 = .ok (.areturn, 1) := dk_176 (dk_at dksX2_done_1 8 rfl rfl)
theorem dX2_done_33 : decode cX2_done 33 = .ok (.aload_n 0, 1) := dk_42 (dk_at dksX2_done_1 9 rfl rfl)
theorem dX2_done_34 : decode cX2_done 34 = .ok (.invokevirtual 177, 3) := dk_182 0 177 (dk_at dksX2_done_1 10 rfl rfl)
theorem dX2_done_37 : decode cX2_done 37 = .ok (.istore_n 2, 1) := dk_61 (dk_at dksX2_done_1 13 rfl rfl)
theorem dX2_done_38 : decode cX2_done 38 = .ok (.aload_n 0, 1) := dk_42 (dk_at dksX2_done_1 14 rfl rfl)
theorem dX2_done_39 : decode cX2_done 39 = .ok (.invokevirtual 25, 3) := dk_182 0 25 (dk_at dksX2_done_1 15 rfl rfl)
theorem dX2_done_42 : decode cX2_done 42 = .ok (.iload_n 1, 1) := dk_27 (dk_at dksX2_done_1 18 rfl rfl)
theorem dX2_done_43 : decode cX2_done 43 = .ok (.ifCond .le 28, 3) := dk_158 0 28 (dk_at dksX2_done_1 19 rfl rfl)
theorem dX2_done_46 : decode cX2_done 46 = .ok (.iload_n 1, 1) := dk_27 (dk_at dksX2_done_1 22 rfl rfl)
theorem dX2_done_47 : decode cX2_done 47 = .ok (.iconst 1, 1) := dk_4 (dk_at dksX2_done_1 23 rfl rfl)
theorem dX2_done_48 : decode cX2_done 48 = .ok (.if_icmp .ne 14, 3) := dk_160 0 14 (dk_at dksX2_done_2 0 rfl rfl)
theorem dX2_done_51 : decode cX2_done 51 = .ok (.new 246, 3) := dk_187 0 246 (dk_at dksX2_done_2 3 rfl rfl)
theorem dX2_done_54 : decode cX2_done 54 = .ok (.dup, 1) := dk_89 (dk_at dksX2_done_2 6 rfl rfl)
theorem dX2_done_55 : decode cX2_done 55 = .ok (.iload_n 2, 1) := dk_28 (dk_at dksX2_done_2 7 rfl rfl)
theorem dX2_done_56 : decode cX2_done 56 = .ok (.invokespecial 248, 3) := dk_183 0 248 (dk_at dksX2_done_2 8 rfl rfl)
theorem dX2_done_59 : decode cX2_done 59 = .ok (.goto 11, 3) := dk_167 0 11 (dk_at dksX2_done_2 11 rfl rfl)
theorem dX2_done_62 : decode cX2_done 62 = .ok (.new 249, 3) := dk_187 0 249 (dk_at dksX2_done_2 14 rfl rfl)
theorem dX2_done_65 : decode cX2_done 65 = .ok (.dup, 1) := dk_89 (dk_at dksX2_done_2 17 rfl rfl)
theorem dX2_done_66 : decode cX2_done 66 = .ok (.iload_n 2, 1) := dk_28 (dk_at dksX2_done_2 18 rfl rfl)
theorem dX2_done_67 : decode cX2_done 67 = .ok (.invokespecial 251, 3) := dk_183 0 251 (dk_at dksX2_done_2 19 rfl rfl)
theorem dX2_done_70 : decode cX2_done 70 = .ok (.areturn, 1) := dk_176 (dk_at dksX2_done_2 22 rfl rfl)
theorem dX2_done_71 : decode cX2_done 71 = .ok (.iconst 0, 1) := dk_3 (dk_at dksX2_done_2 23 rfl rfl)
theorem dX2_done_72 : decode cX2_done 72 = .ok (.istore_n 3, 1) := dk_62 (dk_at dksX2_done_3 0 rfl rfl)
theorem dX2_done_73 : decode cX2_done 73 = .ok (.aload_n 0, 1) := dk_42 (dk_at dksX2_done_3 1 rfl rfl)
theorem dX2_done_74 : decode cX2_done 74 = .ok (.iconst 0, 1) := dk_3 (dk_at dksX2_done_3 2 rfl rfl)
theorem dX2_done_75 : decode cX2_done 75 = .ok (.bipush 7, 2) := dk_16 7 (dk_at dksX2_done_3 3 rfl rfl)
theorem dX2_done_77 : decode cX2_done 77 = .ok (.invokevirtual 160, 3) := dk_182 0 160 (dk_at dksX2_done_3 5 rfl rfl)
theorem dX2_done_80 : decode cX2_done 80 = .ok (.istore 4, 2) := dk_54 4 (dk_at dksX2_done_3 8 rfl rfl)
theorem dX2_done_82 : decode cX2_done 82 = .ok (.iload_n 3, 1) := dk_29 (dk_at dksX2_done_3 10 rfl rfl)
theorem dX2_done_83 : decode cX2_done 83 = .ok (.iload 4, 2) := dk_21 4 (dk_at dksX2_done_3 11 rfl rfl)
theorem dX2_done_85 : decode cX2_done 85 = .ok (.invokestatic 182, 3) := dk_184 0 182 (dk_at dksX2_done_3 13 rfl rfl)
theorem dX2_done_88 : decode cX2_done 88 = .ok (.ifCond .eq 9, 3) := dk_153 0 9 (dk_at dksX2_done_3 16 rfl rfl)
theorem dX2_done_91 : decode cX2_done 91 = .ok (.aload_n 0, 1) := dk_42 (dk_at dksX2_done_3 19 rfl rfl)
theorem dX2_done_92 : decode cX2_done 92 = .ok (.iconst 3, 1) := dk_6 (dk_at dksX2_done_3 20 rfl rfl)
theorem dX2_done_93 : decode cX2_done 93 = .ok (.invokevirtual 75, 3) := dk_182 0 75 (dk_at dksX2_done_3 21 rfl rfl)
theorem dX2_done_96 : decode cX2_done 96 = .ok (.athrow, 1) := dk_191 (dk_at dksX2_done_4 0 rfl rfl)
theorem dX2_done_97 : decode cX2_done 97 = .ok (.iload_n 3, 1) := dk_29 (dk_at dksX2_done_4 1 rfl rfl)
theorem dX2_done_98 : decode cX2_done 98 = .ok (.invokestatic 252, 3) := dk_184 0 252 (dk_at dksX2_done_4 2 rfl rfl)
theorem dX2_done_101 : decode cX2_done 101 = .ok (.iconst 4, 1) := dk_7 (dk_at dksX2_done_4 5 rfl rfl)
theorem dX2_done_102 : decode cX2_done 102 = .ok (.if_icmp .ne 9, 3) := dk_160 0 9 (dk_at dksX2_done_4 6 rfl rfl)
theorem dX2_done_105 : decode cX2_done 105 = .ok (.aload_n 0, 1) := dk_42 (dk_at dksX2_done_4 9 rfl rfl)
theorem dX2_done_106 : decode cX2_done 106 = .ok (.iconst 5, 1) := dk_8 (dk_at dksX2_done_4 10 rfl rfl)
theorem dX2_done_107 : decode cX2_done 107 = .ok (.invokevirtual 75, 3) := dk_182 0 75 (dk_at dksX2_done_4 11 rfl rfl)
theorem dX2_done_110 : decode cX2_done 110 = .ok (.athrow, 1) := dk_191 (dk_at dksX2_done_4 14 rfl rfl)
theorem dX2_done_111 : decode cX2_done 111 = .ok (.aload_n 0, 1) := dk_42 (dk_at dksX2_done_4 15 rfl rfl)
theorem dX2_done_112 : decode cX2_done 112 = .ok (.invokevirtual 25, 3) := dk_182 0 25 (dk_at dksX2_done_4 16 rfl rfl)
theorem dX2_done_115 : decode cX2_done 115 = .ok (.iload_n 3, 1) := dk_29 (dk_at dksX2_done_4 19 rfl rfl)
theorem dX2_done_116 : decode cX2_done 116 = .ok (.iconst 1, 1) := dk_4 (dk_at dksX2_done_4 20 rfl rfl)
theorem dX2_done_117 : decode cX2_done 117 = .ok (.iload 4, 2) := dk_21 4 (dk_at dksX2_done_4 21 rfl rfl)
theorem dX2_done_119 : decode cX2_done 119 = .ok (.ishl, 1) := dk_120 (dk_at dksX2_done_4 23 rfl rfl)
theorem dX2_done_120 : decode cX2_done 120 = .ok (.ior, 1) := dk_128 (dk_at dksX2_done_5 0 rfl rfl)
theorem dX2_done_121 : decode cX2_done 121 = .ok (.istore_n 3, 1) := dk_62 (dk_at dksX2_done_5 1 rfl rfl)
theorem dX2_done_122 : decode cX2_done 122 = .ok (.aload_n 0, 1) := dk_42 (dk_at dksX2_done_5 2 rfl rfl)
theorem dX2_done_123 : decode cX2_done 123 = .ok (.bipush 59, 2) := dk_16 59 (dk_at dksX2_done_5 3 rfl rfl)
theorem dX2_done_125 : decode cX2_done 125 = .ok (.invokevirtual 79, 3) := dk_182 0 79 (dk_at dksX2_done_5 5 rfl rfl)
theorem dX2_done_128 : decode cX2_done 128 = .ok (.ifCond .eq (-55), 3) := dk_153 255 201 (dk_at dksX2_done_5 8 rfl rfl)
theorem dX2_done_131 : decode cX2_done 131 = .ok (.new 257, 3) := dk_187 1 1 (dk_at dksX2_done_5 11 rfl rfl)
theorem dX2_done_134 : decode cX2_done 134 = .ok (.dup, 1) := dk_89 (dk_at dksX2_done_5 14 rfl rfl)
theorem dX2_done_135 : decode cX2_done 135 = .ok (.iload_n 2, 1) := dk_28 (dk_at dksX2_done_5 15 rfl rfl)
theorem dX2_done_136 : decode cX2_done 136 = .ok (.iload_n 3, 1) := dk_29 (dk_at dksX2_done_5 16 rfl rfl)
theorem dX2_done_137 : decode cX2_done 137 = .ok (.invokespecial 259, 3) := dk_183 1 3 (dk_at dksX2_done_5 17 rfl rfl)
theorem dX2_done_140 : decode cX2_done 140 = .ok (.areturn, 1) := dk_176 (dk_at dksX2_done_5 20 rfl rfl)
theorem q134 : (Jvm.Cond.initialized "PegLaws$Reader") ∈ lw_all := lw_g (lw_at lw_m1 2 rfl) rfl
theorem q184 : (Jvm.Cond.instantiable "PegLaws$Reader" (8 : Nat)) ∈ lw_all := lw_g (lw_at lw_m1 52 rfl) rfl
theorem q186 : (Jvm.Cond.instanceMethod ({ cls := "PegLaws$Reader", name := "<init>", desc := "()V" } : Jvm.MethodName)) ∈ lw_all := lw_g (lw_at lw_m1 54 rfl) rfl
theorem q187 : (Jvm.Cond.code ({ cls := "PegLaws$Reader", name := "<init>", desc := "()V" } : Jvm.MethodName) prog_13_method_1_code (1 : Nat) (Option.none : Option Jvm.ClassFile.FieldType)) ∈ lw_all := lw_g (lw_at lw_m1 55 rfl) rfl
theorem q188 : (Jvm.Cond.methodLink "PegLaws$Reader" (3 : Nat) ({ cls := "java/lang/Object", name := "<init>", desc := "()V" } : Jvm.MethodName)) ∈ lw_all := lw_g (lw_at lw_m1 56 rfl) rfl
theorem q189 : (Jvm.Cond.fieldLink "PegLaws$Reader" (9 : Nat) "PegLaws$Reader" "text" "[B") ∈ lw_all := lw_g (lw_at lw_m1 57 rfl) rfl
theorem q190 : (Jvm.Cond.fieldLink "PegLaws$Reader" (15 : Nat) "PegLaws$Reader" "size" "I") ∈ lw_all := lw_g (lw_at lw_m1 58 rfl) rfl
theorem q191 : (Jvm.Cond.fieldLink "PegLaws$Reader" (19 : Nat) "PegLaws$Reader" "to" "I") ∈ lw_all := lw_g (lw_at lw_m1 59 rfl) rfl
theorem q192 : (Jvm.Cond.fieldLink "PegLaws$Reader" (31 : Nat) "PegLaws$Reader" "kind" "I") ∈ lw_all := lw_g (lw_at lw_m1 60 rfl) rfl
theorem q193 : (Jvm.Cond.fieldLink "PegLaws$Reader" (28 : Nat) "PegLaws$Reader" "from" "I") ∈ lw_all := lw_g (lw_at lw_m1 61 rfl) rfl
theorem q194 : (Jvm.Cond.fieldLink "PegLaws$Reader" (45 : Nat) "PegLaws$Reader" "value" "I") ∈ lw_all := lw_g (lw_at lw_m1 62 rfl) rfl
theorem q195 : (Jvm.Cond.fieldLink "PegLaws$Reader" (22 : Nat) "PegLaws$Reader" "within" "I") ∈ lw_all := lw_g (lw_at lw_m1 63 rfl) rfl
theorem q196 : (Jvm.Cond.fieldLink "PegLaws$Reader" (105 : Nat) "PegLaws$Reader" "rope" "LPegLaws$Rope;") ∈ lw_all := lw_g (lw_at lw_m1 64 rfl) rfl
theorem q197 : (Jvm.Cond.lays "PegLaws$Reader" "PegLaws$Reader" "text" "[B") ∈ lw_all := lw_g (lw_at lw_m1 65 rfl) rfl
theorem q198 : (Jvm.Cond.soleField "PegLaws$Reader" "text") ∈ lw_all := lw_g (lw_at lw_m1 66 rfl) rfl
theorem q199 : (Jvm.Cond.lays "PegLaws$Reader" "PegLaws$Reader" "size" "I") ∈ lw_all := lw_g (lw_at lw_m1 67 rfl) rfl
theorem q200 : (Jvm.Cond.soleField "PegLaws$Reader" "size") ∈ lw_all := lw_g (lw_at lw_m1 68 rfl) rfl
theorem q201 : (Jvm.Cond.lays "PegLaws$Reader" "PegLaws$Reader" "to" "I") ∈ lw_all := lw_g (lw_at lw_m1 69 rfl) rfl
theorem q202 : (Jvm.Cond.soleField "PegLaws$Reader" "to") ∈ lw_all := lw_g (lw_at lw_m1 70 rfl) rfl
theorem q203 : (Jvm.Cond.lays "PegLaws$Reader" "PegLaws$Reader" "kind" "I") ∈ lw_all := lw_g (lw_at lw_m1 71 rfl) rfl
theorem q204 : (Jvm.Cond.soleField "PegLaws$Reader" "kind") ∈ lw_all := lw_g (lw_at lw_m1 72 rfl) rfl
theorem q205 : (Jvm.Cond.lays "PegLaws$Reader" "PegLaws$Reader" "from" "I") ∈ lw_all := lw_g (lw_at lw_m1 73 rfl) rfl
theorem q206 : (Jvm.Cond.soleField "PegLaws$Reader" "from") ∈ lw_all := lw_g (lw_at lw_m1 74 rfl) rfl
theorem q207 : (Jvm.Cond.lays "PegLaws$Reader" "PegLaws$Reader" "value" "I") ∈ lw_all := lw_g (lw_at lw_m1 75 rfl) rfl
theorem q208 : (Jvm.Cond.soleField "PegLaws$Reader" "value") ∈ lw_all := lw_g (lw_at lw_m1 76 rfl) rfl
theorem q209 : (Jvm.Cond.lays "PegLaws$Reader" "PegLaws$Reader" "within" "I") ∈ lw_all := lw_g (lw_at lw_m1 77 rfl) rfl
theorem q210 : (Jvm.Cond.soleField "PegLaws$Reader" "within") ∈ lw_all := lw_g (lw_at lw_m1 78 rfl) rfl
theorem q211 : (Jvm.Cond.lays "PegLaws$Reader" "PegLaws$Reader" "rope" "LPegLaws$Rope;") ∈ lw_all := lw_g (lw_at lw_m1 79 rfl) rfl
theorem q212 : (Jvm.Cond.soleField "PegLaws$Reader" "rope") ∈ lw_all := lw_g (lw_at lw_m1 80 rfl) rfl
theorem q213 : (Jvm.Cond.superclass "PegLaws$Reader" "java/lang/Object") ∈ lw_all := lw_g (lw_at lw_m1 81 rfl) rfl
theorem q251 : (Jvm.Cond.fieldLinkNest "PegLaws$Reader" (146 : Nat) "PegLaws$Rope" "cloths" "Ljava/util/ArrayList;" "PegLaws") ∈ lw_tbl := lw_at lw_m1 119 rfl
theorem q254 : (Jvm.Cond.fieldLinkNest "PegLaws$Reader" (166 : Nat) "PegLaws$Rope" "grips" "[I" "PegLaws") ∈ lw_tbl := lw_at lw_m1 122 rfl
theorem q256 : (Jvm.Cond.fieldLinkNest "PegLaws$Reader" (174 : Nat) "PegLaws$Rope" "winds" "[I" "PegLaws") ∈ lw_tbl := lw_at lw_m1 124 rfl
theorem q258 : (Jvm.Cond.fieldLinkNest "PegLaws$Reader" (179 : Nat) "PegLaws$Rope" "clashes" "[I" "PegLaws") ∈ lw_tbl := lw_at lw_m1 126 rfl
theorem q261 : (Jvm.Cond.fieldLinkNest "PegLaws$Reader" (121 : Nat) "PegLaws$Rope" "pegs" "I" "PegLaws") ∈ lw_tbl := lw_at lw_m1 129 rfl
theorem q263 : (Jvm.Cond.fieldLinkNest "PegLaws$Reader" (124 : Nat) "PegLaws$Rope" "many" "I" "PegLaws") ∈ lw_tbl := lw_at lw_m1 131 rfl
theorem q265 : (Jvm.Cond.fieldLinkNest "PegLaws$Reader" (186 : Nat) "PegLaws$Rope" "pairs" "I" "PegLaws") ∈ lw_tbl := lw_at lw_m1 133 rfl
theorem q268 : (Jvm.Cond.fieldLinkNest "PegLaws$Reader" (127 : Nat) "PegLaws$Rope" "yards" "I" "PegLaws") ∈ lw_tbl := lw_at lw_m1 136 rfl
theorem q270 : (Jvm.Cond.fieldLinkNest "PegLaws$Reader" (130 : Nat) "PegLaws$Rope" "gusts" "I" "PegLaws") ∈ lw_tbl := lw_at lw_m1 138 rfl
theorem q271 : (Jvm.Cond.fieldLinkNest "PegLaws$Reader" (133 : Nat) "PegLaws$Rope" "pulls" "LPegLaws$Expression;" "PegLaws") ∈ lw_tbl := lw_at lw_m1 139 rfl
theorem q273 : (Jvm.Cond.fieldLinkNest "PegLaws$Reader" (137 : Nat) "PegLaws$Rope" "dries" "LPegLaws$Expression;" "PegLaws") ∈ lw_tbl := lw_at lw_m1 141 rfl
theorem q436 : (Jvm.Cond.instanceMethod ({ cls := "PegLaws$Reader", name := "begin", desc := "([BI)V" } : Jvm.MethodName)) ∈ lw_all := lw_g (lw_at lw_m2 64 rfl) rfl
theorem q437 : (Jvm.Cond.selects "PegLaws$Reader" ({ cls := "PegLaws$Reader", name := "begin", desc := "([BI)V" } : Jvm.MethodName) ({ cls := "PegLaws$Reader", name := "begin", desc := "([BI)V" } : Jvm.MethodName)) ∈ lw_all := lw_g (lw_at lw_m2 65 rfl) rfl
theorem q438 : (Jvm.Cond.code ({ cls := "PegLaws$Reader", name := "begin", desc := "([BI)V" } : Jvm.MethodName) prog_13_method_2_code (3 : Nat) (Option.none : Option Jvm.ClassFile.FieldType)) ∈ lw_all := lw_g (lw_at lw_m2 66 rfl) rfl
theorem q439 : (Jvm.Cond.methodLink "PegLaws$Reader" (25 : Nat) ({ cls := "PegLaws$Reader", name := "next", desc := "()V" } : Jvm.MethodName)) ∈ lw_all := lw_g (lw_at lw_m2 67 rfl) rfl
theorem q440 : (Jvm.Cond.privateMethod ({ cls := "PegLaws$Reader", name := "next", desc := "()V" } : Jvm.MethodName)) ∈ lw_tbl := lw_at lw_m2 68 rfl
theorem q441 : (Jvm.Cond.instanceMethod ({ cls := "PegLaws$Reader", name := "next", desc := "()V" } : Jvm.MethodName)) ∈ lw_all := lw_g (lw_at lw_m2 69 rfl) rfl
theorem q442 : (Jvm.Cond.code ({ cls := "PegLaws$Reader", name := "next", desc := "()V" } : Jvm.MethodName) prog_13_method_6_code (1 : Nat) (Option.none : Option Jvm.ClassFile.FieldType)) ∈ lw_all := lw_g (lw_at lw_m2 70 rfl) rfl
theorem q443 : (Jvm.Cond.methodLink "PegLaws$Reader" (34 : Nat) ({ cls := "PegLaws$Reader", name := "at", desc := "(I)I" } : Jvm.MethodName)) ∈ lw_all := lw_g (lw_at lw_m2 71 rfl) rfl
theorem q444 : (Jvm.Cond.privateMethod ({ cls := "PegLaws$Reader", name := "at", desc := "(I)I" } : Jvm.MethodName)) ∈ lw_tbl := lw_at lw_m2 72 rfl
theorem q445 : (Jvm.Cond.instanceMethod ({ cls := "PegLaws$Reader", name := "at", desc := "(I)I" } : Jvm.MethodName)) ∈ lw_all := lw_g (lw_at lw_m2 73 rfl) rfl
theorem q446 : (Jvm.Cond.code ({ cls := "PegLaws$Reader", name := "at", desc := "(I)I" } : Jvm.MethodName) prog_13_method_3_code (2 : Nat) (Option.some Jvm.ClassFile.FieldType.int)) ∈ lw_all := lw_g (lw_at lw_m2 74 rfl) rfl
theorem q447 : (Jvm.Cond.methodLink "PegLaws$Reader" (38 : Nat) ({ cls := "PegLaws$Reader", name := "isLetter", desc := "(I)Z" } : Jvm.MethodName)) ∈ lw_all := lw_g (lw_at lw_m2 75 rfl) rfl
theorem q448 : (Jvm.Cond.static ({ cls := "PegLaws$Reader", name := "isLetter", desc := "(I)Z" } : Jvm.MethodName)) ∈ lw_all := lw_g (lw_at lw_m2 76 rfl) rfl
theorem q449 : (Jvm.Cond.code ({ cls := "PegLaws$Reader", name := "isLetter", desc := "(I)Z" } : Jvm.MethodName) prog_13_method_4_code (1 : Nat) (Option.some Jvm.ClassFile.FieldType.boolean)) ∈ lw_all := lw_g (lw_at lw_m2 77 rfl) rfl
theorem q450 : (Jvm.Cond.methodLink "PegLaws$Reader" (42 : Nat) ({ cls := "PegLaws$Reader", name := "isDigit", desc := "(I)Z" } : Jvm.MethodName)) ∈ lw_all := lw_g (lw_at lw_m2 78 rfl) rfl
theorem q451 : (Jvm.Cond.static ({ cls := "PegLaws$Reader", name := "isDigit", desc := "(I)Z" } : Jvm.MethodName)) ∈ lw_all := lw_g (lw_at lw_m2 79 rfl) rfl
theorem q452 : (Jvm.Cond.code ({ cls := "PegLaws$Reader", name := "isDigit", desc := "(I)Z" } : Jvm.MethodName) prog_13_method_5_code (1 : Nat) (Option.some Jvm.ClassFile.FieldType.boolean)) ∈ lw_all := lw_g (lw_at lw_m2 80 rfl) rfl
theorem q453 : (Jvm.Cond.stringRef "PegLaws$Reader" (48 : Nat) "()<=+-*;") ∈ lw_tbl := lw_at lw_m2 81 rfl
theorem q454 : (Jvm.Cond.methodLink "PegLaws$Reader" (50 : Nat) ({ cls := "java/lang/String", name := "indexOf", desc := "(I)I" } : Jvm.MethodName)) ∈ lw_all := lw_g (lw_at lw_m2 82 rfl) rfl
theorem q541 : (Jvm.Cond.instanceMethod ({ cls := "PegLaws$Reader", name := "line", desc := "()LPegLaws$Rope;" } : Jvm.MethodName)) ∈ lw_all := lw_g (lw_at lw_m2 169 rfl) rfl
theorem q542 : (Jvm.Cond.selects "PegLaws$Reader" ({ cls := "PegLaws$Reader", name := "line", desc := "()LPegLaws$Rope;" } : Jvm.MethodName) ({ cls := "PegLaws$Reader", name := "line", desc := "()LPegLaws$Rope;" } : Jvm.MethodName)) ∈ lw_all := lw_g (lw_at lw_m2 170 rfl) rfl
theorem q543 : (Jvm.Cond.code ({ cls := "PegLaws$Reader", name := "line", desc := "()LPegLaws$Rope;" } : Jvm.MethodName) prog_13_method_19_code (2 : Nat) (Option.some (Jvm.ClassFile.FieldType.object "PegLaws$Rope"))) ∈ lw_all := lw_g (lw_at lw_m2 171 rfl) rfl
theorem q544 : (Jvm.Cond.classLink "PegLaws$Reader" (113 : Nat) "PegLaws$Rope") ∈ lw_all := lw_g (lw_at lw_m2 172 rfl) rfl
theorem q545 : (Jvm.Cond.methodLinkNest "PegLaws$Reader" (140 : Nat) ({ cls := "PegLaws$Rope", name := "<init>", desc := "()V" } : Jvm.MethodName) "PegLaws") ∈ lw_tbl := lw_at lw_m2 173 rfl
theorem q546 : (Jvm.Cond.stringRef "PegLaws$Reader" (141 : Nat) "cloth pegs winds yards gusts clash pulls dries ") ∈ lw_tbl := lw_at lw_m2 174 rfl
theorem q547 : (Jvm.Cond.methodLink "PegLaws$Reader" (71 : Nat) ({ cls := "PegLaws$Reader", name := "which", desc := "(Ljava/lang/String;)I" } : Jvm.MethodName)) ∈ lw_all := lw_g (lw_at lw_m2 175 rfl) rfl
theorem q548 : (Jvm.Cond.privateMethod ({ cls := "PegLaws$Reader", name := "which", desc := "(Ljava/lang/String;)I" } : Jvm.MethodName)) ∈ lw_tbl := lw_at lw_m2 176 rfl
theorem q549 : (Jvm.Cond.instanceMethod ({ cls := "PegLaws$Reader", name := "which", desc := "(Ljava/lang/String;)I" } : Jvm.MethodName)) ∈ lw_all := lw_g (lw_at lw_m2 177 rfl) rfl
theorem q550 : (Jvm.Cond.code ({ cls := "PegLaws$Reader", name := "which", desc := "(Ljava/lang/String;)I" } : Jvm.MethodName) prog_13_method_8_code (7 : Nat) (Option.some Jvm.ClassFile.FieldType.int)) ∈ lw_all := lw_g (lw_at lw_m2 178 rfl) rfl
theorem q551 : (Jvm.Cond.methodLink "PegLaws$Reader" (60 : Nat) ({ cls := "java/lang/String", name := "length", desc := "()I" } : Jvm.MethodName)) ∈ lw_all := lw_g (lw_at lw_m2 179 rfl) rfl
theorem q552 : (Jvm.Cond.methodLink "PegLaws$Reader" (64 : Nat) ({ cls := "java/lang/String", name := "indexOf", desc := "(II)I" } : Jvm.MethodName)) ∈ lw_all := lw_g (lw_at lw_m2 180 rfl) rfl
theorem q553 : (Jvm.Cond.methodLink "PegLaws$Reader" (67 : Nat) ({ cls := "java/lang/String", name := "charAt", desc := "(I)C" } : Jvm.MethodName)) ∈ lw_all := lw_g (lw_at lw_m2 181 rfl) rfl
theorem q573 : (Jvm.Cond.methodLink "PegLaws$Reader" (75 : Nat) ({ cls := "PegLaws$Reader", name := "wrong", desc := "(I)LPegLaws$Wrong;" } : Jvm.MethodName)) ∈ lw_all := lw_g (lw_at lw_m2 201 rfl) rfl
theorem q574 : (Jvm.Cond.privateMethod ({ cls := "PegLaws$Reader", name := "wrong", desc := "(I)LPegLaws$Wrong;" } : Jvm.MethodName)) ∈ lw_tbl := lw_at lw_m2 202 rfl
theorem q575 : (Jvm.Cond.instanceMethod ({ cls := "PegLaws$Reader", name := "wrong", desc := "(I)LPegLaws$Wrong;" } : Jvm.MethodName)) ∈ lw_all := lw_g (lw_at lw_m2 203 rfl) rfl
theorem q576 : (Jvm.Cond.code ({ cls := "PegLaws$Reader", name := "wrong", desc := "(I)LPegLaws$Wrong;" } : Jvm.MethodName) prog_13_method_7_code (2 : Nat) (Option.some (Jvm.ClassFile.FieldType.object "PegLaws$Wrong"))) ∈ lw_all := lw_g (lw_at lw_m2 204 rfl) rfl
theorem q577 : (Jvm.Cond.classLink "PegLaws$Reader" (55 : Nat) "PegLaws$Wrong") ∈ lw_all := lw_g (lw_at lw_m2 205 rfl) rfl
theorem q617 : (Jvm.Cond.methodLink "PegLaws$Reader" (57 : Nat) ({ cls := "PegLaws$Wrong", name := "<init>", desc := "(II)V" } : Jvm.MethodName)) ∈ lw_all := lw_g (lw_at lw_m3 5 rfl) rfl
theorem q646 : (Jvm.Cond.methodLink "PegLaws$Reader" (143 : Nat) ({ cls := "PegLaws$Reader", name := "isTold", desc := "(I)Z" } : Jvm.MethodName)) ∈ lw_all := lw_g (lw_at lw_m3 34 rfl) rfl
theorem q647 : (Jvm.Cond.privateMethod ({ cls := "PegLaws$Reader", name := "isTold", desc := "(I)Z" } : Jvm.MethodName)) ∈ lw_tbl := lw_at lw_m3 35 rfl
theorem q648 : (Jvm.Cond.instanceMethod ({ cls := "PegLaws$Reader", name := "isTold", desc := "(I)Z" } : Jvm.MethodName)) ∈ lw_all := lw_g (lw_at lw_m3 36 rfl) rfl
theorem q649 : (Jvm.Cond.code ({ cls := "PegLaws$Reader", name := "isTold", desc := "(I)Z" } : Jvm.MethodName) prog_13_method_18_code (2 : Nat) (Option.some Jvm.ClassFile.FieldType.boolean)) ∈ lw_all := lw_g (lw_at lw_m3 37 rfl) rfl
theorem q650 : (Jvm.Cond.methodLink "PegLaws$Reader" (150 : Nat) ({ cls := "java/util/ArrayList", name := "size", desc := "()I" } : Jvm.MethodName)) ∈ lw_all := lw_g (lw_at lw_m3 38 rfl) rfl
theorem q654 : (Jvm.Cond.methodLink "PegLaws$Reader" (154 : Nat) ({ cls := "PegLaws$Reader", name := "told", desc := "(I)V" } : Jvm.MethodName)) ∈ lw_all := lw_g (lw_at lw_m3 42 rfl) rfl
theorem q655 : (Jvm.Cond.privateMethod ({ cls := "PegLaws$Reader", name := "told", desc := "(I)V" } : Jvm.MethodName)) ∈ lw_tbl := lw_at lw_m3 43 rfl
theorem q656 : (Jvm.Cond.instanceMethod ({ cls := "PegLaws$Reader", name := "told", desc := "(I)V" } : Jvm.MethodName)) ∈ lw_all := lw_g (lw_at lw_m3 44 rfl) rfl
theorem q657 : (Jvm.Cond.code ({ cls := "PegLaws$Reader", name := "told", desc := "(I)V" } : Jvm.MethodName) prog_13_method_21_code (4 : Nat) (Option.none : Option Jvm.ClassFile.FieldType)) ∈ lw_all := lw_g (lw_at lw_m3 45 rfl) rfl
theorem q658 : (Jvm.Cond.methodLink "PegLaws$Reader" (163 : Nat) ({ cls := "PegLaws$Reader", name := "comes", desc := "()V" } : Jvm.MethodName)) ∈ lw_all := lw_g (lw_at lw_m3 46 rfl) rfl
theorem q659 : (Jvm.Cond.privateMethod ({ cls := "PegLaws$Reader", name := "comes", desc := "()V" } : Jvm.MethodName)) ∈ lw_tbl := lw_at lw_m3 47 rfl
theorem q660 : (Jvm.Cond.instanceMethod ({ cls := "PegLaws$Reader", name := "comes", desc := "()V" } : Jvm.MethodName)) ∈ lw_all := lw_g (lw_at lw_m3 48 rfl) rfl
theorem q661 : (Jvm.Cond.code ({ cls := "PegLaws$Reader", name := "comes", desc := "()V" } : Jvm.MethodName) prog_13_method_22_code (4 : Nat) (Option.none : Option Jvm.ClassFile.FieldType)) ∈ lw_all := lw_g (lw_at lw_m3 49 rfl) rfl
theorem q662 : (Jvm.Cond.methodLink "PegLaws$Reader" (109 : Nat) ({ cls := "PegLaws$Reader", name := "name", desc := "()Ljava/lang/String;" } : Jvm.MethodName)) ∈ lw_all := lw_g (lw_at lw_m3 50 rfl) rfl
theorem q663 : (Jvm.Cond.privateMethod ({ cls := "PegLaws$Reader", name := "name", desc := "()Ljava/lang/String;" } : Jvm.MethodName)) ∈ lw_tbl := lw_at lw_m3 51 rfl
theorem q664 : (Jvm.Cond.instanceMethod ({ cls := "PegLaws$Reader", name := "name", desc := "()Ljava/lang/String;" } : Jvm.MethodName)) ∈ lw_all := lw_g (lw_at lw_m3 52 rfl) rfl
theorem q665 : (Jvm.Cond.code ({ cls := "PegLaws$Reader", name := "name", desc := "()Ljava/lang/String;" } : Jvm.MethodName) prog_13_method_13_code (3 : Nat) (Option.some (Jvm.ClassFile.FieldType.object "java/lang/String"))) ∈ lw_all := lw_g (lw_at lw_m3 53 rfl) rfl
theorem q666 : (Jvm.Cond.stringRef "PegLaws$Reader" (83 : Nat) "cloth wide weight worth pegs winds yards gusts clash pulls dries hang take wash buy hour plain sheet flag wool not and or ") ∈ lw_tbl := lw_at lw_m3 54 rfl
theorem q667 : (Jvm.Cond.classLink "PegLaws$Reader" (85 : Nat) "java/lang/StringBuilder") ∈ lw_all := lw_g (lw_at lw_m3 55 rfl) rfl
theorem q669 : (Jvm.Cond.methodLink "PegLaws$Reader" (87 : Nat) ({ cls := "java/lang/StringBuilder", name := "<init>", desc := "(I)V" } : Jvm.MethodName)) ∈ lw_all := lw_g (lw_at lw_m3 57 rfl) rfl
theorem q697 : (Jvm.Cond.methodLink "PegLaws$Reader" (90 : Nat) ({ cls := "java/lang/StringBuilder", name := "append", desc := "(C)Ljava/lang/StringBuilder;" } : Jvm.MethodName)) ∈ lw_all := lw_g (lw_at lw_m3 85 rfl) rfl
theorem q768 : (Jvm.Cond.methodLink "PegLaws$Reader" (94 : Nat) ({ cls := "java/lang/StringBuilder", name := "toString", desc := "()Ljava/lang/String;" } : Jvm.MethodName)) ∈ lw_all := lw_g (lw_at lw_m3 156 rfl) rfl
theorem q825 : (Jvm.Cond.methodLink "PegLaws$Reader" (112 : Nat) ({ cls := "PegLaws$Rope", name := "cloth", desc := "(Ljava/lang/String;)I" } : Jvm.MethodName)) ∈ lw_all := lw_g (lw_at lw_m3 213 rfl) rfl
theorem q851 : (Jvm.Cond.stringRef "PegLaws$Reader" (193 : Nat) "plain sheet flag wool ") ∈ lw_tbl := lw_at lw_m3 239 rfl
theorem q852 : (Jvm.Cond.methodLink "PegLaws$Reader" (195 : Nat) ({ cls := "PegLaws$Reader", name := "one", desc := "(Ljava/lang/String;)I" } : Jvm.MethodName)) ∈ lw_all := lw_g (lw_at lw_m4 0 rfl) rfl
theorem q853 : (Jvm.Cond.privateMethod ({ cls := "PegLaws$Reader", name := "one", desc := "(Ljava/lang/String;)I" } : Jvm.MethodName)) ∈ lw_tbl := lw_at lw_m4 1 rfl
theorem q854 : (Jvm.Cond.instanceMethod ({ cls := "PegLaws$Reader", name := "one", desc := "(Ljava/lang/String;)I" } : Jvm.MethodName)) ∈ lw_all := lw_g (lw_at lw_m4 2 rfl) rfl
theorem q855 : (Jvm.Cond.code ({ cls := "PegLaws$Reader", name := "one", desc := "(Ljava/lang/String;)I" } : Jvm.MethodName) prog_13_method_15_code (3 : Nat) (Option.some Jvm.ClassFile.FieldType.int)) ∈ lw_all := lw_g (lw_at lw_m4 3 rfl) rfl
theorem q856 : (Jvm.Cond.classLink "PegLaws$Reader" (198 : Nat) "PegLaws$Cloth") ∈ lw_all := lw_g (lw_at lw_m4 4 rfl) rfl
theorem q858 : (Jvm.Cond.methodLink "PegLaws$Reader" (200 : Nat) ({ cls := "PegLaws$Cloth", name := "<init>", desc := "(Ljava/lang/String;)V" } : Jvm.MethodName)) ∈ lw_all := lw_g (lw_at lw_m4 6 rfl) rfl
theorem q865 : (Jvm.Cond.fieldLink "PegLaws$Reader" (216 : Nat) "PegLaws$Cloth" "wide" "I") ∈ lw_all := lw_g (lw_at lw_m4 13 rfl) rfl
theorem q869 : (Jvm.Cond.fieldLink "PegLaws$Reader" (221 : Nat) "PegLaws$Cloth" "weight" "I") ∈ lw_all := lw_g (lw_at lw_m4 17 rfl) rfl
theorem q871 : (Jvm.Cond.fieldLink "PegLaws$Reader" (226 : Nat) "PegLaws$Cloth" "worth" "I") ∈ lw_all := lw_g (lw_at lw_m4 19 rfl) rfl
theorem q881 : (Jvm.Cond.classLink "PegLaws$Reader" (202 : Nat) "PegLaws$Sheet") ∈ lw_all := lw_g (lw_at lw_m4 29 rfl) rfl
theorem q883 : (Jvm.Cond.methodLink "PegLaws$Reader" (204 : Nat) ({ cls := "PegLaws$Sheet", name := "<init>", desc := "(Ljava/lang/String;)V" } : Jvm.MethodName)) ∈ lw_all := lw_g (lw_at lw_m4 31 rfl) rfl
theorem q892 : (Jvm.Cond.classLink "PegLaws$Reader" (205 : Nat) "PegLaws$Flag") ∈ lw_all := lw_g (lw_at lw_m4 40 rfl) rfl
theorem q894 : (Jvm.Cond.methodLink "PegLaws$Reader" (207 : Nat) ({ cls := "PegLaws$Flag", name := "<init>", desc := "(Ljava/lang/String;)V" } : Jvm.MethodName)) ∈ lw_all := lw_g (lw_at lw_m4 42 rfl) rfl
theorem q903 : (Jvm.Cond.classLink "PegLaws$Reader" (208 : Nat) "PegLaws$Wool") ∈ lw_all := lw_g (lw_at lw_m4 51 rfl) rfl
theorem q905 : (Jvm.Cond.methodLink "PegLaws$Reader" (210 : Nat) ({ cls := "PegLaws$Wool", name := "<init>", desc := "(Ljava/lang/String;)V" } : Jvm.MethodName)) ∈ lw_all := lw_g (lw_at lw_m4 53 rfl) rfl
theorem q914 : (Jvm.Cond.stringRef "PegLaws$Reader" (211 : Nat) "wide ") ∈ lw_tbl := lw_at lw_m4 62 rfl
theorem q915 : (Jvm.Cond.methodLink "PegLaws$Reader" (213 : Nat) ({ cls := "PegLaws$Reader", name := "number", desc := "(Ljava/lang/String;II)I" } : Jvm.MethodName)) ∈ lw_all := lw_g (lw_at lw_m4 63 rfl) rfl
theorem q916 : (Jvm.Cond.privateMethod ({ cls := "PegLaws$Reader", name := "number", desc := "(Ljava/lang/String;II)I" } : Jvm.MethodName)) ∈ lw_tbl := lw_at lw_m4 64 rfl
theorem q917 : (Jvm.Cond.instanceMethod ({ cls := "PegLaws$Reader", name := "number", desc := "(Ljava/lang/String;II)I" } : Jvm.MethodName)) ∈ lw_all := lw_g (lw_at lw_m4 65 rfl) rfl
theorem q918 : (Jvm.Cond.code ({ cls := "PegLaws$Reader", name := "number", desc := "(Ljava/lang/String;II)I" } : Jvm.MethodName) prog_13_method_14_code (4 : Nat) (Option.some Jvm.ClassFile.FieldType.int)) ∈ lw_all := lw_g (lw_at lw_m4 66 rfl) rfl
theorem q919 : (Jvm.Cond.methodLink "PegLaws$Reader" (98 : Nat) ({ cls := "PegLaws$Reader", name := "need", desc := "(Ljava/lang/String;)V" } : Jvm.MethodName)) ∈ lw_all := lw_g (lw_at lw_m4 67 rfl) rfl
theorem q920 : (Jvm.Cond.privateMethod ({ cls := "PegLaws$Reader", name := "need", desc := "(Ljava/lang/String;)V" } : Jvm.MethodName)) ∈ lw_tbl := lw_at lw_m4 68 rfl
theorem q921 : (Jvm.Cond.instanceMethod ({ cls := "PegLaws$Reader", name := "need", desc := "(Ljava/lang/String;)V" } : Jvm.MethodName)) ∈ lw_all := lw_g (lw_at lw_m4 69 rfl) rfl
theorem q922 : (Jvm.Cond.code ({ cls := "PegLaws$Reader", name := "need", desc := "(Ljava/lang/String;)V" } : Jvm.MethodName) prog_13_method_9_code (2 : Nat) (Option.none : Option Jvm.ClassFile.FieldType)) ∈ lw_all := lw_g (lw_at lw_m4 70 rfl) rfl
theorem q923 : (Jvm.Cond.methodLink "PegLaws$Reader" (102 : Nat) ({ cls := "PegLaws$Reader", name := "number", desc := "(II)I" } : Jvm.MethodName)) ∈ lw_all := lw_g (lw_at lw_m4 71 rfl) rfl
theorem q924 : (Jvm.Cond.privateMethod ({ cls := "PegLaws$Reader", name := "number", desc := "(II)I" } : Jvm.MethodName)) ∈ lw_tbl := lw_at lw_m4 72 rfl
theorem q925 : (Jvm.Cond.instanceMethod ({ cls := "PegLaws$Reader", name := "number", desc := "(II)I" } : Jvm.MethodName)) ∈ lw_all := lw_g (lw_at lw_m4 73 rfl) rfl
theorem q926 : (Jvm.Cond.code ({ cls := "PegLaws$Reader", name := "number", desc := "(II)I" } : Jvm.MethodName) prog_13_method_12_code (4 : Nat) (Option.some Jvm.ClassFile.FieldType.int)) ∈ lw_all := lw_g (lw_at lw_m4 74 rfl) rfl
theorem q927 : (Jvm.Cond.stringRef "PegLaws$Reader" (219 : Nat) "weight ") ∈ lw_tbl := lw_at lw_m4 75 rfl
theorem q928 : (Jvm.Cond.stringRef "PegLaws$Reader" (224 : Nat) "worth ") ∈ lw_tbl := lw_at lw_m4 76 rfl
theorem q929 : (Jvm.Cond.methodLink "PegLaws$Reader" (229 : Nat) ({ cls := "java/util/ArrayList", name := "add", desc := "(Ljava/lang/Object;)Z" } : Jvm.MethodName)) ∈ lw_all := lw_g (lw_at lw_m4 77 rfl) rfl
theorem q964 : (Jvm.Cond.selects "PegLaws$Reader" ({ cls := "java/lang/Object", name := "getClass", desc := "()Ljava/lang/Class;" } : Jvm.MethodName) ({ cls := "java/lang/Object", name := "getClass", desc := "()Ljava/lang/Class;" } : Jvm.MethodName)) ∈ lw_all := lw_g (lw_at lw_m4 112 rfl) rfl
theorem q985 : (Jvm.Cond.methodLink "PegLaws$Reader" (170 : Nat) ({ cls := "PegLaws$Reader", name := "row", desc := "([III)I" } : Jvm.MethodName)) ∈ lw_all := lw_g (lw_at lw_m4 133 rfl) rfl
theorem q986 : (Jvm.Cond.privateMethod ({ cls := "PegLaws$Reader", name := "row", desc := "([III)I" } : Jvm.MethodName)) ∈ lw_tbl := lw_at lw_m4 134 rfl
theorem q987 : (Jvm.Cond.instanceMethod ({ cls := "PegLaws$Reader", name := "row", desc := "([III)I" } : Jvm.MethodName)) ∈ lw_all := lw_g (lw_at lw_m4 135 rfl) rfl
theorem q988 : (Jvm.Cond.code ({ cls := "PegLaws$Reader", name := "row", desc := "([III)I" } : Jvm.MethodName) prog_13_method_20_code (6 : Nat) (Option.some Jvm.ClassFile.FieldType.int)) ∈ lw_all := lw_g (lw_at lw_m4 136 rfl) rfl
theorem q989 : (Jvm.Cond.methodLink "PegLaws$Reader" (160 : Nat) ({ cls := "PegLaws$Reader", name := "ahead", desc := "(II)I" } : Jvm.MethodName)) ∈ lw_all := lw_g (lw_at lw_m4 137 rfl) rfl
theorem q990 : (Jvm.Cond.privateMethod ({ cls := "PegLaws$Reader", name := "ahead", desc := "(II)I" } : Jvm.MethodName)) ∈ lw_tbl := lw_at lw_m4 138 rfl
theorem q991 : (Jvm.Cond.instanceMethod ({ cls := "PegLaws$Reader", name := "ahead", desc := "(II)I" } : Jvm.MethodName)) ∈ lw_all := lw_g (lw_at lw_m4 139 rfl) rfl
theorem q992 : (Jvm.Cond.code ({ cls := "PegLaws$Reader", name := "ahead", desc := "(II)I" } : Jvm.MethodName) prog_13_method_17_code (5 : Nat) (Option.some Jvm.ClassFile.FieldType.int)) ∈ lw_all := lw_g (lw_at lw_m4 140 rfl) rfl
theorem q993 : (Jvm.Cond.methodLinkNest "PegLaws$Reader" (117 : Nat) ({ cls := "PegLaws", name := "in", desc := "(III)Z" } : Jvm.MethodName) "PegLaws") ∈ lw_tbl := lw_at lw_m4 141 rfl
theorem q996 : (Jvm.Cond.methodLink "PegLaws$Reader" (79 : Nat) ({ cls := "PegLaws$Reader", name := "isSign", desc := "(C)Z" } : Jvm.MethodName)) ∈ lw_all := lw_g (lw_at lw_m4 144 rfl) rfl
theorem q997 : (Jvm.Cond.privateMethod ({ cls := "PegLaws$Reader", name := "isSign", desc := "(C)Z" } : Jvm.MethodName)) ∈ lw_tbl := lw_at lw_m4 145 rfl
theorem q998 : (Jvm.Cond.instanceMethod ({ cls := "PegLaws$Reader", name := "isSign", desc := "(C)Z" } : Jvm.MethodName)) ∈ lw_all := lw_g (lw_at lw_m4 146 rfl) rfl
theorem q999 : (Jvm.Cond.code ({ cls := "PegLaws$Reader", name := "isSign", desc := "(C)Z" } : Jvm.MethodName) prog_13_method_10_code (2 : Nat) (Option.some Jvm.ClassFile.FieldType.boolean)) ∈ lw_all := lw_g (lw_at lw_m4 147 rfl) rfl
theorem q1000 : (Jvm.Cond.methodLink "PegLaws$Reader" (177 : Nat) ({ cls := "PegLaws$Reader", name := "cloth", desc := "()I" } : Jvm.MethodName)) ∈ lw_all := lw_g (lw_at lw_m4 148 rfl) rfl
theorem q1001 : (Jvm.Cond.privateMethod ({ cls := "PegLaws$Reader", name := "cloth", desc := "()I" } : Jvm.MethodName)) ∈ lw_tbl := lw_at lw_m4 149 rfl
theorem q1002 : (Jvm.Cond.instanceMethod ({ cls := "PegLaws$Reader", name := "cloth", desc := "()I" } : Jvm.MethodName)) ∈ lw_all := lw_g (lw_at lw_m4 150 rfl) rfl
theorem q1003 : (Jvm.Cond.code ({ cls := "PegLaws$Reader", name := "cloth", desc := "()I" } : Jvm.MethodName) prog_13_method_16_code (2 : Nat) (Option.some Jvm.ClassFile.FieldType.int)) ∈ lw_all := lw_g (lw_at lw_m4 151 rfl) rfl
theorem q1004 : (Jvm.Cond.methodLinkNest "PegLaws$Reader" (182 : Nat) ({ cls := "PegLaws", name := "isIn", desc := "(II)Z" } : Jvm.MethodName) "PegLaws") ∈ lw_tbl := lw_at lw_m4 152 rfl
theorem q1007 : (Jvm.Cond.methodLink "PegLaws$Reader" (189 : Nat) ({ cls := "PegLaws$Reader", name := "expression", desc := "()LPegLaws$Expression;" } : Jvm.MethodName)) ∈ lw_all := lw_g (lw_at lw_m4 155 rfl) rfl
theorem q1008 : (Jvm.Cond.privateMethod ({ cls := "PegLaws$Reader", name := "expression", desc := "()LPegLaws$Expression;" } : Jvm.MethodName)) ∈ lw_tbl := lw_at lw_m4 156 rfl
theorem q1009 : (Jvm.Cond.instanceMethod ({ cls := "PegLaws$Reader", name := "expression", desc := "()LPegLaws$Expression;" } : Jvm.MethodName)) ∈ lw_all := lw_g (lw_at lw_m4 157 rfl) rfl
theorem q1010 : (Jvm.Cond.code ({ cls := "PegLaws$Reader", name := "expression", desc := "()LPegLaws$Expression;" } : Jvm.MethodName) prog_13_method_25_code (3 : Nat) (Option.some (Jvm.ClassFile.FieldType.object "PegLaws$Expression"))) ∈ lw_all := lw_g (lw_at lw_m4 158 rfl) rfl
theorem q1011 : (Jvm.Cond.methodLink "PegLaws$Reader" (260 : Nat) ({ cls := "PegLaws$Reader", name := "test", desc := "()LPegLaws$Expression;" } : Jvm.MethodName)) ∈ lw_all := lw_g (lw_at lw_m4 159 rfl) rfl
theorem q1012 : (Jvm.Cond.privateMethod ({ cls := "PegLaws$Reader", name := "test", desc := "()LPegLaws$Expression;" } : Jvm.MethodName)) ∈ lw_tbl := lw_at lw_m4 160 rfl
theorem q1013 : (Jvm.Cond.instanceMethod ({ cls := "PegLaws$Reader", name := "test", desc := "()LPegLaws$Expression;" } : Jvm.MethodName)) ∈ lw_all := lw_g (lw_at lw_m4 161 rfl) rfl
theorem q1014 : (Jvm.Cond.code ({ cls := "PegLaws$Reader", name := "test", desc := "()LPegLaws$Expression;" } : Jvm.MethodName) prog_13_method_26_code (3 : Nat) (Option.some (Jvm.ClassFile.FieldType.object "PegLaws$Expression"))) ∈ lw_all := lw_g (lw_at lw_m4 162 rfl) rfl
theorem q1015 : (Jvm.Cond.methodLink "PegLaws$Reader" (270 : Nat) ({ cls := "PegLaws$Reader", name := "sum", desc := "()LPegLaws$Expression;" } : Jvm.MethodName)) ∈ lw_all := lw_g (lw_at lw_m4 163 rfl) rfl
theorem q1016 : (Jvm.Cond.privateMethod ({ cls := "PegLaws$Reader", name := "sum", desc := "()LPegLaws$Expression;" } : Jvm.MethodName)) ∈ lw_tbl := lw_at lw_m4 164 rfl
theorem q1017 : (Jvm.Cond.instanceMethod ({ cls := "PegLaws$Reader", name := "sum", desc := "()LPegLaws$Expression;" } : Jvm.MethodName)) ∈ lw_all := lw_g (lw_at lw_m4 165 rfl) rfl
theorem q1018 : (Jvm.Cond.code ({ cls := "PegLaws$Reader", name := "sum", desc := "()LPegLaws$Expression;" } : Jvm.MethodName) prog_13_method_27_code (3 : Nat) (Option.some (Jvm.ClassFile.FieldType.object "PegLaws$Expression"))) ∈ lw_all := lw_g (lw_at lw_m4 166 rfl) rfl
theorem q1019 : (Jvm.Cond.methodLink "PegLaws$Reader" (273 : Nat) ({ cls := "PegLaws$Reader", name := "product", desc := "()LPegLaws$Expression;" } : Jvm.MethodName)) ∈ lw_all := lw_g (lw_at lw_m4 167 rfl) rfl
theorem q1020 : (Jvm.Cond.privateMethod ({ cls := "PegLaws$Reader", name := "product", desc := "()LPegLaws$Expression;" } : Jvm.MethodName)) ∈ lw_tbl := lw_at lw_m4 168 rfl
theorem q1021 : (Jvm.Cond.instanceMethod ({ cls := "PegLaws$Reader", name := "product", desc := "()LPegLaws$Expression;" } : Jvm.MethodName)) ∈ lw_all := lw_g (lw_at lw_m4 169 rfl) rfl
theorem q1022 : (Jvm.Cond.code ({ cls := "PegLaws$Reader", name := "product", desc := "()LPegLaws$Expression;" } : Jvm.MethodName) prog_13_method_28_code (2 : Nat) (Option.some (Jvm.ClassFile.FieldType.object "PegLaws$Expression"))) ∈ lw_all := lw_g (lw_at lw_m4 170 rfl) rfl
theorem q1023 : (Jvm.Cond.methodLink "PegLaws$Reader" (276 : Nat) ({ cls := "PegLaws$Reader", name := "part", desc := "()LPegLaws$Expression;" } : Jvm.MethodName)) ∈ lw_all := lw_g (lw_at lw_m4 171 rfl) rfl
theorem q1024 : (Jvm.Cond.privateMethod ({ cls := "PegLaws$Reader", name := "part", desc := "()LPegLaws$Expression;" } : Jvm.MethodName)) ∈ lw_tbl := lw_at lw_m4 172 rfl
theorem q1025 : (Jvm.Cond.instanceMethod ({ cls := "PegLaws$Reader", name := "part", desc := "()LPegLaws$Expression;" } : Jvm.MethodName)) ∈ lw_all := lw_g (lw_at lw_m4 173 rfl) rfl
theorem q1026 : (Jvm.Cond.code ({ cls := "PegLaws$Reader", name := "part", desc := "()LPegLaws$Expression;" } : Jvm.MethodName) prog_13_method_29_code (5 : Nat) (Option.some (Jvm.ClassFile.FieldType.object "PegLaws$Expression"))) ∈ lw_all := lw_g (lw_at lw_m4 174 rfl) rfl
theorem q1027 : (Jvm.Cond.stringRef "PegLaws$Reader" (279 : Nat) "wind mass size ") ∈ lw_tbl := lw_at lw_m4 175 rfl
theorem q1028 : (Jvm.Cond.stringRef "PegLaws$Reader" (281 : Nat) "not ") ∈ lw_tbl := lw_at lw_m4 176 rfl
theorem q1029 : (Jvm.Cond.classLink "PegLaws$Reader" (283 : Nat) "PegLaws$Given") ∈ lw_all := lw_g (lw_at lw_m4 177 rfl) rfl
theorem q1031 : (Jvm.Cond.methodLink "PegLaws$Reader" (285 : Nat) ({ cls := "PegLaws$Given", name := "<init>", desc := "(I)V" } : Jvm.MethodName)) ∈ lw_all := lw_g (lw_at lw_m4 179 rfl) rfl
theorem q1042 : (Jvm.Cond.classLink "PegLaws$Reader" (286 : Nat) "PegLaws$Fact") ∈ lw_all := lw_g (lw_at lw_m4 190 rfl) rfl
theorem q1044 : (Jvm.Cond.methodLink "PegLaws$Reader" (288 : Nat) ({ cls := "PegLaws$Fact", name := "<init>", desc := "(I)V" } : Jvm.MethodName)) ∈ lw_all := lw_g (lw_at lw_m4 192 rfl) rfl
theorem q1052 : (Jvm.Cond.classLink "PegLaws$Reader" (289 : Nat) "PegLaws$Not") ∈ lw_all := lw_g (lw_at lw_m4 200 rfl) rfl
theorem q1054 : (Jvm.Cond.methodLink "PegLaws$Reader" (291 : Nat) ({ cls := "PegLaws$Not", name := "<init>", desc := "(LPegLaws$Expression;)V" } : Jvm.MethodName)) ∈ lw_all := lw_g (lw_at lw_m4 202 rfl) rfl
theorem q1062 : (Jvm.Cond.methodLink "PegLaws$Reader" (157 : Nat) ({ cls := "PegLaws$Reader", name := "need", desc := "(C)V" } : Jvm.MethodName)) ∈ lw_all := lw_g (lw_at lw_m4 210 rfl) rfl
theorem q1063 : (Jvm.Cond.privateMethod ({ cls := "PegLaws$Reader", name := "need", desc := "(C)V" } : Jvm.MethodName)) ∈ lw_tbl := lw_at lw_m4 211 rfl
theorem q1064 : (Jvm.Cond.instanceMethod ({ cls := "PegLaws$Reader", name := "need", desc := "(C)V" } : Jvm.MethodName)) ∈ lw_all := lw_g (lw_at lw_m4 212 rfl) rfl
theorem q1065 : (Jvm.Cond.code ({ cls := "PegLaws$Reader", name := "need", desc := "(C)V" } : Jvm.MethodName) prog_13_method_11_code (2 : Nat) (Option.none : Option Jvm.ClassFile.FieldType)) ∈ lw_all := lw_g (lw_at lw_m4 213 rfl) rfl
theorem q1066 : (Jvm.Cond.classLink "PegLaws$Reader" (265 : Nat) "PegLaws$Two") ∈ lw_all := lw_g (lw_at lw_m4 214 rfl) rfl
theorem q1068 : (Jvm.Cond.methodLink "PegLaws$Reader" (267 : Nat) ({ cls := "PegLaws$Two", name := "<init>", desc := "(CLPegLaws$Expression;LPegLaws$Expression;)V" } : Jvm.MethodName)) ∈ lw_all := lw_g (lw_at lw_m4 216 rfl) rfl
theorem q1082 : (Jvm.Cond.stringRef "PegLaws$Reader" (263 : Nat) "and or ") ∈ lw_tbl := lw_at lw_m4 230 rfl
theorem q1088 : (Jvm.Cond.instanceMethod ({ cls := "PegLaws$Reader", name := "day", desc := "(LPegLaws$Rope;)Ljava/util/ArrayList;" } : Jvm.MethodName)) ∈ lw_all := lw_g (lw_at lw_m4 236 rfl) rfl
theorem q1089 : (Jvm.Cond.selects "PegLaws$Reader" ({ cls := "PegLaws$Reader", name := "day", desc := "(LPegLaws$Rope;)Ljava/util/ArrayList;" } : Jvm.MethodName) ({ cls := "PegLaws$Reader", name := "day", desc := "(LPegLaws$Rope;)Ljava/util/ArrayList;" } : Jvm.MethodName)) ∈ lw_all := lw_g (lw_at lw_m4 237 rfl) rfl
theorem q1090 : (Jvm.Cond.code ({ cls := "PegLaws$Reader", name := "day", desc := "(LPegLaws$Rope;)Ljava/util/ArrayList;" } : Jvm.MethodName) prog_13_method_23_code (4 : Nat) (Option.some (Jvm.ClassFile.FieldType.object "java/util/ArrayList"))) ∈ lw_all := lw_g (lw_at lw_m4 238 rfl) rfl
theorem q1091 : (Jvm.Cond.classLink "PegLaws$Reader" (151 : Nat) "java/util/ArrayList") ∈ lw_all := lw_g (lw_at lw_m4 239 rfl) rfl
theorem q1092 : (Jvm.Cond.methodLink "PegLaws$Reader" (233 : Nat) ({ cls := "java/util/ArrayList", name := "<init>", desc := "(I)V" } : Jvm.MethodName)) ∈ lw_all := lw_g (lw_at lw_m5 0 rfl) rfl
theorem q1093 : (Jvm.Cond.stringRef "PegLaws$Reader" (234 : Nat) "hang take wash buy hour ") ∈ lw_tbl := lw_at lw_m5 1 rfl
theorem q1094 : (Jvm.Cond.methodLink "PegLaws$Reader" (236 : Nat) ({ cls := "PegLaws$Reader", name := "done", desc := "(I)LPegLaws$Line;" } : Jvm.MethodName)) ∈ lw_all := lw_g (lw_at lw_m5 2 rfl) rfl
theorem q1095 : (Jvm.Cond.privateMethod ({ cls := "PegLaws$Reader", name := "done", desc := "(I)LPegLaws$Line;" } : Jvm.MethodName)) ∈ lw_tbl := lw_at lw_m5 3 rfl
theorem q1096 : (Jvm.Cond.instanceMethod ({ cls := "PegLaws$Reader", name := "done", desc := "(I)LPegLaws$Line;" } : Jvm.MethodName)) ∈ lw_all := lw_g (lw_at lw_m5 4 rfl) rfl
theorem q1097 : (Jvm.Cond.code ({ cls := "PegLaws$Reader", name := "done", desc := "(I)LPegLaws$Line;" } : Jvm.MethodName) prog_13_method_24_code (5 : Nat) (Option.some (Jvm.ClassFile.FieldType.object "PegLaws$Line"))) ∈ lw_all := lw_g (lw_at lw_m5 5 rfl) rfl
theorem q1098 : (Jvm.Cond.classLink "PegLaws$Reader" (240 : Nat) "PegLaws$Blown") ∈ lw_all := lw_g (lw_at lw_m5 6 rfl) rfl
theorem q1100 : (Jvm.Cond.methodLinkNest "PegLaws$Reader" (242 : Nat) ({ cls := "PegLaws$Blown", name := "<init>", desc := "()V" } : Jvm.MethodName) "PegLaws") ∈ lw_tbl := lw_at lw_m5 8 rfl
theorem q1108 : (Jvm.Cond.classLink "PegLaws$Reader" (243 : Nat) "PegLaws$Bought") ∈ lw_all := lw_g (lw_at lw_m5 16 rfl) rfl
theorem q1110 : (Jvm.Cond.methodLink "PegLaws$Reader" (245 : Nat) ({ cls := "PegLaws$Bought", name := "<init>", desc := "(I)V" } : Jvm.MethodName)) ∈ lw_all := lw_g (lw_at lw_m5 18 rfl) rfl
theorem q1118 : (Jvm.Cond.classLink "PegLaws$Reader" (246 : Nat) "PegLaws$Taken") ∈ lw_all := lw_g (lw_at lw_m5 26 rfl) rfl
theorem q1120 : (Jvm.Cond.methodLink "PegLaws$Reader" (248 : Nat) ({ cls := "PegLaws$Taken", name := "<init>", desc := "(I)V" } : Jvm.MethodName)) ∈ lw_all := lw_g (lw_at lw_m5 28 rfl) rfl
theorem q1128 : (Jvm.Cond.classLink "PegLaws$Reader" (249 : Nat) "PegLaws$Washed") ∈ lw_all := lw_g (lw_at lw_m5 36 rfl) rfl
theorem q1130 : (Jvm.Cond.methodLink "PegLaws$Reader" (251 : Nat) ({ cls := "PegLaws$Washed", name := "<init>", desc := "(I)V" } : Jvm.MethodName)) ∈ lw_all := lw_g (lw_at lw_m5 38 rfl) rfl
theorem q1138 : (Jvm.Cond.methodLink "PegLaws$Reader" (252 : Nat) ({ cls := "java/lang/Integer", name := "bitCount", desc := "(I)I" } : Jvm.MethodName)) ∈ lw_all := lw_g (lw_at lw_m5 46 rfl) rfl
theorem q1144 : (Jvm.Cond.classLink "PegLaws$Reader" (257 : Nat) "PegLaws$Hung") ∈ lw_all := lw_g (lw_at lw_m5 52 rfl) rfl
theorem q1146 : (Jvm.Cond.methodLink "PegLaws$Reader" (259 : Nat) ({ cls := "PegLaws$Hung", name := "<init>", desc := "(II)V" } : Jvm.MethodName)) ∈ lw_all := lw_g (lw_at lw_m5 54 rfl) rfl
theorem q2215 : (Jvm.Cond.castable "PegLaws$Reader" "java/lang/Object") ∈ lw_tbl := lw_at lw_m9 163 rfl
theorem in_X2 : ∀ w ∈ wsX20, w ∈ lw_all := lw_in wsX20 [197, 199, 201, 203, 205, 207, 209, 211] (by decide +kernel) (by decide +kernel)

/-! PegLaws$Rope -/
set_option maxRecDepth 100000
def RX3 : String := "PegLaws$Rope"
def TX3 : u_T := fun k => match k with
  | 0 => ("PegLaws$Rope", "cloths", "Ljava/util/ArrayList;", true)
  | 1 => ("PegLaws$Rope", "grips", "[I", true)
  | 2 => ("PegLaws$Rope", "winds", "[I", true)
  | 3 => ("PegLaws$Rope", "clashes", "[I", true)
  | 4 => ("PegLaws$Rope", "pegs", "I", false)
  | 5 => ("PegLaws$Rope", "many", "I", false)
  | 6 => ("PegLaws$Rope", "pairs", "I", false)
  | 7 => ("PegLaws$Rope", "yards", "I", false)
  | 8 => ("PegLaws$Rope", "gusts", "I", false)
  | 9 => ("PegLaws$Rope", "pulls", "LPegLaws$Expression;", false)
  | _ => ("PegLaws$Rope", "dries", "LPegLaws$Expression;", false)
def tyX3 : Nat → FieldType := fun k => match k with
  | 0 => .object "java/util/ArrayList"
  | 1 => .array .int
  | 2 => .array .int
  | 3 => .array .int
  | 4 => .int
  | 5 => .int
  | 6 => .int
  | 7 => .int
  | 8 => .int
  | 9 => .object "PegLaws$Expression"
  | _ => .object "PegLaws$Expression"
abbrev wsX30 : List Cond := u_ws RX3 TX3 11
theorem nmX3 : ∀ a, a < 11 → ∀ b, b < 11 → a ≠ b → (TX3 a).2.1 ≠ (TX3 b).2.1 := by decide +kernel
theorem tyX3_ok : ∀ k, k < 11 → parseFieldDescriptor (TX3 k).2.2.1 = some (tyX3 k) := by decide +kernel
abbrev cX3_init : ByteArray := prog_14_method_1_code
def yX3_init : MethodName := ⟨RX3, "<init>", "()V"⟩
def dkwX3_init_2 : List UInt8 := [181, 0, 34, 177]
abbrev dktX3_init_2 : List UInt8 := dkwX3_init_2 ++ []
def dkwX3_init_1 : List UInt8 := [42, 16, 12, 188, 10, 181, 0, 24, 42, 16, 6, 188, 10, 181, 0, 27, 42, 2, 181, 0, 30, 42, 2]
abbrev dktX3_init_1 : List UInt8 := dkwX3_init_1 ++ dktX3_init_2
def dkwX3_init_0 : List UInt8 := [42, 183, 0, 3, 42, 187, 0, 9, 89, 5, 183, 0, 11, 181, 0, 14, 42, 16, 8, 188, 10, 181, 0, 20]
abbrev dktX3_init_0 : List UInt8 := dkwX3_init_0 ++ dktX3_init_1
theorem dksX3_init_0 : cX3_init.data.toList.drop 0 = dktX3_init_0 := by decide +kernel
theorem dksX3_init_1 : cX3_init.data.toList.drop 24 = dktX3_init_1 := dk_seg dksX3_init_0 24 rfl rfl
theorem dksX3_init_2 : cX3_init.data.toList.drop 47 = dktX3_init_2 := dk_seg dksX3_init_1 23 rfl rfl
theorem dX3_init_0 : decode cX3_init 0 = .ok (.aload_n 0, 1) := dk_42 (dk_at dksX3_init_0 0 rfl rfl)
theorem dX3_init_1 : decode cX3_init 1 = .ok (.invokespecial 3, 3) := dk_183 0 3 (dk_at dksX3_init_0 1 rfl rfl)
theorem dX3_init_4 : decode cX3_init 4 = .ok (.aload_n 0, 1) := dk_42 (dk_at dksX3_init_0 4 rfl rfl)
theorem dX3_init_5 : decode cX3_init 5 = .ok (.new 9, 3) := dk_187 0 9 (dk_at dksX3_init_0 5 rfl rfl)
theorem dX3_init_8 : decode cX3_init 8 = .ok (.dup, 1) := dk_89 (dk_at dksX3_init_0 8 rfl rfl)
theorem dX3_init_9 : decode cX3_init 9 = .ok (.iconst 2, 1) := dk_5 (dk_at dksX3_init_0 9 rfl rfl)
theorem dX3_init_10 : decode cX3_init 10 = .ok (.invokespecial 11, 3) := dk_183 0 11 (dk_at dksX3_init_0 10 rfl rfl)
theorem dX3_init_13 : decode cX3_init 13 = .ok (.putfield 14, 3) := dk_181 0 14 (dk_at dksX3_init_0 13 rfl rfl)
theorem dX3_init_16 : decode cX3_init 16 = .ok (.aload_n 0, 1) := dk_42 (dk_at dksX3_init_0 16 rfl rfl)
theorem dX3_init_17 : decode cX3_init 17 = .ok (.bipush 8, 2) := dk_16 8 (dk_at dksX3_init_0 17 rfl rfl)
theorem dX3_init_19 : decode cX3_init 19 = .ok (.newarray .int, 2) := dk_188_10 (dk_at dksX3_init_0 19 rfl rfl)
theorem dX3_init_21 : decode cX3_init 21 = .ok (.putfield 20, 3) := dk_181 0 20 (dk_at dksX3_init_0 21 rfl rfl)
theorem dX3_init_24 : decode cX3_init 24 = .ok (.aload_n 0, 1) := dk_42 (dk_at dksX3_init_1 0 rfl rfl)
theorem dX3_init_25 : decode cX3_init 25 = .ok (.bipush 12, 2) := dk_16 12 (dk_at dksX3_init_1 1 rfl rfl)
theorem dX3_init_27 : decode cX3_init 27 = .ok (.newarray .int, 2) := dk_188_10 (dk_at dksX3_init_1 3 rfl rfl)
theorem dX3_init_29 : decode cX3_init 29 = .ok (.putfield 24, 3) := dk_181 0 24 (dk_at dksX3_init_1 5 rfl rfl)
theorem dX3_init_32 : decode cX3_init 32 = .ok (.aload_n 0, 1) := dk_42 (dk_at dksX3_init_1 8 rfl rfl)
theorem dX3_init_33 : decode cX3_init 33 = .ok (.bipush 6, 2) := dk_16 6 (dk_at dksX3_init_1 9 rfl rfl)
theorem dX3_init_35 : decode cX3_init 35 = .ok (.newarray .int, 2) := dk_188_10 (dk_at dksX3_init_1 11 rfl rfl)
theorem dX3_init_37 : decode cX3_init 37 = .ok (.putfield 27, 3) := dk_181 0 27 (dk_at dksX3_init_1 13 rfl rfl)
theorem dX3_init_40 : decode cX3_init 40 = .ok (.aload_n 0, 1) := dk_42 (dk_at dksX3_init_1 16 rfl rfl)
theorem dX3_init_41 : decode cX3_init 41 = .ok (.iconst (-1), 1) := dk_2 (dk_at dksX3_init_1 17 rfl rfl)
theorem dX3_init_42 : decode cX3_init 42 = .ok (.putfield 30, 3) := dk_181 0 30 (dk_at dksX3_init_1 18 rfl rfl)
theorem dX3_init_45 : decode cX3_init 45 = .ok (.aload_n 0, 1) := dk_42 (dk_at dksX3_init_1 21 rfl rfl)
theorem dX3_init_46 : decode cX3_init 46 = .ok (.iconst (-1), 1) := dk_2 (dk_at dksX3_init_1 22 rfl rfl)
theorem dX3_init_47 : decode cX3_init 47 = .ok (.putfield 34, 3) := dk_181 0 34 (dk_at dksX3_init_2 0 rfl rfl)
theorem dX3_init_50 : decode cX3_init 50 = .ok (.return_, 1) := dk_177 (dk_at dksX3_init_2 3 rfl rfl)
abbrev cX3_cloth : ByteArray := prog_14_method_2_code
def yX3_cloth : MethodName := ⟨RX3, "cloth", "(Ljava/lang/String;)I"⟩
def dkwX3_cloth_1 : List UInt8 := [180, 0, 47, 43, 182, 0, 51, 153, 0, 5, 28, 172, 132, 2, 1, 167, 255, 219, 2, 172]
abbrev dktX3_cloth_1 : List UInt8 := dkwX3_cloth_1 ++ []
def dkwX3_cloth_0 : List UInt8 := [3, 61, 28, 42, 180, 0, 14, 182, 0, 37, 162, 0, 32, 42, 180, 0, 14, 28, 182, 0, 41, 192, 0, 45]
abbrev dktX3_cloth_0 : List UInt8 := dkwX3_cloth_0 ++ dktX3_cloth_1
theorem dksX3_cloth_0 : cX3_cloth.data.toList.drop 0 = dktX3_cloth_0 := by decide +kernel
theorem dksX3_cloth_1 : cX3_cloth.data.toList.drop 24 = dktX3_cloth_1 := dk_seg dksX3_cloth_0 24 rfl rfl
theorem dX3_cloth_0 : decode cX3_cloth 0 = .ok (.iconst 0, 1) := dk_3 (dk_at dksX3_cloth_0 0 rfl rfl)
theorem dX3_cloth_1 : decode cX3_cloth 1 = .ok (.istore_n 2, 1) := dk_61 (dk_at dksX3_cloth_0 1 rfl rfl)
theorem dX3_cloth_2 : decode cX3_cloth 2 = .ok (.iload_n 2, 1) := dk_28 (dk_at dksX3_cloth_0 2 rfl rfl)
theorem dX3_cloth_3 : decode cX3_cloth 3 = .ok (.aload_n 0, 1) := dk_42 (dk_at dksX3_cloth_0 3 rfl rfl)
theorem dX3_cloth_4 : decode cX3_cloth 4 = .ok (.getfield 14, 3) := dk_180 0 14 (dk_at dksX3_cloth_0 4 rfl rfl)
theorem dX3_cloth_7 : decode cX3_cloth 7 = .ok (.invokevirtual 37, 3) := dk_182 0 37 (dk_at dksX3_cloth_0 7 rfl rfl)
theorem dX3_cloth_10 : decode cX3_cloth 10 = .ok (.if_icmp .ge 32, 3) := dk_162 0 32 (dk_at dksX3_cloth_0 10 rfl rfl)
theorem dX3_cloth_13 : decode cX3_cloth 13 = .ok (.aload_n 0, 1) := dk_42 (dk_at dksX3_cloth_0 13 rfl rfl)
theorem dX3_cloth_14 : decode cX3_cloth 14 = .ok (.getfield 14, 3) := dk_180 0 14 (dk_at dksX3_cloth_0 14 rfl rfl)
theorem dX3_cloth_17 : decode cX3_cloth 17 = .ok (.iload_n 2, 1) := dk_28 (dk_at dksX3_cloth_0 17 rfl rfl)
theorem dX3_cloth_18 : decode cX3_cloth 18 = .ok (.invokevirtual 41, 3) := dk_182 0 41 (dk_at dksX3_cloth_0 18 rfl rfl)
theorem dX3_cloth_21 : decode cX3_cloth 21 = .ok (.checkcast 45, 3) := dk_192 0 45 (dk_at dksX3_cloth_0 21 rfl rfl)
theorem dX3_cloth_24 : decode cX3_cloth 24 = .ok (.getfield 47, 3) := dk_180 0 47 (dk_at dksX3_cloth_1 0 rfl rfl)
theorem dX3_cloth_27 : decode cX3_cloth 27 = .ok (.aload_n 1, 1) := dk_43 (dk_at dksX3_cloth_1 3 rfl rfl)
theorem dX3_cloth_28 : decode cX3_cloth 28 = .ok (.invokevirtual 51, 3) := dk_182 0 51 (dk_at dksX3_cloth_1 4 rfl rfl)
theorem dX3_cloth_31 : decode cX3_cloth 31 = .ok (.ifCond .eq 5, 3) := dk_153 0 5 (dk_at dksX3_cloth_1 7 rfl rfl)
theorem dX3_cloth_34 : decode cX3_cloth 34 = .ok (.iload_n 2, 1) := dk_28 (dk_at dksX3_cloth_1 10 rfl rfl)
theorem dX3_cloth_35 : decode cX3_cloth 35 = .ok (.ireturn, 1) := dk_172 (dk_at dksX3_cloth_1 11 rfl rfl)
theorem dX3_cloth_36 : decode cX3_cloth 36 = .ok (.iinc 2 1, 3) := dk_132 2 1 (dk_at dksX3_cloth_1 12 rfl rfl)
theorem dX3_cloth_39 : decode cX3_cloth 39 = .ok (.goto (-37), 3) := dk_167 255 219 (dk_at dksX3_cloth_1 15 rfl rfl)
theorem dX3_cloth_42 : decode cX3_cloth 42 = .ok (.iconst (-1), 1) := dk_2 (dk_at dksX3_cloth_1 18 rfl rfl)
theorem dX3_cloth_43 : decode cX3_cloth 43 = .ok (.ireturn, 1) := dk_172 (dk_at dksX3_cloth_1 19 rfl rfl)
abbrev cX3_wind : ByteArray := prog_14_method_3_code
def yX3_wind : MethodName := ⟨RX3, "wind", "(I)I"⟩
def dkwX3_wind_0 : List UInt8 := [42, 180, 0, 57, 154, 0, 7, 6, 167, 0, 14, 42, 180, 0, 24, 27, 42, 180, 0, 57, 112, 46, 172]
abbrev dktX3_wind_0 : List UInt8 := dkwX3_wind_0 ++ []
theorem dksX3_wind_0 : cX3_wind.data.toList.drop 0 = dktX3_wind_0 := by decide +kernel
theorem dX3_wind_0 : decode cX3_wind 0 = .ok (.aload_n 0, 1) := dk_42 (dk_at dksX3_wind_0 0 rfl rfl)
theorem dX3_wind_1 : decode cX3_wind 1 = .ok (.getfield 57, 3) := dk_180 0 57 (dk_at dksX3_wind_0 1 rfl rfl)
theorem dX3_wind_4 : decode cX3_wind 4 = .ok (.ifCond .ne 7, 3) := dk_154 0 7 (dk_at dksX3_wind_0 4 rfl rfl)
theorem dX3_wind_7 : decode cX3_wind 7 = .ok (.iconst 3, 1) := dk_6 (dk_at dksX3_wind_0 7 rfl rfl)
theorem dX3_wind_8 : decode cX3_wind 8 = .ok (.goto 14, 3) := dk_167 0 14 (dk_at dksX3_wind_0 8 rfl rfl)
theorem dX3_wind_11 : decode cX3_wind 11 = .ok (.aload_n 0, 1) := dk_42 (dk_at dksX3_wind_0 11 rfl rfl)
theorem dX3_wind_12 : decode cX3_wind 12 = .ok (.getfield 24, 3) := dk_180 0 24 (dk_at dksX3_wind_0 12 rfl rfl)
theorem dX3_wind_15 : decode cX3_wind 15 = .ok (.iload_n 1, 1) := dk_27 (dk_at dksX3_wind_0 15 rfl rfl)
theorem dX3_wind_16 : decode cX3_wind 16 = .ok (.aload_n 0, 1) := dk_42 (dk_at dksX3_wind_0 16 rfl rfl)
theorem dX3_wind_17 : decode cX3_wind 17 = .ok (.getfield 57, 3) := dk_180 0 57 (dk_at dksX3_wind_0 17 rfl rfl)
theorem dX3_wind_20 : decode cX3_wind 20 = .ok (.irem, 1) := dk_112 (dk_at dksX3_wind_0 20 rfl rfl)
theorem dX3_wind_21 : decode cX3_wind 21 = .ok (.iaload, 1) := dk_46 (dk_at dksX3_wind_0 21 rfl rfl)
theorem dX3_wind_22 : decode cX3_wind 22 = .ok (.ireturn, 1) := dk_172 (dk_at dksX3_wind_0 22 rfl rfl)
abbrev cX3_yards : ByteArray := prog_14_method_4_code
def yX3_yards : MethodName := ⟨RX3, "yards", "()I"⟩
def dkwX3_yards_0 : List UInt8 := [42, 180, 0, 30, 156, 0, 8, 16, 20, 167, 0, 7, 42, 180, 0, 30, 172]
abbrev dktX3_yards_0 : List UInt8 := dkwX3_yards_0 ++ []
theorem dksX3_yards_0 : cX3_yards.data.toList.drop 0 = dktX3_yards_0 := by decide +kernel
theorem dX3_yards_0 : decode cX3_yards 0 = .ok (.aload_n 0, 1) := dk_42 (dk_at dksX3_yards_0 0 rfl rfl)
theorem dX3_yards_1 : decode cX3_yards 1 = .ok (.getfield 30, 3) := dk_180 0 30 (dk_at dksX3_yards_0 1 rfl rfl)
theorem dX3_yards_4 : decode cX3_yards 4 = .ok (.ifCond .ge 8, 3) := dk_156 0 8 (dk_at dksX3_yards_0 4 rfl rfl)
theorem dX3_yards_7 : decode cX3_yards 7 = .ok (.bipush 20, 2) := dk_16 20 (dk_at dksX3_yards_0 7 rfl rfl)
theorem dX3_yards_9 : decode cX3_yards 9 = .ok (.goto 7, 3) := dk_167 0 7 (dk_at dksX3_yards_0 9 rfl rfl)
theorem dX3_yards_12 : decode cX3_yards 12 = .ok (.aload_n 0, 1) := dk_42 (dk_at dksX3_yards_0 12 rfl rfl)
theorem dX3_yards_13 : decode cX3_yards 13 = .ok (.getfield 30, 3) := dk_180 0 30 (dk_at dksX3_yards_0 13 rfl rfl)
theorem dX3_yards_16 : decode cX3_yards 16 = .ok (.ireturn, 1) := dk_172 (dk_at dksX3_yards_0 16 rfl rfl)
abbrev cX3_gusts : ByteArray := prog_14_method_5_code
def yX3_gusts : MethodName := ⟨RX3, "gusts", "()I"⟩
def dkwX3_gusts_0 : List UInt8 := [3, 42, 180, 0, 34, 184, 0, 60, 172]
abbrev dktX3_gusts_0 : List UInt8 := dkwX3_gusts_0 ++ []
theorem dksX3_gusts_0 : cX3_gusts.data.toList.drop 0 = dktX3_gusts_0 := by decide +kernel
theorem dX3_gusts_0 : decode cX3_gusts 0 = .ok (.iconst 0, 1) := dk_3 (dk_at dksX3_gusts_0 0 rfl rfl)
theorem dX3_gusts_1 : decode cX3_gusts 1 = .ok (.aload_n 0, 1) := dk_42 (dk_at dksX3_gusts_0 1 rfl rfl)
theorem dX3_gusts_2 : decode cX3_gusts 2 = .ok (.getfield 34, 3) := dk_180 0 34 (dk_at dksX3_gusts_0 2 rfl rfl)
theorem dX3_gusts_5 : decode cX3_gusts 5 = .ok (.invokestatic 60, 3) := dk_184 0 60 (dk_at dksX3_gusts_0 5 rfl rfl)
theorem dX3_gusts_8 : decode cX3_gusts 8 = .ok (.ireturn, 1) := dk_172 (dk_at dksX3_gusts_0 8 rfl rfl)
theorem q135 : (Jvm.Cond.initialized "PegLaws$Rope") ∈ lw_all := lw_g (lw_at lw_m1 3 rfl) rfl
theorem q216 : (Jvm.Cond.instantiable "PegLaws$Rope" (11 : Nat)) ∈ lw_all := lw_g (lw_at lw_m1 84 rfl) rfl
theorem q218 : (Jvm.Cond.instanceMethod ({ cls := "PegLaws$Rope", name := "<init>", desc := "()V" } : Jvm.MethodName)) ∈ lw_all := lw_g (lw_at lw_m1 86 rfl) rfl
theorem q219 : (Jvm.Cond.code ({ cls := "PegLaws$Rope", name := "<init>", desc := "()V" } : Jvm.MethodName) prog_14_method_1_code (1 : Nat) (Option.none : Option Jvm.ClassFile.FieldType)) ∈ lw_all := lw_g (lw_at lw_m1 87 rfl) rfl
theorem q220 : (Jvm.Cond.methodLink "PegLaws$Rope" (3 : Nat) ({ cls := "java/lang/Object", name := "<init>", desc := "()V" } : Jvm.MethodName)) ∈ lw_all := lw_g (lw_at lw_m1 88 rfl) rfl
theorem q221 : (Jvm.Cond.classLink "PegLaws$Rope" (9 : Nat) "java/util/ArrayList") ∈ lw_all := lw_g (lw_at lw_m1 89 rfl) rfl
theorem q223 : (Jvm.Cond.methodLink "PegLaws$Rope" (11 : Nat) ({ cls := "java/util/ArrayList", name := "<init>", desc := "(I)V" } : Jvm.MethodName)) ∈ lw_all := lw_g (lw_at lw_m1 91 rfl) rfl
theorem q249 : (Jvm.Cond.fieldLink "PegLaws$Rope" (14 : Nat) "PegLaws$Rope" "cloths" "Ljava/util/ArrayList;") ∈ lw_all := lw_g (lw_at lw_m1 117 rfl) rfl
theorem q252 : (Jvm.Cond.fieldLink "PegLaws$Rope" (20 : Nat) "PegLaws$Rope" "grips" "[I") ∈ lw_all := lw_g (lw_at lw_m1 120 rfl) rfl
theorem q255 : (Jvm.Cond.fieldLink "PegLaws$Rope" (24 : Nat) "PegLaws$Rope" "winds" "[I") ∈ lw_all := lw_g (lw_at lw_m1 123 rfl) rfl
theorem q257 : (Jvm.Cond.fieldLink "PegLaws$Rope" (27 : Nat) "PegLaws$Rope" "clashes" "[I") ∈ lw_all := lw_g (lw_at lw_m1 125 rfl) rfl
theorem q262 : (Jvm.Cond.fieldLink "PegLaws$Rope" (57 : Nat) "PegLaws$Rope" "many" "I") ∈ lw_all := lw_g (lw_at lw_m1 130 rfl) rfl
theorem q267 : (Jvm.Cond.fieldLink "PegLaws$Rope" (30 : Nat) "PegLaws$Rope" "yards" "I") ∈ lw_all := lw_g (lw_at lw_m1 135 rfl) rfl
theorem q269 : (Jvm.Cond.fieldLink "PegLaws$Rope" (34 : Nat) "PegLaws$Rope" "gusts" "I") ∈ lw_all := lw_g (lw_at lw_m1 137 rfl) rfl
theorem q275 : (Jvm.Cond.laysFinal "PegLaws$Rope" "PegLaws$Rope" "cloths" "Ljava/util/ArrayList;") ∈ lw_all := lw_g (lw_at lw_m1 143 rfl) rfl
theorem q276 : (Jvm.Cond.soleField "PegLaws$Rope" "cloths") ∈ lw_all := lw_g (lw_at lw_m1 144 rfl) rfl
theorem q277 : (Jvm.Cond.laysFinal "PegLaws$Rope" "PegLaws$Rope" "grips" "[I") ∈ lw_all := lw_g (lw_at lw_m1 145 rfl) rfl
theorem q278 : (Jvm.Cond.soleField "PegLaws$Rope" "grips") ∈ lw_all := lw_g (lw_at lw_m1 146 rfl) rfl
theorem q279 : (Jvm.Cond.laysFinal "PegLaws$Rope" "PegLaws$Rope" "winds" "[I") ∈ lw_all := lw_g (lw_at lw_m1 147 rfl) rfl
theorem q280 : (Jvm.Cond.soleField "PegLaws$Rope" "winds") ∈ lw_all := lw_g (lw_at lw_m1 148 rfl) rfl
theorem q281 : (Jvm.Cond.laysFinal "PegLaws$Rope" "PegLaws$Rope" "clashes" "[I") ∈ lw_all := lw_g (lw_at lw_m1 149 rfl) rfl
theorem q282 : (Jvm.Cond.soleField "PegLaws$Rope" "clashes") ∈ lw_all := lw_g (lw_at lw_m1 150 rfl) rfl
theorem q283 : (Jvm.Cond.lays "PegLaws$Rope" "PegLaws$Rope" "pegs" "I") ∈ lw_all := lw_g (lw_at lw_m1 151 rfl) rfl
theorem q284 : (Jvm.Cond.soleField "PegLaws$Rope" "pegs") ∈ lw_all := lw_g (lw_at lw_m1 152 rfl) rfl
theorem q285 : (Jvm.Cond.lays "PegLaws$Rope" "PegLaws$Rope" "many" "I") ∈ lw_all := lw_g (lw_at lw_m1 153 rfl) rfl
theorem q286 : (Jvm.Cond.soleField "PegLaws$Rope" "many") ∈ lw_all := lw_g (lw_at lw_m1 154 rfl) rfl
theorem q287 : (Jvm.Cond.lays "PegLaws$Rope" "PegLaws$Rope" "pairs" "I") ∈ lw_all := lw_g (lw_at lw_m1 155 rfl) rfl
theorem q288 : (Jvm.Cond.soleField "PegLaws$Rope" "pairs") ∈ lw_all := lw_g (lw_at lw_m1 156 rfl) rfl
theorem q289 : (Jvm.Cond.lays "PegLaws$Rope" "PegLaws$Rope" "yards" "I") ∈ lw_all := lw_g (lw_at lw_m1 157 rfl) rfl
theorem q290 : (Jvm.Cond.soleField "PegLaws$Rope" "yards") ∈ lw_all := lw_g (lw_at lw_m1 158 rfl) rfl
theorem q291 : (Jvm.Cond.lays "PegLaws$Rope" "PegLaws$Rope" "gusts" "I") ∈ lw_all := lw_g (lw_at lw_m1 159 rfl) rfl
theorem q292 : (Jvm.Cond.soleField "PegLaws$Rope" "gusts") ∈ lw_all := lw_g (lw_at lw_m1 160 rfl) rfl
theorem q293 : (Jvm.Cond.lays "PegLaws$Rope" "PegLaws$Rope" "pulls" "LPegLaws$Expression;") ∈ lw_all := lw_g (lw_at lw_m1 161 rfl) rfl
theorem q294 : (Jvm.Cond.soleField "PegLaws$Rope" "pulls") ∈ lw_all := lw_g (lw_at lw_m1 162 rfl) rfl
theorem q295 : (Jvm.Cond.lays "PegLaws$Rope" "PegLaws$Rope" "dries" "LPegLaws$Expression;") ∈ lw_all := lw_g (lw_at lw_m1 163 rfl) rfl
theorem q296 : (Jvm.Cond.soleField "PegLaws$Rope" "dries") ∈ lw_all := lw_g (lw_at lw_m1 164 rfl) rfl
theorem q297 : (Jvm.Cond.superclass "PegLaws$Rope" "java/lang/Object") ∈ lw_all := lw_g (lw_at lw_m1 165 rfl) rfl
theorem q826 : (Jvm.Cond.instanceMethod ({ cls := "PegLaws$Rope", name := "cloth", desc := "(Ljava/lang/String;)I" } : Jvm.MethodName)) ∈ lw_all := lw_g (lw_at lw_m3 214 rfl) rfl
theorem q827 : (Jvm.Cond.selects "PegLaws$Rope" ({ cls := "PegLaws$Rope", name := "cloth", desc := "(Ljava/lang/String;)I" } : Jvm.MethodName) ({ cls := "PegLaws$Rope", name := "cloth", desc := "(Ljava/lang/String;)I" } : Jvm.MethodName)) ∈ lw_all := lw_g (lw_at lw_m3 215 rfl) rfl
theorem q828 : (Jvm.Cond.code ({ cls := "PegLaws$Rope", name := "cloth", desc := "(Ljava/lang/String;)I" } : Jvm.MethodName) prog_14_method_2_code (3 : Nat) (Option.some Jvm.ClassFile.FieldType.int)) ∈ lw_all := lw_g (lw_at lw_m3 216 rfl) rfl
theorem q829 : (Jvm.Cond.methodLink "PegLaws$Rope" (37 : Nat) ({ cls := "java/util/ArrayList", name := "size", desc := "()I" } : Jvm.MethodName)) ∈ lw_all := lw_g (lw_at lw_m3 217 rfl) rfl
theorem q830 : (Jvm.Cond.methodLink "PegLaws$Rope" (41 : Nat) ({ cls := "java/util/ArrayList", name := "get", desc := "(I)Ljava/lang/Object;" } : Jvm.MethodName)) ∈ lw_all := lw_g (lw_at lw_m3 218 rfl) rfl
theorem q842 : (Jvm.Cond.classLink "PegLaws$Rope" (45 : Nat) "PegLaws$Cloth") ∈ lw_all := lw_g (lw_at lw_m3 230 rfl) rfl
theorem q843 : (Jvm.Cond.methodLink "PegLaws$Rope" (51 : Nat) ({ cls := "java/lang/String", name := "equals", desc := "(Ljava/lang/Object;)Z" } : Jvm.MethodName)) ∈ lw_all := lw_g (lw_at lw_m3 231 rfl) rfl
theorem q863 : (Jvm.Cond.fieldLink "PegLaws$Rope" (47 : Nat) "PegLaws$Cloth" "name" "Ljava/lang/String;") ∈ lw_all := lw_g (lw_at lw_m4 11 rfl) rfl
theorem q965 : (Jvm.Cond.selects "PegLaws$Rope" ({ cls := "java/lang/Object", name := "getClass", desc := "()Ljava/lang/Class;" } : Jvm.MethodName) ({ cls := "java/lang/Object", name := "getClass", desc := "()Ljava/lang/Class;" } : Jvm.MethodName)) ∈ lw_all := lw_g (lw_at lw_m4 113 rfl) rfl
theorem q1219 : (Jvm.Cond.instanceMethod ({ cls := "PegLaws$Rope", name := "wind", desc := "(I)I" } : Jvm.MethodName)) ∈ lw_all := lw_g (lw_at lw_m5 127 rfl) rfl
theorem q1220 : (Jvm.Cond.selects "PegLaws$Rope" ({ cls := "PegLaws$Rope", name := "wind", desc := "(I)I" } : Jvm.MethodName) ({ cls := "PegLaws$Rope", name := "wind", desc := "(I)I" } : Jvm.MethodName)) ∈ lw_all := lw_g (lw_at lw_m5 128 rfl) rfl
theorem q1221 : (Jvm.Cond.code ({ cls := "PegLaws$Rope", name := "wind", desc := "(I)I" } : Jvm.MethodName) prog_14_method_3_code (2 : Nat) (Option.some Jvm.ClassFile.FieldType.int)) ∈ lw_all := lw_g (lw_at lw_m5 129 rfl) rfl
theorem q1305 : (Jvm.Cond.instanceMethod ({ cls := "PegLaws$Rope", name := "yards", desc := "()I" } : Jvm.MethodName)) ∈ lw_all := lw_g (lw_at lw_m5 213 rfl) rfl
theorem q1306 : (Jvm.Cond.selects "PegLaws$Rope" ({ cls := "PegLaws$Rope", name := "yards", desc := "()I" } : Jvm.MethodName) ({ cls := "PegLaws$Rope", name := "yards", desc := "()I" } : Jvm.MethodName)) ∈ lw_all := lw_g (lw_at lw_m5 214 rfl) rfl
theorem q1307 : (Jvm.Cond.code ({ cls := "PegLaws$Rope", name := "yards", desc := "()I" } : Jvm.MethodName) prog_14_method_4_code (1 : Nat) (Option.some Jvm.ClassFile.FieldType.int)) ∈ lw_all := lw_g (lw_at lw_m5 215 rfl) rfl
theorem q1464 : (Jvm.Cond.instanceMethod ({ cls := "PegLaws$Rope", name := "gusts", desc := "()I" } : Jvm.MethodName)) ∈ lw_all := lw_g (lw_at lw_m6 132 rfl) rfl
theorem q1465 : (Jvm.Cond.selects "PegLaws$Rope" ({ cls := "PegLaws$Rope", name := "gusts", desc := "()I" } : Jvm.MethodName) ({ cls := "PegLaws$Rope", name := "gusts", desc := "()I" } : Jvm.MethodName)) ∈ lw_all := lw_g (lw_at lw_m6 133 rfl) rfl
theorem q1466 : (Jvm.Cond.code ({ cls := "PegLaws$Rope", name := "gusts", desc := "()I" } : Jvm.MethodName) prog_14_method_5_code (1 : Nat) (Option.some Jvm.ClassFile.FieldType.int)) ∈ lw_all := lw_g (lw_at lw_m6 134 rfl) rfl
theorem q1467 : (Jvm.Cond.methodLink "PegLaws$Rope" (60 : Nat) ({ cls := "java/lang/Math", name := "max", desc := "(II)I" } : Jvm.MethodName)) ∈ lw_all := lw_g (lw_at lw_m6 135 rfl) rfl
theorem q2216 : (Jvm.Cond.castable "PegLaws$Rope" "java/lang/Object") ∈ lw_tbl := lw_at lw_m9 164 rfl
theorem in_X3 : ∀ w ∈ wsX30, w ∈ lw_all := lw_in wsX30 [275, 277, 279, 281, 283, 285, 287, 289, 291, 293, 295] (by decide +kernel) (by decide +kernel)

/-! PegLaws$State -/
set_option maxRecDepth 100000
def RX4 : String := "PegLaws$State"
def TX4 : u_T := fun k => match k with
  | 0 => ("PegLaws$State", "grip", "[I", true)
  | 1 => ("PegLaws$State", "holds", "[I", true)
  | 2 => ("PegLaws$State", "wet", "[I", true)
  | 3 => ("PegLaws$State", "stains", "[I", true)
  | 4 => ("PegLaws$State", "hour", "I", false)
  | _ => ("PegLaws$State", "pegs", "I", false)
def tyX4 : Nat → FieldType := fun k => match k with
  | 0 => .array .int
  | 1 => .array .int
  | 2 => .array .int
  | 3 => .array .int
  | 4 => .int
  | _ => .int
abbrev wsX40 : List Cond := u_ws RX4 TX4 6
theorem nmX4 : ∀ a, a < 6 → ∀ b, b < 6 → a ≠ b → (TX4 a).2.1 ≠ (TX4 b).2.1 := by decide +kernel
theorem tyX4_ok : ∀ k, k < 6 → parseFieldDescriptor (TX4 k).2.2.1 = some (tyX4 k) := by decide +kernel
abbrev cX4_init : ByteArray := prog_16_method_1_code
def yX4_init : MethodName := ⟨RX4, "<init>", "()V"⟩
def dkwX4_init_1 : List UInt8 := [188, 10, 181, 0, 18, 42, 16, 6, 188, 10, 181, 0, 21, 177]
abbrev dktX4_init_1 : List UInt8 := dkwX4_init_1 ++ []
def dkwX4_init_0 : List UInt8 := [42, 183, 0, 3, 42, 16, 8, 188, 10, 181, 0, 9, 42, 16, 8, 188, 10, 181, 0, 15, 42, 16, 6]
abbrev dktX4_init_0 : List UInt8 := dkwX4_init_0 ++ dktX4_init_1
theorem dksX4_init_0 : cX4_init.data.toList.drop 0 = dktX4_init_0 := by decide +kernel
theorem dksX4_init_1 : cX4_init.data.toList.drop 23 = dktX4_init_1 := dk_seg dksX4_init_0 23 rfl rfl
theorem dX4_init_0 : decode cX4_init 0 = .ok (.aload_n 0, 1) := dk_42 (dk_at dksX4_init_0 0 rfl rfl)
theorem dX4_init_1 : decode cX4_init 1 = .ok (.invokespecial 3, 3) := dk_183 0 3 (dk_at dksX4_init_0 1 rfl rfl)
theorem dX4_init_4 : decode cX4_init 4 = .ok (.aload_n 0, 1) := dk_42 (dk_at dksX4_init_0 4 rfl rfl)
theorem dX4_init_5 : decode cX4_init 5 = .ok (.bipush 8, 2) := dk_16 8 (dk_at dksX4_init_0 5 rfl rfl)
theorem dX4_init_7 : decode cX4_init 7 = .ok (.newarray .int, 2) := dk_188_10 (dk_at dksX4_init_0 7 rfl rfl)
theorem dX4_init_9 : decode cX4_init 9 = .ok (.putfield 9, 3) := dk_181 0 9 (dk_at dksX4_init_0 9 rfl rfl)
theorem dX4_init_12 : decode cX4_init 12 = .ok (.aload_n 0, 1) := dk_42 (dk_at dksX4_init_0 12 rfl rfl)
theorem dX4_init_13 : decode cX4_init 13 = .ok (.bipush 8, 2) := dk_16 8 (dk_at dksX4_init_0 13 rfl rfl)
theorem dX4_init_15 : decode cX4_init 15 = .ok (.newarray .int, 2) := dk_188_10 (dk_at dksX4_init_0 15 rfl rfl)
theorem dX4_init_17 : decode cX4_init 17 = .ok (.putfield 15, 3) := dk_181 0 15 (dk_at dksX4_init_0 17 rfl rfl)
theorem dX4_init_20 : decode cX4_init 20 = .ok (.aload_n 0, 1) := dk_42 (dk_at dksX4_init_0 20 rfl rfl)
theorem dX4_init_21 : decode cX4_init 21 = .ok (.bipush 6, 2) := dk_16 6 (dk_at dksX4_init_0 21 rfl rfl)
theorem dX4_init_23 : decode cX4_init 23 = .ok (.newarray .int, 2) := dk_188_10 (dk_at dksX4_init_1 0 rfl rfl)
theorem dX4_init_25 : decode cX4_init 25 = .ok (.putfield 18, 3) := dk_181 0 18 (dk_at dksX4_init_1 2 rfl rfl)
theorem dX4_init_28 : decode cX4_init 28 = .ok (.aload_n 0, 1) := dk_42 (dk_at dksX4_init_1 5 rfl rfl)
theorem dX4_init_29 : decode cX4_init 29 = .ok (.bipush 6, 2) := dk_16 6 (dk_at dksX4_init_1 6 rfl rfl)
theorem dX4_init_31 : decode cX4_init 31 = .ok (.newarray .int, 2) := dk_188_10 (dk_at dksX4_init_1 8 rfl rfl)
theorem dX4_init_33 : decode cX4_init 33 = .ok (.putfield 21, 3) := dk_181 0 21 (dk_at dksX4_init_1 10 rfl rfl)
theorem dX4_init_36 : decode cX4_init 36 = .ok (.return_, 1) := dk_177 (dk_at dksX4_init_1 13 rfl rfl)
abbrev cX4_begin : ByteArray := prog_16_method_3_code
def yX4_begin : MethodName := ⟨RX4, "begin", "(LPegLaws$Rope;)V"⟩
def dkwX4_begin_3 : List UInt8 := [167, 255, 233, 42, 3, 181, 0, 28, 42, 43, 180, 0, 35, 181, 0, 32, 177]
abbrev dktX4_begin_3 : List UInt8 := dkwX4_begin_3 ++ []
def dkwX4_begin_2 : List UInt8 := [61, 28, 16, 6, 162, 0, 23, 42, 180, 0, 18, 28, 3, 79, 42, 180, 0, 21, 28, 3, 79, 132, 2, 1]
abbrev dktX4_begin_2 : List UInt8 := dkwX4_begin_2 ++ dktX4_begin_3
def dkwX4_begin_1 : List UInt8 := [180, 0, 38, 28, 46, 167, 0, 4, 3, 79, 42, 180, 0, 15, 28, 2, 79, 132, 2, 1, 167, 255, 216, 3]
abbrev dktX4_begin_1 : List UInt8 := dkwX4_begin_1 ++ dktX4_begin_2
def dkwX4_begin_0 : List UInt8 := [3, 61, 28, 16, 8, 162, 0, 40, 42, 180, 0, 9, 28, 28, 43, 180, 0, 35, 162, 0, 12, 43]
abbrev dktX4_begin_0 : List UInt8 := dkwX4_begin_0 ++ dktX4_begin_1
theorem dksX4_begin_0 : cX4_begin.data.toList.drop 0 = dktX4_begin_0 := by decide +kernel
theorem dksX4_begin_1 : cX4_begin.data.toList.drop 22 = dktX4_begin_1 := dk_seg dksX4_begin_0 22 rfl rfl
theorem dksX4_begin_2 : cX4_begin.data.toList.drop 46 = dktX4_begin_2 := dk_seg dksX4_begin_1 24 rfl rfl
theorem dksX4_begin_3 : cX4_begin.data.toList.drop 70 = dktX4_begin_3 := dk_seg dksX4_begin_2 24 rfl rfl
theorem dX4_begin_0 : decode cX4_begin 0 = .ok (.iconst 0, 1) := dk_3 (dk_at dksX4_begin_0 0 rfl rfl)
theorem dX4_begin_1 : decode cX4_begin 1 = .ok (.istore_n 2, 1) := dk_61 (dk_at dksX4_begin_0 1 rfl rfl)
theorem dX4_begin_2 : decode cX4_begin 2 = .ok (.iload_n 2, 1) := dk_28 (dk_at dksX4_begin_0 2 rfl rfl)
theorem dX4_begin_3 : decode cX4_begin 3 = .ok (.bipush 8, 2) := dk_16 8 (dk_at dksX4_begin_0 3 rfl rfl)
theorem dX4_begin_5 : decode cX4_begin 5 = .ok (.if_icmp .ge 40, 3) := dk_162 0 40 (dk_at dksX4_begin_0 5 rfl rfl)
theorem dX4_begin_8 : decode cX4_begin 8 = .ok (.aload_n 0, 1) := dk_42 (dk_at dksX4_begin_0 8 rfl rfl)
theorem dX4_begin_9 : decode cX4_begin 9 = .ok (.getfield 9, 3) := dk_180 0 9 (dk_at dksX4_begin_0 9 rfl rfl)
theorem dX4_begin_12 : decode cX4_begin 12 = .ok (.iload_n 2, 1) := dk_28 (dk_at dksX4_begin_0 12 rfl rfl)
theorem dX4_begin_13 : decode cX4_begin 13 = .ok (.iload_n 2, 1) := dk_28 (dk_at dksX4_begin_0 13 rfl rfl)
theorem dX4_begin_14 : decode cX4_begin 14 = .ok (.aload_n 1, 1) := dk_43 (dk_at dksX4_begin_0 14 rfl rfl)
theorem dX4_begin_15 : decode cX4_begin 15 = .ok (.getfield 35, 3) := dk_180 0 35 (dk_at dksX4_begin_0 15 rfl rfl)
theorem dX4_begin_18 : decode cX4_begin 18 = .ok (.if_icmp .ge 12, 3) := dk_162 0 12 (dk_at dksX4_begin_0 18 rfl rfl)
theorem dX4_begin_21 : decode cX4_begin 21 = .ok (.aload_n 1, 1) := dk_43 (dk_at dksX4_begin_0 21 rfl rfl)
theorem dX4_begin_22 : decode cX4_begin 22 = .ok (.getfield 38, 3) := dk_180 0 38 (dk_at dksX4_begin_1 0 rfl rfl)
theorem dX4_begin_25 : decode cX4_begin 25 = .ok (.iload_n 2, 1) := dk_28 (dk_at dksX4_begin_1 3 rfl rfl)
theorem dX4_begin_26 : decode cX4_begin 26 = .ok (.iaload, 1) := dk_46 (dk_at dksX4_begin_1 4 rfl rfl)
theorem dX4_begin_27 : decode cX4_begin 27 = .ok (.goto 4, 3) := dk_167 0 4 (dk_at dksX4_begin_1 5 rfl rfl)
theorem dX4_begin_30 : decode cX4_begin 30 = .ok (.iconst 0, 1) := dk_3 (dk_at dksX4_begin_1 8 rfl rfl)
theorem dX4_begin_31 : decode cX4_begin 31 = .ok (.iastore, 1) := dk_79 (dk_at dksX4_begin_1 9 rfl rfl)
theorem dX4_begin_32 : decode cX4_begin 32 = .ok (.aload_n 0, 1) := dk_42 (dk_at dksX4_begin_1 10 rfl rfl)
theorem dX4_begin_33 : decode cX4_begin 33 = .ok (.getfield 15, 3) := dk_180 0 15 (dk_at dksX4_begin_1 11 rfl rfl)
theorem dX4_begin_36 : decode cX4_begin 36 = .ok (.iload_n 2, 1) := dk_28 (dk_at dksX4_begin_1 14 rfl rfl)
theorem dX4_begin_37 : decode cX4_begin 37 = .ok (.iconst (-1), 1) := dk_2 (dk_at dksX4_begin_1 15 rfl rfl)
theorem dX4_begin_38 : decode cX4_begin 38 = .ok (.iastore, 1) := dk_79 (dk_at dksX4_begin_1 16 rfl rfl)
theorem dX4_begin_39 : decode cX4_begin 39 = .ok (.iinc 2 1, 3) := dk_132 2 1 (dk_at dksX4_begin_1 17 rfl rfl)
theorem dX4_begin_42 : decode cX4_begin 42 = .ok (.goto (-40), 3) := dk_167 255 216 (dk_at dksX4_begin_1 20 rfl rfl)
theorem dX4_begin_45 : decode cX4_begin 45 = .ok (.iconst 0, 1) := dk_3 (dk_at dksX4_begin_1 23 rfl rfl)
theorem dX4_begin_46 : decode cX4_begin 46 = .ok (.istore_n 2, 1) := dk_61 (dk_at dksX4_begin_2 0 rfl rfl)
theorem dX4_begin_47 : decode cX4_begin 47 = .ok (.iload_n 2, 1) := dk_28 (dk_at dksX4_begin_2 1 rfl rfl)
theorem dX4_begin_48 : decode cX4_begin 48 = .ok (.bipush 6, 2) := dk_16 6 (dk_at dksX4_begin_2 2 rfl rfl)
theorem dX4_begin_50 : decode cX4_begin 50 = .ok (.if_icmp .ge 23, 3) := dk_162 0 23 (dk_at dksX4_begin_2 4 rfl rfl)
theorem dX4_begin_53 : decode cX4_begin 53 = .ok (.aload_n 0, 1) := dk_42 (dk_at dksX4_begin_2 7 rfl rfl)
theorem dX4_begin_54 : decode cX4_begin 54 = .ok (.getfield 18, 3) := dk_180 0 18 (dk_at dksX4_begin_2 8 rfl rfl)
theorem dX4_begin_57 : decode cX4_begin 57 = .ok (.iload_n 2, 1) := dk_28 (dk_at dksX4_begin_2 11 rfl rfl)
theorem dX4_begin_58 : decode cX4_begin 58 = .ok (.iconst 0, 1) := dk_3 (dk_at dksX4_begin_2 12 rfl rfl)
theorem dX4_begin_59 : decode cX4_begin 59 = .ok (.iastore, 1) := dk_79 (dk_at dksX4_begin_2 13 rfl rfl)
theorem dX4_begin_60 : decode cX4_begin 60 = .ok (.aload_n 0, 1) := dk_42 (dk_at dksX4_begin_2 14 rfl rfl)
theorem dX4_begin_61 : decode cX4_begin 61 = .ok (.getfield 21, 3) := dk_180 0 21 (dk_at dksX4_begin_2 15 rfl rfl)
theorem dX4_begin_64 : decode cX4_begin 64 = .ok (.iload_n 2, 1) := dk_28 (dk_at dksX4_begin_2 18 rfl rfl)
theorem dX4_begin_65 : decode cX4_begin 65 = .ok (.iconst 0, 1) := dk_3 (dk_at dksX4_begin_2 19 rfl rfl)
theorem dX4_begin_66 : decode cX4_begin 66 = .ok (.iastore, 1) := dk_79 (dk_at dksX4_begin_2 20 rfl rfl)
theorem dX4_begin_67 : decode cX4_begin 67 = .ok (.iinc 2 1, 3) := dk_132 2 1 (dk_at dksX4_begin_2 21 rfl rfl)
theorem dX4_begin_70 : decode cX4_begin 70 = .ok (.goto (-23), 3) := dk_167 255 233 (dk_at dksX4_begin_3 0 rfl rfl)
theorem dX4_begin_73 : decode cX4_begin 73 = .ok (.aload_n 0, 1) := dk_42 (dk_at dksX4_begin_3 3 rfl rfl)
theorem dX4_begin_74 : decode cX4_begin 74 = .ok (.iconst 0, 1) := dk_3 (dk_at dksX4_begin_3 4 rfl rfl)
theorem dX4_begin_75 : decode cX4_begin 75 = .ok (.putfield 28, 3) := dk_181 0 28 (dk_at dksX4_begin_3 5 rfl rfl)
theorem dX4_begin_78 : decode cX4_begin 78 = .ok (.aload_n 0, 1) := dk_42 (dk_at dksX4_begin_3 8 rfl rfl)
theorem dX4_begin_79 : decode cX4_begin 79 = .ok (.aload_n 1, 1) := dk_43 (dk_at dksX4_begin_3 9 rfl rfl)
theorem dX4_begin_80 : decode cX4_begin 80 = .ok (.getfield 35, 3) := dk_180 0 35 (dk_at dksX4_begin_3 10 rfl rfl)
theorem dX4_begin_83 : decode cX4_begin 83 = .ok (.putfield 32, 3) := dk_181 0 32 (dk_at dksX4_begin_3 13 rfl rfl)
theorem dX4_begin_86 : decode cX4_begin 86 = .ok (.return_, 1) := dk_177 (dk_at dksX4_begin_3 16 rfl rfl)
abbrev cX4_by : ByteArray := prog_16_method_4_code
def yX4_by : MethodName := ⟨RX4, "by", "(I)I"⟩
def dkwX4_by_1 : List UInt8 := [128, 61, 132, 3, 1, 167, 255, 231, 28, 172]
abbrev dktX4_by_1 : List UInt8 := dkwX4_by_1 ++ []
def dkwX4_by_0 : List UInt8 := [3, 61, 3, 62, 29, 16, 8, 162, 0, 25, 42, 180, 0, 15, 29, 46, 27, 160, 0, 9, 28, 4, 29, 120]
abbrev dktX4_by_0 : List UInt8 := dkwX4_by_0 ++ dktX4_by_1
theorem dksX4_by_0 : cX4_by.data.toList.drop 0 = dktX4_by_0 := by decide +kernel
theorem dksX4_by_1 : cX4_by.data.toList.drop 24 = dktX4_by_1 := dk_seg dksX4_by_0 24 rfl rfl
theorem dX4_by_0 : decode cX4_by 0 = .ok (.iconst 0, 1) := dk_3 (dk_at dksX4_by_0 0 rfl rfl)
theorem dX4_by_1 : decode cX4_by 1 = .ok (.istore_n 2, 1) := dk_61 (dk_at dksX4_by_0 1 rfl rfl)
theorem dX4_by_2 : decode cX4_by 2 = .ok (.iconst 0, 1) := dk_3 (dk_at dksX4_by_0 2 rfl rfl)
theorem dX4_by_3 : decode cX4_by 3 = .ok (.istore_n 3, 1) := dk_62 (dk_at dksX4_by_0 3 rfl rfl)
theorem dX4_by_4 : decode cX4_by 4 = .ok (.iload_n 3, 1) := dk_29 (dk_at dksX4_by_0 4 rfl rfl)
theorem dX4_by_5 : decode cX4_by 5 = .ok (.bipush 8, 2) := dk_16 8 (dk_at dksX4_by_0 5 rfl rfl)
theorem dX4_by_7 : decode cX4_by 7 = .ok (.if_icmp .ge 25, 3) := dk_162 0 25 (dk_at dksX4_by_0 7 rfl rfl)
theorem dX4_by_10 : decode cX4_by 10 = .ok (.aload_n 0, 1) := dk_42 (dk_at dksX4_by_0 10 rfl rfl)
theorem dX4_by_11 : decode cX4_by 11 = .ok (.getfield 15, 3) := dk_180 0 15 (dk_at dksX4_by_0 11 rfl rfl)
theorem dX4_by_14 : decode cX4_by 14 = .ok (.iload_n 3, 1) := dk_29 (dk_at dksX4_by_0 14 rfl rfl)
theorem dX4_by_15 : decode cX4_by 15 = .ok (.iaload, 1) := dk_46 (dk_at dksX4_by_0 15 rfl rfl)
theorem dX4_by_16 : decode cX4_by 16 = .ok (.iload_n 1, 1) := dk_27 (dk_at dksX4_by_0 16 rfl rfl)
theorem dX4_by_17 : decode cX4_by 17 = .ok (.if_icmp .ne 9, 3) := dk_160 0 9 (dk_at dksX4_by_0 17 rfl rfl)
theorem dX4_by_20 : decode cX4_by 20 = .ok (.iload_n 2, 1) := dk_28 (dk_at dksX4_by_0 20 rfl rfl)
theorem dX4_by_21 : decode cX4_by 21 = .ok (.iconst 1, 1) := dk_4 (dk_at dksX4_by_0 21 rfl rfl)
theorem dX4_by_22 : decode cX4_by 22 = .ok (.iload_n 3, 1) := dk_29 (dk_at dksX4_by_0 22 rfl rfl)
theorem dX4_by_23 : decode cX4_by 23 = .ok (.ishl, 1) := dk_120 (dk_at dksX4_by_0 23 rfl rfl)
theorem dX4_by_24 : decode cX4_by 24 = .ok (.ior, 1) := dk_128 (dk_at dksX4_by_1 0 rfl rfl)
theorem dX4_by_25 : decode cX4_by 25 = .ok (.istore_n 2, 1) := dk_61 (dk_at dksX4_by_1 1 rfl rfl)
theorem dX4_by_26 : decode cX4_by 26 = .ok (.iinc 3 1, 3) := dk_132 3 1 (dk_at dksX4_by_1 2 rfl rfl)
theorem dX4_by_29 : decode cX4_by 29 = .ok (.goto (-25), 3) := dk_167 255 231 (dk_at dksX4_by_1 5 rfl rfl)
theorem dX4_by_32 : decode cX4_by 32 = .ok (.iload_n 2, 1) := dk_28 (dk_at dksX4_by_1 8 rfl rfl)
theorem dX4_by_33 : decode cX4_by 33 = .ok (.ireturn, 1) := dk_172 (dk_at dksX4_by_1 9 rfl rfl)
abbrev cX4_free : ByteArray := prog_16_method_6_code
def yX4_free : MethodName := ⟨RX4, "free", "()I"⟩
def dkwX4_free_1 : List UInt8 := [180, 0, 9, 28, 46, 158, 0, 9, 27, 4, 28, 120, 128, 60, 132, 2, 1, 167, 255, 221, 27, 172]
abbrev dktX4_free_1 : List UInt8 := dkwX4_free_1 ++ []
def dkwX4_free_0 : List UInt8 := [3, 60, 3, 61, 28, 42, 180, 0, 32, 162, 0, 33, 42, 180, 0, 15, 28, 46, 156, 0, 18, 42]
abbrev dktX4_free_0 : List UInt8 := dkwX4_free_0 ++ dktX4_free_1
theorem dksX4_free_0 : cX4_free.data.toList.drop 0 = dktX4_free_0 := by decide +kernel
theorem dksX4_free_1 : cX4_free.data.toList.drop 22 = dktX4_free_1 := dk_seg dksX4_free_0 22 rfl rfl
theorem dX4_free_0 : decode cX4_free 0 = .ok (.iconst 0, 1) := dk_3 (dk_at dksX4_free_0 0 rfl rfl)
theorem dX4_free_1 : decode cX4_free 1 = .ok (.istore_n 1, 1) := dk_60 (dk_at dksX4_free_0 1 rfl rfl)
theorem dX4_free_2 : decode cX4_free 2 = .ok (.iconst 0, 1) := dk_3 (dk_at dksX4_free_0 2 rfl rfl)
theorem dX4_free_3 : decode cX4_free 3 = .ok (.istore_n 2, 1) := dk_61 (dk_at dksX4_free_0 3 rfl rfl)
theorem dX4_free_4 : decode cX4_free 4 = .ok (.iload_n 2, 1) := dk_28 (dk_at dksX4_free_0 4 rfl rfl)
theorem dX4_free_5 : decode cX4_free 5 = .ok (.aload_n 0, 1) := dk_42 (dk_at dksX4_free_0 5 rfl rfl)
theorem dX4_free_6 : decode cX4_free 6 = .ok (.getfield 32, 3) := dk_180 0 32 (dk_at dksX4_free_0 6 rfl rfl)
theorem dX4_free_9 : decode cX4_free 9 = .ok (.if_icmp .ge 33, 3) := dk_162 0 33 (dk_at dksX4_free_0 9 rfl rfl)
theorem dX4_free_12 : decode cX4_free 12 = .ok (.aload_n 0, 1) := dk_42 (dk_at dksX4_free_0 12 rfl rfl)
theorem dX4_free_13 : decode cX4_free 13 = .ok (.getfield 15, 3) := dk_180 0 15 (dk_at dksX4_free_0 13 rfl rfl)
theorem dX4_free_16 : decode cX4_free 16 = .ok (.iload_n 2, 1) := dk_28 (dk_at dksX4_free_0 16 rfl rfl)
theorem dX4_free_17 : decode cX4_free 17 = .ok (.iaload, 1) := dk_46 (dk_at dksX4_free_0 17 rfl rfl)
theorem dX4_free_18 : decode cX4_free 18 = .ok (.ifCond .ge 18, 3) := dk_156 0 18 (dk_at dksX4_free_0 18 rfl rfl)
theorem dX4_free_21 : decode cX4_free 21 = .ok (.aload_n 0, 1) := dk_42 (dk_at dksX4_free_0 21 rfl rfl)
theorem dX4_free_22 : decode cX4_free 22 = .ok (.getfield 9, 3) := dk_180 0 9 (dk_at dksX4_free_1 0 rfl rfl)
theorem dX4_free_25 : decode cX4_free 25 = .ok (.iload_n 2, 1) := dk_28 (dk_at dksX4_free_1 3 rfl rfl)
theorem dX4_free_26 : decode cX4_free 26 = .ok (.iaload, 1) := dk_46 (dk_at dksX4_free_1 4 rfl rfl)
theorem dX4_free_27 : decode cX4_free 27 = .ok (.ifCond .le 9, 3) := dk_158 0 9 (dk_at dksX4_free_1 5 rfl rfl)
theorem dX4_free_30 : decode cX4_free 30 = .ok (.iload_n 1, 1) := dk_27 (dk_at dksX4_free_1 8 rfl rfl)
theorem dX4_free_31 : decode cX4_free 31 = .ok (.iconst 1, 1) := dk_4 (dk_at dksX4_free_1 9 rfl rfl)
theorem dX4_free_32 : decode cX4_free 32 = .ok (.iload_n 2, 1) := dk_28 (dk_at dksX4_free_1 10 rfl rfl)
theorem dX4_free_33 : decode cX4_free 33 = .ok (.ishl, 1) := dk_120 (dk_at dksX4_free_1 11 rfl rfl)
theorem dX4_free_34 : decode cX4_free 34 = .ok (.ior, 1) := dk_128 (dk_at dksX4_free_1 12 rfl rfl)
theorem dX4_free_35 : decode cX4_free 35 = .ok (.istore_n 1, 1) := dk_60 (dk_at dksX4_free_1 13 rfl rfl)
theorem dX4_free_36 : decode cX4_free 36 = .ok (.iinc 2 1, 3) := dk_132 2 1 (dk_at dksX4_free_1 14 rfl rfl)
theorem dX4_free_39 : decode cX4_free 39 = .ok (.goto (-35), 3) := dk_167 255 221 (dk_at dksX4_free_1 17 rfl rfl)
theorem dX4_free_42 : decode cX4_free 42 = .ok (.iload_n 1, 1) := dk_27 (dk_at dksX4_free_1 20 rfl rfl)
theorem dX4_free_43 : decode cX4_free 43 = .ok (.ireturn, 1) := dk_172 (dk_at dksX4_free_1 21 rfl rfl)
abbrev cX4_be : ByteArray := prog_16_method_2_code
def yX4_be : MethodName := ⟨RX4, "be", "(LPegLaws$State;)V"⟩
def dkwX4_be_2 : List UInt8 := [180, 0, 28, 181, 0, 28, 42, 43, 180, 0, 32, 181, 0, 32, 177]
abbrev dktX4_be_2 : List UInt8 := dkwX4_be_2 ++ []
def dkwX4_be_1 : List UInt8 := [180, 0, 18, 42, 180, 0, 18, 184, 0, 24, 43, 180, 0, 21, 42, 180, 0, 21, 184, 0, 24, 42, 43]
abbrev dktX4_be_1 : List UInt8 := dkwX4_be_1 ++ dktX4_be_2
def dkwX4_be_0 : List UInt8 := [43, 180, 0, 9, 42, 180, 0, 9, 184, 0, 24, 43, 180, 0, 15, 42, 180, 0, 15, 184, 0, 24, 43]
abbrev dktX4_be_0 : List UInt8 := dkwX4_be_0 ++ dktX4_be_1
theorem dksX4_be_0 : cX4_be.data.toList.drop 0 = dktX4_be_0 := by decide +kernel
theorem dksX4_be_1 : cX4_be.data.toList.drop 23 = dktX4_be_1 := dk_seg dksX4_be_0 23 rfl rfl
theorem dksX4_be_2 : cX4_be.data.toList.drop 46 = dktX4_be_2 := dk_seg dksX4_be_1 23 rfl rfl
theorem dX4_be_0 : decode cX4_be 0 = .ok (.aload_n 1, 1) := dk_43 (dk_at dksX4_be_0 0 rfl rfl)
theorem dX4_be_1 : decode cX4_be 1 = .ok (.getfield 9, 3) := dk_180 0 9 (dk_at dksX4_be_0 1 rfl rfl)
theorem dX4_be_4 : decode cX4_be 4 = .ok (.aload_n 0, 1) := dk_42 (dk_at dksX4_be_0 4 rfl rfl)
theorem dX4_be_5 : decode cX4_be 5 = .ok (.getfield 9, 3) := dk_180 0 9 (dk_at dksX4_be_0 5 rfl rfl)
theorem dX4_be_8 : decode cX4_be 8 = .ok (.invokestatic 24, 3) := dk_184 0 24 (dk_at dksX4_be_0 8 rfl rfl)
theorem dX4_be_11 : decode cX4_be 11 = .ok (.aload_n 1, 1) := dk_43 (dk_at dksX4_be_0 11 rfl rfl)
theorem dX4_be_12 : decode cX4_be 12 = .ok (.getfield 15, 3) := dk_180 0 15 (dk_at dksX4_be_0 12 rfl rfl)
theorem dX4_be_15 : decode cX4_be 15 = .ok (.aload_n 0, 1) := dk_42 (dk_at dksX4_be_0 15 rfl rfl)
theorem dX4_be_16 : decode cX4_be 16 = .ok (.getfield 15, 3) := dk_180 0 15 (dk_at dksX4_be_0 16 rfl rfl)
theorem dX4_be_19 : decode cX4_be 19 = .ok (.invokestatic 24, 3) := dk_184 0 24 (dk_at dksX4_be_0 19 rfl rfl)
theorem dX4_be_22 : decode cX4_be 22 = .ok (.aload_n 1, 1) := dk_43 (dk_at dksX4_be_0 22 rfl rfl)
theorem dX4_be_23 : decode cX4_be 23 = .ok (.getfield 18, 3) := dk_180 0 18 (dk_at dksX4_be_1 0 rfl rfl)
theorem dX4_be_26 : decode cX4_be 26 = .ok (.aload_n 0, 1) := dk_42 (dk_at dksX4_be_1 3 rfl rfl)
theorem dX4_be_27 : decode cX4_be 27 = .ok (.getfield 18, 3) := dk_180 0 18 (dk_at dksX4_be_1 4 rfl rfl)
theorem dX4_be_30 : decode cX4_be 30 = .ok (.invokestatic 24, 3) := dk_184 0 24 (dk_at dksX4_be_1 7 rfl rfl)
theorem dX4_be_33 : decode cX4_be 33 = .ok (.aload_n 1, 1) := dk_43 (dk_at dksX4_be_1 10 rfl rfl)
theorem dX4_be_34 : decode cX4_be 34 = .ok (.getfield 21, 3) := dk_180 0 21 (dk_at dksX4_be_1 11 rfl rfl)
theorem dX4_be_37 : decode cX4_be 37 = .ok (.aload_n 0, 1) := dk_42 (dk_at dksX4_be_1 14 rfl rfl)
theorem dX4_be_38 : decode cX4_be 38 = .ok (.getfield 21, 3) := dk_180 0 21 (dk_at dksX4_be_1 15 rfl rfl)
theorem dX4_be_41 : decode cX4_be 41 = .ok (.invokestatic 24, 3) := dk_184 0 24 (dk_at dksX4_be_1 18 rfl rfl)
theorem dX4_be_44 : decode cX4_be 44 = .ok (.aload_n 0, 1) := dk_42 (dk_at dksX4_be_1 21 rfl rfl)
theorem dX4_be_45 : decode cX4_be 45 = .ok (.aload_n 1, 1) := dk_43 (dk_at dksX4_be_1 22 rfl rfl)
theorem dX4_be_46 : decode cX4_be 46 = .ok (.getfield 28, 3) := dk_180 0 28 (dk_at dksX4_be_2 0 rfl rfl)
theorem dX4_be_49 : decode cX4_be 49 = .ok (.putfield 28, 3) := dk_181 0 28 (dk_at dksX4_be_2 3 rfl rfl)
theorem dX4_be_52 : decode cX4_be 52 = .ok (.aload_n 0, 1) := dk_42 (dk_at dksX4_be_2 6 rfl rfl)
theorem dX4_be_53 : decode cX4_be 53 = .ok (.aload_n 1, 1) := dk_43 (dk_at dksX4_be_2 7 rfl rfl)
theorem dX4_be_54 : decode cX4_be 54 = .ok (.getfield 32, 3) := dk_180 0 32 (dk_at dksX4_be_2 8 rfl rfl)
theorem dX4_be_57 : decode cX4_be 57 = .ok (.putfield 32, 3) := dk_181 0 32 (dk_at dksX4_be_2 11 rfl rfl)
theorem dX4_be_60 : decode cX4_be 60 = .ok (.return_, 1) := dk_177 (dk_at dksX4_be_2 14 rfl rfl)
abbrev cX4_hangs : ByteArray := prog_16_method_7_code
def yX4_hangs : MethodName := ⟨RX4, "hangs", "(II)V"⟩
def dkwX4_hangs_1 : List UInt8 := [132, 3, 1, 167, 255, 232, 177]
abbrev dktX4_hangs_1 : List UInt8 := dkwX4_hangs_1 ++ []
def dkwX4_hangs_0 : List UInt8 := [3, 62, 29, 16, 8, 162, 0, 24, 28, 29, 184, 0, 41, 153, 0, 10, 42, 180, 0, 15, 29, 27, 79]
abbrev dktX4_hangs_0 : List UInt8 := dkwX4_hangs_0 ++ dktX4_hangs_1
theorem dksX4_hangs_0 : cX4_hangs.data.toList.drop 0 = dktX4_hangs_0 := by decide +kernel
theorem dksX4_hangs_1 : cX4_hangs.data.toList.drop 23 = dktX4_hangs_1 := dk_seg dksX4_hangs_0 23 rfl rfl
theorem dX4_hangs_0 : decode cX4_hangs 0 = .ok (.iconst 0, 1) := dk_3 (dk_at dksX4_hangs_0 0 rfl rfl)
theorem dX4_hangs_1 : decode cX4_hangs 1 = .ok (.istore_n 3, 1) := dk_62 (dk_at dksX4_hangs_0 1 rfl rfl)
theorem dX4_hangs_2 : decode cX4_hangs 2 = .ok (.iload_n 3, 1) := dk_29 (dk_at dksX4_hangs_0 2 rfl rfl)
theorem dX4_hangs_3 : decode cX4_hangs 3 = .ok (.bipush 8, 2) := dk_16 8 (dk_at dksX4_hangs_0 3 rfl rfl)
theorem dX4_hangs_5 : decode cX4_hangs 5 = .ok (.if_icmp .ge 24, 3) := dk_162 0 24 (dk_at dksX4_hangs_0 5 rfl rfl)
theorem dX4_hangs_8 : decode cX4_hangs 8 = .ok (.iload_n 2, 1) := dk_28 (dk_at dksX4_hangs_0 8 rfl rfl)
theorem dX4_hangs_9 : decode cX4_hangs 9 = .ok (.iload_n 3, 1) := dk_29 (dk_at dksX4_hangs_0 9 rfl rfl)
theorem dX4_hangs_10 : decode cX4_hangs 10 = .ok (.invokestatic 41, 3) := dk_184 0 41 (dk_at dksX4_hangs_0 10 rfl rfl)
theorem dX4_hangs_13 : decode cX4_hangs 13 = .ok (.ifCond .eq 10, 3) := dk_153 0 10 (dk_at dksX4_hangs_0 13 rfl rfl)
theorem dX4_hangs_16 : decode cX4_hangs 16 = .ok (.aload_n 0, 1) := dk_42 (dk_at dksX4_hangs_0 16 rfl rfl)
theorem dX4_hangs_17 : decode cX4_hangs 17 = .ok (.getfield 15, 3) := dk_180 0 15 (dk_at dksX4_hangs_0 17 rfl rfl)
theorem dX4_hangs_20 : decode cX4_hangs 20 = .ok (.iload_n 3, 1) := dk_29 (dk_at dksX4_hangs_0 20 rfl rfl)
theorem dX4_hangs_21 : decode cX4_hangs 21 = .ok (.iload_n 1, 1) := dk_27 (dk_at dksX4_hangs_0 21 rfl rfl)
theorem dX4_hangs_22 : decode cX4_hangs 22 = .ok (.iastore, 1) := dk_79 (dk_at dksX4_hangs_0 22 rfl rfl)
theorem dX4_hangs_23 : decode cX4_hangs 23 = .ok (.iinc 3 1, 3) := dk_132 3 1 (dk_at dksX4_hangs_1 0 rfl rfl)
theorem dX4_hangs_26 : decode cX4_hangs 26 = .ok (.goto (-24), 3) := dk_167 255 232 (dk_at dksX4_hangs_1 3 rfl rfl)
theorem dX4_hangs_29 : decode cX4_hangs 29 = .ok (.return_, 1) := dk_177 (dk_at dksX4_hangs_1 6 rfl rfl)
abbrev cX4_comesIn : ByteArray := prog_16_method_8_code
def yX4_comesIn : MethodName := ⟨RX4, "comesIn", "(I)V"⟩
def dkwX4_comesIn_1 : List UInt8 := [79, 132, 2, 1, 167, 255, 230, 177]
abbrev dktX4_comesIn_1 : List UInt8 := dkwX4_comesIn_1 ++ []
def dkwX4_comesIn_0 : List UInt8 := [3, 61, 28, 16, 8, 162, 0, 26, 42, 180, 0, 15, 28, 46, 27, 160, 0, 10, 42, 180, 0, 15, 28, 2]
abbrev dktX4_comesIn_0 : List UInt8 := dkwX4_comesIn_0 ++ dktX4_comesIn_1
theorem dksX4_comesIn_0 : cX4_comesIn.data.toList.drop 0 = dktX4_comesIn_0 := by decide +kernel
theorem dksX4_comesIn_1 : cX4_comesIn.data.toList.drop 24 = dktX4_comesIn_1 := dk_seg dksX4_comesIn_0 24 rfl rfl
theorem dX4_comesIn_0 : decode cX4_comesIn 0 = .ok (.iconst 0, 1) := dk_3 (dk_at dksX4_comesIn_0 0 rfl rfl)
theorem dX4_comesIn_1 : decode cX4_comesIn 1 = .ok (.istore_n 2, 1) := dk_61 (dk_at dksX4_comesIn_0 1 rfl rfl)
theorem dX4_comesIn_2 : decode cX4_comesIn 2 = .ok (.iload_n 2, 1) := dk_28 (dk_at dksX4_comesIn_0 2 rfl rfl)
theorem dX4_comesIn_3 : decode cX4_comesIn 3 = .ok (.bipush 8, 2) := dk_16 8 (dk_at dksX4_comesIn_0 3 rfl rfl)
theorem dX4_comesIn_5 : decode cX4_comesIn 5 = .ok (.if_icmp .ge 26, 3) := dk_162 0 26 (dk_at dksX4_comesIn_0 5 rfl rfl)
theorem dX4_comesIn_8 : decode cX4_comesIn 8 = .ok (.aload_n 0, 1) := dk_42 (dk_at dksX4_comesIn_0 8 rfl rfl)
theorem dX4_comesIn_9 : decode cX4_comesIn 9 = .ok (.getfield 15, 3) := dk_180 0 15 (dk_at dksX4_comesIn_0 9 rfl rfl)
theorem dX4_comesIn_12 : decode cX4_comesIn 12 = .ok (.iload_n 2, 1) := dk_28 (dk_at dksX4_comesIn_0 12 rfl rfl)
theorem dX4_comesIn_13 : decode cX4_comesIn 13 = .ok (.iaload, 1) := dk_46 (dk_at dksX4_comesIn_0 13 rfl rfl)
theorem dX4_comesIn_14 : decode cX4_comesIn 14 = .ok (.iload_n 1, 1) := dk_27 (dk_at dksX4_comesIn_0 14 rfl rfl)
theorem dX4_comesIn_15 : decode cX4_comesIn 15 = .ok (.if_icmp .ne 10, 3) := dk_160 0 10 (dk_at dksX4_comesIn_0 15 rfl rfl)
theorem dX4_comesIn_18 : decode cX4_comesIn 18 = .ok (.aload_n 0, 1) := dk_42 (dk_at dksX4_comesIn_0 18 rfl rfl)
theorem dX4_comesIn_19 : decode cX4_comesIn 19 = .ok (.getfield 15, 3) := dk_180 0 15 (dk_at dksX4_comesIn_0 19 rfl rfl)
theorem dX4_comesIn_22 : decode cX4_comesIn 22 = .ok (.iload_n 2, 1) := dk_28 (dk_at dksX4_comesIn_0 22 rfl rfl)
theorem dX4_comesIn_23 : decode cX4_comesIn 23 = .ok (.iconst (-1), 1) := dk_2 (dk_at dksX4_comesIn_0 23 rfl rfl)
theorem dX4_comesIn_24 : decode cX4_comesIn 24 = .ok (.iastore, 1) := dk_79 (dk_at dksX4_comesIn_1 0 rfl rfl)
theorem dX4_comesIn_25 : decode cX4_comesIn 25 = .ok (.iinc 2 1, 3) := dk_132 2 1 (dk_at dksX4_comesIn_1 1 rfl rfl)
theorem dX4_comesIn_28 : decode cX4_comesIn 28 = .ok (.goto (-26), 3) := dk_167 255 230 (dk_at dksX4_comesIn_1 4 rfl rfl)
theorem dX4_comesIn_31 : decode cX4_comesIn 31 = .ok (.return_, 1) := dk_177 (dk_at dksX4_comesIn_1 7 rfl rfl)
abbrev cX4_grips : ByteArray := prog_16_method_5_code
def yX4_grips : MethodName := ⟨RX4, "grips", "(I)I"⟩
def dkwX4_grips_1 : List UInt8 := [46, 96, 61, 132, 3, 1, 167, 255, 230, 28, 172]
abbrev dktX4_grips_1 : List UInt8 := dkwX4_grips_1 ++ []
def dkwX4_grips_0 : List UInt8 := [3, 61, 3, 62, 29, 16, 8, 162, 0, 26, 27, 29, 184, 0, 41, 153, 0, 12, 28, 42, 180, 0, 9, 29]
abbrev dktX4_grips_0 : List UInt8 := dkwX4_grips_0 ++ dktX4_grips_1
theorem dksX4_grips_0 : cX4_grips.data.toList.drop 0 = dktX4_grips_0 := by decide +kernel
theorem dksX4_grips_1 : cX4_grips.data.toList.drop 24 = dktX4_grips_1 := dk_seg dksX4_grips_0 24 rfl rfl
theorem dX4_grips_0 : decode cX4_grips 0 = .ok (.iconst 0, 1) := dk_3 (dk_at dksX4_grips_0 0 rfl rfl)
theorem dX4_grips_1 : decode cX4_grips 1 = .ok (.istore_n 2, 1) := dk_61 (dk_at dksX4_grips_0 1 rfl rfl)
theorem dX4_grips_2 : decode cX4_grips 2 = .ok (.iconst 0, 1) := dk_3 (dk_at dksX4_grips_0 2 rfl rfl)
theorem dX4_grips_3 : decode cX4_grips 3 = .ok (.istore_n 3, 1) := dk_62 (dk_at dksX4_grips_0 3 rfl rfl)
theorem dX4_grips_4 : decode cX4_grips 4 = .ok (.iload_n 3, 1) := dk_29 (dk_at dksX4_grips_0 4 rfl rfl)
theorem dX4_grips_5 : decode cX4_grips 5 = .ok (.bipush 8, 2) := dk_16 8 (dk_at dksX4_grips_0 5 rfl rfl)
theorem dX4_grips_7 : decode cX4_grips 7 = .ok (.if_icmp .ge 26, 3) := dk_162 0 26 (dk_at dksX4_grips_0 7 rfl rfl)
theorem dX4_grips_10 : decode cX4_grips 10 = .ok (.iload_n 1, 1) := dk_27 (dk_at dksX4_grips_0 10 rfl rfl)
theorem dX4_grips_11 : decode cX4_grips 11 = .ok (.iload_n 3, 1) := dk_29 (dk_at dksX4_grips_0 11 rfl rfl)
theorem dX4_grips_12 : decode cX4_grips 12 = .ok (.invokestatic 41, 3) := dk_184 0 41 (dk_at dksX4_grips_0 12 rfl rfl)
theorem dX4_grips_15 : decode cX4_grips 15 = .ok (.ifCond .eq 12, 3) := dk_153 0 12 (dk_at dksX4_grips_0 15 rfl rfl)
theorem dX4_grips_18 : decode cX4_grips 18 = .ok (.iload_n 2, 1) := dk_28 (dk_at dksX4_grips_0 18 rfl rfl)
theorem dX4_grips_19 : decode cX4_grips 19 = .ok (.aload_n 0, 1) := dk_42 (dk_at dksX4_grips_0 19 rfl rfl)
theorem dX4_grips_20 : decode cX4_grips 20 = .ok (.getfield 9, 3) := dk_180 0 9 (dk_at dksX4_grips_0 20 rfl rfl)
theorem dX4_grips_23 : decode cX4_grips 23 = .ok (.iload_n 3, 1) := dk_29 (dk_at dksX4_grips_0 23 rfl rfl)
theorem dX4_grips_24 : decode cX4_grips 24 = .ok (.iaload, 1) := dk_46 (dk_at dksX4_grips_1 0 rfl rfl)
theorem dX4_grips_25 : decode cX4_grips 25 = .ok (.iadd, 1) := dk_96 (dk_at dksX4_grips_1 1 rfl rfl)
theorem dX4_grips_26 : decode cX4_grips 26 = .ok (.istore_n 2, 1) := dk_61 (dk_at dksX4_grips_1 2 rfl rfl)
theorem dX4_grips_27 : decode cX4_grips 27 = .ok (.iinc 3 1, 3) := dk_132 3 1 (dk_at dksX4_grips_1 3 rfl rfl)
theorem dX4_grips_30 : decode cX4_grips 30 = .ok (.goto (-26), 3) := dk_167 255 230 (dk_at dksX4_grips_1 6 rfl rfl)
theorem dX4_grips_33 : decode cX4_grips 33 = .ok (.iload_n 2, 1) := dk_28 (dk_at dksX4_grips_1 9 rfl rfl)
theorem dX4_grips_34 : decode cX4_grips 34 = .ok (.ireturn, 1) := dk_172 (dk_at dksX4_grips_1 10 rfl rfl)
abbrev cX4_wears : ByteArray := prog_16_method_9_code
def yX4_wears : MethodName := ⟨RX4, "wears", "(I)V"⟩
def dkwX4_wears_2 : List UInt8 := [154, 0, 10, 42, 180, 0, 15, 28, 2, 79, 132, 2, 1, 167, 255, 200, 177]
abbrev dktX4_wears_2 : List UInt8 := dkwX4_wears_2 ++ []
def dkwX4_wears_1 : List UInt8 := [180, 0, 9, 28, 3, 42, 180, 0, 9, 28, 46, 4, 100, 184, 0, 45, 79, 42, 180, 0, 9, 28, 46]
abbrev dktX4_wears_1 : List UInt8 := dkwX4_wears_1 ++ dktX4_wears_2
def dkwX4_wears_0 : List UInt8 := [3, 61, 28, 16, 8, 162, 0, 56, 42, 180, 0, 15, 28, 46, 27, 159, 0, 6, 167, 0, 37, 42]
abbrev dktX4_wears_0 : List UInt8 := dkwX4_wears_0 ++ dktX4_wears_1
theorem dksX4_wears_0 : cX4_wears.data.toList.drop 0 = dktX4_wears_0 := by decide +kernel
theorem dksX4_wears_1 : cX4_wears.data.toList.drop 22 = dktX4_wears_1 := dk_seg dksX4_wears_0 22 rfl rfl
theorem dksX4_wears_2 : cX4_wears.data.toList.drop 45 = dktX4_wears_2 := dk_seg dksX4_wears_1 23 rfl rfl
theorem dX4_wears_0 : decode cX4_wears 0 = .ok (.iconst 0, 1) := dk_3 (dk_at dksX4_wears_0 0 rfl rfl)
theorem dX4_wears_1 : decode cX4_wears 1 = .ok (.istore_n 2, 1) := dk_61 (dk_at dksX4_wears_0 1 rfl rfl)
theorem dX4_wears_2 : decode cX4_wears 2 = .ok (.iload_n 2, 1) := dk_28 (dk_at dksX4_wears_0 2 rfl rfl)
theorem dX4_wears_3 : decode cX4_wears 3 = .ok (.bipush 8, 2) := dk_16 8 (dk_at dksX4_wears_0 3 rfl rfl)
theorem dX4_wears_5 : decode cX4_wears 5 = .ok (.if_icmp .ge 56, 3) := dk_162 0 56 (dk_at dksX4_wears_0 5 rfl rfl)
theorem dX4_wears_8 : decode cX4_wears 8 = .ok (.aload_n 0, 1) := dk_42 (dk_at dksX4_wears_0 8 rfl rfl)
theorem dX4_wears_9 : decode cX4_wears 9 = .ok (.getfield 15, 3) := dk_180 0 15 (dk_at dksX4_wears_0 9 rfl rfl)
theorem dX4_wears_12 : decode cX4_wears 12 = .ok (.iload_n 2, 1) := dk_28 (dk_at dksX4_wears_0 12 rfl rfl)
theorem dX4_wears_13 : decode cX4_wears 13 = .ok (.iaload, 1) := dk_46 (dk_at dksX4_wears_0 13 rfl rfl)
theorem dX4_wears_14 : decode cX4_wears 14 = .ok (.iload_n 1, 1) := dk_27 (dk_at dksX4_wears_0 14 rfl rfl)
theorem dX4_wears_15 : decode cX4_wears 15 = .ok (.if_icmp .eq 6, 3) := dk_159 0 6 (dk_at dksX4_wears_0 15 rfl rfl)
theorem dX4_wears_18 : decode cX4_wears 18 = .ok (.goto 37, 3) := dk_167 0 37 (dk_at dksX4_wears_0 18 rfl rfl)
theorem dX4_wears_21 : decode cX4_wears 21 = .ok (.aload_n 0, 1) := dk_42 (dk_at dksX4_wears_0 21 rfl rfl)
theorem dX4_wears_22 : decode cX4_wears 22 = .ok (.getfield 9, 3) := dk_180 0 9 (dk_at dksX4_wears_1 0 rfl rfl)
theorem dX4_wears_25 : decode cX4_wears 25 = .ok (.iload_n 2, 1) := dk_28 (dk_at dksX4_wears_1 3 rfl rfl)
theorem dX4_wears_26 : decode cX4_wears 26 = .ok (.iconst 0, 1) := dk_3 (dk_at dksX4_wears_1 4 rfl rfl)
theorem dX4_wears_27 : decode cX4_wears 27 = .ok (.aload_n 0, 1) := dk_42 (dk_at dksX4_wears_1 5 rfl rfl)
theorem dX4_wears_28 : decode cX4_wears 28 = .ok (.getfield 9, 3) := dk_180 0 9 (dk_at dksX4_wears_1 6 rfl rfl)
theorem dX4_wears_31 : decode cX4_wears 31 = .ok (.iload_n 2, 1) := dk_28 (dk_at dksX4_wears_1 9 rfl rfl)
theorem dX4_wears_32 : decode cX4_wears 32 = .ok (.iaload, 1) := dk_46 (dk_at dksX4_wears_1 10 rfl rfl)
theorem dX4_wears_33 : decode cX4_wears 33 = .ok (.iconst 1, 1) := dk_4 (dk_at dksX4_wears_1 11 rfl rfl)
theorem dX4_wears_34 : decode cX4_wears 34 = .ok (.isub, 1) := dk_100 (dk_at dksX4_wears_1 12 rfl rfl)
theorem dX4_wears_35 : decode cX4_wears 35 = .ok (.invokestatic 45, 3) := dk_184 0 45 (dk_at dksX4_wears_1 13 rfl rfl)
theorem dX4_wears_38 : decode cX4_wears 38 = .ok (.iastore, 1) := dk_79 (dk_at dksX4_wears_1 16 rfl rfl)
theorem dX4_wears_39 : decode cX4_wears 39 = .ok (.aload_n 0, 1) := dk_42 (dk_at dksX4_wears_1 17 rfl rfl)
theorem dX4_wears_40 : decode cX4_wears 40 = .ok (.getfield 9, 3) := dk_180 0 9 (dk_at dksX4_wears_1 18 rfl rfl)
theorem dX4_wears_43 : decode cX4_wears 43 = .ok (.iload_n 2, 1) := dk_28 (dk_at dksX4_wears_1 21 rfl rfl)
theorem dX4_wears_44 : decode cX4_wears 44 = .ok (.iaload, 1) := dk_46 (dk_at dksX4_wears_1 22 rfl rfl)
theorem dX4_wears_45 : decode cX4_wears 45 = .ok (.ifCond .ne 10, 3) := dk_154 0 10 (dk_at dksX4_wears_2 0 rfl rfl)
theorem dX4_wears_48 : decode cX4_wears 48 = .ok (.aload_n 0, 1) := dk_42 (dk_at dksX4_wears_2 3 rfl rfl)
theorem dX4_wears_49 : decode cX4_wears 49 = .ok (.getfield 15, 3) := dk_180 0 15 (dk_at dksX4_wears_2 4 rfl rfl)
theorem dX4_wears_52 : decode cX4_wears 52 = .ok (.iload_n 2, 1) := dk_28 (dk_at dksX4_wears_2 7 rfl rfl)
theorem dX4_wears_53 : decode cX4_wears 53 = .ok (.iconst (-1), 1) := dk_2 (dk_at dksX4_wears_2 8 rfl rfl)
theorem dX4_wears_54 : decode cX4_wears 54 = .ok (.iastore, 1) := dk_79 (dk_at dksX4_wears_2 9 rfl rfl)
theorem dX4_wears_55 : decode cX4_wears 55 = .ok (.iinc 2 1, 3) := dk_132 2 1 (dk_at dksX4_wears_2 10 rfl rfl)
theorem dX4_wears_58 : decode cX4_wears 58 = .ok (.goto (-56), 3) := dk_167 255 200 (dk_at dksX4_wears_2 13 rfl rfl)
theorem dX4_wears_61 : decode cX4_wears 61 = .ok (.return_, 1) := dk_177 (dk_at dksX4_wears_2 16 rfl rfl)
abbrev cX4_falls : ByteArray := prog_16_method_10_code
def yX4_falls : MethodName := ⟨RX4, "falls", "(I)V"⟩
def dkwX4_falls_1 : List UInt8 := [27, 46, 4, 96, 184, 0, 55, 79, 177]
abbrev dktX4_falls_1 : List UInt8 := dkwX4_falls_1 ++ []
def dkwX4_falls_0 : List UInt8 := [42, 27, 182, 0, 51, 42, 180, 0, 18, 27, 16, 9, 79, 42, 180, 0, 21, 27, 16, 9, 42, 180, 0, 21]
abbrev dktX4_falls_0 : List UInt8 := dkwX4_falls_0 ++ dktX4_falls_1
theorem dksX4_falls_0 : cX4_falls.data.toList.drop 0 = dktX4_falls_0 := by decide +kernel
theorem dksX4_falls_1 : cX4_falls.data.toList.drop 24 = dktX4_falls_1 := dk_seg dksX4_falls_0 24 rfl rfl
theorem dX4_falls_0 : decode cX4_falls 0 = .ok (.aload_n 0, 1) := dk_42 (dk_at dksX4_falls_0 0 rfl rfl)
theorem dX4_falls_1 : decode cX4_falls 1 = .ok (.iload_n 1, 1) := dk_27 (dk_at dksX4_falls_0 1 rfl rfl)
theorem dX4_falls_2 : decode cX4_falls 2 = .ok (.invokevirtual 51, 3) := dk_182 0 51 (dk_at dksX4_falls_0 2 rfl rfl)
theorem dX4_falls_5 : decode cX4_falls 5 = .ok (.aload_n 0, 1) := dk_42 (dk_at dksX4_falls_0 5 rfl rfl)
theorem dX4_falls_6 : decode cX4_falls 6 = .ok (.getfield 18, 3) := dk_180 0 18 (dk_at dksX4_falls_0 6 rfl rfl)
theorem dX4_falls_9 : decode cX4_falls 9 = .ok (.iload_n 1, 1) := dk_27 (dk_at dksX4_falls_0 9 rfl rfl)
theorem dX4_falls_10 : decode cX4_falls 10 = .ok (.bipush 9, 2) := dk_16 9 (dk_at dksX4_falls_0 10 rfl rfl)
theorem dX4_falls_12 : decode cX4_falls 12 = .ok (.iastore, 1) := dk_79 (dk_at dksX4_falls_0 12 rfl rfl)
theorem dX4_falls_13 : decode cX4_falls 13 = .ok (.aload_n 0, 1) := dk_42 (dk_at dksX4_falls_0 13 rfl rfl)
theorem dX4_falls_14 : decode cX4_falls 14 = .ok (.getfield 21, 3) := dk_180 0 21 (dk_at dksX4_falls_0 14 rfl rfl)
theorem dX4_falls_17 : decode cX4_falls 17 = .ok (.iload_n 1, 1) := dk_27 (dk_at dksX4_falls_0 17 rfl rfl)
theorem dX4_falls_18 : decode cX4_falls 18 = .ok (.bipush 9, 2) := dk_16 9 (dk_at dksX4_falls_0 18 rfl rfl)
theorem dX4_falls_20 : decode cX4_falls 20 = .ok (.aload_n 0, 1) := dk_42 (dk_at dksX4_falls_0 20 rfl rfl)
theorem dX4_falls_21 : decode cX4_falls 21 = .ok (.getfield 21, 3) := dk_180 0 21 (dk_at dksX4_falls_0 21 rfl rfl)
theorem dX4_falls_24 : decode cX4_falls 24 = .ok (.iload_n 1, 1) := dk_27 (dk_at dksX4_falls_1 0 rfl rfl)
theorem dX4_falls_25 : decode cX4_falls 25 = .ok (.iaload, 1) := dk_46 (dk_at dksX4_falls_1 1 rfl rfl)
theorem dX4_falls_26 : decode cX4_falls 26 = .ok (.iconst 1, 1) := dk_4 (dk_at dksX4_falls_1 2 rfl rfl)
theorem dX4_falls_27 : decode cX4_falls 27 = .ok (.iadd, 1) := dk_96 (dk_at dksX4_falls_1 3 rfl rfl)
theorem dX4_falls_28 : decode cX4_falls 28 = .ok (.invokestatic 55, 3) := dk_184 0 55 (dk_at dksX4_falls_1 4 rfl rfl)
theorem dX4_falls_31 : decode cX4_falls 31 = .ok (.iastore, 1) := dk_79 (dk_at dksX4_falls_1 7 rfl rfl)
theorem dX4_falls_32 : decode cX4_falls 32 = .ok (.return_, 1) := dk_177 (dk_at dksX4_falls_1 8 rfl rfl)
theorem q139 : (Jvm.Cond.initialized "PegLaws$State") ∈ lw_all := lw_g (lw_at lw_m1 7 rfl) rfl
theorem q253 : (Jvm.Cond.fieldLinkNest "PegLaws$State" (38 : Nat) "PegLaws$Rope" "grips" "[I" "PegLaws") ∈ lw_tbl := lw_at lw_m1 121 rfl
theorem q260 : (Jvm.Cond.fieldLinkNest "PegLaws$State" (35 : Nat) "PegLaws$Rope" "pegs" "I" "PegLaws") ∈ lw_tbl := lw_at lw_m1 128 rfl
theorem q302 : (Jvm.Cond.instantiable "PegLaws$State" (6 : Nat)) ∈ lw_all := lw_g (lw_at lw_m1 170 rfl) rfl
theorem q304 : (Jvm.Cond.instanceMethod ({ cls := "PegLaws$State", name := "<init>", desc := "()V" } : Jvm.MethodName)) ∈ lw_all := lw_g (lw_at lw_m1 172 rfl) rfl
theorem q305 : (Jvm.Cond.code ({ cls := "PegLaws$State", name := "<init>", desc := "()V" } : Jvm.MethodName) prog_16_method_1_code (1 : Nat) (Option.none : Option Jvm.ClassFile.FieldType)) ∈ lw_all := lw_g (lw_at lw_m1 173 rfl) rfl
theorem q306 : (Jvm.Cond.methodLink "PegLaws$State" (3 : Nat) ({ cls := "java/lang/Object", name := "<init>", desc := "()V" } : Jvm.MethodName)) ∈ lw_all := lw_g (lw_at lw_m1 174 rfl) rfl
theorem q307 : (Jvm.Cond.fieldLink "PegLaws$State" (9 : Nat) "PegLaws$State" "grip" "[I") ∈ lw_all := lw_g (lw_at lw_m1 175 rfl) rfl
theorem q310 : (Jvm.Cond.fieldLink "PegLaws$State" (15 : Nat) "PegLaws$State" "holds" "[I") ∈ lw_all := lw_g (lw_at lw_m1 178 rfl) rfl
theorem q312 : (Jvm.Cond.fieldLink "PegLaws$State" (18 : Nat) "PegLaws$State" "wet" "[I") ∈ lw_all := lw_g (lw_at lw_m1 180 rfl) rfl
theorem q315 : (Jvm.Cond.fieldLink "PegLaws$State" (21 : Nat) "PegLaws$State" "stains" "[I") ∈ lw_all := lw_g (lw_at lw_m1 183 rfl) rfl
theorem q318 : (Jvm.Cond.fieldLink "PegLaws$State" (28 : Nat) "PegLaws$State" "hour" "I") ∈ lw_all := lw_g (lw_at lw_m1 186 rfl) rfl
theorem q321 : (Jvm.Cond.fieldLink "PegLaws$State" (32 : Nat) "PegLaws$State" "pegs" "I") ∈ lw_all := lw_g (lw_at lw_m1 189 rfl) rfl
theorem q323 : (Jvm.Cond.laysFinal "PegLaws$State" "PegLaws$State" "grip" "[I") ∈ lw_all := lw_g (lw_at lw_m1 191 rfl) rfl
theorem q324 : (Jvm.Cond.soleField "PegLaws$State" "grip") ∈ lw_all := lw_g (lw_at lw_m1 192 rfl) rfl
theorem q325 : (Jvm.Cond.laysFinal "PegLaws$State" "PegLaws$State" "holds" "[I") ∈ lw_all := lw_g (lw_at lw_m1 193 rfl) rfl
theorem q326 : (Jvm.Cond.soleField "PegLaws$State" "holds") ∈ lw_all := lw_g (lw_at lw_m1 194 rfl) rfl
theorem q327 : (Jvm.Cond.laysFinal "PegLaws$State" "PegLaws$State" "wet" "[I") ∈ lw_all := lw_g (lw_at lw_m1 195 rfl) rfl
theorem q328 : (Jvm.Cond.soleField "PegLaws$State" "wet") ∈ lw_all := lw_g (lw_at lw_m1 196 rfl) rfl
theorem q329 : (Jvm.Cond.laysFinal "PegLaws$State" "PegLaws$State" "stains" "[I") ∈ lw_all := lw_g (lw_at lw_m1 197 rfl) rfl
theorem q330 : (Jvm.Cond.soleField "PegLaws$State" "stains") ∈ lw_all := lw_g (lw_at lw_m1 198 rfl) rfl
theorem q331 : (Jvm.Cond.lays "PegLaws$State" "PegLaws$State" "hour" "I") ∈ lw_all := lw_g (lw_at lw_m1 199 rfl) rfl
theorem q332 : (Jvm.Cond.soleField "PegLaws$State" "hour") ∈ lw_all := lw_g (lw_at lw_m1 200 rfl) rfl
theorem q333 : (Jvm.Cond.lays "PegLaws$State" "PegLaws$State" "pegs" "I") ∈ lw_all := lw_g (lw_at lw_m1 201 rfl) rfl
theorem q334 : (Jvm.Cond.soleField "PegLaws$State" "pegs") ∈ lw_all := lw_g (lw_at lw_m1 202 rfl) rfl
theorem q335 : (Jvm.Cond.superclass "PegLaws$State" "java/lang/Object") ∈ lw_all := lw_g (lw_at lw_m1 203 rfl) rfl
theorem q340 : (Jvm.Cond.instanceMethod ({ cls := "PegLaws$State", name := "begin", desc := "(LPegLaws$Rope;)V" } : Jvm.MethodName)) ∈ lw_all := lw_g (lw_at lw_m1 208 rfl) rfl
theorem q341 : (Jvm.Cond.selects "PegLaws$State" ({ cls := "PegLaws$State", name := "begin", desc := "(LPegLaws$Rope;)V" } : Jvm.MethodName) ({ cls := "PegLaws$State", name := "begin", desc := "(LPegLaws$Rope;)V" } : Jvm.MethodName)) ∈ lw_all := lw_g (lw_at lw_m1 209 rfl) rfl
theorem q342 : (Jvm.Cond.code ({ cls := "PegLaws$State", name := "begin", desc := "(LPegLaws$Rope;)V" } : Jvm.MethodName) prog_16_method_3_code (3 : Nat) (Option.none : Option Jvm.ClassFile.FieldType)) ∈ lw_all := lw_g (lw_at lw_m1 210 rfl) rfl
theorem q967 : (Jvm.Cond.selects "PegLaws$State" ({ cls := "java/lang/Object", name := "getClass", desc := "()Ljava/lang/Class;" } : Jvm.MethodName) ({ cls := "java/lang/Object", name := "getClass", desc := "()Ljava/lang/Class;" } : Jvm.MethodName)) ∈ lw_all := lw_g (lw_at lw_m4 115 rfl) rfl
theorem q1172 : (Jvm.Cond.instanceMethod ({ cls := "PegLaws$State", name := "by", desc := "(I)I" } : Jvm.MethodName)) ∈ lw_all := lw_g (lw_at lw_m5 80 rfl) rfl
theorem q1173 : (Jvm.Cond.selects "PegLaws$State" ({ cls := "PegLaws$State", name := "by", desc := "(I)I" } : Jvm.MethodName) ({ cls := "PegLaws$State", name := "by", desc := "(I)I" } : Jvm.MethodName)) ∈ lw_all := lw_g (lw_at lw_m5 81 rfl) rfl
theorem q1174 : (Jvm.Cond.code ({ cls := "PegLaws$State", name := "by", desc := "(I)I" } : Jvm.MethodName) prog_16_method_4_code (4 : Nat) (Option.some Jvm.ClassFile.FieldType.int)) ∈ lw_all := lw_g (lw_at lw_m5 82 rfl) rfl
theorem q1289 : (Jvm.Cond.instanceMethod ({ cls := "PegLaws$State", name := "free", desc := "()I" } : Jvm.MethodName)) ∈ lw_all := lw_g (lw_at lw_m5 197 rfl) rfl
theorem q1290 : (Jvm.Cond.selects "PegLaws$State" ({ cls := "PegLaws$State", name := "free", desc := "()I" } : Jvm.MethodName) ({ cls := "PegLaws$State", name := "free", desc := "()I" } : Jvm.MethodName)) ∈ lw_all := lw_g (lw_at lw_m5 198 rfl) rfl
theorem q1291 : (Jvm.Cond.code ({ cls := "PegLaws$State", name := "free", desc := "()I" } : Jvm.MethodName) prog_16_method_6_code (3 : Nat) (Option.some Jvm.ClassFile.FieldType.int)) ∈ lw_all := lw_g (lw_at lw_m5 199 rfl) rfl
theorem q1313 : (Jvm.Cond.instanceMethod ({ cls := "PegLaws$State", name := "be", desc := "(LPegLaws$State;)V" } : Jvm.MethodName)) ∈ lw_all := lw_g (lw_at lw_m5 221 rfl) rfl
theorem q1314 : (Jvm.Cond.selects "PegLaws$State" ({ cls := "PegLaws$State", name := "be", desc := "(LPegLaws$State;)V" } : Jvm.MethodName) ({ cls := "PegLaws$State", name := "be", desc := "(LPegLaws$State;)V" } : Jvm.MethodName)) ∈ lw_all := lw_g (lw_at lw_m5 222 rfl) rfl
theorem q1315 : (Jvm.Cond.code ({ cls := "PegLaws$State", name := "be", desc := "(LPegLaws$State;)V" } : Jvm.MethodName) prog_16_method_2_code (2 : Nat) (Option.none : Option Jvm.ClassFile.FieldType)) ∈ lw_all := lw_g (lw_at lw_m5 223 rfl) rfl
theorem q1316 : (Jvm.Cond.methodLinkNest "PegLaws$State" (24 : Nat) ({ cls := "PegLaws", name := "copies", desc := "([I[I)V" } : Jvm.MethodName) "PegLaws") ∈ lw_tbl := lw_at lw_m5 224 rfl
theorem q1320 : (Jvm.Cond.instanceMethod ({ cls := "PegLaws$State", name := "hangs", desc := "(II)V" } : Jvm.MethodName)) ∈ lw_all := lw_g (lw_at lw_m5 228 rfl) rfl
theorem q1321 : (Jvm.Cond.selects "PegLaws$State" ({ cls := "PegLaws$State", name := "hangs", desc := "(II)V" } : Jvm.MethodName) ({ cls := "PegLaws$State", name := "hangs", desc := "(II)V" } : Jvm.MethodName)) ∈ lw_all := lw_g (lw_at lw_m5 229 rfl) rfl
theorem q1322 : (Jvm.Cond.code ({ cls := "PegLaws$State", name := "hangs", desc := "(II)V" } : Jvm.MethodName) prog_16_method_7_code (4 : Nat) (Option.none : Option Jvm.ClassFile.FieldType)) ∈ lw_all := lw_g (lw_at lw_m5 230 rfl) rfl
theorem q1323 : (Jvm.Cond.methodLinkNest "PegLaws$State" (41 : Nat) ({ cls := "PegLaws", name := "isIn", desc := "(II)Z" } : Jvm.MethodName) "PegLaws") ∈ lw_tbl := lw_at lw_m5 231 rfl
theorem q1329 : (Jvm.Cond.instanceMethod ({ cls := "PegLaws$State", name := "comesIn", desc := "(I)V" } : Jvm.MethodName)) ∈ lw_all := lw_g (lw_at lw_m5 237 rfl) rfl
theorem q1330 : (Jvm.Cond.selects "PegLaws$State" ({ cls := "PegLaws$State", name := "comesIn", desc := "(I)V" } : Jvm.MethodName) ({ cls := "PegLaws$State", name := "comesIn", desc := "(I)V" } : Jvm.MethodName)) ∈ lw_all := lw_g (lw_at lw_m5 238 rfl) rfl
theorem q1331 : (Jvm.Cond.code ({ cls := "PegLaws$State", name := "comesIn", desc := "(I)V" } : Jvm.MethodName) prog_16_method_8_code (3 : Nat) (Option.none : Option Jvm.ClassFile.FieldType)) ∈ lw_all := lw_g (lw_at lw_m5 239 rfl) rfl
theorem q1353 : (Jvm.Cond.instanceMethod ({ cls := "PegLaws$State", name := "grips", desc := "(I)I" } : Jvm.MethodName)) ∈ lw_all := lw_g (lw_at lw_m6 21 rfl) rfl
theorem q1354 : (Jvm.Cond.selects "PegLaws$State" ({ cls := "PegLaws$State", name := "grips", desc := "(I)I" } : Jvm.MethodName) ({ cls := "PegLaws$State", name := "grips", desc := "(I)I" } : Jvm.MethodName)) ∈ lw_all := lw_g (lw_at lw_m6 22 rfl) rfl
theorem q1355 : (Jvm.Cond.code ({ cls := "PegLaws$State", name := "grips", desc := "(I)I" } : Jvm.MethodName) prog_16_method_5_code (4 : Nat) (Option.some Jvm.ClassFile.FieldType.int)) ∈ lw_all := lw_g (lw_at lw_m6 23 rfl) rfl
theorem q1357 : (Jvm.Cond.instanceMethod ({ cls := "PegLaws$State", name := "wears", desc := "(I)V" } : Jvm.MethodName)) ∈ lw_all := lw_g (lw_at lw_m6 25 rfl) rfl
theorem q1358 : (Jvm.Cond.selects "PegLaws$State" ({ cls := "PegLaws$State", name := "wears", desc := "(I)V" } : Jvm.MethodName) ({ cls := "PegLaws$State", name := "wears", desc := "(I)V" } : Jvm.MethodName)) ∈ lw_all := lw_g (lw_at lw_m6 26 rfl) rfl
theorem q1359 : (Jvm.Cond.code ({ cls := "PegLaws$State", name := "wears", desc := "(I)V" } : Jvm.MethodName) prog_16_method_9_code (3 : Nat) (Option.none : Option Jvm.ClassFile.FieldType)) ∈ lw_all := lw_g (lw_at lw_m6 27 rfl) rfl
theorem q1360 : (Jvm.Cond.methodLink "PegLaws$State" (45 : Nat) ({ cls := "java/lang/Math", name := "max", desc := "(II)I" } : Jvm.MethodName)) ∈ lw_all := lw_g (lw_at lw_m6 28 rfl) rfl
theorem q1362 : (Jvm.Cond.instanceMethod ({ cls := "PegLaws$State", name := "falls", desc := "(I)V" } : Jvm.MethodName)) ∈ lw_all := lw_g (lw_at lw_m6 30 rfl) rfl
theorem q1363 : (Jvm.Cond.selects "PegLaws$State" ({ cls := "PegLaws$State", name := "falls", desc := "(I)V" } : Jvm.MethodName) ({ cls := "PegLaws$State", name := "falls", desc := "(I)V" } : Jvm.MethodName)) ∈ lw_all := lw_g (lw_at lw_m6 31 rfl) rfl
theorem q1364 : (Jvm.Cond.code ({ cls := "PegLaws$State", name := "falls", desc := "(I)V" } : Jvm.MethodName) prog_16_method_10_code (2 : Nat) (Option.none : Option Jvm.ClassFile.FieldType)) ∈ lw_all := lw_g (lw_at lw_m6 32 rfl) rfl
theorem q1365 : (Jvm.Cond.methodLink "PegLaws$State" (51 : Nat) ({ cls := "PegLaws$State", name := "comesIn", desc := "(I)V" } : Jvm.MethodName)) ∈ lw_all := lw_g (lw_at lw_m6 33 rfl) rfl
theorem q1366 : (Jvm.Cond.methodLink "PegLaws$State" (55 : Nat) ({ cls := "java/lang/Math", name := "min", desc := "(II)I" } : Jvm.MethodName)) ∈ lw_all := lw_g (lw_at lw_m6 34 rfl) rfl
theorem q2212 : (Jvm.Cond.castable "PegLaws$State" "java/lang/Object") ∈ lw_tbl := lw_at lw_m9 160 rfl
theorem in_X4 : ∀ w ∈ wsX40, w ∈ lw_all := lw_in wsX40 [323, 325, 327, 329, 331, 333] (by decide +kernel) (by decide +kernel)

/-! PegLaws$Wrong -/
set_option maxRecDepth 100000
def RX6 : String := "PegLaws$Wrong"
def TX6 : u_T := fun k => match k with
  | 0 => ("java/lang/Throwable", "cause", "Ljava/lang/Throwable;", false)
  | 1 => ("java/lang/Throwable", "stackTrace", "[Ljava/lang/StackTraceElement;", false)
  | 2 => ("java/lang/Throwable", "suppressedExceptions", "Ljava/util/List;", false)
  | 3 => ("java/lang/Throwable", "detailMessage", "Ljava/lang/String;", false)
  | 4 => ("java/lang/Throwable", "backtrace", "Ljava/lang/Object;", false)
  | 5 => ("java/lang/Throwable", "depth", "I", false)
  | _ => ("PegLaws$Wrong", "fault", "I", true)
def tyX6 : Nat → FieldType := fun k => match k with
  | 0 => .object "java/lang/Throwable"
  | 1 => .array (.object "java/lang/StackTraceElement")
  | 2 => .object "java/util/List"
  | 3 => .object "java/lang/String"
  | 4 => .object "java/lang/Object"
  | 5 => .int
  | _ => .int
abbrev wsX60 : List Cond := u_ws RX6 TX6 7
theorem nmX6 : ∀ a, a < 7 → ∀ b, b < 7 → a ≠ b → (TX6 a).2.1 ≠ (TX6 b).2.1 := by decide +kernel
theorem tyX6_ok : ∀ k, k < 7 → parseFieldDescriptor (TX6 k).2.2.1 = some (tyX6 k) := by decide +kernel
abbrev cX6_init : ByteArray := prog_21_method_1_code
def yX6_init : MethodName := ⟨RX6, "<init>", "(II)V"⟩
def dkwX6_init_0 : List UInt8 := [42, 1, 1, 3, 3, 183, 0, 1, 42, 27, 16, 16, 28, 104, 96, 181, 0, 7, 177]
abbrev dktX6_init_0 : List UInt8 := dkwX6_init_0 ++ []
theorem dksX6_init_0 : cX6_init.data.toList.drop 0 = dktX6_init_0 := by decide +kernel
theorem dX6_init_0 : decode cX6_init 0 = .ok (.aload_n 0, 1) := dk_42 (dk_at dksX6_init_0 0 rfl rfl)
theorem dX6_init_1 : decode cX6_init 1 = .ok (.aconst_null, 1) := dk_1 (dk_at dksX6_init_0 1 rfl rfl)
theorem dX6_init_2 : decode cX6_init 2 = .ok (.aconst_null, 1) := dk_1 (dk_at dksX6_init_0 2 rfl rfl)
theorem dX6_init_3 : decode cX6_init 3 = .ok (.iconst 0, 1) := dk_3 (dk_at dksX6_init_0 3 rfl rfl)
theorem dX6_init_4 : decode cX6_init 4 = .ok (.iconst 0, 1) := dk_3 (dk_at dksX6_init_0 4 rfl rfl)
theorem dX6_init_5 : decode cX6_init 5 = .ok (.invokespecial 1, 3) := dk_183 0 1 (dk_at dksX6_init_0 5 rfl rfl)
theorem dX6_init_8 : decode cX6_init 8 = .ok (.aload_n 0, 1) := dk_42 (dk_at dksX6_init_0 8 rfl rfl)
theorem dX6_init_9 : decode cX6_init 9 = .ok (.iload_n 1, 1) := dk_27 (dk_at dksX6_init_0 9 rfl rfl)
theorem dX6_init_10 : decode cX6_init 10 = .ok (.bipush 16, 2) := dk_16 16 (dk_at dksX6_init_0 10 rfl rfl)
theorem dX6_init_12 : decode cX6_init 12 = .ok (.iload_n 2, 1) := dk_28 (dk_at dksX6_init_0 12 rfl rfl)
theorem dX6_init_13 : decode cX6_init 13 = .ok (.imul, 1) := dk_104 (dk_at dksX6_init_0 13 rfl rfl)
theorem dX6_init_14 : decode cX6_init 14 = .ok (.iadd, 1) := dk_96 (dk_at dksX6_init_0 14 rfl rfl)
theorem dX6_init_15 : decode cX6_init 15 = .ok (.putfield 7, 3) := dk_181 0 7 (dk_at dksX6_init_0 15 rfl rfl)
theorem dX6_init_18 : decode cX6_init 18 = .ok (.return_, 1) := dk_177 (dk_at dksX6_init_0 18 rfl rfl)
theorem q150 : (Jvm.Cond.initialized "PegLaws$Wrong") ∈ lw_all := lw_g (lw_at lw_m1 18 rfl) rfl
theorem q578 : (Jvm.Cond.instantiable "PegLaws$Wrong" (7 : Nat)) ∈ lw_all := lw_g (lw_at lw_m2 206 rfl) rfl
theorem q579 : (Jvm.Cond.castable "PegLaws$Wrong" "PegLaws$Wrong") ∈ lw_tbl := lw_at lw_m2 207 rfl
theorem q586 : (Jvm.Cond.selects "PegLaws$Wrong" ({ cls := "java/lang/Throwable", name := "fillInStackTrace", desc := "(I)Ljava/lang/Throwable;" } : Jvm.MethodName) ({ cls := "java/lang/Throwable", name := "fillInStackTrace", desc := "(I)Ljava/lang/Throwable;" } : Jvm.MethodName)) ∈ lw_all := lw_g (lw_at lw_m2 214 rfl) rfl
theorem q587 : (Jvm.Cond.selects "PegLaws$Wrong" ({ cls := "java/lang/Throwable", name := "fillInStackTrace", desc := "()Ljava/lang/Throwable;" } : Jvm.MethodName) ({ cls := "java/lang/Throwable", name := "fillInStackTrace", desc := "()Ljava/lang/Throwable;" } : Jvm.MethodName)) ∈ lw_all := lw_g (lw_at lw_m2 215 rfl) rfl
theorem q588 : (Jvm.Cond.lays "PegLaws$Wrong" "java/lang/Throwable" "cause" "Ljava/lang/Throwable;") ∈ lw_all := lw_g (lw_at lw_m2 216 rfl) rfl
theorem q590 : (Jvm.Cond.lays "PegLaws$Wrong" "java/lang/Throwable" "stackTrace" "[Ljava/lang/StackTraceElement;") ∈ lw_all := lw_g (lw_at lw_m2 218 rfl) rfl
theorem q592 : (Jvm.Cond.lays "PegLaws$Wrong" "java/lang/Throwable" "suppressedExceptions" "Ljava/util/List;") ∈ lw_all := lw_g (lw_at lw_m2 220 rfl) rfl
theorem q594 : (Jvm.Cond.lays "PegLaws$Wrong" "java/lang/Throwable" "detailMessage" "Ljava/lang/String;") ∈ lw_all := lw_g (lw_at lw_m2 222 rfl) rfl
theorem q596 : (Jvm.Cond.lays "PegLaws$Wrong" "java/lang/Throwable" "backtrace" "Ljava/lang/Object;") ∈ lw_all := lw_g (lw_at lw_m2 224 rfl) rfl
theorem q618 : (Jvm.Cond.instanceMethod ({ cls := "PegLaws$Wrong", name := "<init>", desc := "(II)V" } : Jvm.MethodName)) ∈ lw_all := lw_g (lw_at lw_m3 6 rfl) rfl
theorem q619 : (Jvm.Cond.code ({ cls := "PegLaws$Wrong", name := "<init>", desc := "(II)V" } : Jvm.MethodName) prog_21_method_1_code (3 : Nat) (Option.none : Option Jvm.ClassFile.FieldType)) ∈ lw_all := lw_g (lw_at lw_m3 7 rfl) rfl
theorem q620 : (Jvm.Cond.methodLink "PegLaws$Wrong" (1 : Nat) ({ cls := "java/lang/RuntimeException", name := "<init>", desc := "(Ljava/lang/String;Ljava/lang/Throwable;ZZ)V" } : Jvm.MethodName)) ∈ lw_all := lw_g (lw_at lw_m3 8 rfl) rfl
theorem q629 : (Jvm.Cond.fieldLink "PegLaws$Wrong" (7 : Nat) "PegLaws$Wrong" "fault" "I") ∈ lw_all := lw_g (lw_at lw_m3 17 rfl) rfl
theorem q636 : (Jvm.Cond.laysFinal "PegLaws$Wrong" "PegLaws$Wrong" "fault" "I") ∈ lw_all := lw_g (lw_at lw_m3 24 rfl) rfl
theorem q637 : (Jvm.Cond.soleField "PegLaws$Wrong" "fault") ∈ lw_all := lw_g (lw_at lw_m3 25 rfl) rfl
theorem q642 : (Jvm.Cond.lays "PegLaws$Wrong" "java/lang/Throwable" "depth" "I") ∈ lw_all := lw_g (lw_at lw_m3 30 rfl) rfl
theorem q645 : (Jvm.Cond.superclass "PegLaws$Wrong" "java/lang/RuntimeException") ∈ lw_all := lw_g (lw_at lw_m3 33 rfl) rfl
theorem q972 : (Jvm.Cond.selects "PegLaws$Wrong" ({ cls := "java/lang/Object", name := "getClass", desc := "()Ljava/lang/Class;" } : Jvm.MethodName) ({ cls := "java/lang/Object", name := "getClass", desc := "()Ljava/lang/Class;" } : Jvm.MethodName)) ∈ lw_all := lw_g (lw_at lw_m4 120 rfl) rfl
theorem q2219 : (Jvm.Cond.castable "PegLaws$Wrong" "java/lang/Object") ∈ lw_tbl := lw_at lw_m9 167 rfl
theorem in_X6 : ∀ w ∈ wsX60, w ∈ lw_all := lw_in wsX60 [588, 590, 592, 594, 596, 642, 636] (by decide +kernel) (by decide +kernel)

/-! PegLaws$Cloth -/
set_option maxRecDepth 100000
def RX7 : String := "PegLaws$Cloth"
def TX7 : u_T := fun k => match k with
  | 0 => ("PegLaws$Cloth", "name", "Ljava/lang/String;", true)
  | 1 => ("PegLaws$Cloth", "wide", "I", false)
  | 2 => ("PegLaws$Cloth", "weight", "I", false)
  | _ => ("PegLaws$Cloth", "worth", "I", false)
def tyX7 : Nat → FieldType := fun k => match k with
  | 0 => .object "java/lang/String"
  | 1 => .int
  | 2 => .int
  | _ => .int
abbrev wsX70 : List Cond := u_ws RX7 TX7 4
theorem nmX7 : ∀ a, a < 4 → ∀ b, b < 4 → a ≠ b → (TX7 a).2.1 ≠ (TX7 b).2.1 := by decide +kernel
theorem tyX7_ok : ∀ k, k < 4 → parseFieldDescriptor (TX7 k).2.2.1 = some (tyX7 k) := by decide +kernel
abbrev cX7_init : ByteArray := prog_4_method_1_code
def yX7_init : MethodName := ⟨RX7, "<init>", "(Ljava/lang/String;)V"⟩
def dkwX7_init_0 : List UInt8 := [42, 183, 0, 3, 42, 43, 181, 0, 9, 177]
abbrev dktX7_init_0 : List UInt8 := dkwX7_init_0 ++ []
theorem dksX7_init_0 : cX7_init.data.toList.drop 0 = dktX7_init_0 := by decide +kernel
theorem dX7_init_0 : decode cX7_init 0 = .ok (.aload_n 0, 1) := dk_42 (dk_at dksX7_init_0 0 rfl rfl)
theorem dX7_init_1 : decode cX7_init 1 = .ok (.invokespecial 3, 3) := dk_183 0 3 (dk_at dksX7_init_0 1 rfl rfl)
theorem dX7_init_4 : decode cX7_init 4 = .ok (.aload_n 0, 1) := dk_42 (dk_at dksX7_init_0 4 rfl rfl)
theorem dX7_init_5 : decode cX7_init 5 = .ok (.aload_n 1, 1) := dk_43 (dk_at dksX7_init_0 5 rfl rfl)
theorem dX7_init_6 : decode cX7_init 6 = .ok (.putfield 9, 3) := dk_181 0 9 (dk_at dksX7_init_0 6 rfl rfl)
theorem dX7_init_9 : decode cX7_init 9 = .ok (.return_, 1) := dk_177 (dk_at dksX7_init_0 9 rfl rfl)
abbrev cX7_kind : ByteArray := prog_4_method_2_code
def yX7_kind : MethodName := ⟨RX7, "kind", "()I"⟩
theorem dX7_kind_0 : decode cX7_kind 0 = .ok (.iconst 0, 1) := by decide +kernel
theorem dX7_kind_1 : decode cX7_kind 1 = .ok (.ireturn, 1) := by decide +kernel
abbrev cX7_needs : ByteArray := prog_4_method_3_code
def yX7_needs : MethodName := ⟨RX7, "needs", "()I"⟩
theorem dX7_needs_0 : decode cX7_needs 0 = .ok (.iconst 2, 1) := by decide +kernel
theorem dX7_needs_1 : decode cX7_needs 1 = .ok (.ireturn, 1) := by decide +kernel
abbrev cX7_mass : ByteArray := prog_4_method_4_code
def yX7_mass : MethodName := ⟨RX7, "mass", "(I)I"⟩
def dkwX7_mass_0 : List UInt8 := [42, 180, 0, 15, 27, 96, 172]
abbrev dktX7_mass_0 : List UInt8 := dkwX7_mass_0 ++ []
theorem dksX7_mass_0 : cX7_mass.data.toList.drop 0 = dktX7_mass_0 := by decide +kernel
theorem dX7_mass_0 : decode cX7_mass 0 = .ok (.aload_n 0, 1) := dk_42 (dk_at dksX7_mass_0 0 rfl rfl)
theorem dX7_mass_1 : decode cX7_mass 1 = .ok (.getfield 15, 3) := dk_180 0 15 (dk_at dksX7_mass_0 1 rfl rfl)
theorem dX7_mass_4 : decode cX7_mass 4 = .ok (.iload_n 1, 1) := dk_27 (dk_at dksX7_mass_0 4 rfl rfl)
theorem dX7_mass_5 : decode cX7_mass 5 = .ok (.iadd, 1) := dk_96 (dk_at dksX7_mass_0 5 rfl rfl)
theorem dX7_mass_6 : decode cX7_mass 6 = .ok (.ireturn, 1) := dk_172 (dk_at dksX7_mass_0 6 rfl rfl)
abbrev cX7_pulled : ByteArray := prog_4_method_5_code
def yX7_pulled : MethodName := ⟨RX7, "pulled", "(I)I"⟩
theorem dX7_pulled_0 : decode cX7_pulled 0 = .ok (.iload_n 1, 1) := by decide +kernel
theorem dX7_pulled_1 : decode cX7_pulled 1 = .ok (.ireturn, 1) := by decide +kernel
theorem q157 : (Jvm.Cond.initialized "PegLaws$Cloth") ∈ lw_all := lw_g (lw_at lw_m1 25 rfl) rfl
theorem q857 : (Jvm.Cond.instantiable "PegLaws$Cloth" (4 : Nat)) ∈ lw_all := lw_g (lw_at lw_m4 5 rfl) rfl
theorem q859 : (Jvm.Cond.instanceMethod ({ cls := "PegLaws$Cloth", name := "<init>", desc := "(Ljava/lang/String;)V" } : Jvm.MethodName)) ∈ lw_all := lw_g (lw_at lw_m4 7 rfl) rfl
theorem q860 : (Jvm.Cond.code ({ cls := "PegLaws$Cloth", name := "<init>", desc := "(Ljava/lang/String;)V" } : Jvm.MethodName) prog_4_method_1_code (2 : Nat) (Option.none : Option Jvm.ClassFile.FieldType)) ∈ lw_all := lw_g (lw_at lw_m4 8 rfl) rfl
theorem q861 : (Jvm.Cond.methodLink "PegLaws$Cloth" (3 : Nat) ({ cls := "java/lang/Object", name := "<init>", desc := "()V" } : Jvm.MethodName)) ∈ lw_all := lw_g (lw_at lw_m4 9 rfl) rfl
theorem q862 : (Jvm.Cond.fieldLink "PegLaws$Cloth" (9 : Nat) "PegLaws$Cloth" "name" "Ljava/lang/String;") ∈ lw_all := lw_g (lw_at lw_m4 10 rfl) rfl
theorem q868 : (Jvm.Cond.fieldLink "PegLaws$Cloth" (15 : Nat) "PegLaws$Cloth" "weight" "I") ∈ lw_all := lw_g (lw_at lw_m4 16 rfl) rfl
theorem q872 : (Jvm.Cond.laysFinal "PegLaws$Cloth" "PegLaws$Cloth" "name" "Ljava/lang/String;") ∈ lw_all := lw_g (lw_at lw_m4 20 rfl) rfl
theorem q873 : (Jvm.Cond.soleField "PegLaws$Cloth" "name") ∈ lw_all := lw_g (lw_at lw_m4 21 rfl) rfl
theorem q874 : (Jvm.Cond.lays "PegLaws$Cloth" "PegLaws$Cloth" "wide" "I") ∈ lw_all := lw_g (lw_at lw_m4 22 rfl) rfl
theorem q875 : (Jvm.Cond.soleField "PegLaws$Cloth" "wide") ∈ lw_all := lw_g (lw_at lw_m4 23 rfl) rfl
theorem q876 : (Jvm.Cond.lays "PegLaws$Cloth" "PegLaws$Cloth" "weight" "I") ∈ lw_all := lw_g (lw_at lw_m4 24 rfl) rfl
theorem q877 : (Jvm.Cond.soleField "PegLaws$Cloth" "weight") ∈ lw_all := lw_g (lw_at lw_m4 25 rfl) rfl
theorem q878 : (Jvm.Cond.lays "PegLaws$Cloth" "PegLaws$Cloth" "worth" "I") ∈ lw_all := lw_g (lw_at lw_m4 26 rfl) rfl
theorem q879 : (Jvm.Cond.soleField "PegLaws$Cloth" "worth") ∈ lw_all := lw_g (lw_at lw_m4 27 rfl) rfl
theorem q880 : (Jvm.Cond.superclass "PegLaws$Cloth" "java/lang/Object") ∈ lw_all := lw_g (lw_at lw_m4 28 rfl) rfl
theorem q957 : (Jvm.Cond.selects "PegLaws$Cloth" ({ cls := "java/lang/Object", name := "getClass", desc := "()Ljava/lang/Class;" } : Jvm.MethodName) ({ cls := "java/lang/Object", name := "getClass", desc := "()Ljava/lang/Class;" } : Jvm.MethodName)) ∈ lw_all := lw_g (lw_at lw_m4 105 rfl) rfl
theorem q1182 : (Jvm.Cond.instanceMethod ({ cls := "PegLaws$Cloth", name := "kind", desc := "()I" } : Jvm.MethodName)) ∈ lw_all := lw_g (lw_at lw_m5 90 rfl) rfl
theorem q1183 : (Jvm.Cond.selects "PegLaws$Cloth" ({ cls := "PegLaws$Cloth", name := "kind", desc := "()I" } : Jvm.MethodName) ({ cls := "PegLaws$Cloth", name := "kind", desc := "()I" } : Jvm.MethodName)) ∈ lw_all := lw_g (lw_at lw_m5 91 rfl) rfl
theorem q1184 : (Jvm.Cond.sameMethod "PegLaws$Cloth" "PegLaws$Cloth" "kind" "()I") ∈ lw_all := lw_g (lw_at lw_m5 92 rfl) rfl
theorem q1194 : (Jvm.Cond.code ({ cls := "PegLaws$Cloth", name := "kind", desc := "()I" } : Jvm.MethodName) prog_4_method_2_code (1 : Nat) (Option.some Jvm.ClassFile.FieldType.int)) ∈ lw_all := lw_g (lw_at lw_m5 102 rfl) rfl
theorem q1201 : (Jvm.Cond.instanceMethod ({ cls := "PegLaws$Cloth", name := "needs", desc := "()I" } : Jvm.MethodName)) ∈ lw_all := lw_g (lw_at lw_m5 109 rfl) rfl
theorem q1202 : (Jvm.Cond.selects "PegLaws$Cloth" ({ cls := "PegLaws$Cloth", name := "needs", desc := "()I" } : Jvm.MethodName) ({ cls := "PegLaws$Cloth", name := "needs", desc := "()I" } : Jvm.MethodName)) ∈ lw_all := lw_g (lw_at lw_m5 110 rfl) rfl
theorem q1203 : (Jvm.Cond.sameMethod "PegLaws$Cloth" "PegLaws$Cloth" "needs" "()I") ∈ lw_all := lw_g (lw_at lw_m5 111 rfl) rfl
theorem q1209 : (Jvm.Cond.code ({ cls := "PegLaws$Cloth", name := "needs", desc := "()I" } : Jvm.MethodName) prog_4_method_3_code (1 : Nat) (Option.some Jvm.ClassFile.FieldType.int)) ∈ lw_all := lw_g (lw_at lw_m5 117 rfl) rfl
theorem q1227 : (Jvm.Cond.instanceMethod ({ cls := "PegLaws$Cloth", name := "mass", desc := "(I)I" } : Jvm.MethodName)) ∈ lw_all := lw_g (lw_at lw_m5 135 rfl) rfl
theorem q1228 : (Jvm.Cond.selects "PegLaws$Cloth" ({ cls := "PegLaws$Cloth", name := "mass", desc := "(I)I" } : Jvm.MethodName) ({ cls := "PegLaws$Cloth", name := "mass", desc := "(I)I" } : Jvm.MethodName)) ∈ lw_all := lw_g (lw_at lw_m5 136 rfl) rfl
theorem q1229 : (Jvm.Cond.sameMethod "PegLaws$Cloth" "PegLaws$Cloth" "mass" "(I)I") ∈ lw_all := lw_g (lw_at lw_m5 137 rfl) rfl
theorem q1235 : (Jvm.Cond.code ({ cls := "PegLaws$Cloth", name := "mass", desc := "(I)I" } : Jvm.MethodName) prog_4_method_4_code (2 : Nat) (Option.some Jvm.ClassFile.FieldType.int)) ∈ lw_all := lw_g (lw_at lw_m5 143 rfl) rfl
theorem q1263 : (Jvm.Cond.instanceMethod ({ cls := "PegLaws$Cloth", name := "pulled", desc := "(I)I" } : Jvm.MethodName)) ∈ lw_all := lw_g (lw_at lw_m5 171 rfl) rfl
theorem q1264 : (Jvm.Cond.selects "PegLaws$Cloth" ({ cls := "PegLaws$Cloth", name := "pulled", desc := "(I)I" } : Jvm.MethodName) ({ cls := "PegLaws$Cloth", name := "pulled", desc := "(I)I" } : Jvm.MethodName)) ∈ lw_all := lw_g (lw_at lw_m5 172 rfl) rfl
theorem q1265 : (Jvm.Cond.sameMethod "PegLaws$Cloth" "PegLaws$Cloth" "pulled" "(I)I") ∈ lw_all := lw_g (lw_at lw_m5 173 rfl) rfl
theorem q1271 : (Jvm.Cond.code ({ cls := "PegLaws$Cloth", name := "pulled", desc := "(I)I" } : Jvm.MethodName) prog_4_method_5_code (2 : Nat) (Option.some Jvm.ClassFile.FieldType.int)) ∈ lw_all := lw_g (lw_at lw_m5 179 rfl) rfl
theorem q2222 : (Jvm.Cond.castable "PegLaws$Cloth" "java/lang/Object") ∈ lw_tbl := lw_at lw_m9 170 rfl
theorem in_X7 : ∀ w ∈ wsX70, w ∈ lw_all := lw_in wsX70 [872, 874, 876, 878] (by decide +kernel) (by decide +kernel)

/-! PegLaws$Sheet -/
set_option maxRecDepth 100000
def RX8 : String := "PegLaws$Sheet"
def TX8 : u_T := fun k => match k with
  | 0 => ("PegLaws$Cloth", "name", "Ljava/lang/String;", true)
  | 1 => ("PegLaws$Cloth", "wide", "I", false)
  | 2 => ("PegLaws$Cloth", "weight", "I", false)
  | _ => ("PegLaws$Cloth", "worth", "I", false)
def tyX8 : Nat → FieldType := fun k => match k with
  | 0 => .object "java/lang/String"
  | 1 => .int
  | 2 => .int
  | _ => .int
abbrev wsX80 : List Cond := u_ws RX8 TX8 4
theorem nmX8 : ∀ a, a < 4 → ∀ b, b < 4 → a ≠ b → (TX8 a).2.1 ≠ (TX8 b).2.1 := by decide +kernel
theorem tyX8_ok : ∀ k, k < 4 → parseFieldDescriptor (TX8 k).2.2.1 = some (tyX8 k) := by decide +kernel
abbrev cX8_init : ByteArray := prog_15_method_1_code
def yX8_init : MethodName := ⟨RX8, "<init>", "(Ljava/lang/String;)V"⟩
def dkwX8_init_0 : List UInt8 := [42, 43, 183, 0, 3, 177]
abbrev dktX8_init_0 : List UInt8 := dkwX8_init_0 ++ []
theorem dksX8_init_0 : cX8_init.data.toList.drop 0 = dktX8_init_0 := by decide +kernel
theorem dX8_init_0 : decode cX8_init 0 = .ok (.aload_n 0, 1) := dk_42 (dk_at dksX8_init_0 0 rfl rfl)
theorem dX8_init_1 : decode cX8_init 1 = .ok (.aload_n 1, 1) := dk_43 (dk_at dksX8_init_0 1 rfl rfl)
theorem dX8_init_2 : decode cX8_init 2 = .ok (.invokespecial 3, 3) := dk_183 0 3 (dk_at dksX8_init_0 2 rfl rfl)
theorem dX8_init_5 : decode cX8_init 5 = .ok (.return_, 1) := dk_177 (dk_at dksX8_init_0 5 rfl rfl)
abbrev cX8_kind : ByteArray := prog_15_method_2_code
def yX8_kind : MethodName := ⟨RX8, "kind", "()I"⟩
theorem dX8_kind_0 : decode cX8_kind 0 = .ok (.iconst 1, 1) := by decide +kernel
theorem dX8_kind_1 : decode cX8_kind 1 = .ok (.ireturn, 1) := by decide +kernel
abbrev cX8_needs : ByteArray := prog_15_method_3_code
def yX8_needs : MethodName := ⟨RX8, "needs", "()I"⟩
theorem dX8_needs_0 : decode cX8_needs 0 = .ok (.iconst 4, 1) := by decide +kernel
theorem dX8_needs_1 : decode cX8_needs 1 = .ok (.ireturn, 1) := by decide +kernel
theorem q158 : (Jvm.Cond.initialized "PegLaws$Sheet") ∈ lw_all := lw_g (lw_at lw_m1 26 rfl) rfl
theorem q882 : (Jvm.Cond.instantiable "PegLaws$Sheet" (4 : Nat)) ∈ lw_all := lw_g (lw_at lw_m4 30 rfl) rfl
theorem q884 : (Jvm.Cond.instanceMethod ({ cls := "PegLaws$Sheet", name := "<init>", desc := "(Ljava/lang/String;)V" } : Jvm.MethodName)) ∈ lw_all := lw_g (lw_at lw_m4 32 rfl) rfl
theorem q885 : (Jvm.Cond.code ({ cls := "PegLaws$Sheet", name := "<init>", desc := "(Ljava/lang/String;)V" } : Jvm.MethodName) prog_15_method_1_code (2 : Nat) (Option.none : Option Jvm.ClassFile.FieldType)) ∈ lw_all := lw_g (lw_at lw_m4 33 rfl) rfl
theorem q886 : (Jvm.Cond.methodLink "PegLaws$Sheet" (3 : Nat) ({ cls := "PegLaws$Cloth", name := "<init>", desc := "(Ljava/lang/String;)V" } : Jvm.MethodName)) ∈ lw_all := lw_g (lw_at lw_m4 34 rfl) rfl
theorem q887 : (Jvm.Cond.laysFinal "PegLaws$Sheet" "PegLaws$Cloth" "name" "Ljava/lang/String;") ∈ lw_all := lw_g (lw_at lw_m4 35 rfl) rfl
theorem q888 : (Jvm.Cond.lays "PegLaws$Sheet" "PegLaws$Cloth" "wide" "I") ∈ lw_all := lw_g (lw_at lw_m4 36 rfl) rfl
theorem q889 : (Jvm.Cond.lays "PegLaws$Sheet" "PegLaws$Cloth" "weight" "I") ∈ lw_all := lw_g (lw_at lw_m4 37 rfl) rfl
theorem q890 : (Jvm.Cond.lays "PegLaws$Sheet" "PegLaws$Cloth" "worth" "I") ∈ lw_all := lw_g (lw_at lw_m4 38 rfl) rfl
theorem q891 : (Jvm.Cond.superclass "PegLaws$Sheet" "PegLaws$Cloth") ∈ lw_all := lw_g (lw_at lw_m4 39 rfl) rfl
theorem q966 : (Jvm.Cond.selects "PegLaws$Sheet" ({ cls := "java/lang/Object", name := "getClass", desc := "()Ljava/lang/Class;" } : Jvm.MethodName) ({ cls := "java/lang/Object", name := "getClass", desc := "()Ljava/lang/Class;" } : Jvm.MethodName)) ∈ lw_all := lw_g (lw_at lw_m4 114 rfl) rfl
theorem q1188 : (Jvm.Cond.selects "PegLaws$Sheet" ({ cls := "PegLaws$Cloth", name := "kind", desc := "()I" } : Jvm.MethodName) ({ cls := "PegLaws$Sheet", name := "kind", desc := "()I" } : Jvm.MethodName)) ∈ lw_all := lw_g (lw_at lw_m5 96 rfl) rfl
theorem q1189 : (Jvm.Cond.instanceMethod ({ cls := "PegLaws$Sheet", name := "kind", desc := "()I" } : Jvm.MethodName)) ∈ lw_all := lw_g (lw_at lw_m5 97 rfl) rfl
theorem q1190 : (Jvm.Cond.code ({ cls := "PegLaws$Sheet", name := "kind", desc := "()I" } : Jvm.MethodName) prog_15_method_2_code (1 : Nat) (Option.some Jvm.ClassFile.FieldType.int)) ∈ lw_all := lw_g (lw_at lw_m5 98 rfl) rfl
theorem q1205 : (Jvm.Cond.selects "PegLaws$Sheet" ({ cls := "PegLaws$Cloth", name := "needs", desc := "()I" } : Jvm.MethodName) ({ cls := "PegLaws$Sheet", name := "needs", desc := "()I" } : Jvm.MethodName)) ∈ lw_all := lw_g (lw_at lw_m5 113 rfl) rfl
theorem q1206 : (Jvm.Cond.instanceMethod ({ cls := "PegLaws$Sheet", name := "needs", desc := "()I" } : Jvm.MethodName)) ∈ lw_all := lw_g (lw_at lw_m5 114 rfl) rfl
theorem q1207 : (Jvm.Cond.code ({ cls := "PegLaws$Sheet", name := "needs", desc := "()I" } : Jvm.MethodName) prog_15_method_3_code (1 : Nat) (Option.some Jvm.ClassFile.FieldType.int)) ∈ lw_all := lw_g (lw_at lw_m5 115 rfl) rfl
theorem q1231 : (Jvm.Cond.selects "PegLaws$Sheet" ({ cls := "PegLaws$Cloth", name := "mass", desc := "(I)I" } : Jvm.MethodName) ({ cls := "PegLaws$Cloth", name := "mass", desc := "(I)I" } : Jvm.MethodName)) ∈ lw_all := lw_g (lw_at lw_m5 139 rfl) rfl
theorem q1269 : (Jvm.Cond.selects "PegLaws$Sheet" ({ cls := "PegLaws$Cloth", name := "pulled", desc := "(I)I" } : Jvm.MethodName) ({ cls := "PegLaws$Cloth", name := "pulled", desc := "(I)I" } : Jvm.MethodName)) ∈ lw_all := lw_g (lw_at lw_m5 177 rfl) rfl
theorem q2205 : (Jvm.Cond.castable "PegLaws$Sheet" "PegLaws$Cloth") ∈ lw_tbl := lw_at lw_m9 153 rfl
theorem q2223 : (Jvm.Cond.castable "PegLaws$Sheet" "java/lang/Object") ∈ lw_tbl := lw_at lw_m9 171 rfl
theorem in_X8 : ∀ w ∈ wsX80, w ∈ lw_all := lw_in wsX80 [887, 888, 889, 890] (by decide +kernel) (by decide +kernel)

/-! PegLaws$Flag -/
set_option maxRecDepth 100000
def RX9 : String := "PegLaws$Flag"
def TX9 : u_T := fun k => match k with
  | 0 => ("PegLaws$Cloth", "name", "Ljava/lang/String;", true)
  | 1 => ("PegLaws$Cloth", "wide", "I", false)
  | 2 => ("PegLaws$Cloth", "weight", "I", false)
  | _ => ("PegLaws$Cloth", "worth", "I", false)
def tyX9 : Nat → FieldType := fun k => match k with
  | 0 => .object "java/lang/String"
  | 1 => .int
  | 2 => .int
  | _ => .int
abbrev wsX90 : List Cond := u_ws RX9 TX9 4
theorem nmX9 : ∀ a, a < 4 → ∀ b, b < 4 → a ≠ b → (TX9 a).2.1 ≠ (TX9 b).2.1 := by decide +kernel
theorem tyX9_ok : ∀ k, k < 4 → parseFieldDescriptor (TX9 k).2.2.1 = some (tyX9 k) := by decide +kernel
abbrev cX9_init : ByteArray := prog_7_method_1_code
def yX9_init : MethodName := ⟨RX9, "<init>", "(Ljava/lang/String;)V"⟩
def dkwX9_init_0 : List UInt8 := [42, 43, 183, 0, 1, 177]
abbrev dktX9_init_0 : List UInt8 := dkwX9_init_0 ++ []
theorem dksX9_init_0 : cX9_init.data.toList.drop 0 = dktX9_init_0 := by decide +kernel
theorem dX9_init_0 : decode cX9_init 0 = .ok (.aload_n 0, 1) := dk_42 (dk_at dksX9_init_0 0 rfl rfl)
theorem dX9_init_1 : decode cX9_init 1 = .ok (.aload_n 1, 1) := dk_43 (dk_at dksX9_init_0 1 rfl rfl)
theorem dX9_init_2 : decode cX9_init 2 = .ok (.invokespecial 1, 3) := dk_183 0 1 (dk_at dksX9_init_0 2 rfl rfl)
theorem dX9_init_5 : decode cX9_init 5 = .ok (.return_, 1) := dk_177 (dk_at dksX9_init_0 5 rfl rfl)
abbrev cX9_kind : ByteArray := prog_7_method_2_code
def yX9_kind : MethodName := ⟨RX9, "kind", "()I"⟩
theorem dX9_kind_0 : decode cX9_kind 0 = .ok (.iconst 2, 1) := by decide +kernel
theorem dX9_kind_1 : decode cX9_kind 1 = .ok (.ireturn, 1) := by decide +kernel
abbrev cX9_pulled : ByteArray := prog_7_method_3_code
def yX9_pulled : MethodName := ⟨RX9, "pulled", "(I)I"⟩
def dkwX9_pulled_0 : List UInt8 := [27, 5, 104, 172]
abbrev dktX9_pulled_0 : List UInt8 := dkwX9_pulled_0 ++ []
theorem dksX9_pulled_0 : cX9_pulled.data.toList.drop 0 = dktX9_pulled_0 := by decide +kernel
theorem dX9_pulled_0 : decode cX9_pulled 0 = .ok (.iload_n 1, 1) := dk_27 (dk_at dksX9_pulled_0 0 rfl rfl)
theorem dX9_pulled_1 : decode cX9_pulled 1 = .ok (.iconst 2, 1) := dk_5 (dk_at dksX9_pulled_0 1 rfl rfl)
theorem dX9_pulled_2 : decode cX9_pulled 2 = .ok (.imul, 1) := dk_104 (dk_at dksX9_pulled_0 2 rfl rfl)
theorem dX9_pulled_3 : decode cX9_pulled 3 = .ok (.ireturn, 1) := dk_172 (dk_at dksX9_pulled_0 3 rfl rfl)
theorem q159 : (Jvm.Cond.initialized "PegLaws$Flag") ∈ lw_all := lw_g (lw_at lw_m1 27 rfl) rfl
theorem q893 : (Jvm.Cond.instantiable "PegLaws$Flag" (4 : Nat)) ∈ lw_all := lw_g (lw_at lw_m4 41 rfl) rfl
theorem q895 : (Jvm.Cond.instanceMethod ({ cls := "PegLaws$Flag", name := "<init>", desc := "(Ljava/lang/String;)V" } : Jvm.MethodName)) ∈ lw_all := lw_g (lw_at lw_m4 43 rfl) rfl
theorem q896 : (Jvm.Cond.code ({ cls := "PegLaws$Flag", name := "<init>", desc := "(Ljava/lang/String;)V" } : Jvm.MethodName) prog_7_method_1_code (2 : Nat) (Option.none : Option Jvm.ClassFile.FieldType)) ∈ lw_all := lw_g (lw_at lw_m4 44 rfl) rfl
theorem q897 : (Jvm.Cond.methodLink "PegLaws$Flag" (1 : Nat) ({ cls := "PegLaws$Cloth", name := "<init>", desc := "(Ljava/lang/String;)V" } : Jvm.MethodName)) ∈ lw_all := lw_g (lw_at lw_m4 45 rfl) rfl
theorem q898 : (Jvm.Cond.laysFinal "PegLaws$Flag" "PegLaws$Cloth" "name" "Ljava/lang/String;") ∈ lw_all := lw_g (lw_at lw_m4 46 rfl) rfl
theorem q899 : (Jvm.Cond.lays "PegLaws$Flag" "PegLaws$Cloth" "wide" "I") ∈ lw_all := lw_g (lw_at lw_m4 47 rfl) rfl
theorem q900 : (Jvm.Cond.lays "PegLaws$Flag" "PegLaws$Cloth" "weight" "I") ∈ lw_all := lw_g (lw_at lw_m4 48 rfl) rfl
theorem q901 : (Jvm.Cond.lays "PegLaws$Flag" "PegLaws$Cloth" "worth" "I") ∈ lw_all := lw_g (lw_at lw_m4 49 rfl) rfl
theorem q902 : (Jvm.Cond.superclass "PegLaws$Flag" "PegLaws$Cloth") ∈ lw_all := lw_g (lw_at lw_m4 50 rfl) rfl
theorem q959 : (Jvm.Cond.selects "PegLaws$Flag" ({ cls := "java/lang/Object", name := "getClass", desc := "()Ljava/lang/Class;" } : Jvm.MethodName) ({ cls := "java/lang/Object", name := "getClass", desc := "()Ljava/lang/Class;" } : Jvm.MethodName)) ∈ lw_all := lw_g (lw_at lw_m4 107 rfl) rfl
theorem q1185 : (Jvm.Cond.selects "PegLaws$Flag" ({ cls := "PegLaws$Cloth", name := "kind", desc := "()I" } : Jvm.MethodName) ({ cls := "PegLaws$Flag", name := "kind", desc := "()I" } : Jvm.MethodName)) ∈ lw_all := lw_g (lw_at lw_m5 93 rfl) rfl
theorem q1186 : (Jvm.Cond.instanceMethod ({ cls := "PegLaws$Flag", name := "kind", desc := "()I" } : Jvm.MethodName)) ∈ lw_all := lw_g (lw_at lw_m5 94 rfl) rfl
theorem q1187 : (Jvm.Cond.code ({ cls := "PegLaws$Flag", name := "kind", desc := "()I" } : Jvm.MethodName) prog_7_method_2_code (1 : Nat) (Option.some Jvm.ClassFile.FieldType.int)) ∈ lw_all := lw_g (lw_at lw_m5 95 rfl) rfl
theorem q1204 : (Jvm.Cond.selects "PegLaws$Flag" ({ cls := "PegLaws$Cloth", name := "needs", desc := "()I" } : Jvm.MethodName) ({ cls := "PegLaws$Cloth", name := "needs", desc := "()I" } : Jvm.MethodName)) ∈ lw_all := lw_g (lw_at lw_m5 112 rfl) rfl
theorem q1230 : (Jvm.Cond.selects "PegLaws$Flag" ({ cls := "PegLaws$Cloth", name := "mass", desc := "(I)I" } : Jvm.MethodName) ({ cls := "PegLaws$Cloth", name := "mass", desc := "(I)I" } : Jvm.MethodName)) ∈ lw_all := lw_g (lw_at lw_m5 138 rfl) rfl
theorem q1266 : (Jvm.Cond.selects "PegLaws$Flag" ({ cls := "PegLaws$Cloth", name := "pulled", desc := "(I)I" } : Jvm.MethodName) ({ cls := "PegLaws$Flag", name := "pulled", desc := "(I)I" } : Jvm.MethodName)) ∈ lw_all := lw_g (lw_at lw_m5 174 rfl) rfl
theorem q1267 : (Jvm.Cond.instanceMethod ({ cls := "PegLaws$Flag", name := "pulled", desc := "(I)I" } : Jvm.MethodName)) ∈ lw_all := lw_g (lw_at lw_m5 175 rfl) rfl
theorem q1268 : (Jvm.Cond.code ({ cls := "PegLaws$Flag", name := "pulled", desc := "(I)I" } : Jvm.MethodName) prog_7_method_3_code (2 : Nat) (Option.some Jvm.ClassFile.FieldType.int)) ∈ lw_all := lw_g (lw_at lw_m5 176 rfl) rfl
theorem q2204 : (Jvm.Cond.castable "PegLaws$Flag" "PegLaws$Cloth") ∈ lw_tbl := lw_at lw_m9 152 rfl
theorem q2224 : (Jvm.Cond.castable "PegLaws$Flag" "java/lang/Object") ∈ lw_tbl := lw_at lw_m9 172 rfl
theorem in_X9 : ∀ w ∈ wsX90, w ∈ lw_all := lw_in wsX90 [898, 899, 900, 901] (by decide +kernel) (by decide +kernel)

/-! PegLaws$Wool -/
set_option maxRecDepth 100000
def RX10 : String := "PegLaws$Wool"
def TX10 : u_T := fun k => match k with
  | 0 => ("PegLaws$Cloth", "name", "Ljava/lang/String;", true)
  | 1 => ("PegLaws$Cloth", "wide", "I", false)
  | 2 => ("PegLaws$Cloth", "weight", "I", false)
  | _ => ("PegLaws$Cloth", "worth", "I", false)
def tyX10 : Nat → FieldType := fun k => match k with
  | 0 => .object "java/lang/String"
  | 1 => .int
  | 2 => .int
  | _ => .int
abbrev wsX100 : List Cond := u_ws RX10 TX10 4
theorem nmX10 : ∀ a, a < 4 → ∀ b, b < 4 → a ≠ b → (TX10 a).2.1 ≠ (TX10 b).2.1 := by decide +kernel
theorem tyX10_ok : ∀ k, k < 4 → parseFieldDescriptor (TX10 k).2.2.1 = some (tyX10 k) := by decide +kernel
abbrev cX10_init : ByteArray := prog_20_method_1_code
def yX10_init : MethodName := ⟨RX10, "<init>", "(Ljava/lang/String;)V"⟩
def dkwX10_init_0 : List UInt8 := [42, 43, 183, 0, 1, 177]
abbrev dktX10_init_0 : List UInt8 := dkwX10_init_0 ++ []
theorem dksX10_init_0 : cX10_init.data.toList.drop 0 = dktX10_init_0 := by decide +kernel
theorem dX10_init_0 : decode cX10_init 0 = .ok (.aload_n 0, 1) := dk_42 (dk_at dksX10_init_0 0 rfl rfl)
theorem dX10_init_1 : decode cX10_init 1 = .ok (.aload_n 1, 1) := dk_43 (dk_at dksX10_init_0 1 rfl rfl)
theorem dX10_init_2 : decode cX10_init 2 = .ok (.invokespecial 1, 3) := dk_183 0 1 (dk_at dksX10_init_0 2 rfl rfl)
theorem dX10_init_5 : decode cX10_init 5 = .ok (.return_, 1) := dk_177 (dk_at dksX10_init_0 5 rfl rfl)
abbrev cX10_kind : ByteArray := prog_20_method_2_code
def yX10_kind : MethodName := ⟨RX10, "kind", "()I"⟩
theorem dX10_kind_0 : decode cX10_kind 0 = .ok (.iconst 3, 1) := by decide +kernel
theorem dX10_kind_1 : decode cX10_kind 1 = .ok (.ireturn, 1) := by decide +kernel
abbrev cX10_mass : ByteArray := prog_20_method_3_code
def yX10_mass : MethodName := ⟨RX10, "mass", "(I)I"⟩
def dkwX10_mass_0 : List UInt8 := [42, 180, 0, 7, 27, 5, 104, 96, 172]
abbrev dktX10_mass_0 : List UInt8 := dkwX10_mass_0 ++ []
theorem dksX10_mass_0 : cX10_mass.data.toList.drop 0 = dktX10_mass_0 := by decide +kernel
theorem dX10_mass_0 : decode cX10_mass 0 = .ok (.aload_n 0, 1) := dk_42 (dk_at dksX10_mass_0 0 rfl rfl)
theorem dX10_mass_1 : decode cX10_mass 1 = .ok (.getfield 7, 3) := dk_180 0 7 (dk_at dksX10_mass_0 1 rfl rfl)
theorem dX10_mass_4 : decode cX10_mass 4 = .ok (.iload_n 1, 1) := dk_27 (dk_at dksX10_mass_0 4 rfl rfl)
theorem dX10_mass_5 : decode cX10_mass 5 = .ok (.iconst 2, 1) := dk_5 (dk_at dksX10_mass_0 5 rfl rfl)
theorem dX10_mass_6 : decode cX10_mass 6 = .ok (.imul, 1) := dk_104 (dk_at dksX10_mass_0 6 rfl rfl)
theorem dX10_mass_7 : decode cX10_mass 7 = .ok (.iadd, 1) := dk_96 (dk_at dksX10_mass_0 7 rfl rfl)
theorem dX10_mass_8 : decode cX10_mass 8 = .ok (.ireturn, 1) := dk_172 (dk_at dksX10_mass_0 8 rfl rfl)
theorem q160 : (Jvm.Cond.initialized "PegLaws$Wool") ∈ lw_all := lw_g (lw_at lw_m1 28 rfl) rfl
theorem q866 : (Jvm.Cond.fieldLink "PegLaws$Wool" (7 : Nat) "PegLaws$Wool" "weight" "I") ∈ lw_all := lw_g (lw_at lw_m4 14 rfl) rfl
theorem q867 : (Jvm.Cond.sameField "PegLaws$Wool" "PegLaws$Cloth" "weight" "I") ∈ lw_all := lw_g (lw_at lw_m4 15 rfl) rfl
theorem q904 : (Jvm.Cond.instantiable "PegLaws$Wool" (4 : Nat)) ∈ lw_all := lw_g (lw_at lw_m4 52 rfl) rfl
theorem q906 : (Jvm.Cond.instanceMethod ({ cls := "PegLaws$Wool", name := "<init>", desc := "(Ljava/lang/String;)V" } : Jvm.MethodName)) ∈ lw_all := lw_g (lw_at lw_m4 54 rfl) rfl
theorem q907 : (Jvm.Cond.code ({ cls := "PegLaws$Wool", name := "<init>", desc := "(Ljava/lang/String;)V" } : Jvm.MethodName) prog_20_method_1_code (2 : Nat) (Option.none : Option Jvm.ClassFile.FieldType)) ∈ lw_all := lw_g (lw_at lw_m4 55 rfl) rfl
theorem q908 : (Jvm.Cond.methodLink "PegLaws$Wool" (1 : Nat) ({ cls := "PegLaws$Cloth", name := "<init>", desc := "(Ljava/lang/String;)V" } : Jvm.MethodName)) ∈ lw_all := lw_g (lw_at lw_m4 56 rfl) rfl
theorem q909 : (Jvm.Cond.laysFinal "PegLaws$Wool" "PegLaws$Cloth" "name" "Ljava/lang/String;") ∈ lw_all := lw_g (lw_at lw_m4 57 rfl) rfl
theorem q910 : (Jvm.Cond.lays "PegLaws$Wool" "PegLaws$Cloth" "wide" "I") ∈ lw_all := lw_g (lw_at lw_m4 58 rfl) rfl
theorem q911 : (Jvm.Cond.lays "PegLaws$Wool" "PegLaws$Cloth" "weight" "I") ∈ lw_all := lw_g (lw_at lw_m4 59 rfl) rfl
theorem q912 : (Jvm.Cond.lays "PegLaws$Wool" "PegLaws$Cloth" "worth" "I") ∈ lw_all := lw_g (lw_at lw_m4 60 rfl) rfl
theorem q913 : (Jvm.Cond.superclass "PegLaws$Wool" "PegLaws$Cloth") ∈ lw_all := lw_g (lw_at lw_m4 61 rfl) rfl
theorem q971 : (Jvm.Cond.selects "PegLaws$Wool" ({ cls := "java/lang/Object", name := "getClass", desc := "()Ljava/lang/Class;" } : Jvm.MethodName) ({ cls := "java/lang/Object", name := "getClass", desc := "()Ljava/lang/Class;" } : Jvm.MethodName)) ∈ lw_all := lw_g (lw_at lw_m4 119 rfl) rfl
theorem q1191 : (Jvm.Cond.selects "PegLaws$Wool" ({ cls := "PegLaws$Cloth", name := "kind", desc := "()I" } : Jvm.MethodName) ({ cls := "PegLaws$Wool", name := "kind", desc := "()I" } : Jvm.MethodName)) ∈ lw_all := lw_g (lw_at lw_m5 99 rfl) rfl
theorem q1192 : (Jvm.Cond.instanceMethod ({ cls := "PegLaws$Wool", name := "kind", desc := "()I" } : Jvm.MethodName)) ∈ lw_all := lw_g (lw_at lw_m5 100 rfl) rfl
theorem q1193 : (Jvm.Cond.code ({ cls := "PegLaws$Wool", name := "kind", desc := "()I" } : Jvm.MethodName) prog_20_method_2_code (1 : Nat) (Option.some Jvm.ClassFile.FieldType.int)) ∈ lw_all := lw_g (lw_at lw_m5 101 rfl) rfl
theorem q1208 : (Jvm.Cond.selects "PegLaws$Wool" ({ cls := "PegLaws$Cloth", name := "needs", desc := "()I" } : Jvm.MethodName) ({ cls := "PegLaws$Cloth", name := "needs", desc := "()I" } : Jvm.MethodName)) ∈ lw_all := lw_g (lw_at lw_m5 116 rfl) rfl
theorem q1232 : (Jvm.Cond.selects "PegLaws$Wool" ({ cls := "PegLaws$Cloth", name := "mass", desc := "(I)I" } : Jvm.MethodName) ({ cls := "PegLaws$Wool", name := "mass", desc := "(I)I" } : Jvm.MethodName)) ∈ lw_all := lw_g (lw_at lw_m5 140 rfl) rfl
theorem q1233 : (Jvm.Cond.instanceMethod ({ cls := "PegLaws$Wool", name := "mass", desc := "(I)I" } : Jvm.MethodName)) ∈ lw_all := lw_g (lw_at lw_m5 141 rfl) rfl
theorem q1234 : (Jvm.Cond.code ({ cls := "PegLaws$Wool", name := "mass", desc := "(I)I" } : Jvm.MethodName) prog_20_method_3_code (2 : Nat) (Option.some Jvm.ClassFile.FieldType.int)) ∈ lw_all := lw_g (lw_at lw_m5 142 rfl) rfl
theorem q1270 : (Jvm.Cond.selects "PegLaws$Wool" ({ cls := "PegLaws$Cloth", name := "pulled", desc := "(I)I" } : Jvm.MethodName) ({ cls := "PegLaws$Cloth", name := "pulled", desc := "(I)I" } : Jvm.MethodName)) ∈ lw_all := lw_g (lw_at lw_m5 178 rfl) rfl
theorem q2206 : (Jvm.Cond.castable "PegLaws$Wool" "PegLaws$Cloth") ∈ lw_tbl := lw_at lw_m9 154 rfl
theorem q2225 : (Jvm.Cond.castable "PegLaws$Wool" "java/lang/Object") ∈ lw_tbl := lw_at lw_m9 173 rfl
theorem in_X10 : ∀ w ∈ wsX100, w ∈ lw_all := lw_in wsX100 [909, 910, 911, 912] (by decide +kernel) (by decide +kernel)

/-! PegLaws$Expression -/
set_option maxRecDepth 100000
def RX11 : String := "PegLaws$Expression"
abbrev cX11_init : ByteArray := prog_5_method_1_code
def yX11_init : MethodName := ⟨RX11, "<init>", "()V"⟩
theorem dX11_init_0 : decode cX11_init 0 = .ok (.aload_n 0, 1) := by decide +kernel
theorem dX11_init_1 : decode cX11_init 1 = .ok (.invokespecial 1, 3) := by decide +kernel
theorem dX11_init_4 : decode cX11_init 4 = .ok (.return_, 1) := by decide +kernel
theorem q161 : (Jvm.Cond.initialized "PegLaws$Expression") ∈ lw_all := lw_g (lw_at lw_m1 29 rfl) rfl
theorem q1035 : (Jvm.Cond.instanceMethod ({ cls := "PegLaws$Expression", name := "<init>", desc := "()V" } : Jvm.MethodName)) ∈ lw_all := lw_g (lw_at lw_m4 183 rfl) rfl
theorem q1036 : (Jvm.Cond.code ({ cls := "PegLaws$Expression", name := "<init>", desc := "()V" } : Jvm.MethodName) prog_5_method_1_code (1 : Nat) (Option.none : Option Jvm.ClassFile.FieldType)) ∈ lw_all := lw_g (lw_at lw_m4 184 rfl) rfl
theorem q1037 : (Jvm.Cond.methodLink "PegLaws$Expression" (1 : Nat) ({ cls := "java/lang/Object", name := "<init>", desc := "()V" } : Jvm.MethodName)) ∈ lw_all := lw_g (lw_at lw_m4 185 rfl) rfl
theorem q1246 : (Jvm.Cond.declares ({ cls := "PegLaws$Expression", name := "worked", desc := "([I)I" } : Jvm.MethodName)) ∈ lw_tbl := lw_at lw_m5 154 rfl
theorem q1247 : (Jvm.Cond.sameMethod "PegLaws$Expression" "PegLaws$Expression" "worked" "([I)I") ∈ lw_all := lw_g (lw_at lw_m5 155 rfl) rfl

/-! PegLaws$Given -/
set_option maxRecDepth 100000
def RX12 : String := "PegLaws$Given"
def TX12 : u_T := fun k => match k with
  | _ => ("PegLaws$Given", "n", "I", true)
def tyX12 : Nat → FieldType := fun k => match k with
  | _ => .int
abbrev wsX120 : List Cond := u_ws RX12 TX12 1
theorem nmX12 : ∀ a, a < 1 → ∀ b, b < 1 → a ≠ b → (TX12 a).2.1 ≠ (TX12 b).2.1 := by decide +kernel
theorem tyX12_ok : ∀ k, k < 1 → parseFieldDescriptor (TX12 k).2.2.1 = some (tyX12 k) := by decide +kernel
abbrev cX12_init : ByteArray := prog_8_method_1_code
def yX12_init : MethodName := ⟨RX12, "<init>", "(I)V"⟩
def dkwX12_init_0 : List UInt8 := [42, 183, 0, 1, 42, 27, 181, 0, 7, 177]
abbrev dktX12_init_0 : List UInt8 := dkwX12_init_0 ++ []
theorem dksX12_init_0 : cX12_init.data.toList.drop 0 = dktX12_init_0 := by decide +kernel
theorem dX12_init_0 : decode cX12_init 0 = .ok (.aload_n 0, 1) := dk_42 (dk_at dksX12_init_0 0 rfl rfl)
theorem dX12_init_1 : decode cX12_init 1 = .ok (.invokespecial 1, 3) := dk_183 0 1 (dk_at dksX12_init_0 1 rfl rfl)
theorem dX12_init_4 : decode cX12_init 4 = .ok (.aload_n 0, 1) := dk_42 (dk_at dksX12_init_0 4 rfl rfl)
theorem dX12_init_5 : decode cX12_init 5 = .ok (.iload_n 1, 1) := dk_27 (dk_at dksX12_init_0 5 rfl rfl)
theorem dX12_init_6 : decode cX12_init 6 = .ok (.putfield 7, 3) := dk_181 0 7 (dk_at dksX12_init_0 6 rfl rfl)
theorem dX12_init_9 : decode cX12_init 9 = .ok (.return_, 1) := dk_177 (dk_at dksX12_init_0 9 rfl rfl)
abbrev cX12_worked : ByteArray := prog_8_method_2_code
def yX12_worked : MethodName := ⟨RX12, "worked", "([I)I"⟩
theorem dX12_worked_0 : decode cX12_worked 0 = .ok (.aload_n 0, 1) := by decide +kernel
theorem dX12_worked_1 : decode cX12_worked 1 = .ok (.getfield 7, 3) := by decide +kernel
theorem dX12_worked_4 : decode cX12_worked 4 = .ok (.ireturn, 1) := by decide +kernel
theorem q162 : (Jvm.Cond.initialized "PegLaws$Given") ∈ lw_all := lw_g (lw_at lw_m1 30 rfl) rfl
theorem q960 : (Jvm.Cond.selects "PegLaws$Given" ({ cls := "java/lang/Object", name := "getClass", desc := "()Ljava/lang/Class;" } : Jvm.MethodName) ({ cls := "java/lang/Object", name := "getClass", desc := "()Ljava/lang/Class;" } : Jvm.MethodName)) ∈ lw_all := lw_g (lw_at lw_m4 108 rfl) rfl
theorem q1030 : (Jvm.Cond.instantiable "PegLaws$Given" (1 : Nat)) ∈ lw_all := lw_g (lw_at lw_m4 178 rfl) rfl
theorem q1032 : (Jvm.Cond.instanceMethod ({ cls := "PegLaws$Given", name := "<init>", desc := "(I)V" } : Jvm.MethodName)) ∈ lw_all := lw_g (lw_at lw_m4 180 rfl) rfl
theorem q1033 : (Jvm.Cond.code ({ cls := "PegLaws$Given", name := "<init>", desc := "(I)V" } : Jvm.MethodName) prog_8_method_1_code (2 : Nat) (Option.none : Option Jvm.ClassFile.FieldType)) ∈ lw_all := lw_g (lw_at lw_m4 181 rfl) rfl
theorem q1034 : (Jvm.Cond.methodLinkNest "PegLaws$Given" (1 : Nat) ({ cls := "PegLaws$Expression", name := "<init>", desc := "()V" } : Jvm.MethodName) "PegLaws") ∈ lw_tbl := lw_at lw_m4 182 rfl
theorem q1038 : (Jvm.Cond.fieldLink "PegLaws$Given" (7 : Nat) "PegLaws$Given" "n" "I") ∈ lw_all := lw_g (lw_at lw_m4 186 rfl) rfl
theorem q1039 : (Jvm.Cond.laysFinal "PegLaws$Given" "PegLaws$Given" "n" "I") ∈ lw_all := lw_g (lw_at lw_m4 187 rfl) rfl
theorem q1040 : (Jvm.Cond.soleField "PegLaws$Given" "n") ∈ lw_all := lw_g (lw_at lw_m4 188 rfl) rfl
theorem q1041 : (Jvm.Cond.superclass "PegLaws$Given" "PegLaws$Expression") ∈ lw_all := lw_g (lw_at lw_m4 189 rfl) rfl
theorem q1251 : (Jvm.Cond.selects "PegLaws$Given" ({ cls := "PegLaws$Expression", name := "worked", desc := "([I)I" } : Jvm.MethodName) ({ cls := "PegLaws$Given", name := "worked", desc := "([I)I" } : Jvm.MethodName)) ∈ lw_all := lw_g (lw_at lw_m5 159 rfl) rfl
theorem q1252 : (Jvm.Cond.instanceMethod ({ cls := "PegLaws$Given", name := "worked", desc := "([I)I" } : Jvm.MethodName)) ∈ lw_all := lw_g (lw_at lw_m5 160 rfl) rfl
theorem q1253 : (Jvm.Cond.code ({ cls := "PegLaws$Given", name := "worked", desc := "([I)I" } : Jvm.MethodName) prog_8_method_2_code (2 : Nat) (Option.some Jvm.ClassFile.FieldType.int)) ∈ lw_all := lw_g (lw_at lw_m5 161 rfl) rfl
theorem q2226 : (Jvm.Cond.castable "PegLaws$Given" "java/lang/Object") ∈ lw_tbl := lw_at lw_m9 174 rfl
theorem in_X12 : ∀ w ∈ wsX120, w ∈ lw_all := lw_in wsX120 [1039] (by decide +kernel) (by decide +kernel)

/-! PegLaws$Fact -/
set_option maxRecDepth 100000
def RX13 : String := "PegLaws$Fact"
def TX13 : u_T := fun k => match k with
  | _ => ("PegLaws$Fact", "which", "I", true)
def tyX13 : Nat → FieldType := fun k => match k with
  | _ => .int
abbrev wsX130 : List Cond := u_ws RX13 TX13 1
theorem nmX13 : ∀ a, a < 1 → ∀ b, b < 1 → a ≠ b → (TX13 a).2.1 ≠ (TX13 b).2.1 := by decide +kernel
theorem tyX13_ok : ∀ k, k < 1 → parseFieldDescriptor (TX13 k).2.2.1 = some (tyX13 k) := by decide +kernel
abbrev cX13_init : ByteArray := prog_6_method_1_code
def yX13_init : MethodName := ⟨RX13, "<init>", "(I)V"⟩
def dkwX13_init_0 : List UInt8 := [42, 183, 0, 1, 42, 27, 181, 0, 7, 177]
abbrev dktX13_init_0 : List UInt8 := dkwX13_init_0 ++ []
theorem dksX13_init_0 : cX13_init.data.toList.drop 0 = dktX13_init_0 := by decide +kernel
theorem dX13_init_0 : decode cX13_init 0 = .ok (.aload_n 0, 1) := dk_42 (dk_at dksX13_init_0 0 rfl rfl)
theorem dX13_init_1 : decode cX13_init 1 = .ok (.invokespecial 1, 3) := dk_183 0 1 (dk_at dksX13_init_0 1 rfl rfl)
theorem dX13_init_4 : decode cX13_init 4 = .ok (.aload_n 0, 1) := dk_42 (dk_at dksX13_init_0 4 rfl rfl)
theorem dX13_init_5 : decode cX13_init 5 = .ok (.iload_n 1, 1) := dk_27 (dk_at dksX13_init_0 5 rfl rfl)
theorem dX13_init_6 : decode cX13_init 6 = .ok (.putfield 7, 3) := dk_181 0 7 (dk_at dksX13_init_0 6 rfl rfl)
theorem dX13_init_9 : decode cX13_init 9 = .ok (.return_, 1) := dk_177 (dk_at dksX13_init_0 9 rfl rfl)
abbrev cX13_worked : ByteArray := prog_6_method_2_code
def yX13_worked : MethodName := ⟨RX13, "worked", "([I)I"⟩
def dkwX13_worked_0 : List UInt8 := [43, 42, 180, 0, 7, 46, 172]
abbrev dktX13_worked_0 : List UInt8 := dkwX13_worked_0 ++ []
theorem dksX13_worked_0 : cX13_worked.data.toList.drop 0 = dktX13_worked_0 := by decide +kernel
theorem dX13_worked_0 : decode cX13_worked 0 = .ok (.aload_n 1, 1) := dk_43 (dk_at dksX13_worked_0 0 rfl rfl)
theorem dX13_worked_1 : decode cX13_worked 1 = .ok (.aload_n 0, 1) := dk_42 (dk_at dksX13_worked_0 1 rfl rfl)
theorem dX13_worked_2 : decode cX13_worked 2 = .ok (.getfield 7, 3) := dk_180 0 7 (dk_at dksX13_worked_0 2 rfl rfl)
theorem dX13_worked_5 : decode cX13_worked 5 = .ok (.iaload, 1) := dk_46 (dk_at dksX13_worked_0 5 rfl rfl)
theorem dX13_worked_6 : decode cX13_worked 6 = .ok (.ireturn, 1) := dk_172 (dk_at dksX13_worked_0 6 rfl rfl)
theorem q163 : (Jvm.Cond.initialized "PegLaws$Fact") ∈ lw_all := lw_g (lw_at lw_m1 31 rfl) rfl
theorem q958 : (Jvm.Cond.selects "PegLaws$Fact" ({ cls := "java/lang/Object", name := "getClass", desc := "()Ljava/lang/Class;" } : Jvm.MethodName) ({ cls := "java/lang/Object", name := "getClass", desc := "()Ljava/lang/Class;" } : Jvm.MethodName)) ∈ lw_all := lw_g (lw_at lw_m4 106 rfl) rfl
theorem q1043 : (Jvm.Cond.instantiable "PegLaws$Fact" (1 : Nat)) ∈ lw_all := lw_g (lw_at lw_m4 191 rfl) rfl
theorem q1045 : (Jvm.Cond.instanceMethod ({ cls := "PegLaws$Fact", name := "<init>", desc := "(I)V" } : Jvm.MethodName)) ∈ lw_all := lw_g (lw_at lw_m4 193 rfl) rfl
theorem q1046 : (Jvm.Cond.code ({ cls := "PegLaws$Fact", name := "<init>", desc := "(I)V" } : Jvm.MethodName) prog_6_method_1_code (2 : Nat) (Option.none : Option Jvm.ClassFile.FieldType)) ∈ lw_all := lw_g (lw_at lw_m4 194 rfl) rfl
theorem q1047 : (Jvm.Cond.methodLinkNest "PegLaws$Fact" (1 : Nat) ({ cls := "PegLaws$Expression", name := "<init>", desc := "()V" } : Jvm.MethodName) "PegLaws") ∈ lw_tbl := lw_at lw_m4 195 rfl
theorem q1048 : (Jvm.Cond.fieldLink "PegLaws$Fact" (7 : Nat) "PegLaws$Fact" "which" "I") ∈ lw_all := lw_g (lw_at lw_m4 196 rfl) rfl
theorem q1049 : (Jvm.Cond.laysFinal "PegLaws$Fact" "PegLaws$Fact" "which" "I") ∈ lw_all := lw_g (lw_at lw_m4 197 rfl) rfl
theorem q1050 : (Jvm.Cond.soleField "PegLaws$Fact" "which") ∈ lw_all := lw_g (lw_at lw_m4 198 rfl) rfl
theorem q1051 : (Jvm.Cond.superclass "PegLaws$Fact" "PegLaws$Expression") ∈ lw_all := lw_g (lw_at lw_m4 199 rfl) rfl
theorem q1248 : (Jvm.Cond.selects "PegLaws$Fact" ({ cls := "PegLaws$Expression", name := "worked", desc := "([I)I" } : Jvm.MethodName) ({ cls := "PegLaws$Fact", name := "worked", desc := "([I)I" } : Jvm.MethodName)) ∈ lw_all := lw_g (lw_at lw_m5 156 rfl) rfl
theorem q1249 : (Jvm.Cond.instanceMethod ({ cls := "PegLaws$Fact", name := "worked", desc := "([I)I" } : Jvm.MethodName)) ∈ lw_all := lw_g (lw_at lw_m5 157 rfl) rfl
theorem q1250 : (Jvm.Cond.code ({ cls := "PegLaws$Fact", name := "worked", desc := "([I)I" } : Jvm.MethodName) prog_6_method_2_code (2 : Nat) (Option.some Jvm.ClassFile.FieldType.int)) ∈ lw_all := lw_g (lw_at lw_m5 158 rfl) rfl
theorem q2227 : (Jvm.Cond.castable "PegLaws$Fact" "java/lang/Object") ∈ lw_tbl := lw_at lw_m9 175 rfl
theorem in_X13 : ∀ w ∈ wsX130, w ∈ lw_all := lw_in wsX130 [1049] (by decide +kernel) (by decide +kernel)

/-! PegLaws$Not -/
set_option maxRecDepth 100000
def RX14 : String := "PegLaws$Not"
def TX14 : u_T := fun k => match k with
  | _ => ("PegLaws$Not", "part", "LPegLaws$Expression;", true)
def tyX14 : Nat → FieldType := fun k => match k with
  | _ => .object "PegLaws$Expression"
abbrev wsX140 : List Cond := u_ws RX14 TX14 1
theorem nmX14 : ∀ a, a < 1 → ∀ b, b < 1 → a ≠ b → (TX14 a).2.1 ≠ (TX14 b).2.1 := by decide +kernel
theorem tyX14_ok : ∀ k, k < 1 → parseFieldDescriptor (TX14 k).2.2.1 = some (tyX14 k) := by decide +kernel
abbrev cX14_init : ByteArray := prog_12_method_1_code
def yX14_init : MethodName := ⟨RX14, "<init>", "(LPegLaws$Expression;)V"⟩
def dkwX14_init_0 : List UInt8 := [42, 183, 0, 1, 42, 43, 181, 0, 7, 177]
abbrev dktX14_init_0 : List UInt8 := dkwX14_init_0 ++ []
theorem dksX14_init_0 : cX14_init.data.toList.drop 0 = dktX14_init_0 := by decide +kernel
theorem dX14_init_0 : decode cX14_init 0 = .ok (.aload_n 0, 1) := dk_42 (dk_at dksX14_init_0 0 rfl rfl)
theorem dX14_init_1 : decode cX14_init 1 = .ok (.invokespecial 1, 3) := dk_183 0 1 (dk_at dksX14_init_0 1 rfl rfl)
theorem dX14_init_4 : decode cX14_init 4 = .ok (.aload_n 0, 1) := dk_42 (dk_at dksX14_init_0 4 rfl rfl)
theorem dX14_init_5 : decode cX14_init 5 = .ok (.aload_n 1, 1) := dk_43 (dk_at dksX14_init_0 5 rfl rfl)
theorem dX14_init_6 : decode cX14_init 6 = .ok (.putfield 7, 3) := dk_181 0 7 (dk_at dksX14_init_0 6 rfl rfl)
theorem dX14_init_9 : decode cX14_init 9 = .ok (.return_, 1) := dk_177 (dk_at dksX14_init_0 9 rfl rfl)
abbrev cX14_worked : ByteArray := prog_12_method_2_code
def yX14_worked : MethodName := ⟨RX14, "worked", "([I)I"⟩
def dkwX14_worked_0 : List UInt8 := [42, 180, 0, 7, 43, 182, 0, 13, 154, 0, 7, 4, 167, 0, 4, 3, 172]
abbrev dktX14_worked_0 : List UInt8 := dkwX14_worked_0 ++ []
theorem dksX14_worked_0 : cX14_worked.data.toList.drop 0 = dktX14_worked_0 := by decide +kernel
theorem dX14_worked_0 : decode cX14_worked 0 = .ok (.aload_n 0, 1) := dk_42 (dk_at dksX14_worked_0 0 rfl rfl)
theorem dX14_worked_1 : decode cX14_worked 1 = .ok (.getfield 7, 3) := dk_180 0 7 (dk_at dksX14_worked_0 1 rfl rfl)
theorem dX14_worked_4 : decode cX14_worked 4 = .ok (.aload_n 1, 1) := dk_43 (dk_at dksX14_worked_0 4 rfl rfl)
theorem dX14_worked_5 : decode cX14_worked 5 = .ok (.invokevirtual 13, 3) := dk_182 0 13 (dk_at dksX14_worked_0 5 rfl rfl)
theorem dX14_worked_8 : decode cX14_worked 8 = .ok (.ifCond .ne 7, 3) := dk_154 0 7 (dk_at dksX14_worked_0 8 rfl rfl)
theorem dX14_worked_11 : decode cX14_worked 11 = .ok (.iconst 1, 1) := dk_4 (dk_at dksX14_worked_0 11 rfl rfl)
theorem dX14_worked_12 : decode cX14_worked 12 = .ok (.goto 4, 3) := dk_167 0 4 (dk_at dksX14_worked_0 12 rfl rfl)
theorem dX14_worked_15 : decode cX14_worked 15 = .ok (.iconst 0, 1) := dk_3 (dk_at dksX14_worked_0 15 rfl rfl)
theorem dX14_worked_16 : decode cX14_worked 16 = .ok (.ireturn, 1) := dk_172 (dk_at dksX14_worked_0 16 rfl rfl)
theorem q164 : (Jvm.Cond.initialized "PegLaws$Not") ∈ lw_all := lw_g (lw_at lw_m1 32 rfl) rfl
theorem q963 : (Jvm.Cond.selects "PegLaws$Not" ({ cls := "java/lang/Object", name := "getClass", desc := "()Ljava/lang/Class;" } : Jvm.MethodName) ({ cls := "java/lang/Object", name := "getClass", desc := "()Ljava/lang/Class;" } : Jvm.MethodName)) ∈ lw_all := lw_g (lw_at lw_m4 111 rfl) rfl
theorem q1053 : (Jvm.Cond.instantiable "PegLaws$Not" (1 : Nat)) ∈ lw_all := lw_g (lw_at lw_m4 201 rfl) rfl
theorem q1055 : (Jvm.Cond.instanceMethod ({ cls := "PegLaws$Not", name := "<init>", desc := "(LPegLaws$Expression;)V" } : Jvm.MethodName)) ∈ lw_all := lw_g (lw_at lw_m4 203 rfl) rfl
theorem q1056 : (Jvm.Cond.code ({ cls := "PegLaws$Not", name := "<init>", desc := "(LPegLaws$Expression;)V" } : Jvm.MethodName) prog_12_method_1_code (2 : Nat) (Option.none : Option Jvm.ClassFile.FieldType)) ∈ lw_all := lw_g (lw_at lw_m4 204 rfl) rfl
theorem q1057 : (Jvm.Cond.methodLinkNest "PegLaws$Not" (1 : Nat) ({ cls := "PegLaws$Expression", name := "<init>", desc := "()V" } : Jvm.MethodName) "PegLaws") ∈ lw_tbl := lw_at lw_m4 205 rfl
theorem q1058 : (Jvm.Cond.fieldLink "PegLaws$Not" (7 : Nat) "PegLaws$Not" "part" "LPegLaws$Expression;") ∈ lw_all := lw_g (lw_at lw_m4 206 rfl) rfl
theorem q1059 : (Jvm.Cond.laysFinal "PegLaws$Not" "PegLaws$Not" "part" "LPegLaws$Expression;") ∈ lw_all := lw_g (lw_at lw_m4 207 rfl) rfl
theorem q1060 : (Jvm.Cond.soleField "PegLaws$Not" "part") ∈ lw_all := lw_g (lw_at lw_m4 208 rfl) rfl
theorem q1061 : (Jvm.Cond.superclass "PegLaws$Not" "PegLaws$Expression") ∈ lw_all := lw_g (lw_at lw_m4 209 rfl) rfl
theorem q1254 : (Jvm.Cond.selects "PegLaws$Not" ({ cls := "PegLaws$Expression", name := "worked", desc := "([I)I" } : Jvm.MethodName) ({ cls := "PegLaws$Not", name := "worked", desc := "([I)I" } : Jvm.MethodName)) ∈ lw_all := lw_g (lw_at lw_m5 162 rfl) rfl
theorem q1255 : (Jvm.Cond.instanceMethod ({ cls := "PegLaws$Not", name := "worked", desc := "([I)I" } : Jvm.MethodName)) ∈ lw_all := lw_g (lw_at lw_m5 163 rfl) rfl
theorem q1256 : (Jvm.Cond.code ({ cls := "PegLaws$Not", name := "worked", desc := "([I)I" } : Jvm.MethodName) prog_12_method_2_code (2 : Nat) (Option.some Jvm.ClassFile.FieldType.int)) ∈ lw_all := lw_g (lw_at lw_m5 164 rfl) rfl
theorem q1257 : (Jvm.Cond.methodLink "PegLaws$Not" (13 : Nat) ({ cls := "PegLaws$Expression", name := "worked", desc := "([I)I" } : Jvm.MethodName)) ∈ lw_all := lw_g (lw_at lw_m5 165 rfl) rfl
theorem q2228 : (Jvm.Cond.castable "PegLaws$Not" "java/lang/Object") ∈ lw_tbl := lw_at lw_m9 176 rfl
theorem in_X14 : ∀ w ∈ wsX140, w ∈ lw_all := lw_in wsX140 [1059] (by decide +kernel) (by decide +kernel)

/-! PegLaws$Two -/
set_option maxRecDepth 100000
def RX15 : String := "PegLaws$Two"
def TX15 : u_T := fun k => match k with
  | 0 => ("PegLaws$Two", "way", "C", true)
  | 1 => ("PegLaws$Two", "a", "LPegLaws$Expression;", true)
  | _ => ("PegLaws$Two", "b", "LPegLaws$Expression;", true)
def tyX15 : Nat → FieldType := fun k => match k with
  | 0 => .char
  | 1 => .object "PegLaws$Expression"
  | _ => .object "PegLaws$Expression"
abbrev wsX150 : List Cond := u_ws RX15 TX15 3
theorem nmX15 : ∀ a, a < 3 → ∀ b, b < 3 → a ≠ b → (TX15 a).2.1 ≠ (TX15 b).2.1 := by decide +kernel
theorem tyX15_ok : ∀ k, k < 3 → parseFieldDescriptor (TX15 k).2.2.1 = some (tyX15 k) := by decide +kernel
abbrev cX15_init : ByteArray := prog_18_method_1_code
def yX15_init : MethodName := ⟨RX15, "<init>", "(CLPegLaws$Expression;LPegLaws$Expression;)V"⟩
def dkwX15_init_0 : List UInt8 := [42, 183, 0, 1, 42, 27, 181, 0, 7, 42, 44, 181, 0, 13, 42, 45, 181, 0, 17, 177]
abbrev dktX15_init_0 : List UInt8 := dkwX15_init_0 ++ []
theorem dksX15_init_0 : cX15_init.data.toList.drop 0 = dktX15_init_0 := by decide +kernel
theorem dX15_init_0 : decode cX15_init 0 = .ok (.aload_n 0, 1) := dk_42 (dk_at dksX15_init_0 0 rfl rfl)
theorem dX15_init_1 : decode cX15_init 1 = .ok (.invokespecial 1, 3) := dk_183 0 1 (dk_at dksX15_init_0 1 rfl rfl)
theorem dX15_init_4 : decode cX15_init 4 = .ok (.aload_n 0, 1) := dk_42 (dk_at dksX15_init_0 4 rfl rfl)
theorem dX15_init_5 : decode cX15_init 5 = .ok (.iload_n 1, 1) := dk_27 (dk_at dksX15_init_0 5 rfl rfl)
theorem dX15_init_6 : decode cX15_init 6 = .ok (.putfield 7, 3) := dk_181 0 7 (dk_at dksX15_init_0 6 rfl rfl)
theorem dX15_init_9 : decode cX15_init 9 = .ok (.aload_n 0, 1) := dk_42 (dk_at dksX15_init_0 9 rfl rfl)
theorem dX15_init_10 : decode cX15_init 10 = .ok (.aload_n 2, 1) := dk_44 (dk_at dksX15_init_0 10 rfl rfl)
theorem dX15_init_11 : decode cX15_init 11 = .ok (.putfield 13, 3) := dk_181 0 13 (dk_at dksX15_init_0 11 rfl rfl)
theorem dX15_init_14 : decode cX15_init 14 = .ok (.aload_n 0, 1) := dk_42 (dk_at dksX15_init_0 14 rfl rfl)
theorem dX15_init_15 : decode cX15_init 15 = .ok (.aload_n 3, 1) := dk_45 (dk_at dksX15_init_0 15 rfl rfl)
theorem dX15_init_16 : decode cX15_init 16 = .ok (.putfield 17, 3) := dk_181 0 17 (dk_at dksX15_init_0 16 rfl rfl)
theorem dX15_init_19 : decode cX15_init 19 = .ok (.return_, 1) := dk_177 (dk_at dksX15_init_0 19 rfl rfl)
abbrev cX15_worked : ByteArray := prog_18_method_2_code
def yX15_worked : MethodName := ⟨RX15, "worked", "([I)I"⟩
def dkwX15_worked_4 : List UInt8 := [28, 154, 0, 7, 29, 153, 0, 7, 4, 167, 0, 4, 3, 172]
abbrev dktX15_worked_4 : List UInt8 := dkwX15_worked_4 ++ []
def dkwX15_worked_3 : List UInt8 := [29, 160, 0, 7, 4, 167, 0, 4, 3, 172, 28, 153, 0, 11, 29, 153, 0, 7, 4, 167, 0, 4, 3, 172]
abbrev dktX15_worked_3 : List UInt8 := dkwX15_worked_3 ++ dktX15_worked_4
def dkwX15_worked_2 : List UInt8 := [28, 29, 96, 172, 28, 29, 100, 172, 28, 29, 104, 172, 28, 29, 162, 0, 7, 4, 167, 0, 4, 3, 172, 28]
abbrev dktX15_worked_2 : List UInt8 := dkwX15_worked_2 ++ dktX15_worked_3
def dkwX15_worked_1 : List UInt8 := [171, 0, 0, 0, 0, 106, 0, 0, 0, 6, 0, 0, 0, 38, 0, 0, 0, 92, 0, 0, 0, 42, 0, 0, 0, 66, 0, 0, 0, 43, 0, 0, 0, 58, 0, 0, 0, 45, 0, 0, 0, 62, 0, 0, 0, 60, 0, 0, 0, 70, 0, 0, 0, 61, 0, 0, 0, 81]
abbrev dktX15_worked_1 : List UInt8 := dkwX15_worked_1 ++ dktX15_worked_2
def dkwX15_worked_0 : List UInt8 := [42, 180, 0, 13, 43, 182, 0, 20, 61, 42, 180, 0, 17, 43, 182, 0, 20, 62, 42, 180, 0, 7]
abbrev dktX15_worked_0 : List UInt8 := dkwX15_worked_0 ++ dktX15_worked_1
theorem dksX15_worked_0 : cX15_worked.data.toList.drop 0 = dktX15_worked_0 := by decide +kernel
theorem dksX15_worked_1 : cX15_worked.data.toList.drop 22 = dktX15_worked_1 := dk_seg dksX15_worked_0 22 rfl rfl
theorem dksX15_worked_2 : cX15_worked.data.toList.drop 80 = dktX15_worked_2 := dk_seg dksX15_worked_1 58 rfl rfl
theorem dksX15_worked_3 : cX15_worked.data.toList.drop 104 = dktX15_worked_3 := dk_seg dksX15_worked_2 24 rfl rfl
theorem dksX15_worked_4 : cX15_worked.data.toList.drop 128 = dktX15_worked_4 := dk_seg dksX15_worked_3 24 rfl rfl
theorem dX15_worked_0 : decode cX15_worked 0 = .ok (.aload_n 0, 1) := dk_42 (dk_at dksX15_worked_0 0 rfl rfl)
theorem dX15_worked_1 : decode cX15_worked 1 = .ok (.getfield 13, 3) := dk_180 0 13 (dk_at dksX15_worked_0 1 rfl rfl)
theorem dX15_worked_4 : decode cX15_worked 4 = .ok (.aload_n 1, 1) := dk_43 (dk_at dksX15_worked_0 4 rfl rfl)
theorem dX15_worked_5 : decode cX15_worked 5 = .ok (.invokevirtual 20, 3) := dk_182 0 20 (dk_at dksX15_worked_0 5 rfl rfl)
theorem dX15_worked_8 : decode cX15_worked 8 = .ok (.istore_n 2, 1) := dk_61 (dk_at dksX15_worked_0 8 rfl rfl)
theorem dX15_worked_9 : decode cX15_worked 9 = .ok (.aload_n 0, 1) := dk_42 (dk_at dksX15_worked_0 9 rfl rfl)
theorem dX15_worked_10 : decode cX15_worked 10 = .ok (.getfield 17, 3) := dk_180 0 17 (dk_at dksX15_worked_0 10 rfl rfl)
theorem dX15_worked_13 : decode cX15_worked 13 = .ok (.aload_n 1, 1) := dk_43 (dk_at dksX15_worked_0 13 rfl rfl)
theorem dX15_worked_14 : decode cX15_worked 14 = .ok (.invokevirtual 20, 3) := dk_182 0 20 (dk_at dksX15_worked_0 14 rfl rfl)
theorem dX15_worked_17 : decode cX15_worked 17 = .ok (.istore_n 3, 1) := dk_62 (dk_at dksX15_worked_0 17 rfl rfl)
theorem dX15_worked_18 : decode cX15_worked 18 = .ok (.aload_n 0, 1) := dk_42 (dk_at dksX15_worked_0 18 rfl rfl)
theorem dX15_worked_19 : decode cX15_worked 19 = .ok (.getfield 7, 3) := dk_180 0 7 (dk_at dksX15_worked_0 19 rfl rfl)
theorem dX15_worked_22 : decode cX15_worked 22 = .ok (.lookupswitch 106 #[(38, 92), (42, 66), (43, 58), (45, 62), (60, 70), (61, 81)], 58) := by decide +kernel
theorem dX15_worked_80 : decode cX15_worked 80 = .ok (.iload_n 2, 1) := dk_28 (dk_at dksX15_worked_2 0 rfl rfl)
theorem dX15_worked_81 : decode cX15_worked 81 = .ok (.iload_n 3, 1) := dk_29 (dk_at dksX15_worked_2 1 rfl rfl)
theorem dX15_worked_82 : decode cX15_worked 82 = .ok (.iadd, 1) := dk_96 (dk_at dksX15_worked_2 2 rfl rfl)
theorem dX15_worked_83 : decode cX15_worked 83 = .ok (.ireturn, 1) := dk_172 (dk_at dksX15_worked_2 3 rfl rfl)
theorem dX15_worked_84 : decode cX15_worked 84 = .ok (.iload_n 2, 1) := dk_28 (dk_at dksX15_worked_2 4 rfl rfl)
theorem dX15_worked_85 : decode cX15_worked 85 = .ok (.iload_n 3, 1) := dk_29 (dk_at dksX15_worked_2 5 rfl rfl)
theorem dX15_worked_86 : decode cX15_worked 86 = .ok (.isub, 1) := dk_100 (dk_at dksX15_worked_2 6 rfl rfl)
theorem dX15_worked_87 : decode cX15_worked 87 = .ok (.ireturn, 1) := dk_172 (dk_at dksX15_worked_2 7 rfl rfl)
theorem dX15_worked_88 : decode cX15_worked 88 = .ok (.iload_n 2, 1) := dk_28 (dk_at dksX15_worked_2 8 rfl rfl)
theorem dX15_worked_89 : decode cX15_worked 89 = .ok (.iload_n 3, 1) := dk_29 (dk_at dksX15_worked_2 9 rfl rfl)
theorem dX15_worked_90 : decode cX15_worked 90 = .ok (.imul, 1) := dk_104 (dk_at dksX15_worked_2 10 rfl rfl)
theorem dX15_worked_91 : decode cX15_worked 91 = .ok (.ireturn, 1) := dk_172 (dk_at dksX15_worked_2 11 rfl rfl)
theorem dX15_worked_92 : decode cX15_worked 92 = .ok (.iload_n 2, 1) := dk_28 (dk_at dksX15_worked_2 12 rfl rfl)
theorem dX15_worked_93 : decode cX15_worked 93 = .ok (.iload_n 3, 1) := dk_29 (dk_at dksX15_worked_2 13 rfl rfl)
theorem dX15_worked_94 : decode cX15_worked 94 = .ok (.if_icmp .ge 7, 3) := dk_162 0 7 (dk_at dksX15_worked_2 14 rfl rfl)
theorem dX15_worked_97 : decode cX15_worked 97 = .ok (.iconst 1, 1) := dk_4 (dk_at dksX15_worked_2 17 rfl rfl)
theorem dX15_worked_98 : decode cX15_worked 98 = .ok (.goto 4, 3) := dk_167 0 4 (dk_at dksX15_worked_2 18 rfl rfl)
theorem dX15_worked_101 : decode cX15_worked 101 = .ok (.iconst 0, 1) := dk_3 (dk_at dksX15_worked_2 21 rfl rfl)
theorem dX15_worked_102 : decode cX15_worked 102 = .ok (.ireturn, 1) := dk_172 (dk_at dksX15_worked_2 22 rfl rfl)
theorem dX15_worked_103 : decode cX15_worked 103 = .ok (.iload_n 2, 1) := dk_28 (dk_at dksX15_worked_2 23 rfl rfl)
theorem dX15_worked_104 : decode cX15_worked 104 = .ok (.iload_n 3, 1) := dk_29 (dk_at dksX15_worked_3 0 rfl rfl)
theorem dX15_worked_105 : decode cX15_worked 105 = .ok (.if_icmp .ne 7, 3) := dk_160 0 7 (dk_at dksX15_worked_3 1 rfl rfl)
theorem dX15_worked_108 : decode cX15_worked 108 = .ok (.iconst 1, 1) := dk_4 (dk_at dksX15_worked_3 4 rfl rfl)
theorem dX15_worked_109 : decode cX15_worked 109 = .ok (.goto 4, 3) := dk_167 0 4 (dk_at dksX15_worked_3 5 rfl rfl)
theorem dX15_worked_112 : decode cX15_worked 112 = .ok (.iconst 0, 1) := dk_3 (dk_at dksX15_worked_3 8 rfl rfl)
theorem dX15_worked_113 : decode cX15_worked 113 = .ok (.ireturn, 1) := dk_172 (dk_at dksX15_worked_3 9 rfl rfl)
theorem dX15_worked_114 : decode cX15_worked 114 = .ok (.iload_n 2, 1) := dk_28 (dk_at dksX15_worked_3 10 rfl rfl)
theorem dX15_worked_115 : decode cX15_worked 115 = .ok (.ifCond .eq 11, 3) := dk_153 0 11 (dk_at dksX15_worked_3 11 rfl rfl)
theorem dX15_worked_118 : decode cX15_worked 118 = .ok (.iload_n 3, 1) := dk_29 (dk_at dksX15_worked_3 14 rfl rfl)
theorem dX15_worked_119 : decode cX15_worked 119 = .ok (.ifCond .eq 7, 3) := dk_153 0 7 (dk_at dksX15_worked_3 15 rfl rfl)
theorem dX15_worked_122 : decode cX15_worked 122 = .ok (.iconst 1, 1) := dk_4 (dk_at dksX15_worked_3 18 rfl rfl)
theorem dX15_worked_123 : decode cX15_worked 123 = .ok (.goto 4, 3) := dk_167 0 4 (dk_at dksX15_worked_3 19 rfl rfl)
theorem dX15_worked_126 : decode cX15_worked 126 = .ok (.iconst 0, 1) := dk_3 (dk_at dksX15_worked_3 22 rfl rfl)
theorem dX15_worked_127 : decode cX15_worked 127 = .ok (.ireturn, 1) := dk_172 (dk_at dksX15_worked_3 23 rfl rfl)
theorem dX15_worked_128 : decode cX15_worked 128 = .ok (.iload_n 2, 1) := dk_28 (dk_at dksX15_worked_4 0 rfl rfl)
theorem dX15_worked_129 : decode cX15_worked 129 = .ok (.ifCond .ne 7, 3) := dk_154 0 7 (dk_at dksX15_worked_4 1 rfl rfl)
theorem dX15_worked_132 : decode cX15_worked 132 = .ok (.iload_n 3, 1) := dk_29 (dk_at dksX15_worked_4 4 rfl rfl)
theorem dX15_worked_133 : decode cX15_worked 133 = .ok (.ifCond .eq 7, 3) := dk_153 0 7 (dk_at dksX15_worked_4 5 rfl rfl)
theorem dX15_worked_136 : decode cX15_worked 136 = .ok (.iconst 1, 1) := dk_4 (dk_at dksX15_worked_4 8 rfl rfl)
theorem dX15_worked_137 : decode cX15_worked 137 = .ok (.goto 4, 3) := dk_167 0 4 (dk_at dksX15_worked_4 9 rfl rfl)
theorem dX15_worked_140 : decode cX15_worked 140 = .ok (.iconst 0, 1) := dk_3 (dk_at dksX15_worked_4 12 rfl rfl)
theorem dX15_worked_141 : decode cX15_worked 141 = .ok (.ireturn, 1) := dk_172 (dk_at dksX15_worked_4 13 rfl rfl)
theorem q165 : (Jvm.Cond.initialized "PegLaws$Two") ∈ lw_all := lw_g (lw_at lw_m1 33 rfl) rfl
theorem q969 : (Jvm.Cond.selects "PegLaws$Two" ({ cls := "java/lang/Object", name := "getClass", desc := "()Ljava/lang/Class;" } : Jvm.MethodName) ({ cls := "java/lang/Object", name := "getClass", desc := "()Ljava/lang/Class;" } : Jvm.MethodName)) ∈ lw_all := lw_g (lw_at lw_m4 117 rfl) rfl
theorem q1067 : (Jvm.Cond.instantiable "PegLaws$Two" (3 : Nat)) ∈ lw_all := lw_g (lw_at lw_m4 215 rfl) rfl
theorem q1069 : (Jvm.Cond.instanceMethod ({ cls := "PegLaws$Two", name := "<init>", desc := "(CLPegLaws$Expression;LPegLaws$Expression;)V" } : Jvm.MethodName)) ∈ lw_all := lw_g (lw_at lw_m4 217 rfl) rfl
theorem q1070 : (Jvm.Cond.code ({ cls := "PegLaws$Two", name := "<init>", desc := "(CLPegLaws$Expression;LPegLaws$Expression;)V" } : Jvm.MethodName) prog_18_method_1_code (4 : Nat) (Option.none : Option Jvm.ClassFile.FieldType)) ∈ lw_all := lw_g (lw_at lw_m4 218 rfl) rfl
theorem q1071 : (Jvm.Cond.methodLinkNest "PegLaws$Two" (1 : Nat) ({ cls := "PegLaws$Expression", name := "<init>", desc := "()V" } : Jvm.MethodName) "PegLaws") ∈ lw_tbl := lw_at lw_m4 219 rfl
theorem q1072 : (Jvm.Cond.fieldLink "PegLaws$Two" (7 : Nat) "PegLaws$Two" "way" "C") ∈ lw_all := lw_g (lw_at lw_m4 220 rfl) rfl
theorem q1073 : (Jvm.Cond.fieldLink "PegLaws$Two" (13 : Nat) "PegLaws$Two" "a" "LPegLaws$Expression;") ∈ lw_all := lw_g (lw_at lw_m4 221 rfl) rfl
theorem q1074 : (Jvm.Cond.fieldLink "PegLaws$Two" (17 : Nat) "PegLaws$Two" "b" "LPegLaws$Expression;") ∈ lw_all := lw_g (lw_at lw_m4 222 rfl) rfl
theorem q1075 : (Jvm.Cond.laysFinal "PegLaws$Two" "PegLaws$Two" "way" "C") ∈ lw_all := lw_g (lw_at lw_m4 223 rfl) rfl
theorem q1076 : (Jvm.Cond.soleField "PegLaws$Two" "way") ∈ lw_all := lw_g (lw_at lw_m4 224 rfl) rfl
theorem q1077 : (Jvm.Cond.laysFinal "PegLaws$Two" "PegLaws$Two" "a" "LPegLaws$Expression;") ∈ lw_all := lw_g (lw_at lw_m4 225 rfl) rfl
theorem q1078 : (Jvm.Cond.soleField "PegLaws$Two" "a") ∈ lw_all := lw_g (lw_at lw_m4 226 rfl) rfl
theorem q1079 : (Jvm.Cond.laysFinal "PegLaws$Two" "PegLaws$Two" "b" "LPegLaws$Expression;") ∈ lw_all := lw_g (lw_at lw_m4 227 rfl) rfl
theorem q1080 : (Jvm.Cond.soleField "PegLaws$Two" "b") ∈ lw_all := lw_g (lw_at lw_m4 228 rfl) rfl
theorem q1081 : (Jvm.Cond.superclass "PegLaws$Two" "PegLaws$Expression") ∈ lw_all := lw_g (lw_at lw_m4 229 rfl) rfl
theorem q1258 : (Jvm.Cond.instanceMethod ({ cls := "PegLaws$Two", name := "worked", desc := "([I)I" } : Jvm.MethodName)) ∈ lw_all := lw_g (lw_at lw_m5 166 rfl) rfl
theorem q1259 : (Jvm.Cond.code ({ cls := "PegLaws$Two", name := "worked", desc := "([I)I" } : Jvm.MethodName) prog_18_method_2_code (4 : Nat) (Option.some Jvm.ClassFile.FieldType.int)) ∈ lw_all := lw_g (lw_at lw_m5 167 rfl) rfl
theorem q1260 : (Jvm.Cond.methodLink "PegLaws$Two" (20 : Nat) ({ cls := "PegLaws$Expression", name := "worked", desc := "([I)I" } : Jvm.MethodName)) ∈ lw_all := lw_g (lw_at lw_m5 168 rfl) rfl
theorem q1261 : (Jvm.Cond.selects "PegLaws$Two" ({ cls := "PegLaws$Expression", name := "worked", desc := "([I)I" } : Jvm.MethodName) ({ cls := "PegLaws$Two", name := "worked", desc := "([I)I" } : Jvm.MethodName)) ∈ lw_all := lw_g (lw_at lw_m5 169 rfl) rfl
theorem q2229 : (Jvm.Cond.castable "PegLaws$Two" "java/lang/Object") ∈ lw_tbl := lw_at lw_m9 177 rfl
theorem in_X15 : ∀ w ∈ wsX150, w ∈ lw_all := lw_in wsX150 [1075, 1077, 1079] (by decide +kernel) (by decide +kernel)

/-! PegLaws$Line -/
set_option maxRecDepth 100000
def RX16 : String := "PegLaws$Line"
abbrev cX16_init : ByteArray := prog_10_method_1_code
def yX16_init : MethodName := ⟨RX16, "<init>", "()V"⟩
theorem dX16_init_0 : decode cX16_init 0 = .ok (.aload_n 0, 1) := by decide +kernel
theorem dX16_init_1 : decode cX16_init 1 = .ok (.invokespecial 1, 3) := by decide +kernel
theorem dX16_init_4 : decode cX16_init 4 = .ok (.return_, 1) := by decide +kernel
abbrev cX16_isHour : ByteArray := prog_10_method_3_code
def yX16_isHour : MethodName := ⟨RX16, "isHour", "()Z"⟩
theorem dX16_isHour_0 : decode cX16_isHour 0 = .ok (.iconst 0, 1) := by decide +kernel
theorem dX16_isHour_1 : decode cX16_isHour 1 = .ok (.ireturn, 1) := by decide +kernel
theorem q166 : (Jvm.Cond.initialized "PegLaws$Line") ∈ lw_all := lw_g (lw_at lw_m1 34 rfl) rfl
theorem q1104 : (Jvm.Cond.instanceMethod ({ cls := "PegLaws$Line", name := "<init>", desc := "()V" } : Jvm.MethodName)) ∈ lw_all := lw_g (lw_at lw_m5 12 rfl) rfl
theorem q1105 : (Jvm.Cond.code ({ cls := "PegLaws$Line", name := "<init>", desc := "()V" } : Jvm.MethodName) prog_10_method_1_code (1 : Nat) (Option.none : Option Jvm.ClassFile.FieldType)) ∈ lw_all := lw_g (lw_at lw_m5 13 rfl) rfl
theorem q1106 : (Jvm.Cond.methodLink "PegLaws$Line" (1 : Nat) ({ cls := "java/lang/Object", name := "<init>", desc := "()V" } : Jvm.MethodName)) ∈ lw_all := lw_g (lw_at lw_m5 14 rfl) rfl
theorem q1385 : (Jvm.Cond.declares ({ cls := "PegLaws$Line", name := "isDone", desc := "(LPegLaws;LPegLaws$State;)Z" } : Jvm.MethodName)) ∈ lw_tbl := lw_at lw_m6 53 rfl
theorem q1386 : (Jvm.Cond.sameMethod "PegLaws$Line" "PegLaws$Line" "isDone" "(LPegLaws;LPegLaws$State;)Z") ∈ lw_all := lw_g (lw_at lw_m6 54 rfl) rfl
theorem q1409 : (Jvm.Cond.instanceMethod ({ cls := "PegLaws$Line", name := "isHour", desc := "()Z" } : Jvm.MethodName)) ∈ lw_all := lw_g (lw_at lw_m6 77 rfl) rfl
theorem q1410 : (Jvm.Cond.sameMethod "PegLaws$Line" "PegLaws$Line" "isHour" "()Z") ∈ lw_all := lw_g (lw_at lw_m6 78 rfl) rfl
theorem q1418 : (Jvm.Cond.code ({ cls := "PegLaws$Line", name := "isHour", desc := "()Z" } : Jvm.MethodName) prog_10_method_3_code (1 : Nat) (Option.some Jvm.ClassFile.FieldType.boolean)) ∈ lw_all := lw_g (lw_at lw_m6 86 rfl) rfl

/-! PegLaws$Blown -/
set_option maxRecDepth 100000
def RX17 : String := "PegLaws$Blown"
abbrev cX17_init : ByteArray := prog_2_method_1_code
def yX17_init : MethodName := ⟨RX17, "<init>", "()V"⟩
theorem dX17_init_0 : decode cX17_init 0 = .ok (.aload_n 0, 1) := by decide +kernel
theorem dX17_init_1 : decode cX17_init 1 = .ok (.invokespecial 1, 3) := by decide +kernel
theorem dX17_init_4 : decode cX17_init 4 = .ok (.return_, 1) := by decide +kernel
abbrev cX17_isDone : ByteArray := prog_2_method_2_code
def yX17_isDone : MethodName := ⟨RX17, "isDone", "(LPegLaws;LPegLaws$State;)Z"⟩
def dkwX17_isDone_0 : List UInt8 := [43, 44, 3, 182, 0, 7, 87, 4, 172]
abbrev dktX17_isDone_0 : List UInt8 := dkwX17_isDone_0 ++ []
theorem dksX17_isDone_0 : cX17_isDone.data.toList.drop 0 = dktX17_isDone_0 := by decide +kernel
theorem dX17_isDone_0 : decode cX17_isDone 0 = .ok (.aload_n 1, 1) := dk_43 (dk_at dksX17_isDone_0 0 rfl rfl)
theorem dX17_isDone_1 : decode cX17_isDone 1 = .ok (.aload_n 2, 1) := dk_44 (dk_at dksX17_isDone_0 1 rfl rfl)
theorem dX17_isDone_2 : decode cX17_isDone 2 = .ok (.iconst 0, 1) := dk_3 (dk_at dksX17_isDone_0 2 rfl rfl)
theorem dX17_isDone_3 : decode cX17_isDone 3 = .ok (.invokevirtual 7, 3) := dk_182 0 7 (dk_at dksX17_isDone_0 3 rfl rfl)
theorem dX17_isDone_6 : decode cX17_isDone 6 = .ok (.pop, 1) := dk_87 (dk_at dksX17_isDone_0 6 rfl rfl)
theorem dX17_isDone_7 : decode cX17_isDone 7 = .ok (.iconst 1, 1) := dk_4 (dk_at dksX17_isDone_0 7 rfl rfl)
theorem dX17_isDone_8 : decode cX17_isDone 8 = .ok (.ireturn, 1) := dk_172 (dk_at dksX17_isDone_0 8 rfl rfl)
abbrev cX17_isHour : ByteArray := prog_2_method_3_code
def yX17_isHour : MethodName := ⟨RX17, "isHour", "()Z"⟩
theorem dX17_isHour_0 : decode cX17_isHour 0 = .ok (.iconst 1, 1) := by decide +kernel
theorem dX17_isHour_1 : decode cX17_isHour 1 = .ok (.ireturn, 1) := by decide +kernel
theorem q167 : (Jvm.Cond.initialized "PegLaws$Blown") ∈ lw_all := lw_g (lw_at lw_m1 35 rfl) rfl
theorem q955 : (Jvm.Cond.selects "PegLaws$Blown" ({ cls := "java/lang/Object", name := "getClass", desc := "()Ljava/lang/Class;" } : Jvm.MethodName) ({ cls := "java/lang/Object", name := "getClass", desc := "()Ljava/lang/Class;" } : Jvm.MethodName)) ∈ lw_all := lw_g (lw_at lw_m4 103 rfl) rfl
theorem q1099 : (Jvm.Cond.instantiable "PegLaws$Blown" (0 : Nat)) ∈ lw_all := lw_g (lw_at lw_m5 7 rfl) rfl
theorem q1101 : (Jvm.Cond.instanceMethod ({ cls := "PegLaws$Blown", name := "<init>", desc := "()V" } : Jvm.MethodName)) ∈ lw_all := lw_g (lw_at lw_m5 9 rfl) rfl
theorem q1102 : (Jvm.Cond.code ({ cls := "PegLaws$Blown", name := "<init>", desc := "()V" } : Jvm.MethodName) prog_2_method_1_code (1 : Nat) (Option.none : Option Jvm.ClassFile.FieldType)) ∈ lw_all := lw_g (lw_at lw_m5 10 rfl) rfl
theorem q1103 : (Jvm.Cond.methodLinkNest "PegLaws$Blown" (1 : Nat) ({ cls := "PegLaws$Line", name := "<init>", desc := "()V" } : Jvm.MethodName) "PegLaws") ∈ lw_tbl := lw_at lw_m5 11 rfl
theorem q1107 : (Jvm.Cond.superclass "PegLaws$Blown" "PegLaws$Line") ∈ lw_all := lw_g (lw_at lw_m5 15 rfl) rfl
theorem q1387 : (Jvm.Cond.selects "PegLaws$Blown" ({ cls := "PegLaws$Line", name := "isDone", desc := "(LPegLaws;LPegLaws$State;)Z" } : Jvm.MethodName) ({ cls := "PegLaws$Blown", name := "isDone", desc := "(LPegLaws;LPegLaws$State;)Z" } : Jvm.MethodName)) ∈ lw_all := lw_g (lw_at lw_m6 55 rfl) rfl
theorem q1388 : (Jvm.Cond.instanceMethod ({ cls := "PegLaws$Blown", name := "isDone", desc := "(LPegLaws;LPegLaws$State;)Z" } : Jvm.MethodName)) ∈ lw_all := lw_g (lw_at lw_m6 56 rfl) rfl
theorem q1389 : (Jvm.Cond.code ({ cls := "PegLaws$Blown", name := "isDone", desc := "(LPegLaws;LPegLaws$State;)Z" } : Jvm.MethodName) prog_2_method_2_code (3 : Nat) (Option.some Jvm.ClassFile.FieldType.boolean)) ∈ lw_all := lw_g (lw_at lw_m6 57 rfl) rfl
theorem q1390 : (Jvm.Cond.methodLinkNest "PegLaws$Blown" (7 : Nat) ({ cls := "PegLaws", name := "passes", desc := "(LPegLaws$State;I)I" } : Jvm.MethodName) "PegLaws") ∈ lw_tbl := lw_at lw_m6 58 rfl
theorem q1411 : (Jvm.Cond.selects "PegLaws$Blown" ({ cls := "PegLaws$Line", name := "isHour", desc := "()Z" } : Jvm.MethodName) ({ cls := "PegLaws$Blown", name := "isHour", desc := "()Z" } : Jvm.MethodName)) ∈ lw_all := lw_g (lw_at lw_m6 79 rfl) rfl
theorem q1412 : (Jvm.Cond.instanceMethod ({ cls := "PegLaws$Blown", name := "isHour", desc := "()Z" } : Jvm.MethodName)) ∈ lw_all := lw_g (lw_at lw_m6 80 rfl) rfl
theorem q1413 : (Jvm.Cond.code ({ cls := "PegLaws$Blown", name := "isHour", desc := "()Z" } : Jvm.MethodName) prog_2_method_3_code (1 : Nat) (Option.some Jvm.ClassFile.FieldType.boolean)) ∈ lw_all := lw_g (lw_at lw_m6 81 rfl) rfl
theorem q2207 : (Jvm.Cond.castable "PegLaws$Blown" "PegLaws$Line") ∈ lw_tbl := lw_at lw_m9 155 rfl
theorem q2230 : (Jvm.Cond.castable "PegLaws$Blown" "java/lang/Object") ∈ lw_tbl := lw_at lw_m9 178 rfl

/-! PegLaws$Bought -/
set_option maxRecDepth 100000
def RX18 : String := "PegLaws$Bought"
def TX18 : u_T := fun k => match k with
  | _ => ("PegLaws$Bought", "grip", "I", true)
def tyX18 : Nat → FieldType := fun k => match k with
  | _ => .int
abbrev wsX180 : List Cond := u_ws RX18 TX18 1
theorem nmX18 : ∀ a, a < 1 → ∀ b, b < 1 → a ≠ b → (TX18 a).2.1 ≠ (TX18 b).2.1 := by decide +kernel
theorem tyX18_ok : ∀ k, k < 1 → parseFieldDescriptor (TX18 k).2.2.1 = some (tyX18 k) := by decide +kernel
abbrev cX18_init : ByteArray := prog_3_method_1_code
def yX18_init : MethodName := ⟨RX18, "<init>", "(I)V"⟩
def dkwX18_init_0 : List UInt8 := [42, 183, 0, 3, 42, 27, 181, 0, 9, 177]
abbrev dktX18_init_0 : List UInt8 := dkwX18_init_0 ++ []
theorem dksX18_init_0 : cX18_init.data.toList.drop 0 = dktX18_init_0 := by decide +kernel
theorem dX18_init_0 : decode cX18_init 0 = .ok (.aload_n 0, 1) := dk_42 (dk_at dksX18_init_0 0 rfl rfl)
theorem dX18_init_1 : decode cX18_init 1 = .ok (.invokespecial 3, 3) := dk_183 0 3 (dk_at dksX18_init_0 1 rfl rfl)
theorem dX18_init_4 : decode cX18_init 4 = .ok (.aload_n 0, 1) := dk_42 (dk_at dksX18_init_0 4 rfl rfl)
theorem dX18_init_5 : decode cX18_init 5 = .ok (.iload_n 1, 1) := dk_27 (dk_at dksX18_init_0 5 rfl rfl)
theorem dX18_init_6 : decode cX18_init 6 = .ok (.putfield 9, 3) := dk_181 0 9 (dk_at dksX18_init_0 6 rfl rfl)
theorem dX18_init_9 : decode cX18_init 9 = .ok (.return_, 1) := dk_177 (dk_at dksX18_init_0 9 rfl rfl)
abbrev cX18_isDone : ByteArray := prog_3_method_2_code
def yX18_isDone : MethodName := ⟨RX18, "isDone", "(LPegLaws;LPegLaws$State;)Z"⟩
def dkwX18_isDone_1 : List UInt8 := [181, 0, 15, 42, 180, 0, 9, 79, 4, 172]
abbrev dktX18_isDone_1 : List UInt8 := dkwX18_isDone_1 ++ []
def dkwX18_isDone_0 : List UInt8 := [44, 180, 0, 15, 16, 8, 160, 0, 5, 3, 172, 44, 180, 0, 20, 44, 89, 180, 0, 15, 90, 4, 96]
abbrev dktX18_isDone_0 : List UInt8 := dkwX18_isDone_0 ++ dktX18_isDone_1
theorem dksX18_isDone_0 : cX18_isDone.data.toList.drop 0 = dktX18_isDone_0 := by decide +kernel
theorem dksX18_isDone_1 : cX18_isDone.data.toList.drop 23 = dktX18_isDone_1 := dk_seg dksX18_isDone_0 23 rfl rfl
theorem dX18_isDone_0 : decode cX18_isDone 0 = .ok (.aload_n 2, 1) := dk_44 (dk_at dksX18_isDone_0 0 rfl rfl)
theorem dX18_isDone_1 : decode cX18_isDone 1 = .ok (.getfield 15, 3) := dk_180 0 15 (dk_at dksX18_isDone_0 1 rfl rfl)
theorem dX18_isDone_4 : decode cX18_isDone 4 = .ok (.bipush 8, 2) := dk_16 8 (dk_at dksX18_isDone_0 4 rfl rfl)
theorem dX18_isDone_6 : decode cX18_isDone 6 = .ok (.if_icmp .ne 5, 3) := dk_160 0 5 (dk_at dksX18_isDone_0 6 rfl rfl)
theorem dX18_isDone_9 : decode cX18_isDone 9 = .ok (.iconst 0, 1) := dk_3 (dk_at dksX18_isDone_0 9 rfl rfl)
theorem dX18_isDone_10 : decode cX18_isDone 10 = .ok (.ireturn, 1) := dk_172 (dk_at dksX18_isDone_0 10 rfl rfl)
theorem dX18_isDone_11 : decode cX18_isDone 11 = .ok (.aload_n 2, 1) := dk_44 (dk_at dksX18_isDone_0 11 rfl rfl)
theorem dX18_isDone_12 : decode cX18_isDone 12 = .ok (.getfield 20, 3) := dk_180 0 20 (dk_at dksX18_isDone_0 12 rfl rfl)
theorem dX18_isDone_15 : decode cX18_isDone 15 = .ok (.aload_n 2, 1) := dk_44 (dk_at dksX18_isDone_0 15 rfl rfl)
theorem dX18_isDone_16 : decode cX18_isDone 16 = .ok (.dup, 1) := dk_89 (dk_at dksX18_isDone_0 16 rfl rfl)
theorem dX18_isDone_17 : decode cX18_isDone 17 = .ok (.getfield 15, 3) := dk_180 0 15 (dk_at dksX18_isDone_0 17 rfl rfl)
theorem dX18_isDone_20 : decode cX18_isDone 20 = .ok (.dup_x1, 1) := dk_90 (dk_at dksX18_isDone_0 20 rfl rfl)
theorem dX18_isDone_21 : decode cX18_isDone 21 = .ok (.iconst 1, 1) := dk_4 (dk_at dksX18_isDone_0 21 rfl rfl)
theorem dX18_isDone_22 : decode cX18_isDone 22 = .ok (.iadd, 1) := dk_96 (dk_at dksX18_isDone_0 22 rfl rfl)
theorem dX18_isDone_23 : decode cX18_isDone 23 = .ok (.putfield 15, 3) := dk_181 0 15 (dk_at dksX18_isDone_1 0 rfl rfl)
theorem dX18_isDone_26 : decode cX18_isDone 26 = .ok (.aload_n 0, 1) := dk_42 (dk_at dksX18_isDone_1 3 rfl rfl)
theorem dX18_isDone_27 : decode cX18_isDone 27 = .ok (.getfield 9, 3) := dk_180 0 9 (dk_at dksX18_isDone_1 4 rfl rfl)
theorem dX18_isDone_30 : decode cX18_isDone 30 = .ok (.iastore, 1) := dk_79 (dk_at dksX18_isDone_1 7 rfl rfl)
theorem dX18_isDone_31 : decode cX18_isDone 31 = .ok (.iconst 1, 1) := dk_4 (dk_at dksX18_isDone_1 8 rfl rfl)
theorem dX18_isDone_32 : decode cX18_isDone 32 = .ok (.ireturn, 1) := dk_172 (dk_at dksX18_isDone_1 9 rfl rfl)
theorem q168 : (Jvm.Cond.initialized "PegLaws$Bought") ∈ lw_all := lw_g (lw_at lw_m1 36 rfl) rfl
theorem q308 : (Jvm.Cond.fieldLinkNest "PegLaws$Bought" (20 : Nat) "PegLaws$State" "grip" "[I" "PegLaws") ∈ lw_tbl := lw_at lw_m1 176 rfl
theorem q320 : (Jvm.Cond.fieldLinkNest "PegLaws$Bought" (15 : Nat) "PegLaws$State" "pegs" "I" "PegLaws") ∈ lw_tbl := lw_at lw_m1 188 rfl
theorem q956 : (Jvm.Cond.selects "PegLaws$Bought" ({ cls := "java/lang/Object", name := "getClass", desc := "()Ljava/lang/Class;" } : Jvm.MethodName) ({ cls := "java/lang/Object", name := "getClass", desc := "()Ljava/lang/Class;" } : Jvm.MethodName)) ∈ lw_all := lw_g (lw_at lw_m4 104 rfl) rfl
theorem q1109 : (Jvm.Cond.instantiable "PegLaws$Bought" (1 : Nat)) ∈ lw_all := lw_g (lw_at lw_m5 17 rfl) rfl
theorem q1111 : (Jvm.Cond.instanceMethod ({ cls := "PegLaws$Bought", name := "<init>", desc := "(I)V" } : Jvm.MethodName)) ∈ lw_all := lw_g (lw_at lw_m5 19 rfl) rfl
theorem q1112 : (Jvm.Cond.code ({ cls := "PegLaws$Bought", name := "<init>", desc := "(I)V" } : Jvm.MethodName) prog_3_method_1_code (2 : Nat) (Option.none : Option Jvm.ClassFile.FieldType)) ∈ lw_all := lw_g (lw_at lw_m5 20 rfl) rfl
theorem q1113 : (Jvm.Cond.methodLinkNest "PegLaws$Bought" (3 : Nat) ({ cls := "PegLaws$Line", name := "<init>", desc := "()V" } : Jvm.MethodName) "PegLaws") ∈ lw_tbl := lw_at lw_m5 21 rfl
theorem q1114 : (Jvm.Cond.fieldLink "PegLaws$Bought" (9 : Nat) "PegLaws$Bought" "grip" "I") ∈ lw_all := lw_g (lw_at lw_m5 22 rfl) rfl
theorem q1115 : (Jvm.Cond.laysFinal "PegLaws$Bought" "PegLaws$Bought" "grip" "I") ∈ lw_all := lw_g (lw_at lw_m5 23 rfl) rfl
theorem q1116 : (Jvm.Cond.soleField "PegLaws$Bought" "grip") ∈ lw_all := lw_g (lw_at lw_m5 24 rfl) rfl
theorem q1117 : (Jvm.Cond.superclass "PegLaws$Bought" "PegLaws$Line") ∈ lw_all := lw_g (lw_at lw_m5 25 rfl) rfl
theorem q1391 : (Jvm.Cond.selects "PegLaws$Bought" ({ cls := "PegLaws$Line", name := "isDone", desc := "(LPegLaws;LPegLaws$State;)Z" } : Jvm.MethodName) ({ cls := "PegLaws$Bought", name := "isDone", desc := "(LPegLaws;LPegLaws$State;)Z" } : Jvm.MethodName)) ∈ lw_all := lw_g (lw_at lw_m6 59 rfl) rfl
theorem q1392 : (Jvm.Cond.instanceMethod ({ cls := "PegLaws$Bought", name := "isDone", desc := "(LPegLaws;LPegLaws$State;)Z" } : Jvm.MethodName)) ∈ lw_all := lw_g (lw_at lw_m6 60 rfl) rfl
theorem q1393 : (Jvm.Cond.code ({ cls := "PegLaws$Bought", name := "isDone", desc := "(LPegLaws;LPegLaws$State;)Z" } : Jvm.MethodName) prog_3_method_2_code (3 : Nat) (Option.some Jvm.ClassFile.FieldType.boolean)) ∈ lw_all := lw_g (lw_at lw_m6 61 rfl) rfl
theorem q1414 : (Jvm.Cond.selects "PegLaws$Bought" ({ cls := "PegLaws$Line", name := "isHour", desc := "()Z" } : Jvm.MethodName) ({ cls := "PegLaws$Line", name := "isHour", desc := "()Z" } : Jvm.MethodName)) ∈ lw_all := lw_g (lw_at lw_m6 82 rfl) rfl
theorem q2208 : (Jvm.Cond.castable "PegLaws$Bought" "PegLaws$Line") ∈ lw_tbl := lw_at lw_m9 156 rfl
theorem q2231 : (Jvm.Cond.castable "PegLaws$Bought" "java/lang/Object") ∈ lw_tbl := lw_at lw_m9 179 rfl
theorem in_X18 : ∀ w ∈ wsX180, w ∈ lw_all := lw_in wsX180 [1115] (by decide +kernel) (by decide +kernel)

/-! PegLaws$Taken -/
set_option maxRecDepth 100000
def RX19 : String := "PegLaws$Taken"
def TX19 : u_T := fun k => match k with
  | _ => ("PegLaws$Taken", "cloth", "I", true)
def tyX19 : Nat → FieldType := fun k => match k with
  | _ => .int
abbrev wsX190 : List Cond := u_ws RX19 TX19 1
theorem nmX19 : ∀ a, a < 1 → ∀ b, b < 1 → a ≠ b → (TX19 a).2.1 ≠ (TX19 b).2.1 := by decide +kernel
theorem tyX19_ok : ∀ k, k < 1 → parseFieldDescriptor (TX19 k).2.2.1 = some (tyX19 k) := by decide +kernel
abbrev cX19_init : ByteArray := prog_17_method_1_code
def yX19_init : MethodName := ⟨RX19, "<init>", "(I)V"⟩
def dkwX19_init_0 : List UInt8 := [42, 183, 0, 1, 42, 27, 181, 0, 7, 177]
abbrev dktX19_init_0 : List UInt8 := dkwX19_init_0 ++ []
theorem dksX19_init_0 : cX19_init.data.toList.drop 0 = dktX19_init_0 := by decide +kernel
theorem dX19_init_0 : decode cX19_init 0 = .ok (.aload_n 0, 1) := dk_42 (dk_at dksX19_init_0 0 rfl rfl)
theorem dX19_init_1 : decode cX19_init 1 = .ok (.invokespecial 1, 3) := dk_183 0 1 (dk_at dksX19_init_0 1 rfl rfl)
theorem dX19_init_4 : decode cX19_init 4 = .ok (.aload_n 0, 1) := dk_42 (dk_at dksX19_init_0 4 rfl rfl)
theorem dX19_init_5 : decode cX19_init 5 = .ok (.iload_n 1, 1) := dk_27 (dk_at dksX19_init_0 5 rfl rfl)
theorem dX19_init_6 : decode cX19_init 6 = .ok (.putfield 7, 3) := dk_181 0 7 (dk_at dksX19_init_0 6 rfl rfl)
theorem dX19_init_9 : decode cX19_init 9 = .ok (.return_, 1) := dk_177 (dk_at dksX19_init_0 9 rfl rfl)
abbrev cX19_isDone : ByteArray := prog_17_method_2_code
def yX19_isDone : MethodName := ⟨RX19, "isDone", "(LPegLaws;LPegLaws$State;)Z"⟩
def dkwX19_isDone_0 : List UInt8 := [44, 42, 180, 0, 7, 182, 0, 13, 154, 0, 5, 3, 172, 44, 42, 180, 0, 7, 182, 0, 19, 4, 172]
abbrev dktX19_isDone_0 : List UInt8 := dkwX19_isDone_0 ++ []
theorem dksX19_isDone_0 : cX19_isDone.data.toList.drop 0 = dktX19_isDone_0 := by decide +kernel
theorem dX19_isDone_0 : decode cX19_isDone 0 = .ok (.aload_n 2, 1) := dk_44 (dk_at dksX19_isDone_0 0 rfl rfl)
theorem dX19_isDone_1 : decode cX19_isDone 1 = .ok (.aload_n 0, 1) := dk_42 (dk_at dksX19_isDone_0 1 rfl rfl)
theorem dX19_isDone_2 : decode cX19_isDone 2 = .ok (.getfield 7, 3) := dk_180 0 7 (dk_at dksX19_isDone_0 2 rfl rfl)
theorem dX19_isDone_5 : decode cX19_isDone 5 = .ok (.invokevirtual 13, 3) := dk_182 0 13 (dk_at dksX19_isDone_0 5 rfl rfl)
theorem dX19_isDone_8 : decode cX19_isDone 8 = .ok (.ifCond .ne 5, 3) := dk_154 0 5 (dk_at dksX19_isDone_0 8 rfl rfl)
theorem dX19_isDone_11 : decode cX19_isDone 11 = .ok (.iconst 0, 1) := dk_3 (dk_at dksX19_isDone_0 11 rfl rfl)
theorem dX19_isDone_12 : decode cX19_isDone 12 = .ok (.ireturn, 1) := dk_172 (dk_at dksX19_isDone_0 12 rfl rfl)
theorem dX19_isDone_13 : decode cX19_isDone 13 = .ok (.aload_n 2, 1) := dk_44 (dk_at dksX19_isDone_0 13 rfl rfl)
theorem dX19_isDone_14 : decode cX19_isDone 14 = .ok (.aload_n 0, 1) := dk_42 (dk_at dksX19_isDone_0 14 rfl rfl)
theorem dX19_isDone_15 : decode cX19_isDone 15 = .ok (.getfield 7, 3) := dk_180 0 7 (dk_at dksX19_isDone_0 15 rfl rfl)
theorem dX19_isDone_18 : decode cX19_isDone 18 = .ok (.invokevirtual 19, 3) := dk_182 0 19 (dk_at dksX19_isDone_0 18 rfl rfl)
theorem dX19_isDone_21 : decode cX19_isDone 21 = .ok (.iconst 1, 1) := dk_4 (dk_at dksX19_isDone_0 21 rfl rfl)
theorem dX19_isDone_22 : decode cX19_isDone 22 = .ok (.ireturn, 1) := dk_172 (dk_at dksX19_isDone_0 22 rfl rfl)
theorem q169 : (Jvm.Cond.initialized "PegLaws$Taken") ∈ lw_all := lw_g (lw_at lw_m1 37 rfl) rfl
theorem q968 : (Jvm.Cond.selects "PegLaws$Taken" ({ cls := "java/lang/Object", name := "getClass", desc := "()Ljava/lang/Class;" } : Jvm.MethodName) ({ cls := "java/lang/Object", name := "getClass", desc := "()Ljava/lang/Class;" } : Jvm.MethodName)) ∈ lw_all := lw_g (lw_at lw_m4 116 rfl) rfl
theorem q1119 : (Jvm.Cond.instantiable "PegLaws$Taken" (1 : Nat)) ∈ lw_all := lw_g (lw_at lw_m5 27 rfl) rfl
theorem q1121 : (Jvm.Cond.instanceMethod ({ cls := "PegLaws$Taken", name := "<init>", desc := "(I)V" } : Jvm.MethodName)) ∈ lw_all := lw_g (lw_at lw_m5 29 rfl) rfl
theorem q1122 : (Jvm.Cond.code ({ cls := "PegLaws$Taken", name := "<init>", desc := "(I)V" } : Jvm.MethodName) prog_17_method_1_code (2 : Nat) (Option.none : Option Jvm.ClassFile.FieldType)) ∈ lw_all := lw_g (lw_at lw_m5 30 rfl) rfl
theorem q1123 : (Jvm.Cond.methodLinkNest "PegLaws$Taken" (1 : Nat) ({ cls := "PegLaws$Line", name := "<init>", desc := "()V" } : Jvm.MethodName) "PegLaws") ∈ lw_tbl := lw_at lw_m5 31 rfl
theorem q1124 : (Jvm.Cond.fieldLink "PegLaws$Taken" (7 : Nat) "PegLaws$Taken" "cloth" "I") ∈ lw_all := lw_g (lw_at lw_m5 32 rfl) rfl
theorem q1125 : (Jvm.Cond.laysFinal "PegLaws$Taken" "PegLaws$Taken" "cloth" "I") ∈ lw_all := lw_g (lw_at lw_m5 33 rfl) rfl
theorem q1126 : (Jvm.Cond.soleField "PegLaws$Taken" "cloth") ∈ lw_all := lw_g (lw_at lw_m5 34 rfl) rfl
theorem q1127 : (Jvm.Cond.superclass "PegLaws$Taken" "PegLaws$Line") ∈ lw_all := lw_g (lw_at lw_m5 35 rfl) rfl
theorem q1399 : (Jvm.Cond.selects "PegLaws$Taken" ({ cls := "PegLaws$Line", name := "isDone", desc := "(LPegLaws;LPegLaws$State;)Z" } : Jvm.MethodName) ({ cls := "PegLaws$Taken", name := "isDone", desc := "(LPegLaws;LPegLaws$State;)Z" } : Jvm.MethodName)) ∈ lw_all := lw_g (lw_at lw_m6 67 rfl) rfl
theorem q1400 : (Jvm.Cond.instanceMethod ({ cls := "PegLaws$Taken", name := "isDone", desc := "(LPegLaws;LPegLaws$State;)Z" } : Jvm.MethodName)) ∈ lw_all := lw_g (lw_at lw_m6 68 rfl) rfl
theorem q1401 : (Jvm.Cond.code ({ cls := "PegLaws$Taken", name := "isDone", desc := "(LPegLaws;LPegLaws$State;)Z" } : Jvm.MethodName) prog_17_method_2_code (3 : Nat) (Option.some Jvm.ClassFile.FieldType.boolean)) ∈ lw_all := lw_g (lw_at lw_m6 69 rfl) rfl
theorem q1402 : (Jvm.Cond.methodLink "PegLaws$Taken" (13 : Nat) ({ cls := "PegLaws$State", name := "by", desc := "(I)I" } : Jvm.MethodName)) ∈ lw_all := lw_g (lw_at lw_m6 70 rfl) rfl
theorem q1403 : (Jvm.Cond.methodLink "PegLaws$Taken" (19 : Nat) ({ cls := "PegLaws$State", name := "comesIn", desc := "(I)V" } : Jvm.MethodName)) ∈ lw_all := lw_g (lw_at lw_m6 71 rfl) rfl
theorem q1416 : (Jvm.Cond.selects "PegLaws$Taken" ({ cls := "PegLaws$Line", name := "isHour", desc := "()Z" } : Jvm.MethodName) ({ cls := "PegLaws$Line", name := "isHour", desc := "()Z" } : Jvm.MethodName)) ∈ lw_all := lw_g (lw_at lw_m6 84 rfl) rfl
theorem q2210 : (Jvm.Cond.castable "PegLaws$Taken" "PegLaws$Line") ∈ lw_tbl := lw_at lw_m9 158 rfl
theorem q2232 : (Jvm.Cond.castable "PegLaws$Taken" "java/lang/Object") ∈ lw_tbl := lw_at lw_m9 180 rfl
theorem in_X19 : ∀ w ∈ wsX190, w ∈ lw_all := lw_in wsX190 [1125] (by decide +kernel) (by decide +kernel)

/-! PegLaws$Washed -/
set_option maxRecDepth 100000
def RX20 : String := "PegLaws$Washed"
def TX20 : u_T := fun k => match k with
  | _ => ("PegLaws$Washed", "cloth", "I", true)
def tyX20 : Nat → FieldType := fun k => match k with
  | _ => .int
abbrev wsX200 : List Cond := u_ws RX20 TX20 1
theorem nmX20 : ∀ a, a < 1 → ∀ b, b < 1 → a ≠ b → (TX20 a).2.1 ≠ (TX20 b).2.1 := by decide +kernel
theorem tyX20_ok : ∀ k, k < 1 → parseFieldDescriptor (TX20 k).2.2.1 = some (tyX20 k) := by decide +kernel
abbrev cX20_init : ByteArray := prog_19_method_1_code
def yX20_init : MethodName := ⟨RX20, "<init>", "(I)V"⟩
def dkwX20_init_0 : List UInt8 := [42, 183, 0, 3, 42, 27, 181, 0, 9, 177]
abbrev dktX20_init_0 : List UInt8 := dkwX20_init_0 ++ []
theorem dksX20_init_0 : cX20_init.data.toList.drop 0 = dktX20_init_0 := by decide +kernel
theorem dX20_init_0 : decode cX20_init 0 = .ok (.aload_n 0, 1) := dk_42 (dk_at dksX20_init_0 0 rfl rfl)
theorem dX20_init_1 : decode cX20_init 1 = .ok (.invokespecial 3, 3) := dk_183 0 3 (dk_at dksX20_init_0 1 rfl rfl)
theorem dX20_init_4 : decode cX20_init 4 = .ok (.aload_n 0, 1) := dk_42 (dk_at dksX20_init_0 4 rfl rfl)
theorem dX20_init_5 : decode cX20_init 5 = .ok (.iload_n 1, 1) := dk_27 (dk_at dksX20_init_0 5 rfl rfl)
theorem dX20_init_6 : decode cX20_init 6 = .ok (.putfield 9, 3) := dk_181 0 9 (dk_at dksX20_init_0 6 rfl rfl)
theorem dX20_init_9 : decode cX20_init 9 = .ok (.return_, 1) := dk_177 (dk_at dksX20_init_0 9 rfl rfl)
abbrev cX20_isDone : ByteArray := prog_19_method_2_code
def yX20_isDone : MethodName := ⟨RX20, "isDone", "(LPegLaws;LPegLaws$State;)Z"⟩
def dkwX20_isDone_1 : List UInt8 := [44, 180, 0, 25, 42, 180, 0, 9, 3, 79, 4, 172]
abbrev dktX20_isDone_1 : List UInt8 := dkwX20_isDone_1 ++ []
def dkwX20_isDone_0 : List UInt8 := [44, 42, 180, 0, 9, 182, 0, 15, 153, 0, 5, 3, 172, 44, 180, 0, 21, 42, 180, 0, 9, 16, 9, 79]
abbrev dktX20_isDone_0 : List UInt8 := dkwX20_isDone_0 ++ dktX20_isDone_1
theorem dksX20_isDone_0 : cX20_isDone.data.toList.drop 0 = dktX20_isDone_0 := by decide +kernel
theorem dksX20_isDone_1 : cX20_isDone.data.toList.drop 24 = dktX20_isDone_1 := dk_seg dksX20_isDone_0 24 rfl rfl
theorem dX20_isDone_0 : decode cX20_isDone 0 = .ok (.aload_n 2, 1) := dk_44 (dk_at dksX20_isDone_0 0 rfl rfl)
theorem dX20_isDone_1 : decode cX20_isDone 1 = .ok (.aload_n 0, 1) := dk_42 (dk_at dksX20_isDone_0 1 rfl rfl)
theorem dX20_isDone_2 : decode cX20_isDone 2 = .ok (.getfield 9, 3) := dk_180 0 9 (dk_at dksX20_isDone_0 2 rfl rfl)
theorem dX20_isDone_5 : decode cX20_isDone 5 = .ok (.invokevirtual 15, 3) := dk_182 0 15 (dk_at dksX20_isDone_0 5 rfl rfl)
theorem dX20_isDone_8 : decode cX20_isDone 8 = .ok (.ifCond .eq 5, 3) := dk_153 0 5 (dk_at dksX20_isDone_0 8 rfl rfl)
theorem dX20_isDone_11 : decode cX20_isDone 11 = .ok (.iconst 0, 1) := dk_3 (dk_at dksX20_isDone_0 11 rfl rfl)
theorem dX20_isDone_12 : decode cX20_isDone 12 = .ok (.ireturn, 1) := dk_172 (dk_at dksX20_isDone_0 12 rfl rfl)
theorem dX20_isDone_13 : decode cX20_isDone 13 = .ok (.aload_n 2, 1) := dk_44 (dk_at dksX20_isDone_0 13 rfl rfl)
theorem dX20_isDone_14 : decode cX20_isDone 14 = .ok (.getfield 21, 3) := dk_180 0 21 (dk_at dksX20_isDone_0 14 rfl rfl)
theorem dX20_isDone_17 : decode cX20_isDone 17 = .ok (.aload_n 0, 1) := dk_42 (dk_at dksX20_isDone_0 17 rfl rfl)
theorem dX20_isDone_18 : decode cX20_isDone 18 = .ok (.getfield 9, 3) := dk_180 0 9 (dk_at dksX20_isDone_0 18 rfl rfl)
theorem dX20_isDone_21 : decode cX20_isDone 21 = .ok (.bipush 9, 2) := dk_16 9 (dk_at dksX20_isDone_0 21 rfl rfl)
theorem dX20_isDone_23 : decode cX20_isDone 23 = .ok (.iastore, 1) := dk_79 (dk_at dksX20_isDone_0 23 rfl rfl)
theorem dX20_isDone_24 : decode cX20_isDone 24 = .ok (.aload_n 2, 1) := dk_44 (dk_at dksX20_isDone_1 0 rfl rfl)
theorem dX20_isDone_25 : decode cX20_isDone 25 = .ok (.getfield 25, 3) := dk_180 0 25 (dk_at dksX20_isDone_1 1 rfl rfl)
theorem dX20_isDone_28 : decode cX20_isDone 28 = .ok (.aload_n 0, 1) := dk_42 (dk_at dksX20_isDone_1 4 rfl rfl)
theorem dX20_isDone_29 : decode cX20_isDone 29 = .ok (.getfield 9, 3) := dk_180 0 9 (dk_at dksX20_isDone_1 5 rfl rfl)
theorem dX20_isDone_32 : decode cX20_isDone 32 = .ok (.iconst 0, 1) := dk_3 (dk_at dksX20_isDone_1 8 rfl rfl)
theorem dX20_isDone_33 : decode cX20_isDone 33 = .ok (.iastore, 1) := dk_79 (dk_at dksX20_isDone_1 9 rfl rfl)
theorem dX20_isDone_34 : decode cX20_isDone 34 = .ok (.iconst 1, 1) := dk_4 (dk_at dksX20_isDone_1 10 rfl rfl)
theorem dX20_isDone_35 : decode cX20_isDone 35 = .ok (.ireturn, 1) := dk_172 (dk_at dksX20_isDone_1 11 rfl rfl)
theorem q170 : (Jvm.Cond.initialized "PegLaws$Washed") ∈ lw_all := lw_g (lw_at lw_m1 38 rfl) rfl
theorem q313 : (Jvm.Cond.fieldLinkNest "PegLaws$Washed" (21 : Nat) "PegLaws$State" "wet" "[I" "PegLaws") ∈ lw_tbl := lw_at lw_m1 181 rfl
theorem q316 : (Jvm.Cond.fieldLinkNest "PegLaws$Washed" (25 : Nat) "PegLaws$State" "stains" "[I" "PegLaws") ∈ lw_tbl := lw_at lw_m1 184 rfl
theorem q970 : (Jvm.Cond.selects "PegLaws$Washed" ({ cls := "java/lang/Object", name := "getClass", desc := "()Ljava/lang/Class;" } : Jvm.MethodName) ({ cls := "java/lang/Object", name := "getClass", desc := "()Ljava/lang/Class;" } : Jvm.MethodName)) ∈ lw_all := lw_g (lw_at lw_m4 118 rfl) rfl
theorem q1129 : (Jvm.Cond.instantiable "PegLaws$Washed" (1 : Nat)) ∈ lw_all := lw_g (lw_at lw_m5 37 rfl) rfl
theorem q1131 : (Jvm.Cond.instanceMethod ({ cls := "PegLaws$Washed", name := "<init>", desc := "(I)V" } : Jvm.MethodName)) ∈ lw_all := lw_g (lw_at lw_m5 39 rfl) rfl
theorem q1132 : (Jvm.Cond.code ({ cls := "PegLaws$Washed", name := "<init>", desc := "(I)V" } : Jvm.MethodName) prog_19_method_1_code (2 : Nat) (Option.none : Option Jvm.ClassFile.FieldType)) ∈ lw_all := lw_g (lw_at lw_m5 40 rfl) rfl
theorem q1133 : (Jvm.Cond.methodLinkNest "PegLaws$Washed" (3 : Nat) ({ cls := "PegLaws$Line", name := "<init>", desc := "()V" } : Jvm.MethodName) "PegLaws") ∈ lw_tbl := lw_at lw_m5 41 rfl
theorem q1134 : (Jvm.Cond.fieldLink "PegLaws$Washed" (9 : Nat) "PegLaws$Washed" "cloth" "I") ∈ lw_all := lw_g (lw_at lw_m5 42 rfl) rfl
theorem q1135 : (Jvm.Cond.laysFinal "PegLaws$Washed" "PegLaws$Washed" "cloth" "I") ∈ lw_all := lw_g (lw_at lw_m5 43 rfl) rfl
theorem q1136 : (Jvm.Cond.soleField "PegLaws$Washed" "cloth") ∈ lw_all := lw_g (lw_at lw_m5 44 rfl) rfl
theorem q1137 : (Jvm.Cond.superclass "PegLaws$Washed" "PegLaws$Line") ∈ lw_all := lw_g (lw_at lw_m5 45 rfl) rfl
theorem q1404 : (Jvm.Cond.selects "PegLaws$Washed" ({ cls := "PegLaws$Line", name := "isDone", desc := "(LPegLaws;LPegLaws$State;)Z" } : Jvm.MethodName) ({ cls := "PegLaws$Washed", name := "isDone", desc := "(LPegLaws;LPegLaws$State;)Z" } : Jvm.MethodName)) ∈ lw_all := lw_g (lw_at lw_m6 72 rfl) rfl
theorem q1405 : (Jvm.Cond.instanceMethod ({ cls := "PegLaws$Washed", name := "isDone", desc := "(LPegLaws;LPegLaws$State;)Z" } : Jvm.MethodName)) ∈ lw_all := lw_g (lw_at lw_m6 73 rfl) rfl
theorem q1406 : (Jvm.Cond.code ({ cls := "PegLaws$Washed", name := "isDone", desc := "(LPegLaws;LPegLaws$State;)Z" } : Jvm.MethodName) prog_19_method_2_code (3 : Nat) (Option.some Jvm.ClassFile.FieldType.boolean)) ∈ lw_all := lw_g (lw_at lw_m6 74 rfl) rfl
theorem q1407 : (Jvm.Cond.methodLink "PegLaws$Washed" (15 : Nat) ({ cls := "PegLaws$State", name := "by", desc := "(I)I" } : Jvm.MethodName)) ∈ lw_all := lw_g (lw_at lw_m6 75 rfl) rfl
theorem q1417 : (Jvm.Cond.selects "PegLaws$Washed" ({ cls := "PegLaws$Line", name := "isHour", desc := "()Z" } : Jvm.MethodName) ({ cls := "PegLaws$Line", name := "isHour", desc := "()Z" } : Jvm.MethodName)) ∈ lw_all := lw_g (lw_at lw_m6 85 rfl) rfl
theorem q2211 : (Jvm.Cond.castable "PegLaws$Washed" "PegLaws$Line") ∈ lw_tbl := lw_at lw_m9 159 rfl
theorem q2233 : (Jvm.Cond.castable "PegLaws$Washed" "java/lang/Object") ∈ lw_tbl := lw_at lw_m9 181 rfl
theorem in_X20 : ∀ w ∈ wsX200, w ∈ lw_all := lw_in wsX200 [1135] (by decide +kernel) (by decide +kernel)

/-! PegLaws$Hung -/
set_option maxRecDepth 100000
def RX21 : String := "PegLaws$Hung"
def TX21 : u_T := fun k => match k with
  | 0 => ("PegLaws$Hung", "cloth", "I", true)
  | _ => ("PegLaws$Hung", "pegs", "I", true)
def tyX21 : Nat → FieldType := fun k => match k with
  | 0 => .int
  | _ => .int
abbrev wsX210 : List Cond := u_ws RX21 TX21 2
theorem nmX21 : ∀ a, a < 2 → ∀ b, b < 2 → a ≠ b → (TX21 a).2.1 ≠ (TX21 b).2.1 := by decide +kernel
theorem tyX21_ok : ∀ k, k < 2 → parseFieldDescriptor (TX21 k).2.2.1 = some (tyX21 k) := by decide +kernel
abbrev cX21_init : ByteArray := prog_9_method_1_code
def yX21_init : MethodName := ⟨RX21, "<init>", "(II)V"⟩
def dkwX21_init_0 : List UInt8 := [42, 183, 0, 1, 42, 27, 181, 0, 7, 42, 28, 181, 0, 13, 177]
abbrev dktX21_init_0 : List UInt8 := dkwX21_init_0 ++ []
theorem dksX21_init_0 : cX21_init.data.toList.drop 0 = dktX21_init_0 := by decide +kernel
theorem dX21_init_0 : decode cX21_init 0 = .ok (.aload_n 0, 1) := dk_42 (dk_at dksX21_init_0 0 rfl rfl)
theorem dX21_init_1 : decode cX21_init 1 = .ok (.invokespecial 1, 3) := dk_183 0 1 (dk_at dksX21_init_0 1 rfl rfl)
theorem dX21_init_4 : decode cX21_init 4 = .ok (.aload_n 0, 1) := dk_42 (dk_at dksX21_init_0 4 rfl rfl)
theorem dX21_init_5 : decode cX21_init 5 = .ok (.iload_n 1, 1) := dk_27 (dk_at dksX21_init_0 5 rfl rfl)
theorem dX21_init_6 : decode cX21_init 6 = .ok (.putfield 7, 3) := dk_181 0 7 (dk_at dksX21_init_0 6 rfl rfl)
theorem dX21_init_9 : decode cX21_init 9 = .ok (.aload_n 0, 1) := dk_42 (dk_at dksX21_init_0 9 rfl rfl)
theorem dX21_init_10 : decode cX21_init 10 = .ok (.iload_n 2, 1) := dk_28 (dk_at dksX21_init_0 10 rfl rfl)
theorem dX21_init_11 : decode cX21_init 11 = .ok (.putfield 13, 3) := dk_181 0 13 (dk_at dksX21_init_0 11 rfl rfl)
theorem dX21_init_14 : decode cX21_init 14 = .ok (.return_, 1) := dk_177 (dk_at dksX21_init_0 14 rfl rfl)
abbrev cX21_isDone : ByteArray := prog_9_method_2_code
def yX21_isDone : MethodName := ⟨RX21, "isDone", "(LPegLaws;LPegLaws$State;)Z"⟩
def dkwX21_isDone_1 : List UInt8 := [180, 0, 13, 182, 0, 22, 4, 172]
abbrev dktX21_isDone_1 : List UInt8 := dkwX21_isDone_1 ++ []
def dkwX21_isDone_0 : List UInt8 := [43, 44, 42, 180, 0, 7, 42, 180, 0, 13, 182, 0, 16, 154, 0, 5, 3, 172, 44, 42, 180, 0, 7, 42]
abbrev dktX21_isDone_0 : List UInt8 := dkwX21_isDone_0 ++ dktX21_isDone_1
theorem dksX21_isDone_0 : cX21_isDone.data.toList.drop 0 = dktX21_isDone_0 := by decide +kernel
theorem dksX21_isDone_1 : cX21_isDone.data.toList.drop 24 = dktX21_isDone_1 := dk_seg dksX21_isDone_0 24 rfl rfl
theorem dX21_isDone_0 : decode cX21_isDone 0 = .ok (.aload_n 1, 1) := dk_43 (dk_at dksX21_isDone_0 0 rfl rfl)
theorem dX21_isDone_1 : decode cX21_isDone 1 = .ok (.aload_n 2, 1) := dk_44 (dk_at dksX21_isDone_0 1 rfl rfl)
theorem dX21_isDone_2 : decode cX21_isDone 2 = .ok (.aload_n 0, 1) := dk_42 (dk_at dksX21_isDone_0 2 rfl rfl)
theorem dX21_isDone_3 : decode cX21_isDone 3 = .ok (.getfield 7, 3) := dk_180 0 7 (dk_at dksX21_isDone_0 3 rfl rfl)
theorem dX21_isDone_6 : decode cX21_isDone 6 = .ok (.aload_n 0, 1) := dk_42 (dk_at dksX21_isDone_0 6 rfl rfl)
theorem dX21_isDone_7 : decode cX21_isDone 7 = .ok (.getfield 13, 3) := dk_180 0 13 (dk_at dksX21_isDone_0 7 rfl rfl)
theorem dX21_isDone_10 : decode cX21_isDone 10 = .ok (.invokevirtual 16, 3) := dk_182 0 16 (dk_at dksX21_isDone_0 10 rfl rfl)
theorem dX21_isDone_13 : decode cX21_isDone 13 = .ok (.ifCond .ne 5, 3) := dk_154 0 5 (dk_at dksX21_isDone_0 13 rfl rfl)
theorem dX21_isDone_16 : decode cX21_isDone 16 = .ok (.iconst 0, 1) := dk_3 (dk_at dksX21_isDone_0 16 rfl rfl)
theorem dX21_isDone_17 : decode cX21_isDone 17 = .ok (.ireturn, 1) := dk_172 (dk_at dksX21_isDone_0 17 rfl rfl)
theorem dX21_isDone_18 : decode cX21_isDone 18 = .ok (.aload_n 2, 1) := dk_44 (dk_at dksX21_isDone_0 18 rfl rfl)
theorem dX21_isDone_19 : decode cX21_isDone 19 = .ok (.aload_n 0, 1) := dk_42 (dk_at dksX21_isDone_0 19 rfl rfl)
theorem dX21_isDone_20 : decode cX21_isDone 20 = .ok (.getfield 7, 3) := dk_180 0 7 (dk_at dksX21_isDone_0 20 rfl rfl)
theorem dX21_isDone_23 : decode cX21_isDone 23 = .ok (.aload_n 0, 1) := dk_42 (dk_at dksX21_isDone_0 23 rfl rfl)
theorem dX21_isDone_24 : decode cX21_isDone 24 = .ok (.getfield 13, 3) := dk_180 0 13 (dk_at dksX21_isDone_1 0 rfl rfl)
theorem dX21_isDone_27 : decode cX21_isDone 27 = .ok (.invokevirtual 22, 3) := dk_182 0 22 (dk_at dksX21_isDone_1 3 rfl rfl)
theorem dX21_isDone_30 : decode cX21_isDone 30 = .ok (.iconst 1, 1) := dk_4 (dk_at dksX21_isDone_1 6 rfl rfl)
theorem dX21_isDone_31 : decode cX21_isDone 31 = .ok (.ireturn, 1) := dk_172 (dk_at dksX21_isDone_1 7 rfl rfl)
theorem q172 : (Jvm.Cond.initialized "PegLaws$Hung") ∈ lw_all := lw_g (lw_at lw_m1 40 rfl) rfl
theorem q961 : (Jvm.Cond.selects "PegLaws$Hung" ({ cls := "java/lang/Object", name := "getClass", desc := "()Ljava/lang/Class;" } : Jvm.MethodName) ({ cls := "java/lang/Object", name := "getClass", desc := "()Ljava/lang/Class;" } : Jvm.MethodName)) ∈ lw_all := lw_g (lw_at lw_m4 109 rfl) rfl
theorem q1145 : (Jvm.Cond.instantiable "PegLaws$Hung" (2 : Nat)) ∈ lw_all := lw_g (lw_at lw_m5 53 rfl) rfl
theorem q1147 : (Jvm.Cond.instanceMethod ({ cls := "PegLaws$Hung", name := "<init>", desc := "(II)V" } : Jvm.MethodName)) ∈ lw_all := lw_g (lw_at lw_m5 55 rfl) rfl
theorem q1148 : (Jvm.Cond.code ({ cls := "PegLaws$Hung", name := "<init>", desc := "(II)V" } : Jvm.MethodName) prog_9_method_1_code (3 : Nat) (Option.none : Option Jvm.ClassFile.FieldType)) ∈ lw_all := lw_g (lw_at lw_m5 56 rfl) rfl
theorem q1149 : (Jvm.Cond.methodLinkNest "PegLaws$Hung" (1 : Nat) ({ cls := "PegLaws$Line", name := "<init>", desc := "()V" } : Jvm.MethodName) "PegLaws") ∈ lw_tbl := lw_at lw_m5 57 rfl
theorem q1150 : (Jvm.Cond.fieldLink "PegLaws$Hung" (7 : Nat) "PegLaws$Hung" "cloth" "I") ∈ lw_all := lw_g (lw_at lw_m5 58 rfl) rfl
theorem q1151 : (Jvm.Cond.fieldLink "PegLaws$Hung" (13 : Nat) "PegLaws$Hung" "pegs" "I") ∈ lw_all := lw_g (lw_at lw_m5 59 rfl) rfl
theorem q1152 : (Jvm.Cond.laysFinal "PegLaws$Hung" "PegLaws$Hung" "cloth" "I") ∈ lw_all := lw_g (lw_at lw_m5 60 rfl) rfl
theorem q1153 : (Jvm.Cond.soleField "PegLaws$Hung" "cloth") ∈ lw_all := lw_g (lw_at lw_m5 61 rfl) rfl
theorem q1154 : (Jvm.Cond.laysFinal "PegLaws$Hung" "PegLaws$Hung" "pegs" "I") ∈ lw_all := lw_g (lw_at lw_m5 62 rfl) rfl
theorem q1155 : (Jvm.Cond.soleField "PegLaws$Hung" "pegs") ∈ lw_all := lw_g (lw_at lw_m5 63 rfl) rfl
theorem q1156 : (Jvm.Cond.superclass "PegLaws$Hung" "PegLaws$Line") ∈ lw_all := lw_g (lw_at lw_m5 64 rfl) rfl
theorem q1394 : (Jvm.Cond.selects "PegLaws$Hung" ({ cls := "PegLaws$Line", name := "isDone", desc := "(LPegLaws;LPegLaws$State;)Z" } : Jvm.MethodName) ({ cls := "PegLaws$Hung", name := "isDone", desc := "(LPegLaws;LPegLaws$State;)Z" } : Jvm.MethodName)) ∈ lw_all := lw_g (lw_at lw_m6 62 rfl) rfl
theorem q1395 : (Jvm.Cond.instanceMethod ({ cls := "PegLaws$Hung", name := "isDone", desc := "(LPegLaws;LPegLaws$State;)Z" } : Jvm.MethodName)) ∈ lw_all := lw_g (lw_at lw_m6 63 rfl) rfl
theorem q1396 : (Jvm.Cond.code ({ cls := "PegLaws$Hung", name := "isDone", desc := "(LPegLaws;LPegLaws$State;)Z" } : Jvm.MethodName) prog_9_method_2_code (3 : Nat) (Option.some Jvm.ClassFile.FieldType.boolean)) ∈ lw_all := lw_g (lw_at lw_m6 64 rfl) rfl
theorem q1397 : (Jvm.Cond.methodLinkNest "PegLaws$Hung" (16 : Nat) ({ cls := "PegLaws", name := "canHang", desc := "(LPegLaws$State;II)Z" } : Jvm.MethodName) "PegLaws") ∈ lw_tbl := lw_at lw_m6 65 rfl
theorem q1398 : (Jvm.Cond.methodLink "PegLaws$Hung" (22 : Nat) ({ cls := "PegLaws$State", name := "hangs", desc := "(II)V" } : Jvm.MethodName)) ∈ lw_all := lw_g (lw_at lw_m6 66 rfl) rfl
theorem q1415 : (Jvm.Cond.selects "PegLaws$Hung" ({ cls := "PegLaws$Line", name := "isHour", desc := "()Z" } : Jvm.MethodName) ({ cls := "PegLaws$Line", name := "isHour", desc := "()Z" } : Jvm.MethodName)) ∈ lw_all := lw_g (lw_at lw_m6 83 rfl) rfl
theorem q2209 : (Jvm.Cond.castable "PegLaws$Hung" "PegLaws$Line") ∈ lw_tbl := lw_at lw_m9 157 rfl
theorem q2234 : (Jvm.Cond.castable "PegLaws$Hung" "java/lang/Object") ∈ lw_tbl := lw_at lw_m9 182 rfl
theorem in_X21 : ∀ w ∈ wsX210, w ∈ lw_all := lw_in wsX210 [1152, 1154] (by decide +kernel) (by decide +kernel)

/-! PegLaws$Mark -/
set_option maxRecDepth 100000
def RX22 : String := "PegLaws$Mark"
def TX22 : u_T := fun k => match k with
  | 0 => ("PegLaws$Mark", "state", "LPegLaws$State;", true)
  | 1 => ("PegLaws$Mark", "cloth", "[I", true)
  | 2 => ("PegLaws$Mark", "hours", "[I", true)
  | 3 => ("PegLaws$Mark", "wet", "[I", true)
  | _ => ("PegLaws$Mark", "felt", "I", false)
def tyX22 : Nat → FieldType := fun k => match k with
  | 0 => .object "PegLaws$State"
  | 1 => .array .int
  | 2 => .array .int
  | 3 => .array .int
  | _ => .int
abbrev wsX220 : List Cond := u_ws RX22 TX22 5
theorem nmX22 : ∀ a, a < 5 → ∀ b, b < 5 → a ≠ b → (TX22 a).2.1 ≠ (TX22 b).2.1 := by decide +kernel
theorem tyX22_ok : ∀ k, k < 5 → parseFieldDescriptor (TX22 k).2.2.1 = some (tyX22 k) := by decide +kernel
abbrev cX22_init : ByteArray := prog_11_method_1_code
def yX22_init : MethodName := ⟨RX22, "<init>", "()V"⟩
def dkwX22_init_1 : List UInt8 := [16, 8, 188, 10, 181, 0, 22, 42, 16, 8, 188, 10, 181, 0, 25, 177]
abbrev dktX22_init_1 : List UInt8 := dkwX22_init_1 ++ []
def dkwX22_init_0 : List UInt8 := [42, 183, 0, 3, 42, 187, 0, 9, 89, 183, 0, 11, 181, 0, 12, 42, 16, 8, 188, 10, 181, 0, 18, 42]
abbrev dktX22_init_0 : List UInt8 := dkwX22_init_0 ++ dktX22_init_1
theorem dksX22_init_0 : cX22_init.data.toList.drop 0 = dktX22_init_0 := by decide +kernel
theorem dksX22_init_1 : cX22_init.data.toList.drop 24 = dktX22_init_1 := dk_seg dksX22_init_0 24 rfl rfl
theorem dX22_init_0 : decode cX22_init 0 = .ok (.aload_n 0, 1) := dk_42 (dk_at dksX22_init_0 0 rfl rfl)
theorem dX22_init_1 : decode cX22_init 1 = .ok (.invokespecial 3, 3) := dk_183 0 3 (dk_at dksX22_init_0 1 rfl rfl)
theorem dX22_init_4 : decode cX22_init 4 = .ok (.aload_n 0, 1) := dk_42 (dk_at dksX22_init_0 4 rfl rfl)
theorem dX22_init_5 : decode cX22_init 5 = .ok (.new 9, 3) := dk_187 0 9 (dk_at dksX22_init_0 5 rfl rfl)
theorem dX22_init_8 : decode cX22_init 8 = .ok (.dup, 1) := dk_89 (dk_at dksX22_init_0 8 rfl rfl)
theorem dX22_init_9 : decode cX22_init 9 = .ok (.invokespecial 11, 3) := dk_183 0 11 (dk_at dksX22_init_0 9 rfl rfl)
theorem dX22_init_12 : decode cX22_init 12 = .ok (.putfield 12, 3) := dk_181 0 12 (dk_at dksX22_init_0 12 rfl rfl)
theorem dX22_init_15 : decode cX22_init 15 = .ok (.aload_n 0, 1) := dk_42 (dk_at dksX22_init_0 15 rfl rfl)
theorem dX22_init_16 : decode cX22_init 16 = .ok (.bipush 8, 2) := dk_16 8 (dk_at dksX22_init_0 16 rfl rfl)
theorem dX22_init_18 : decode cX22_init 18 = .ok (.newarray .int, 2) := dk_188_10 (dk_at dksX22_init_0 18 rfl rfl)
theorem dX22_init_20 : decode cX22_init 20 = .ok (.putfield 18, 3) := dk_181 0 18 (dk_at dksX22_init_0 20 rfl rfl)
theorem dX22_init_23 : decode cX22_init 23 = .ok (.aload_n 0, 1) := dk_42 (dk_at dksX22_init_0 23 rfl rfl)
theorem dX22_init_24 : decode cX22_init 24 = .ok (.bipush 8, 2) := dk_16 8 (dk_at dksX22_init_1 0 rfl rfl)
theorem dX22_init_26 : decode cX22_init 26 = .ok (.newarray .int, 2) := dk_188_10 (dk_at dksX22_init_1 2 rfl rfl)
theorem dX22_init_28 : decode cX22_init 28 = .ok (.putfield 22, 3) := dk_181 0 22 (dk_at dksX22_init_1 4 rfl rfl)
theorem dX22_init_31 : decode cX22_init 31 = .ok (.aload_n 0, 1) := dk_42 (dk_at dksX22_init_1 7 rfl rfl)
theorem dX22_init_32 : decode cX22_init 32 = .ok (.bipush 8, 2) := dk_16 8 (dk_at dksX22_init_1 8 rfl rfl)
theorem dX22_init_34 : decode cX22_init 34 = .ok (.newarray .int, 2) := dk_188_10 (dk_at dksX22_init_1 10 rfl rfl)
theorem dX22_init_36 : decode cX22_init 36 = .ok (.putfield 25, 3) := dk_181 0 25 (dk_at dksX22_init_1 12 rfl rfl)
theorem dX22_init_39 : decode cX22_init 39 = .ok (.return_, 1) := dk_177 (dk_at dksX22_init_1 15 rfl rfl)
theorem q174 : (Jvm.Cond.initialized "PegLaws$Mark") ∈ lw_all := lw_g (lw_at lw_m1 42 rfl) rfl
theorem q962 : (Jvm.Cond.selects "PegLaws$Mark" ({ cls := "java/lang/Object", name := "getClass", desc := "()Ljava/lang/Class;" } : Jvm.MethodName) ({ cls := "java/lang/Object", name := "getClass", desc := "()Ljava/lang/Class;" } : Jvm.MethodName)) ∈ lw_all := lw_g (lw_at lw_m4 110 rfl) rfl
theorem q1534 : (Jvm.Cond.instantiable "PegLaws$Mark" (5 : Nat)) ∈ lw_all := lw_g (lw_at lw_m6 202 rfl) rfl
theorem q1536 : (Jvm.Cond.instanceMethod ({ cls := "PegLaws$Mark", name := "<init>", desc := "()V" } : Jvm.MethodName)) ∈ lw_all := lw_g (lw_at lw_m6 204 rfl) rfl
theorem q1537 : (Jvm.Cond.code ({ cls := "PegLaws$Mark", name := "<init>", desc := "()V" } : Jvm.MethodName) prog_11_method_1_code (1 : Nat) (Option.none : Option Jvm.ClassFile.FieldType)) ∈ lw_all := lw_g (lw_at lw_m6 205 rfl) rfl
theorem q1538 : (Jvm.Cond.methodLink "PegLaws$Mark" (3 : Nat) ({ cls := "java/lang/Object", name := "<init>", desc := "()V" } : Jvm.MethodName)) ∈ lw_all := lw_g (lw_at lw_m6 206 rfl) rfl
theorem q1539 : (Jvm.Cond.classLink "PegLaws$Mark" (9 : Nat) "PegLaws$State") ∈ lw_all := lw_g (lw_at lw_m6 207 rfl) rfl
theorem q1540 : (Jvm.Cond.methodLinkNest "PegLaws$Mark" (11 : Nat) ({ cls := "PegLaws$State", name := "<init>", desc := "()V" } : Jvm.MethodName) "PegLaws") ∈ lw_tbl := lw_at lw_m6 208 rfl
theorem q1541 : (Jvm.Cond.fieldLink "PegLaws$Mark" (12 : Nat) "PegLaws$Mark" "state" "LPegLaws$State;") ∈ lw_all := lw_g (lw_at lw_m6 209 rfl) rfl
theorem q1543 : (Jvm.Cond.fieldLink "PegLaws$Mark" (18 : Nat) "PegLaws$Mark" "cloth" "[I") ∈ lw_all := lw_g (lw_at lw_m6 211 rfl) rfl
theorem q1545 : (Jvm.Cond.fieldLink "PegLaws$Mark" (22 : Nat) "PegLaws$Mark" "hours" "[I") ∈ lw_all := lw_g (lw_at lw_m6 213 rfl) rfl
theorem q1547 : (Jvm.Cond.fieldLink "PegLaws$Mark" (25 : Nat) "PegLaws$Mark" "wet" "[I") ∈ lw_all := lw_g (lw_at lw_m6 215 rfl) rfl
theorem q1550 : (Jvm.Cond.laysFinal "PegLaws$Mark" "PegLaws$Mark" "state" "LPegLaws$State;") ∈ lw_all := lw_g (lw_at lw_m6 218 rfl) rfl
theorem q1551 : (Jvm.Cond.soleField "PegLaws$Mark" "state") ∈ lw_all := lw_g (lw_at lw_m6 219 rfl) rfl
theorem q1552 : (Jvm.Cond.laysFinal "PegLaws$Mark" "PegLaws$Mark" "cloth" "[I") ∈ lw_all := lw_g (lw_at lw_m6 220 rfl) rfl
theorem q1553 : (Jvm.Cond.soleField "PegLaws$Mark" "cloth") ∈ lw_all := lw_g (lw_at lw_m6 221 rfl) rfl
theorem q1554 : (Jvm.Cond.laysFinal "PegLaws$Mark" "PegLaws$Mark" "hours" "[I") ∈ lw_all := lw_g (lw_at lw_m6 222 rfl) rfl
theorem q1555 : (Jvm.Cond.soleField "PegLaws$Mark" "hours") ∈ lw_all := lw_g (lw_at lw_m6 223 rfl) rfl
theorem q1556 : (Jvm.Cond.laysFinal "PegLaws$Mark" "PegLaws$Mark" "wet" "[I") ∈ lw_all := lw_g (lw_at lw_m6 224 rfl) rfl
theorem q1557 : (Jvm.Cond.soleField "PegLaws$Mark" "wet") ∈ lw_all := lw_g (lw_at lw_m6 225 rfl) rfl
theorem q1558 : (Jvm.Cond.lays "PegLaws$Mark" "PegLaws$Mark" "felt" "I") ∈ lw_all := lw_g (lw_at lw_m6 226 rfl) rfl
theorem q1559 : (Jvm.Cond.soleField "PegLaws$Mark" "felt") ∈ lw_all := lw_g (lw_at lw_m6 227 rfl) rfl
theorem q1560 : (Jvm.Cond.superclass "PegLaws$Mark" "java/lang/Object") ∈ lw_all := lw_g (lw_at lw_m6 228 rfl) rfl
theorem q2213 : (Jvm.Cond.castable "PegLaws$Mark" "java/lang/Object") ∈ lw_tbl := lw_at lw_m9 161 rfl
theorem in_X22 : ∀ w ∈ wsX220, w ∈ lw_all := lw_in wsX220 [1550, 1552, 1554, 1556, 1558] (by decide +kernel) (by decide +kernel)
