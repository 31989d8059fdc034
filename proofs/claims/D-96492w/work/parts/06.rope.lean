/-! InASackToTheRope -/
set_option maxRecDepth 100000
def RX0 : String := "InASackToTheRope"
def TX0 : u_T := fun k => match k with
  | 0 => ("InASackToTheRope", "shelves", "[LInASackToTheRope$Shelf;", true)
  | 1 => ("InASackToTheRope", "refusals", "[I", true)
  | 2 => ("InASackToTheRope", "ran", "LInASackToTheRope$Trace;", true)
  | 3 => ("InASackToTheRope", "runner", "LInASackToTheRope$Runner;", true)
  | 4 => ("InASackToTheRope", "runners", "[LInASackToTheRope$Runner;", true)
  | 5 => ("InASackToTheRope", "gives", "LInASackToTheRope$Given;", true)
  | 6 => ("InASackToTheRope", "tried", "LInASackToTheRope$Field;", true)
  | 7 => ("InASackToTheRope", "w", "LInASackToTheRope$Field;", false)
  | 8 => ("InASackToTheRope", "imaged", "LInASackToTheRope$Field;", false)
  | _ => ("InASackToTheRope", "latestFault", "I", false)
def tyX0 : Nat → FieldType := fun k => match k with
  | 0 => .array (.object "InASackToTheRope$Shelf")
  | 1 => .array .int
  | 2 => .object "InASackToTheRope$Trace"
  | 3 => .object "InASackToTheRope$Runner"
  | 4 => .array (.object "InASackToTheRope$Runner")
  | 5 => .object "InASackToTheRope$Given"
  | 6 => .object "InASackToTheRope$Field"
  | 7 => .object "InASackToTheRope$Field"
  | 8 => .object "InASackToTheRope$Field"
  | _ => .int
abbrev wsX00 : List Cond := u_ws RX0 TX0 10
theorem nmX0 : ∀ a, a < 10 → ∀ b, b < 10 → a ≠ b → (TX0 a).2.1 ≠ (TX0 b).2.1 := by decide +kernel
theorem tyX0_ok : ∀ k, k < 10 → parseFieldDescriptor (TX0 k).2.2.1 = some (tyX0 k) := by decide +kernel
abbrev cX0_init : ByteArray := prog_1_method_5_code
def yX0_init : MethodName := ⟨RX0, "<init>", "()V"⟩
def dkwX0_init_6 : List UInt8 := [132, 1, 1, 167, 255, 234, 177]
abbrev dktX0_init_6 : List UInt8 := dkwX0_init_6 ++ []
def dkwX0_init_5 : List UInt8 := [167, 255, 234, 3, 60, 27, 16, 8, 162, 0, 22, 42, 180, 0, 81, 27, 187, 0, 74, 89, 183, 0, 76, 83]
abbrev dktX0_init_5 : List UInt8 := dkwX0_init_5 ++ dktX0_init_6
def dkwX0_init_4 : List UInt8 := [27, 16, 8, 162, 0, 22, 42, 180, 0, 59, 27, 187, 0, 57, 89, 183, 0, 106, 83, 132, 1, 1]
abbrev dktX0_init_4 : List UInt8 := dkwX0_init_4 ++ dktX0_init_5
def dkwX0_init_3 : List UInt8 := [183, 0, 94, 181, 0, 95, 42, 187, 0, 92, 89, 183, 0, 94, 181, 0, 99, 42, 2, 181, 0, 102, 3, 60]
abbrev dktX0_init_3 : List UInt8 := dkwX0_init_3 ++ dktX0_init_4
def dkwX0_init_2 : List UInt8 := [189, 0, 74, 181, 0, 81, 42, 187, 0, 85, 89, 183, 0, 87, 181, 0, 88, 42, 187, 0, 92, 89]
abbrev dktX0_init_2 : List UInt8 := dkwX0_init_2 ++ dktX0_init_3
def dkwX0_init_1 : List UInt8 := [187, 0, 67, 89, 183, 0, 69, 181, 0, 70, 42, 187, 0, 74, 89, 183, 0, 76, 181, 0, 77, 42, 16, 8]
abbrev dktX0_init_1 : List UInt8 := dkwX0_init_1 ++ dktX0_init_2
def dkwX0_init_0 : List UInt8 := [42, 183, 0, 50, 42, 16, 8, 189, 0, 57, 181, 0, 59, 42, 16, 8, 188, 10, 181, 0, 63, 42]
abbrev dktX0_init_0 : List UInt8 := dkwX0_init_0 ++ dktX0_init_1
theorem dksX0_init_0 : cX0_init.data.toList.drop 0 = dktX0_init_0 := by decide +kernel
theorem dksX0_init_1 : cX0_init.data.toList.drop 22 = dktX0_init_1 := dk_seg dksX0_init_0 22 rfl rfl
theorem dksX0_init_2 : cX0_init.data.toList.drop 46 = dktX0_init_2 := dk_seg dksX0_init_1 24 rfl rfl
theorem dksX0_init_3 : cX0_init.data.toList.drop 68 = dktX0_init_3 := dk_seg dksX0_init_2 22 rfl rfl
theorem dksX0_init_4 : cX0_init.data.toList.drop 92 = dktX0_init_4 := dk_seg dksX0_init_3 24 rfl rfl
theorem dksX0_init_5 : cX0_init.data.toList.drop 114 = dktX0_init_5 := dk_seg dksX0_init_4 22 rfl rfl
theorem dksX0_init_6 : cX0_init.data.toList.drop 138 = dktX0_init_6 := dk_seg dksX0_init_5 24 rfl rfl
theorem dX0_init_0 : decode cX0_init 0 = .ok (.aload_n 0, 1) := dk_42 (dk_at dksX0_init_0 0 rfl rfl)
theorem dX0_init_1 : decode cX0_init 1 = .ok (.invokespecial 50, 3) := dk_183 0 50 (dk_at dksX0_init_0 1 rfl rfl)
theorem dX0_init_4 : decode cX0_init 4 = .ok (.aload_n 0, 1) := dk_42 (dk_at dksX0_init_0 4 rfl rfl)
theorem dX0_init_5 : decode cX0_init 5 = .ok (.bipush 8, 2) := dk_16 8 (dk_at dksX0_init_0 5 rfl rfl)
theorem dX0_init_7 : decode cX0_init 7 = .ok (.anewarray 57, 3) := dk_189 0 57 (dk_at dksX0_init_0 7 rfl rfl)
theorem dX0_init_10 : decode cX0_init 10 = .ok (.putfield 59, 3) := dk_181 0 59 (dk_at dksX0_init_0 10 rfl rfl)
theorem dX0_init_13 : decode cX0_init 13 = .ok (.aload_n 0, 1) := dk_42 (dk_at dksX0_init_0 13 rfl rfl)
theorem dX0_init_14 : decode cX0_init 14 = .ok (.bipush 8, 2) := dk_16 8 (dk_at dksX0_init_0 14 rfl rfl)
theorem dX0_init_16 : decode cX0_init 16 = .ok (.newarray .int, 2) := dk_188_10 (dk_at dksX0_init_0 16 rfl rfl)
theorem dX0_init_18 : decode cX0_init 18 = .ok (.putfield 63, 3) := dk_181 0 63 (dk_at dksX0_init_0 18 rfl rfl)
theorem dX0_init_21 : decode cX0_init 21 = .ok (.aload_n 0, 1) := dk_42 (dk_at dksX0_init_0 21 rfl rfl)
theorem dX0_init_22 : decode cX0_init 22 = .ok (.new 67, 3) := dk_187 0 67 (dk_at dksX0_init_1 0 rfl rfl)
theorem dX0_init_25 : decode cX0_init 25 = .ok (.dup, 1) := dk_89 (dk_at dksX0_init_1 3 rfl rfl)
theorem dX0_init_26 : decode cX0_init 26 = .ok (.invokespecial 69, 3) := dk_183 0 69 (dk_at dksX0_init_1 4 rfl rfl)
theorem dX0_init_29 : decode cX0_init 29 = .ok (.putfield 70, 3) := dk_181 0 70 (dk_at dksX0_init_1 7 rfl rfl)
theorem dX0_init_32 : decode cX0_init 32 = .ok (.aload_n 0, 1) := dk_42 (dk_at dksX0_init_1 10 rfl rfl)
theorem dX0_init_33 : decode cX0_init 33 = .ok (.new 74, 3) := dk_187 0 74 (dk_at dksX0_init_1 11 rfl rfl)
theorem dX0_init_36 : decode cX0_init 36 = .ok (.dup, 1) := dk_89 (dk_at dksX0_init_1 14 rfl rfl)
theorem dX0_init_37 : decode cX0_init 37 = .ok (.invokespecial 76, 3) := dk_183 0 76 (dk_at dksX0_init_1 15 rfl rfl)
theorem dX0_init_40 : decode cX0_init 40 = .ok (.putfield 77, 3) := dk_181 0 77 (dk_at dksX0_init_1 18 rfl rfl)
theorem dX0_init_43 : decode cX0_init 43 = .ok (.aload_n 0, 1) := dk_42 (dk_at dksX0_init_1 21 rfl rfl)
theorem dX0_init_44 : decode cX0_init 44 = .ok (.bipush 8, 2) := dk_16 8 (dk_at dksX0_init_1 22 rfl rfl)
theorem dX0_init_46 : decode cX0_init 46 = .ok (.anewarray 74, 3) := dk_189 0 74 (dk_at dksX0_init_2 0 rfl rfl)
theorem dX0_init_49 : decode cX0_init 49 = .ok (.putfield 81, 3) := dk_181 0 81 (dk_at dksX0_init_2 3 rfl rfl)
theorem dX0_init_52 : decode cX0_init 52 = .ok (.aload_n 0, 1) := dk_42 (dk_at dksX0_init_2 6 rfl rfl)
theorem dX0_init_53 : decode cX0_init 53 = .ok (.new 85, 3) := dk_187 0 85 (dk_at dksX0_init_2 7 rfl rfl)
theorem dX0_init_56 : decode cX0_init 56 = .ok (.dup, 1) := dk_89 (dk_at dksX0_init_2 10 rfl rfl)
theorem dX0_init_57 : decode cX0_init 57 = .ok (.invokespecial 87, 3) := dk_183 0 87 (dk_at dksX0_init_2 11 rfl rfl)
theorem dX0_init_60 : decode cX0_init 60 = .ok (.putfield 88, 3) := dk_181 0 88 (dk_at dksX0_init_2 14 rfl rfl)
theorem dX0_init_63 : decode cX0_init 63 = .ok (.aload_n 0, 1) := dk_42 (dk_at dksX0_init_2 17 rfl rfl)
theorem dX0_init_64 : decode cX0_init 64 = .ok (.new 92, 3) := dk_187 0 92 (dk_at dksX0_init_2 18 rfl rfl)
theorem dX0_init_67 : decode cX0_init 67 = .ok (.dup, 1) := dk_89 (dk_at dksX0_init_2 21 rfl rfl)
theorem dX0_init_68 : decode cX0_init 68 = .ok (.invokespecial 94, 3) := dk_183 0 94 (dk_at dksX0_init_3 0 rfl rfl)
theorem dX0_init_71 : decode cX0_init 71 = .ok (.putfield 95, 3) := dk_181 0 95 (dk_at dksX0_init_3 3 rfl rfl)
theorem dX0_init_74 : decode cX0_init 74 = .ok (.aload_n 0, 1) := dk_42 (dk_at dksX0_init_3 6 rfl rfl)
theorem dX0_init_75 : decode cX0_init 75 = .ok (.new 92, 3) := dk_187 0 92 (dk_at dksX0_init_3 7 rfl rfl)
theorem dX0_init_78 : decode cX0_init 78 = .ok (.dup, 1) := dk_89 (dk_at dksX0_init_3 10 rfl rfl)
theorem dX0_init_79 : decode cX0_init 79 = .ok (.invokespecial 94, 3) := dk_183 0 94 (dk_at dksX0_init_3 11 rfl rfl)
theorem dX0_init_82 : decode cX0_init 82 = .ok (.putfield 99, 3) := dk_181 0 99 (dk_at dksX0_init_3 14 rfl rfl)
theorem dX0_init_85 : decode cX0_init 85 = .ok (.aload_n 0, 1) := dk_42 (dk_at dksX0_init_3 17 rfl rfl)
theorem dX0_init_86 : decode cX0_init 86 = .ok (.iconst (-1), 1) := dk_2 (dk_at dksX0_init_3 18 rfl rfl)
theorem dX0_init_87 : decode cX0_init 87 = .ok (.putfield 102, 3) := dk_181 0 102 (dk_at dksX0_init_3 19 rfl rfl)
theorem dX0_init_90 : decode cX0_init 90 = .ok (.iconst 0, 1) := dk_3 (dk_at dksX0_init_3 22 rfl rfl)
theorem dX0_init_91 : decode cX0_init 91 = .ok (.istore_n 1, 1) := dk_60 (dk_at dksX0_init_3 23 rfl rfl)
theorem dX0_init_92 : decode cX0_init 92 = .ok (.iload_n 1, 1) := dk_27 (dk_at dksX0_init_4 0 rfl rfl)
theorem dX0_init_93 : decode cX0_init 93 = .ok (.bipush 8, 2) := dk_16 8 (dk_at dksX0_init_4 1 rfl rfl)
theorem dX0_init_95 : decode cX0_init 95 = .ok (.if_icmp .ge 22, 3) := dk_162 0 22 (dk_at dksX0_init_4 3 rfl rfl)
theorem dX0_init_98 : decode cX0_init 98 = .ok (.aload_n 0, 1) := dk_42 (dk_at dksX0_init_4 6 rfl rfl)
theorem dX0_init_99 : decode cX0_init 99 = .ok (.getfield 59, 3) := dk_180 0 59 (dk_at dksX0_init_4 7 rfl rfl)
theorem dX0_init_102 : decode cX0_init 102 = .ok (.iload_n 1, 1) := dk_27 (dk_at dksX0_init_4 10 rfl rfl)
theorem dX0_init_103 : decode cX0_init 103 = .ok (.new 57, 3) := dk_187 0 57 (dk_at dksX0_init_4 11 rfl rfl)
theorem dX0_init_106 : decode cX0_init 106 = .ok (.dup, 1) := dk_89 (dk_at dksX0_init_4 14 rfl rfl)
theorem dX0_init_107 : decode cX0_init 107 = .ok (.invokespecial 106, 3) := dk_183 0 106 (dk_at dksX0_init_4 15 rfl rfl)
theorem dX0_init_110 : decode cX0_init 110 = .ok (.aastore, 1) := dk_83 (dk_at dksX0_init_4 18 rfl rfl)
theorem dX0_init_111 : decode cX0_init 111 = .ok (.iinc 1 1, 3) := dk_132 1 1 (dk_at dksX0_init_4 19 rfl rfl)
theorem dX0_init_114 : decode cX0_init 114 = .ok (.goto (-22), 3) := dk_167 255 234 (dk_at dksX0_init_5 0 rfl rfl)
theorem dX0_init_117 : decode cX0_init 117 = .ok (.iconst 0, 1) := dk_3 (dk_at dksX0_init_5 3 rfl rfl)
theorem dX0_init_118 : decode cX0_init 118 = .ok (.istore_n 1, 1) := dk_60 (dk_at dksX0_init_5 4 rfl rfl)
theorem dX0_init_119 : decode cX0_init 119 = .ok (.iload_n 1, 1) := dk_27 (dk_at dksX0_init_5 5 rfl rfl)
theorem dX0_init_120 : decode cX0_init 120 = .ok (.bipush 8, 2) := dk_16 8 (dk_at dksX0_init_5 6 rfl rfl)
theorem dX0_init_122 : decode cX0_init 122 = .ok (.if_icmp .ge 22, 3) := dk_162 0 22 (dk_at dksX0_init_5 8 rfl rfl)
theorem dX0_init_125 : decode cX0_init 125 = .ok (.aload_n 0, 1) := dk_42 (dk_at dksX0_init_5 11 rfl rfl)
theorem dX0_init_126 : decode cX0_init 126 = .ok (.getfield 81, 3) := dk_180 0 81 (dk_at dksX0_init_5 12 rfl rfl)
theorem dX0_init_129 : decode cX0_init 129 = .ok (.iload_n 1, 1) := dk_27 (dk_at dksX0_init_5 15 rfl rfl)
theorem dX0_init_130 : decode cX0_init 130 = .ok (.new 74, 3) := dk_187 0 74 (dk_at dksX0_init_5 16 rfl rfl)
theorem dX0_init_133 : decode cX0_init 133 = .ok (.dup, 1) := dk_89 (dk_at dksX0_init_5 19 rfl rfl)
theorem dX0_init_134 : decode cX0_init 134 = .ok (.invokespecial 76, 3) := dk_183 0 76 (dk_at dksX0_init_5 20 rfl rfl)
theorem dX0_init_137 : decode cX0_init 137 = .ok (.aastore, 1) := dk_83 (dk_at dksX0_init_5 23 rfl rfl)
theorem dX0_init_138 : decode cX0_init 138 = .ok (.iinc 1 1, 3) := dk_132 1 1 (dk_at dksX0_init_6 0 rfl rfl)
theorem dX0_init_141 : decode cX0_init 141 = .ok (.goto (-22), 3) := dk_167 255 234 (dk_at dksX0_init_6 3 rfl rfl)
theorem dX0_init_144 : decode cX0_init 144 = .ok (.return_, 1) := dk_177 (dk_at dksX0_init_6 6 rfl rfl)
abbrev cX0_row : ByteArray := prog_1_method_13_code
def yX0_row : MethodName := ⟨RX0, "row", "(III)I"⟩
def dkwX0_row_3 : List UInt8 := [182, 0, 165, 172]
abbrev dktX0_row_3 : List UInt8 := dkwX0_row_3 ++ []
def dkwX0_row_2 : List UInt8 := [16, 249, 184, 0, 116, 25, 4, 28, 29, 184, 0, 161, 181, 0, 127, 4, 172, 58, 4, 42, 25, 4]
abbrev dktX0_row_2 : List UInt8 := dkwX0_row_2 ++ dktX0_row_3
def dkwX0_row_1 : List UInt8 := [20, 0, 155, 184, 0, 157, 16, 250, 184, 0, 116, 29, 17, 0, 160, 163, 0, 7, 4, 167, 0, 4, 3]
abbrev dktX0_row_1 : List UInt8 := dkwX0_row_1 ++ dktX0_row_2
def dkwX0_row_0 : List UInt8 := [42, 27, 182, 0, 151, 58, 4, 29, 155, 0, 7, 4, 167, 0, 4, 3, 16, 252, 184, 0, 116, 28, 133, 9]
abbrev dktX0_row_0 : List UInt8 := dkwX0_row_0 ++ dktX0_row_1
theorem dksX0_row_0 : cX0_row.data.toList.drop 0 = dktX0_row_0 := by decide +kernel
theorem dksX0_row_1 : cX0_row.data.toList.drop 24 = dktX0_row_1 := dk_seg dksX0_row_0 24 rfl rfl
theorem dksX0_row_2 : cX0_row.data.toList.drop 47 = dktX0_row_2 := dk_seg dksX0_row_1 23 rfl rfl
theorem dksX0_row_3 : cX0_row.data.toList.drop 69 = dktX0_row_3 := dk_seg dksX0_row_2 22 rfl rfl
theorem dX0_row_0 : decode cX0_row 0 = .ok (.aload_n 0, 1) := dk_42 (dk_at dksX0_row_0 0 rfl rfl)
theorem dX0_row_1 : decode cX0_row 1 = .ok (.iload_n 1, 1) := dk_27 (dk_at dksX0_row_0 1 rfl rfl)
theorem dX0_row_2 : decode cX0_row 2 = .ok (.invokevirtual 151, 3) := dk_182 0 151 (dk_at dksX0_row_0 2 rfl rfl)
theorem dX0_row_5 : decode cX0_row 5 = .ok (.astore 4, 2) := dk_58 4 (dk_at dksX0_row_0 5 rfl rfl)
theorem dX0_row_7 : decode cX0_row 7 = .ok (.iload_n 3, 1) := dk_29 (dk_at dksX0_row_0 7 rfl rfl)
theorem dX0_row_8 : decode cX0_row 8 = .ok (.ifCond .lt 7, 3) := dk_155 0 7 (dk_at dksX0_row_0 8 rfl rfl)
theorem dX0_row_11 : decode cX0_row 11 = .ok (.iconst 1, 1) := dk_4 (dk_at dksX0_row_0 11 rfl rfl)
theorem dX0_row_12 : decode cX0_row 12 = .ok (.goto 4, 3) := dk_167 0 4 (dk_at dksX0_row_0 12 rfl rfl)
theorem dX0_row_15 : decode cX0_row 15 = .ok (.iconst 0, 1) := dk_3 (dk_at dksX0_row_0 15 rfl rfl)
theorem dX0_row_16 : decode cX0_row 16 = .ok (.bipush (-4), 2) := dk_16 252 (dk_at dksX0_row_0 16 rfl rfl)
theorem dX0_row_18 : decode cX0_row 18 = .ok (.invokestatic 116, 3) := dk_184 0 116 (dk_at dksX0_row_0 18 rfl rfl)
theorem dX0_row_21 : decode cX0_row 21 = .ok (.iload_n 2, 1) := dk_28 (dk_at dksX0_row_0 21 rfl rfl)
theorem dX0_row_22 : decode cX0_row 22 = .ok (.i2l, 1) := dk_133 (dk_at dksX0_row_0 22 rfl rfl)
theorem dX0_row_23 : decode cX0_row 23 = .ok (.lconst 0, 1) := dk_9 (dk_at dksX0_row_0 23 rfl rfl)
theorem dX0_row_24 : decode cX0_row 24 = .ok (.ldc2_w 155, 3) := dk_20 0 155 (dk_at dksX0_row_1 0 rfl rfl)
theorem dX0_row_27 : decode cX0_row 27 = .ok (.invokestatic 157, 3) := dk_184 0 157 (dk_at dksX0_row_1 3 rfl rfl)
theorem dX0_row_30 : decode cX0_row 30 = .ok (.bipush (-6), 2) := dk_16 250 (dk_at dksX0_row_1 6 rfl rfl)
theorem dX0_row_32 : decode cX0_row 32 = .ok (.invokestatic 116, 3) := dk_184 0 116 (dk_at dksX0_row_1 8 rfl rfl)
theorem dX0_row_35 : decode cX0_row 35 = .ok (.iload_n 3, 1) := dk_29 (dk_at dksX0_row_1 11 rfl rfl)
theorem dX0_row_36 : decode cX0_row 36 = .ok (.sipush 160, 3) := dk_17 0 160 (dk_at dksX0_row_1 12 rfl rfl)
theorem dX0_row_39 : decode cX0_row 39 = .ok (.if_icmp .gt 7, 3) := dk_163 0 7 (dk_at dksX0_row_1 15 rfl rfl)
theorem dX0_row_42 : decode cX0_row 42 = .ok (.iconst 1, 1) := dk_4 (dk_at dksX0_row_1 18 rfl rfl)
theorem dX0_row_43 : decode cX0_row 43 = .ok (.goto 4, 3) := dk_167 0 4 (dk_at dksX0_row_1 19 rfl rfl)
theorem dX0_row_46 : decode cX0_row 46 = .ok (.iconst 0, 1) := dk_3 (dk_at dksX0_row_1 22 rfl rfl)
theorem dX0_row_47 : decode cX0_row 47 = .ok (.bipush (-7), 2) := dk_16 249 (dk_at dksX0_row_2 0 rfl rfl)
theorem dX0_row_49 : decode cX0_row 49 = .ok (.invokestatic 116, 3) := dk_184 0 116 (dk_at dksX0_row_2 2 rfl rfl)
theorem dX0_row_52 : decode cX0_row 52 = .ok (.aload 4, 2) := dk_25 4 (dk_at dksX0_row_2 5 rfl rfl)
theorem dX0_row_54 : decode cX0_row 54 = .ok (.iload_n 2, 1) := dk_28 (dk_at dksX0_row_2 7 rfl rfl)
theorem dX0_row_55 : decode cX0_row 55 = .ok (.iload_n 3, 1) := dk_29 (dk_at dksX0_row_2 8 rfl rfl)
theorem dX0_row_56 : decode cX0_row 56 = .ok (.invokestatic 161, 3) := dk_184 0 161 (dk_at dksX0_row_2 9 rfl rfl)
theorem dX0_row_59 : decode cX0_row 59 = .ok (.putfield 127, 3) := dk_181 0 127 (dk_at dksX0_row_2 12 rfl rfl)
theorem dX0_row_62 : decode cX0_row 62 = .ok (.iconst 1, 1) := dk_4 (dk_at dksX0_row_2 15 rfl rfl)
theorem dX0_row_63 : decode cX0_row 63 = .ok (.ireturn, 1) := dk_172 (dk_at dksX0_row_2 16 rfl rfl)
theorem dX0_row_64 : decode cX0_row 64 = .ok (.astore 4, 2) := dk_58 4 (dk_at dksX0_row_2 17 rfl rfl)
theorem dX0_row_66 : decode cX0_row 66 = .ok (.aload_n 0, 1) := dk_42 (dk_at dksX0_row_2 19 rfl rfl)
theorem dX0_row_67 : decode cX0_row 67 = .ok (.aload 4, 2) := dk_25 4 (dk_at dksX0_row_2 20 rfl rfl)
theorem dX0_row_69 : decode cX0_row 69 = .ok (.invokevirtual 165, 3) := dk_182 0 165 (dk_at dksX0_row_3 0 rfl rfl)
theorem dX0_row_72 : decode cX0_row 72 = .ok (.ireturn, 1) := dk_172 (dk_at dksX0_row_3 3 rfl rfl)
abbrev cX0_shelf : ByteArray := prog_1_method_8_code
def yX0_shelf : MethodName := ⟨RX0, "shelf", "(I)LInASackToTheRope$Shelf;"⟩
def dkwX0_shelf_0 : List UInt8 := [42, 180, 0, 59, 27, 50, 176, 77, 187, 0, 21, 89, 2, 183, 0, 23, 191]
abbrev dktX0_shelf_0 : List UInt8 := dkwX0_shelf_0 ++ []
theorem dksX0_shelf_0 : cX0_shelf.data.toList.drop 0 = dktX0_shelf_0 := by decide +kernel
theorem dX0_shelf_0 : decode cX0_shelf 0 = .ok (.aload_n 0, 1) := dk_42 (dk_at dksX0_shelf_0 0 rfl rfl)
theorem dX0_shelf_1 : decode cX0_shelf 1 = .ok (.getfield 59, 3) := dk_180 0 59 (dk_at dksX0_shelf_0 1 rfl rfl)
theorem dX0_shelf_4 : decode cX0_shelf 4 = .ok (.iload_n 1, 1) := dk_27 (dk_at dksX0_shelf_0 4 rfl rfl)
theorem dX0_shelf_5 : decode cX0_shelf 5 = .ok (.aaload, 1) := dk_50 (dk_at dksX0_shelf_0 5 rfl rfl)
theorem dX0_shelf_6 : decode cX0_shelf 6 = .ok (.areturn, 1) := dk_176 (dk_at dksX0_shelf_0 6 rfl rfl)
theorem dX0_shelf_7 : decode cX0_shelf 7 = .ok (.astore_n 2, 1) := dk_77 (dk_at dksX0_shelf_0 7 rfl rfl)
theorem dX0_shelf_8 : decode cX0_shelf 8 = .ok (.new 21, 3) := dk_187 0 21 (dk_at dksX0_shelf_0 8 rfl rfl)
theorem dX0_shelf_11 : decode cX0_shelf 11 = .ok (.dup, 1) := dk_89 (dk_at dksX0_shelf_0 11 rfl rfl)
theorem dX0_shelf_12 : decode cX0_shelf 12 = .ok (.iconst (-1), 1) := dk_2 (dk_at dksX0_shelf_0 12 rfl rfl)
theorem dX0_shelf_13 : decode cX0_shelf 13 = .ok (.invokespecial 23, 3) := dk_183 0 23 (dk_at dksX0_shelf_0 13 rfl rfl)
theorem dX0_shelf_16 : decode cX0_shelf 16 = .ok (.athrow, 1) := dk_191 (dk_at dksX0_shelf_0 16 rfl rfl)
abbrev cX0_need : ByteArray := prog_1_method_2_code
def yX0_need : MethodName := ⟨RX0, "need", "(ZI)V"⟩
def dkwX0_need_0 : List UInt8 := [26, 154, 0, 12, 187, 0, 21, 89, 27, 183, 0, 23, 191, 177]
abbrev dktX0_need_0 : List UInt8 := dkwX0_need_0 ++ []
theorem dksX0_need_0 : cX0_need.data.toList.drop 0 = dktX0_need_0 := by decide +kernel
theorem dX0_need_0 : decode cX0_need 0 = .ok (.iload_n 0, 1) := dk_26 (dk_at dksX0_need_0 0 rfl rfl)
theorem dX0_need_1 : decode cX0_need 1 = .ok (.ifCond .ne 12, 3) := dk_154 0 12 (dk_at dksX0_need_0 1 rfl rfl)
theorem dX0_need_4 : decode cX0_need 4 = .ok (.new 21, 3) := dk_187 0 21 (dk_at dksX0_need_0 4 rfl rfl)
theorem dX0_need_7 : decode cX0_need 7 = .ok (.dup, 1) := dk_89 (dk_at dksX0_need_0 7 rfl rfl)
theorem dX0_need_8 : decode cX0_need 8 = .ok (.iload_n 1, 1) := dk_27 (dk_at dksX0_need_0 8 rfl rfl)
theorem dX0_need_9 : decode cX0_need 9 = .ok (.invokespecial 23, 3) := dk_183 0 23 (dk_at dksX0_need_0 9 rfl rfl)
theorem dX0_need_12 : decode cX0_need 12 = .ok (.athrow, 1) := dk_191 (dk_at dksX0_need_0 12 rfl rfl)
theorem dX0_need_13 : decode cX0_need 13 = .ok (.return_, 1) := dk_177 (dk_at dksX0_need_0 13 rfl rfl)
abbrev cX0_in : ByteArray := prog_1_method_3_code
def yX0_in : MethodName := ⟨RX0, "in", "(JJJ)Z"⟩
def dkwX0_in_0 : List UInt8 := [30, 32, 148, 155, 0, 14, 30, 22, 4, 148, 157, 0, 7, 4, 167, 0, 4, 3, 172]
abbrev dktX0_in_0 : List UInt8 := dkwX0_in_0 ++ []
theorem dksX0_in_0 : cX0_in.data.toList.drop 0 = dktX0_in_0 := by decide +kernel
theorem dX0_in_0 : decode cX0_in 0 = .ok (.lload_n 0, 1) := dk_30 (dk_at dksX0_in_0 0 rfl rfl)
theorem dX0_in_1 : decode cX0_in 1 = .ok (.lload_n 2, 1) := dk_32 (dk_at dksX0_in_0 1 rfl rfl)
theorem dX0_in_2 : decode cX0_in 2 = .ok (.lcmp, 1) := dk_148 (dk_at dksX0_in_0 2 rfl rfl)
theorem dX0_in_3 : decode cX0_in 3 = .ok (.ifCond .lt 14, 3) := dk_155 0 14 (dk_at dksX0_in_0 3 rfl rfl)
theorem dX0_in_6 : decode cX0_in 6 = .ok (.lload_n 0, 1) := dk_30 (dk_at dksX0_in_0 6 rfl rfl)
theorem dX0_in_7 : decode cX0_in 7 = .ok (.lload 4, 2) := dk_22 4 (dk_at dksX0_in_0 7 rfl rfl)
theorem dX0_in_9 : decode cX0_in 9 = .ok (.lcmp, 1) := dk_148 (dk_at dksX0_in_0 9 rfl rfl)
theorem dX0_in_10 : decode cX0_in 10 = .ok (.ifCond .gt 7, 3) := dk_157 0 7 (dk_at dksX0_in_0 10 rfl rfl)
theorem dX0_in_13 : decode cX0_in 13 = .ok (.iconst 1, 1) := dk_4 (dk_at dksX0_in_0 13 rfl rfl)
theorem dX0_in_14 : decode cX0_in 14 = .ok (.goto 4, 3) := dk_167 0 4 (dk_at dksX0_in_0 14 rfl rfl)
theorem dX0_in_17 : decode cX0_in 17 = .ok (.iconst 0, 1) := dk_3 (dk_at dksX0_in_0 17 rfl rfl)
theorem dX0_in_18 : decode cX0_in 18 = .ok (.ireturn, 1) := dk_172 (dk_at dksX0_in_0 18 rfl rfl)
abbrev cX0_newRow : ByteArray := prog_1_method_12_code
def yX0_newRow : MethodName := ⟨RX0, "newRow", "(II)LInASackToTheRope$Row;"⟩
def dkwX0_newRow_4 : List UInt8 := [187, 0, 21, 89, 16, 252, 183, 0, 23, 191]
abbrev dktX0_newRow_4 : List UInt8 := dkwX0_newRow_4 ++ []
def dkwX0_newRow_3 : List UInt8 := [183, 0, 145, 176, 187, 0, 146, 89, 27, 183, 0, 148, 176, 187, 0, 21, 89, 16, 250, 183, 0, 23, 191, 77]
abbrev dktX0_newRow_3 : List UInt8 := dkwX0_newRow_3 ++ dktX0_newRow_4
def dkwX0_newRow_2 : List UInt8 := [187, 0, 137, 89, 27, 183, 0, 139, 176, 187, 0, 140, 89, 27, 183, 0, 142, 176, 187, 0, 143, 89, 27]
abbrev dktX0_newRow_2 : List UInt8 := dkwX0_newRow_2 ++ dktX0_newRow_3
def dkwX0_newRow_1 : List UInt8 := [170, 0, 0, 0, 0, 0, 67, 0, 0, 0, 0, 0, 0, 0, 3, 0, 0, 0, 31, 0, 0, 0, 40, 0, 0, 0, 49, 0, 0, 0, 58]
abbrev dktX0_newRow_1 : List UInt8 := dkwX0_newRow_1 ++ dktX0_newRow_2
def dkwX0_newRow_0 : List UInt8 := [26]
abbrev dktX0_newRow_0 : List UInt8 := dkwX0_newRow_0 ++ dktX0_newRow_1
theorem dksX0_newRow_0 : cX0_newRow.data.toList.drop 0 = dktX0_newRow_0 := by decide +kernel
theorem dksX0_newRow_1 : cX0_newRow.data.toList.drop 1 = dktX0_newRow_1 := dk_seg dksX0_newRow_0 1 rfl rfl
theorem dksX0_newRow_2 : cX0_newRow.data.toList.drop 32 = dktX0_newRow_2 := dk_seg dksX0_newRow_1 31 rfl rfl
theorem dksX0_newRow_3 : cX0_newRow.data.toList.drop 55 = dktX0_newRow_3 := dk_seg dksX0_newRow_2 23 rfl rfl
theorem dksX0_newRow_4 : cX0_newRow.data.toList.drop 79 = dktX0_newRow_4 := dk_seg dksX0_newRow_3 24 rfl rfl
theorem dX0_newRow_0 : decode cX0_newRow 0 = .ok (.iload_n 0, 1) := dk_26 (dk_at dksX0_newRow_0 0 rfl rfl)
theorem dX0_newRow_1 : decode cX0_newRow 1 = .ok (.tableswitch 67 0 3 #[31, 40, 49, 58], 31) := by decide +kernel
theorem dX0_newRow_32 : decode cX0_newRow 32 = .ok (.new 137, 3) := dk_187 0 137 (dk_at dksX0_newRow_2 0 rfl rfl)
theorem dX0_newRow_35 : decode cX0_newRow 35 = .ok (.dup, 1) := dk_89 (dk_at dksX0_newRow_2 3 rfl rfl)
theorem dX0_newRow_36 : decode cX0_newRow 36 = .ok (.iload_n 1, 1) := dk_27 (dk_at dksX0_newRow_2 4 rfl rfl)
theorem dX0_newRow_37 : decode cX0_newRow 37 = .ok (.invokespecial 139, 3) := dk_183 0 139 (dk_at dksX0_newRow_2 5 rfl rfl)
theorem dX0_newRow_40 : decode cX0_newRow 40 = .ok (.areturn, 1) := dk_176 (dk_at dksX0_newRow_2 8 rfl rfl)
theorem dX0_newRow_41 : decode cX0_newRow 41 = .ok (.new 140, 3) := dk_187 0 140 (dk_at dksX0_newRow_2 9 rfl rfl)
theorem dX0_newRow_44 : decode cX0_newRow 44 = .ok (.dup, 1) := dk_89 (dk_at dksX0_newRow_2 12 rfl rfl)
theorem dX0_newRow_45 : decode cX0_newRow 45 = .ok (.iload_n 1, 1) := dk_27 (dk_at dksX0_newRow_2 13 rfl rfl)
theorem dX0_newRow_46 : decode cX0_newRow 46 = .ok (.invokespecial 142, 3) := dk_183 0 142 (dk_at dksX0_newRow_2 14 rfl rfl)
theorem dX0_newRow_49 : decode cX0_newRow 49 = .ok (.areturn, 1) := dk_176 (dk_at dksX0_newRow_2 17 rfl rfl)
theorem dX0_newRow_50 : decode cX0_newRow 50 = .ok (.new 143, 3) := dk_187 0 143 (dk_at dksX0_newRow_2 18 rfl rfl)
theorem dX0_newRow_53 : decode cX0_newRow 53 = .ok (.dup, 1) := dk_89 (dk_at dksX0_newRow_2 21 rfl rfl)
theorem dX0_newRow_54 : decode cX0_newRow 54 = .ok (.iload_n 1, 1) := dk_27 (dk_at dksX0_newRow_2 22 rfl rfl)
theorem dX0_newRow_55 : decode cX0_newRow 55 = .ok (.invokespecial 145, 3) := dk_183 0 145 (dk_at dksX0_newRow_3 0 rfl rfl)
theorem dX0_newRow_58 : decode cX0_newRow 58 = .ok (.areturn, 1) := dk_176 (dk_at dksX0_newRow_3 3 rfl rfl)
theorem dX0_newRow_59 : decode cX0_newRow 59 = .ok (.new 146, 3) := dk_187 0 146 (dk_at dksX0_newRow_3 4 rfl rfl)
theorem dX0_newRow_62 : decode cX0_newRow 62 = .ok (.dup, 1) := dk_89 (dk_at dksX0_newRow_3 7 rfl rfl)
theorem dX0_newRow_63 : decode cX0_newRow 63 = .ok (.iload_n 1, 1) := dk_27 (dk_at dksX0_newRow_3 8 rfl rfl)
theorem dX0_newRow_64 : decode cX0_newRow 64 = .ok (.invokespecial 148, 3) := dk_183 0 148 (dk_at dksX0_newRow_3 9 rfl rfl)
theorem dX0_newRow_67 : decode cX0_newRow 67 = .ok (.areturn, 1) := dk_176 (dk_at dksX0_newRow_3 12 rfl rfl)
theorem dX0_newRow_68 : decode cX0_newRow 68 = .ok (.new 21, 3) := dk_187 0 21 (dk_at dksX0_newRow_3 13 rfl rfl)
theorem dX0_newRow_71 : decode cX0_newRow 71 = .ok (.dup, 1) := dk_89 (dk_at dksX0_newRow_3 16 rfl rfl)
theorem dX0_newRow_72 : decode cX0_newRow 72 = .ok (.bipush (-6), 2) := dk_16 250 (dk_at dksX0_newRow_3 17 rfl rfl)
theorem dX0_newRow_74 : decode cX0_newRow 74 = .ok (.invokespecial 23, 3) := dk_183 0 23 (dk_at dksX0_newRow_3 19 rfl rfl)
theorem dX0_newRow_77 : decode cX0_newRow 77 = .ok (.athrow, 1) := dk_191 (dk_at dksX0_newRow_3 22 rfl rfl)
theorem dX0_newRow_78 : decode cX0_newRow 78 = .ok (.astore_n 2, 1) := dk_77 (dk_at dksX0_newRow_3 23 rfl rfl)
theorem dX0_newRow_79 : decode cX0_newRow 79 = .ok (.new 21, 3) := dk_187 0 21 (dk_at dksX0_newRow_4 0 rfl rfl)
theorem dX0_newRow_82 : decode cX0_newRow 82 = .ok (.dup, 1) := dk_89 (dk_at dksX0_newRow_4 3 rfl rfl)
theorem dX0_newRow_83 : decode cX0_newRow 83 = .ok (.bipush (-4), 2) := dk_16 252 (dk_at dksX0_newRow_4 4 rfl rfl)
theorem dX0_newRow_85 : decode cX0_newRow 85 = .ok (.invokespecial 23, 3) := dk_183 0 23 (dk_at dksX0_newRow_4 6 rfl rfl)
theorem dX0_newRow_88 : decode cX0_newRow 88 = .ok (.athrow, 1) := dk_191 (dk_at dksX0_newRow_4 9 rfl rfl)
abbrev cX0_refused : ByteArray := prog_1_method_6_code
def yX0_refused : MethodName := ⟨RX0, "refused", "(LInASackToTheRope$Refused;)I"⟩
def dkwX0_refused_0 : List UInt8 := [42, 180, 0, 63, 43, 180, 0, 107, 116, 92, 46, 4, 96, 79, 43, 180, 0, 107, 172]
abbrev dktX0_refused_0 : List UInt8 := dkwX0_refused_0 ++ []
theorem dksX0_refused_0 : cX0_refused.data.toList.drop 0 = dktX0_refused_0 := by decide +kernel
theorem dX0_refused_0 : decode cX0_refused 0 = .ok (.aload_n 0, 1) := dk_42 (dk_at dksX0_refused_0 0 rfl rfl)
theorem dX0_refused_1 : decode cX0_refused 1 = .ok (.getfield 63, 3) := dk_180 0 63 (dk_at dksX0_refused_0 1 rfl rfl)
theorem dX0_refused_4 : decode cX0_refused 4 = .ok (.aload_n 1, 1) := dk_43 (dk_at dksX0_refused_0 4 rfl rfl)
theorem dX0_refused_5 : decode cX0_refused 5 = .ok (.getfield 107, 3) := dk_180 0 107 (dk_at dksX0_refused_0 5 rfl rfl)
theorem dX0_refused_8 : decode cX0_refused 8 = .ok (.ineg, 1) := dk_116 (dk_at dksX0_refused_0 8 rfl rfl)
theorem dX0_refused_9 : decode cX0_refused 9 = .ok (.dup2, 1) := dk_92 (dk_at dksX0_refused_0 9 rfl rfl)
theorem dX0_refused_10 : decode cX0_refused 10 = .ok (.iaload, 1) := dk_46 (dk_at dksX0_refused_0 10 rfl rfl)
theorem dX0_refused_11 : decode cX0_refused 11 = .ok (.iconst 1, 1) := dk_4 (dk_at dksX0_refused_0 11 rfl rfl)
theorem dX0_refused_12 : decode cX0_refused 12 = .ok (.iadd, 1) := dk_96 (dk_at dksX0_refused_0 12 rfl rfl)
theorem dX0_refused_13 : decode cX0_refused 13 = .ok (.iastore, 1) := dk_79 (dk_at dksX0_refused_0 13 rfl rfl)
theorem dX0_refused_14 : decode cX0_refused 14 = .ok (.aload_n 1, 1) := dk_43 (dk_at dksX0_refused_0 14 rfl rfl)
theorem dX0_refused_15 : decode cX0_refused 15 = .ok (.getfield 107, 3) := dk_180 0 107 (dk_at dksX0_refused_0 15 rfl rfl)
theorem dX0_refused_18 : decode cX0_refused 18 = .ok (.ireturn, 1) := dk_172 (dk_at dksX0_refused_0 18 rfl rfl)
abbrev cX0_set : ByteArray := prog_1_method_14_code
def yX0_set : MethodName := ⟨RX0, "set", "(IIJ)I"⟩
def dkwX0_set_1 : List UInt8 := [187, 0, 21, 89, 16, 251, 183, 0, 23, 191, 4, 172, 58, 5, 42, 25, 5, 182, 0, 165, 172]
abbrev dktX0_set_1 : List UInt8 := dkwX0_set_1 ++ []
def dkwX0_set_0 : List UInt8 := [42, 27, 182, 0, 151, 182, 0, 169, 58, 5, 25, 5, 28, 33, 182, 0, 172, 167, 0, 15, 58, 6]
abbrev dktX0_set_0 : List UInt8 := dkwX0_set_0 ++ dktX0_set_1
theorem dksX0_set_0 : cX0_set.data.toList.drop 0 = dktX0_set_0 := by decide +kernel
theorem dksX0_set_1 : cX0_set.data.toList.drop 22 = dktX0_set_1 := dk_seg dksX0_set_0 22 rfl rfl
theorem dX0_set_0 : decode cX0_set 0 = .ok (.aload_n 0, 1) := dk_42 (dk_at dksX0_set_0 0 rfl rfl)
theorem dX0_set_1 : decode cX0_set 1 = .ok (.iload_n 1, 1) := dk_27 (dk_at dksX0_set_0 1 rfl rfl)
theorem dX0_set_2 : decode cX0_set 2 = .ok (.invokevirtual 151, 3) := dk_182 0 151 (dk_at dksX0_set_0 2 rfl rfl)
theorem dX0_set_5 : decode cX0_set 5 = .ok (.invokevirtual 169, 3) := dk_182 0 169 (dk_at dksX0_set_0 5 rfl rfl)
theorem dX0_set_8 : decode cX0_set 8 = .ok (.astore 5, 2) := dk_58 5 (dk_at dksX0_set_0 8 rfl rfl)
theorem dX0_set_10 : decode cX0_set 10 = .ok (.aload 5, 2) := dk_25 5 (dk_at dksX0_set_0 10 rfl rfl)
theorem dX0_set_12 : decode cX0_set 12 = .ok (.iload_n 2, 1) := dk_28 (dk_at dksX0_set_0 12 rfl rfl)
theorem dX0_set_13 : decode cX0_set 13 = .ok (.lload_n 3, 1) := dk_33 (dk_at dksX0_set_0 13 rfl rfl)
theorem dX0_set_14 : decode cX0_set 14 = .ok (.invokevirtual 172, 3) := dk_182 0 172 (dk_at dksX0_set_0 14 rfl rfl)
theorem dX0_set_17 : decode cX0_set 17 = .ok (.goto 15, 3) := dk_167 0 15 (dk_at dksX0_set_0 17 rfl rfl)
theorem dX0_set_20 : decode cX0_set 20 = .ok (.astore 6, 2) := dk_58 6 (dk_at dksX0_set_0 20 rfl rfl)
theorem dX0_set_22 : decode cX0_set 22 = .ok (.new 21, 3) := dk_187 0 21 (dk_at dksX0_set_1 0 rfl rfl)
theorem dX0_set_25 : decode cX0_set 25 = .ok (.dup, 1) := dk_89 (dk_at dksX0_set_1 3 rfl rfl)
theorem dX0_set_26 : decode cX0_set 26 = .ok (.bipush (-5), 2) := dk_16 251 (dk_at dksX0_set_1 4 rfl rfl)
theorem dX0_set_28 : decode cX0_set 28 = .ok (.invokespecial 23, 3) := dk_183 0 23 (dk_at dksX0_set_1 6 rfl rfl)
theorem dX0_set_31 : decode cX0_set 31 = .ok (.athrow, 1) := dk_191 (dk_at dksX0_set_1 9 rfl rfl)
theorem dX0_set_32 : decode cX0_set 32 = .ok (.iconst 1, 1) := dk_4 (dk_at dksX0_set_1 10 rfl rfl)
theorem dX0_set_33 : decode cX0_set 33 = .ok (.ireturn, 1) := dk_172 (dk_at dksX0_set_1 11 rfl rfl)
theorem dX0_set_34 : decode cX0_set 34 = .ok (.astore 5, 2) := dk_58 5 (dk_at dksX0_set_1 12 rfl rfl)
theorem dX0_set_36 : decode cX0_set 36 = .ok (.aload_n 0, 1) := dk_42 (dk_at dksX0_set_1 14 rfl rfl)
theorem dX0_set_37 : decode cX0_set 37 = .ok (.aload 5, 2) := dk_25 5 (dk_at dksX0_set_1 15 rfl rfl)
theorem dX0_set_39 : decode cX0_set 39 = .ok (.invokevirtual 165, 3) := dk_182 0 165 (dk_at dksX0_set_1 17 rfl rfl)
theorem dX0_set_42 : decode cX0_set 42 = .ok (.ireturn, 1) := dk_172 (dk_at dksX0_set_1 20 rfl rfl)
abbrev cX0_copy : ByteArray := prog_1_method_15_code
def yX0_copy : MethodName := ⟨RX0, "copy", "(IIIII)I"⟩
def dkwX0_copy_6 : List UInt8 := [89, 16, 251, 183, 0, 23, 191, 4, 172, 58, 6, 42, 25, 6, 182, 0, 165, 172]
abbrev dktX0_copy_6 : List UInt8 := dkwX0_copy_6 ++ []
def dkwX0_copy_5 : List UInt8 := [182, 0, 7, 29, 25, 9, 182, 0, 7, 21, 4, 21, 5, 184, 0, 15, 167, 0, 15, 58, 10, 187, 0, 21]
abbrev dktX0_copy_5 : List UInt8 := dkwX0_copy_5 ++ dktX0_copy_6
def dkwX0_copy_4 : List UInt8 := [182, 0, 169, 58, 9, 21, 5, 155, 0, 7, 4, 167, 0, 4, 3, 16, 252, 184, 0, 116, 25, 8]
abbrev dktX0_copy_4 : List UInt8 := dkwX0_copy_4 ++ dktX0_copy_5
def dkwX0_copy_3 : List UInt8 := [160, 0, 7, 4, 167, 0, 4, 3, 16, 254, 184, 0, 116, 25, 6, 182, 0, 169, 58, 8, 25, 7]
abbrev dktX0_copy_3 : List UInt8 := dkwX0_copy_3 ++ dktX0_copy_4
def dkwX0_copy_2 : List UInt8 := [25, 7, 180, 0, 127, 198, 0, 32, 25, 6, 182, 0, 169, 182, 0, 176, 25, 7, 182, 0, 169, 182, 0, 176]
abbrev dktX0_copy_2 : List UInt8 := dkwX0_copy_2 ++ dktX0_copy_3
def dkwX0_copy_1 : List UInt8 := [182, 0, 123, 154, 0, 7, 4, 167, 0, 4, 3, 16, 254, 184, 0, 116, 25, 6, 180, 0, 127, 198, 0, 40]
abbrev dktX0_copy_1 : List UInt8 := dkwX0_copy_1 ++ dktX0_copy_2
def dkwX0_copy_0 : List UInt8 := [42, 27, 182, 0, 151, 58, 6, 42, 28, 182, 0, 151, 58, 7, 25, 6, 182, 0, 123, 154, 0, 15, 25, 7]
abbrev dktX0_copy_0 : List UInt8 := dkwX0_copy_0 ++ dktX0_copy_1
theorem dksX0_copy_0 : cX0_copy.data.toList.drop 0 = dktX0_copy_0 := by decide +kernel
theorem dksX0_copy_1 : cX0_copy.data.toList.drop 24 = dktX0_copy_1 := dk_seg dksX0_copy_0 24 rfl rfl
theorem dksX0_copy_2 : cX0_copy.data.toList.drop 48 = dktX0_copy_2 := dk_seg dksX0_copy_1 24 rfl rfl
theorem dksX0_copy_3 : cX0_copy.data.toList.drop 72 = dktX0_copy_3 := dk_seg dksX0_copy_2 24 rfl rfl
theorem dksX0_copy_4 : cX0_copy.data.toList.drop 94 = dktX0_copy_4 := dk_seg dksX0_copy_3 22 rfl rfl
theorem dksX0_copy_5 : cX0_copy.data.toList.drop 116 = dktX0_copy_5 := dk_seg dksX0_copy_4 22 rfl rfl
theorem dksX0_copy_6 : cX0_copy.data.toList.drop 140 = dktX0_copy_6 := dk_seg dksX0_copy_5 24 rfl rfl
theorem dX0_copy_0 : decode cX0_copy 0 = .ok (.aload_n 0, 1) := dk_42 (dk_at dksX0_copy_0 0 rfl rfl)
theorem dX0_copy_1 : decode cX0_copy 1 = .ok (.iload_n 1, 1) := dk_27 (dk_at dksX0_copy_0 1 rfl rfl)
theorem dX0_copy_2 : decode cX0_copy 2 = .ok (.invokevirtual 151, 3) := dk_182 0 151 (dk_at dksX0_copy_0 2 rfl rfl)
theorem dX0_copy_5 : decode cX0_copy 5 = .ok (.astore 6, 2) := dk_58 6 (dk_at dksX0_copy_0 5 rfl rfl)
theorem dX0_copy_7 : decode cX0_copy 7 = .ok (.aload_n 0, 1) := dk_42 (dk_at dksX0_copy_0 7 rfl rfl)
theorem dX0_copy_8 : decode cX0_copy 8 = .ok (.iload_n 2, 1) := dk_28 (dk_at dksX0_copy_0 8 rfl rfl)
theorem dX0_copy_9 : decode cX0_copy 9 = .ok (.invokevirtual 151, 3) := dk_182 0 151 (dk_at dksX0_copy_0 9 rfl rfl)
theorem dX0_copy_12 : decode cX0_copy 12 = .ok (.astore 7, 2) := dk_58 7 (dk_at dksX0_copy_0 12 rfl rfl)
theorem dX0_copy_14 : decode cX0_copy 14 = .ok (.aload 6, 2) := dk_25 6 (dk_at dksX0_copy_0 14 rfl rfl)
theorem dX0_copy_16 : decode cX0_copy 16 = .ok (.invokevirtual 123, 3) := dk_182 0 123 (dk_at dksX0_copy_0 16 rfl rfl)
theorem dX0_copy_19 : decode cX0_copy 19 = .ok (.ifCond .ne 15, 3) := dk_154 0 15 (dk_at dksX0_copy_0 19 rfl rfl)
theorem dX0_copy_22 : decode cX0_copy 22 = .ok (.aload 7, 2) := dk_25 7 (dk_at dksX0_copy_0 22 rfl rfl)
theorem dX0_copy_24 : decode cX0_copy 24 = .ok (.invokevirtual 123, 3) := dk_182 0 123 (dk_at dksX0_copy_1 0 rfl rfl)
theorem dX0_copy_27 : decode cX0_copy 27 = .ok (.ifCond .ne 7, 3) := dk_154 0 7 (dk_at dksX0_copy_1 3 rfl rfl)
theorem dX0_copy_30 : decode cX0_copy 30 = .ok (.iconst 1, 1) := dk_4 (dk_at dksX0_copy_1 6 rfl rfl)
theorem dX0_copy_31 : decode cX0_copy 31 = .ok (.goto 4, 3) := dk_167 0 4 (dk_at dksX0_copy_1 7 rfl rfl)
theorem dX0_copy_34 : decode cX0_copy 34 = .ok (.iconst 0, 1) := dk_3 (dk_at dksX0_copy_1 10 rfl rfl)
theorem dX0_copy_35 : decode cX0_copy 35 = .ok (.bipush (-2), 2) := dk_16 254 (dk_at dksX0_copy_1 11 rfl rfl)
theorem dX0_copy_37 : decode cX0_copy 37 = .ok (.invokestatic 116, 3) := dk_184 0 116 (dk_at dksX0_copy_1 13 rfl rfl)
theorem dX0_copy_40 : decode cX0_copy 40 = .ok (.aload 6, 2) := dk_25 6 (dk_at dksX0_copy_1 16 rfl rfl)
theorem dX0_copy_42 : decode cX0_copy 42 = .ok (.getfield 127, 3) := dk_180 0 127 (dk_at dksX0_copy_1 18 rfl rfl)
theorem dX0_copy_45 : decode cX0_copy 45 = .ok (.ifnull 40, 3) := dk_198 0 40 (dk_at dksX0_copy_1 21 rfl rfl)
theorem dX0_copy_48 : decode cX0_copy 48 = .ok (.aload 7, 2) := dk_25 7 (dk_at dksX0_copy_2 0 rfl rfl)
theorem dX0_copy_50 : decode cX0_copy 50 = .ok (.getfield 127, 3) := dk_180 0 127 (dk_at dksX0_copy_2 2 rfl rfl)
theorem dX0_copy_53 : decode cX0_copy 53 = .ok (.ifnull 32, 3) := dk_198 0 32 (dk_at dksX0_copy_2 5 rfl rfl)
theorem dX0_copy_56 : decode cX0_copy 56 = .ok (.aload 6, 2) := dk_25 6 (dk_at dksX0_copy_2 8 rfl rfl)
theorem dX0_copy_58 : decode cX0_copy 58 = .ok (.invokevirtual 169, 3) := dk_182 0 169 (dk_at dksX0_copy_2 10 rfl rfl)
theorem dX0_copy_61 : decode cX0_copy 61 = .ok (.invokevirtual 176, 3) := dk_182 0 176 (dk_at dksX0_copy_2 13 rfl rfl)
theorem dX0_copy_64 : decode cX0_copy 64 = .ok (.aload 7, 2) := dk_25 7 (dk_at dksX0_copy_2 16 rfl rfl)
theorem dX0_copy_66 : decode cX0_copy 66 = .ok (.invokevirtual 169, 3) := dk_182 0 169 (dk_at dksX0_copy_2 18 rfl rfl)
theorem dX0_copy_69 : decode cX0_copy 69 = .ok (.invokevirtual 176, 3) := dk_182 0 176 (dk_at dksX0_copy_2 21 rfl rfl)
theorem dX0_copy_72 : decode cX0_copy 72 = .ok (.if_icmp .ne 7, 3) := dk_160 0 7 (dk_at dksX0_copy_3 0 rfl rfl)
theorem dX0_copy_75 : decode cX0_copy 75 = .ok (.iconst 1, 1) := dk_4 (dk_at dksX0_copy_3 3 rfl rfl)
theorem dX0_copy_76 : decode cX0_copy 76 = .ok (.goto 4, 3) := dk_167 0 4 (dk_at dksX0_copy_3 4 rfl rfl)
theorem dX0_copy_79 : decode cX0_copy 79 = .ok (.iconst 0, 1) := dk_3 (dk_at dksX0_copy_3 7 rfl rfl)
theorem dX0_copy_80 : decode cX0_copy 80 = .ok (.bipush (-2), 2) := dk_16 254 (dk_at dksX0_copy_3 8 rfl rfl)
theorem dX0_copy_82 : decode cX0_copy 82 = .ok (.invokestatic 116, 3) := dk_184 0 116 (dk_at dksX0_copy_3 10 rfl rfl)
theorem dX0_copy_85 : decode cX0_copy 85 = .ok (.aload 6, 2) := dk_25 6 (dk_at dksX0_copy_3 13 rfl rfl)
theorem dX0_copy_87 : decode cX0_copy 87 = .ok (.invokevirtual 169, 3) := dk_182 0 169 (dk_at dksX0_copy_3 15 rfl rfl)
theorem dX0_copy_90 : decode cX0_copy 90 = .ok (.astore 8, 2) := dk_58 8 (dk_at dksX0_copy_3 18 rfl rfl)
theorem dX0_copy_92 : decode cX0_copy 92 = .ok (.aload 7, 2) := dk_25 7 (dk_at dksX0_copy_3 20 rfl rfl)
theorem dX0_copy_94 : decode cX0_copy 94 = .ok (.invokevirtual 169, 3) := dk_182 0 169 (dk_at dksX0_copy_4 0 rfl rfl)
theorem dX0_copy_97 : decode cX0_copy 97 = .ok (.astore 9, 2) := dk_58 9 (dk_at dksX0_copy_4 3 rfl rfl)
theorem dX0_copy_99 : decode cX0_copy 99 = .ok (.iload 5, 2) := dk_21 5 (dk_at dksX0_copy_4 5 rfl rfl)
theorem dX0_copy_101 : decode cX0_copy 101 = .ok (.ifCond .lt 7, 3) := dk_155 0 7 (dk_at dksX0_copy_4 7 rfl rfl)
theorem dX0_copy_104 : decode cX0_copy 104 = .ok (.iconst 1, 1) := dk_4 (dk_at dksX0_copy_4 10 rfl rfl)
theorem dX0_copy_105 : decode cX0_copy 105 = .ok (.goto 4, 3) := dk_167 0 4 (dk_at dksX0_copy_4 11 rfl rfl)
theorem dX0_copy_108 : decode cX0_copy 108 = .ok (.iconst 0, 1) := dk_3 (dk_at dksX0_copy_4 14 rfl rfl)
theorem dX0_copy_109 : decode cX0_copy 109 = .ok (.bipush (-4), 2) := dk_16 252 (dk_at dksX0_copy_4 15 rfl rfl)
theorem dX0_copy_111 : decode cX0_copy 111 = .ok (.invokestatic 116, 3) := dk_184 0 116 (dk_at dksX0_copy_4 17 rfl rfl)
theorem dX0_copy_114 : decode cX0_copy 114 = .ok (.aload 8, 2) := dk_25 8 (dk_at dksX0_copy_4 20 rfl rfl)
theorem dX0_copy_116 : decode cX0_copy 116 = .ok (.invokevirtual 7, 3) := dk_182 0 7 (dk_at dksX0_copy_5 0 rfl rfl)
theorem dX0_copy_119 : decode cX0_copy 119 = .ok (.iload_n 3, 1) := dk_29 (dk_at dksX0_copy_5 3 rfl rfl)
theorem dX0_copy_120 : decode cX0_copy 120 = .ok (.aload 9, 2) := dk_25 9 (dk_at dksX0_copy_5 4 rfl rfl)
theorem dX0_copy_122 : decode cX0_copy 122 = .ok (.invokevirtual 7, 3) := dk_182 0 7 (dk_at dksX0_copy_5 6 rfl rfl)
theorem dX0_copy_125 : decode cX0_copy 125 = .ok (.iload 4, 2) := dk_21 4 (dk_at dksX0_copy_5 9 rfl rfl)
theorem dX0_copy_127 : decode cX0_copy 127 = .ok (.iload 5, 2) := dk_21 5 (dk_at dksX0_copy_5 11 rfl rfl)
theorem dX0_copy_129 : decode cX0_copy 129 = .ok (.invokestatic 15, 3) := dk_184 0 15 (dk_at dksX0_copy_5 13 rfl rfl)
theorem dX0_copy_132 : decode cX0_copy 132 = .ok (.goto 15, 3) := dk_167 0 15 (dk_at dksX0_copy_5 16 rfl rfl)
theorem dX0_copy_135 : decode cX0_copy 135 = .ok (.astore 10, 2) := dk_58 10 (dk_at dksX0_copy_5 19 rfl rfl)
theorem dX0_copy_137 : decode cX0_copy 137 = .ok (.new 21, 3) := dk_187 0 21 (dk_at dksX0_copy_5 21 rfl rfl)
theorem dX0_copy_140 : decode cX0_copy 140 = .ok (.dup, 1) := dk_89 (dk_at dksX0_copy_6 0 rfl rfl)
theorem dX0_copy_141 : decode cX0_copy 141 = .ok (.bipush (-5), 2) := dk_16 251 (dk_at dksX0_copy_6 1 rfl rfl)
theorem dX0_copy_143 : decode cX0_copy 143 = .ok (.invokespecial 23, 3) := dk_183 0 23 (dk_at dksX0_copy_6 3 rfl rfl)
theorem dX0_copy_146 : decode cX0_copy 146 = .ok (.athrow, 1) := dk_191 (dk_at dksX0_copy_6 6 rfl rfl)
theorem dX0_copy_147 : decode cX0_copy 147 = .ok (.iconst 1, 1) := dk_4 (dk_at dksX0_copy_6 7 rfl rfl)
theorem dX0_copy_148 : decode cX0_copy 148 = .ok (.ireturn, 1) := dk_172 (dk_at dksX0_copy_6 8 rfl rfl)
theorem dX0_copy_149 : decode cX0_copy 149 = .ok (.astore 6, 2) := dk_58 6 (dk_at dksX0_copy_6 9 rfl rfl)
theorem dX0_copy_151 : decode cX0_copy 151 = .ok (.aload_n 0, 1) := dk_42 (dk_at dksX0_copy_6 11 rfl rfl)
theorem dX0_copy_152 : decode cX0_copy 152 = .ok (.aload 6, 2) := dk_25 6 (dk_at dksX0_copy_6 12 rfl rfl)
theorem dX0_copy_154 : decode cX0_copy 154 = .ok (.invokevirtual 165, 3) := dk_182 0 165 (dk_at dksX0_copy_6 14 rfl rfl)
theorem dX0_copy_157 : decode cX0_copy 157 = .ok (.ireturn, 1) := dk_172 (dk_at dksX0_copy_6 17 rfl rfl)
abbrev cX0_element : ByteArray := prog_1_method_16_code
def yX0_element : MethodName := ⟨RX0, "element", "(II)J"⟩
def dkwX0_element_0 : List UInt8 := [42, 27, 182, 0, 151, 182, 0, 169, 28, 182, 0, 181, 173, 78, 9, 173, 78, 9, 173]
abbrev dktX0_element_0 : List UInt8 := dkwX0_element_0 ++ []
theorem dksX0_element_0 : cX0_element.data.toList.drop 0 = dktX0_element_0 := by decide +kernel
theorem dX0_element_0 : decode cX0_element 0 = .ok (.aload_n 0, 1) := dk_42 (dk_at dksX0_element_0 0 rfl rfl)
theorem dX0_element_1 : decode cX0_element 1 = .ok (.iload_n 1, 1) := dk_27 (dk_at dksX0_element_0 1 rfl rfl)
theorem dX0_element_2 : decode cX0_element 2 = .ok (.invokevirtual 151, 3) := dk_182 0 151 (dk_at dksX0_element_0 2 rfl rfl)
theorem dX0_element_5 : decode cX0_element 5 = .ok (.invokevirtual 169, 3) := dk_182 0 169 (dk_at dksX0_element_0 5 rfl rfl)
theorem dX0_element_8 : decode cX0_element 8 = .ok (.iload_n 2, 1) := dk_28 (dk_at dksX0_element_0 8 rfl rfl)
theorem dX0_element_9 : decode cX0_element 9 = .ok (.invokevirtual 181, 3) := dk_182 0 181 (dk_at dksX0_element_0 9 rfl rfl)
theorem dX0_element_12 : decode cX0_element 12 = .ok (.lreturn, 1) := dk_173 (dk_at dksX0_element_0 12 rfl rfl)
theorem dX0_element_13 : decode cX0_element 13 = .ok (.astore_n 3, 1) := dk_78 (dk_at dksX0_element_0 13 rfl rfl)
theorem dX0_element_14 : decode cX0_element 14 = .ok (.lconst 0, 1) := dk_9 (dk_at dksX0_element_0 14 rfl rfl)
theorem dX0_element_15 : decode cX0_element 15 = .ok (.lreturn, 1) := dk_173 (dk_at dksX0_element_0 15 rfl rfl)
theorem dX0_element_16 : decode cX0_element 16 = .ok (.astore_n 3, 1) := dk_78 (dk_at dksX0_element_0 16 rfl rfl)
theorem dX0_element_17 : decode cX0_element 17 = .ok (.lconst 0, 1) := dk_9 (dk_at dksX0_element_0 17 rfl rfl)
theorem dX0_element_18 : decode cX0_element 18 = .ok (.lreturn, 1) := dk_173 (dk_at dksX0_element_0 18 rfl rfl)
abbrev cX0_show : ByteArray := prog_1_method_17_code
def yX0_show : MethodName := ⟨RX0, "show", "(II)I"⟩
def dkwX0_show_1 : List UInt8 := [42, 180, 0, 99, 180, 0, 133, 28, 50, 181, 0, 127, 4, 172, 78, 42, 45, 182, 0, 165, 172]
abbrev dktX0_show_1 : List UInt8 := dkwX0_show_1 ++ []
def dkwX0_show_0 : List UInt8 := [42, 27, 182, 0, 151, 78, 28, 2, 160, 0, 10, 45, 1, 181, 0, 127, 3, 172, 42, 28, 182, 0, 185, 45]
abbrev dktX0_show_0 : List UInt8 := dkwX0_show_0 ++ dktX0_show_1
theorem dksX0_show_0 : cX0_show.data.toList.drop 0 = dktX0_show_0 := by decide +kernel
theorem dksX0_show_1 : cX0_show.data.toList.drop 24 = dktX0_show_1 := dk_seg dksX0_show_0 24 rfl rfl
theorem dX0_show_0 : decode cX0_show 0 = .ok (.aload_n 0, 1) := dk_42 (dk_at dksX0_show_0 0 rfl rfl)
theorem dX0_show_1 : decode cX0_show 1 = .ok (.iload_n 1, 1) := dk_27 (dk_at dksX0_show_0 1 rfl rfl)
theorem dX0_show_2 : decode cX0_show 2 = .ok (.invokevirtual 151, 3) := dk_182 0 151 (dk_at dksX0_show_0 2 rfl rfl)
theorem dX0_show_5 : decode cX0_show 5 = .ok (.astore_n 3, 1) := dk_78 (dk_at dksX0_show_0 5 rfl rfl)
theorem dX0_show_6 : decode cX0_show 6 = .ok (.iload_n 2, 1) := dk_28 (dk_at dksX0_show_0 6 rfl rfl)
theorem dX0_show_7 : decode cX0_show 7 = .ok (.iconst (-1), 1) := dk_2 (dk_at dksX0_show_0 7 rfl rfl)
theorem dX0_show_8 : decode cX0_show 8 = .ok (.if_icmp .ne 10, 3) := dk_160 0 10 (dk_at dksX0_show_0 8 rfl rfl)
theorem dX0_show_11 : decode cX0_show 11 = .ok (.aload_n 3, 1) := dk_45 (dk_at dksX0_show_0 11 rfl rfl)
theorem dX0_show_12 : decode cX0_show 12 = .ok (.aconst_null, 1) := dk_1 (dk_at dksX0_show_0 12 rfl rfl)
theorem dX0_show_13 : decode cX0_show 13 = .ok (.putfield 127, 3) := dk_181 0 127 (dk_at dksX0_show_0 13 rfl rfl)
theorem dX0_show_16 : decode cX0_show 16 = .ok (.iconst 0, 1) := dk_3 (dk_at dksX0_show_0 16 rfl rfl)
theorem dX0_show_17 : decode cX0_show 17 = .ok (.ireturn, 1) := dk_172 (dk_at dksX0_show_0 17 rfl rfl)
theorem dX0_show_18 : decode cX0_show 18 = .ok (.aload_n 0, 1) := dk_42 (dk_at dksX0_show_0 18 rfl rfl)
theorem dX0_show_19 : decode cX0_show 19 = .ok (.iload_n 2, 1) := dk_28 (dk_at dksX0_show_0 19 rfl rfl)
theorem dX0_show_20 : decode cX0_show 20 = .ok (.invokevirtual 185, 3) := dk_182 0 185 (dk_at dksX0_show_0 20 rfl rfl)
theorem dX0_show_23 : decode cX0_show 23 = .ok (.aload_n 3, 1) := dk_45 (dk_at dksX0_show_0 23 rfl rfl)
theorem dX0_show_24 : decode cX0_show 24 = .ok (.aload_n 0, 1) := dk_42 (dk_at dksX0_show_1 0 rfl rfl)
theorem dX0_show_25 : decode cX0_show 25 = .ok (.getfield 99, 3) := dk_180 0 99 (dk_at dksX0_show_1 1 rfl rfl)
theorem dX0_show_28 : decode cX0_show 28 = .ok (.getfield 133, 3) := dk_180 0 133 (dk_at dksX0_show_1 4 rfl rfl)
theorem dX0_show_31 : decode cX0_show 31 = .ok (.iload_n 2, 1) := dk_28 (dk_at dksX0_show_1 7 rfl rfl)
theorem dX0_show_32 : decode cX0_show 32 = .ok (.aaload, 1) := dk_50 (dk_at dksX0_show_1 8 rfl rfl)
theorem dX0_show_33 : decode cX0_show 33 = .ok (.putfield 127, 3) := dk_181 0 127 (dk_at dksX0_show_1 9 rfl rfl)
theorem dX0_show_36 : decode cX0_show 36 = .ok (.iconst 1, 1) := dk_4 (dk_at dksX0_show_1 12 rfl rfl)
theorem dX0_show_37 : decode cX0_show 37 = .ok (.ireturn, 1) := dk_172 (dk_at dksX0_show_1 13 rfl rfl)
theorem dX0_show_38 : decode cX0_show 38 = .ok (.astore_n 3, 1) := dk_78 (dk_at dksX0_show_1 14 rfl rfl)
theorem dX0_show_39 : decode cX0_show 39 = .ok (.aload_n 0, 1) := dk_42 (dk_at dksX0_show_1 15 rfl rfl)
theorem dX0_show_40 : decode cX0_show 40 = .ok (.aload_n 3, 1) := dk_45 (dk_at dksX0_show_1 16 rfl rfl)
theorem dX0_show_41 : decode cX0_show 41 = .ok (.invokevirtual 165, 3) := dk_182 0 165 (dk_at dksX0_show_1 17 rfl rfl)
theorem dX0_show_44 : decode cX0_show 44 = .ok (.ireturn, 1) := dk_172 (dk_at dksX0_show_1 20 rfl rfl)
abbrev cX0_mustChild : ByteArray := prog_1_method_9_code
def yX0_mustChild : MethodName := ⟨RX0, "mustChild", "(I)V"⟩
def dkwX0_mustChild_0 : List UInt8 := [42, 180, 0, 99, 27, 182, 0, 112, 2, 184, 0, 116, 177]
abbrev dktX0_mustChild_0 : List UInt8 := dkwX0_mustChild_0 ++ []
theorem dksX0_mustChild_0 : cX0_mustChild.data.toList.drop 0 = dktX0_mustChild_0 := by decide +kernel
theorem dX0_mustChild_0 : decode cX0_mustChild 0 = .ok (.aload_n 0, 1) := dk_42 (dk_at dksX0_mustChild_0 0 rfl rfl)
theorem dX0_mustChild_1 : decode cX0_mustChild 1 = .ok (.getfield 99, 3) := dk_180 0 99 (dk_at dksX0_mustChild_0 1 rfl rfl)
theorem dX0_mustChild_4 : decode cX0_mustChild 4 = .ok (.iload_n 1, 1) := dk_27 (dk_at dksX0_mustChild_0 4 rfl rfl)
theorem dX0_mustChild_5 : decode cX0_mustChild 5 = .ok (.invokevirtual 112, 3) := dk_182 0 112 (dk_at dksX0_mustChild_0 5 rfl rfl)
theorem dX0_mustChild_8 : decode cX0_mustChild 8 = .ok (.iconst (-1), 1) := dk_2 (dk_at dksX0_mustChild_0 8 rfl rfl)
theorem dX0_mustChild_9 : decode cX0_mustChild 9 = .ok (.invokestatic 116, 3) := dk_184 0 116 (dk_at dksX0_mustChild_0 9 rfl rfl)
theorem dX0_mustChild_12 : decode cX0_mustChild 12 = .ok (.return_, 1) := dk_177 (dk_at dksX0_mustChild_0 12 rfl rfl)
abbrev cX0_holds : ByteArray := prog_1_method_18_code
def yX0_holds : MethodName := ⟨RX0, "holds", "(I)I"⟩
def dkwX0_holds_2 : List UInt8 := [167, 0, 13, 16, 100, 44, 192, 0, 2, 182, 0, 176, 96, 172]
abbrev dktX0_holds_2 : List UInt8 := dkwX0_holds_2 ++ []
def dkwX0_holds_1 : List UInt8 := [42, 180, 0, 59, 27, 50, 180, 0, 127, 77, 44, 193, 0, 47, 153, 0, 13, 44, 192, 0, 47, 180, 0, 130]
abbrev dktX0_holds_1 : List UInt8 := dkwX0_holds_1 ++ dktX0_holds_2
def dkwX0_holds_0 : List UInt8 := [27, 155, 0, 21, 27, 16, 8, 162, 0, 15, 42, 180, 0, 59, 27, 50, 180, 0, 127, 199, 0, 5, 2, 172]
abbrev dktX0_holds_0 : List UInt8 := dkwX0_holds_0 ++ dktX0_holds_1
theorem dksX0_holds_0 : cX0_holds.data.toList.drop 0 = dktX0_holds_0 := by decide +kernel
theorem dksX0_holds_1 : cX0_holds.data.toList.drop 24 = dktX0_holds_1 := dk_seg dksX0_holds_0 24 rfl rfl
theorem dksX0_holds_2 : cX0_holds.data.toList.drop 48 = dktX0_holds_2 := dk_seg dksX0_holds_1 24 rfl rfl
theorem dX0_holds_0 : decode cX0_holds 0 = .ok (.iload_n 1, 1) := dk_27 (dk_at dksX0_holds_0 0 rfl rfl)
theorem dX0_holds_1 : decode cX0_holds 1 = .ok (.ifCond .lt 21, 3) := dk_155 0 21 (dk_at dksX0_holds_0 1 rfl rfl)
theorem dX0_holds_4 : decode cX0_holds 4 = .ok (.iload_n 1, 1) := dk_27 (dk_at dksX0_holds_0 4 rfl rfl)
theorem dX0_holds_5 : decode cX0_holds 5 = .ok (.bipush 8, 2) := dk_16 8 (dk_at dksX0_holds_0 5 rfl rfl)
theorem dX0_holds_7 : decode cX0_holds 7 = .ok (.if_icmp .ge 15, 3) := dk_162 0 15 (dk_at dksX0_holds_0 7 rfl rfl)
theorem dX0_holds_10 : decode cX0_holds 10 = .ok (.aload_n 0, 1) := dk_42 (dk_at dksX0_holds_0 10 rfl rfl)
theorem dX0_holds_11 : decode cX0_holds 11 = .ok (.getfield 59, 3) := dk_180 0 59 (dk_at dksX0_holds_0 11 rfl rfl)
theorem dX0_holds_14 : decode cX0_holds 14 = .ok (.iload_n 1, 1) := dk_27 (dk_at dksX0_holds_0 14 rfl rfl)
theorem dX0_holds_15 : decode cX0_holds 15 = .ok (.aaload, 1) := dk_50 (dk_at dksX0_holds_0 15 rfl rfl)
theorem dX0_holds_16 : decode cX0_holds 16 = .ok (.getfield 127, 3) := dk_180 0 127 (dk_at dksX0_holds_0 16 rfl rfl)
theorem dX0_holds_19 : decode cX0_holds 19 = .ok (.ifnonnull 5, 3) := dk_199 0 5 (dk_at dksX0_holds_0 19 rfl rfl)
theorem dX0_holds_22 : decode cX0_holds 22 = .ok (.iconst (-1), 1) := dk_2 (dk_at dksX0_holds_0 22 rfl rfl)
theorem dX0_holds_23 : decode cX0_holds 23 = .ok (.ireturn, 1) := dk_172 (dk_at dksX0_holds_0 23 rfl rfl)
theorem dX0_holds_24 : decode cX0_holds 24 = .ok (.aload_n 0, 1) := dk_42 (dk_at dksX0_holds_1 0 rfl rfl)
theorem dX0_holds_25 : decode cX0_holds 25 = .ok (.getfield 59, 3) := dk_180 0 59 (dk_at dksX0_holds_1 1 rfl rfl)
theorem dX0_holds_28 : decode cX0_holds 28 = .ok (.iload_n 1, 1) := dk_27 (dk_at dksX0_holds_1 4 rfl rfl)
theorem dX0_holds_29 : decode cX0_holds 29 = .ok (.aaload, 1) := dk_50 (dk_at dksX0_holds_1 5 rfl rfl)
theorem dX0_holds_30 : decode cX0_holds 30 = .ok (.getfield 127, 3) := dk_180 0 127 (dk_at dksX0_holds_1 6 rfl rfl)
theorem dX0_holds_33 : decode cX0_holds 33 = .ok (.astore_n 2, 1) := dk_77 (dk_at dksX0_holds_1 9 rfl rfl)
theorem dX0_holds_34 : decode cX0_holds 34 = .ok (.aload_n 2, 1) := dk_44 (dk_at dksX0_holds_1 10 rfl rfl)
theorem dX0_holds_35 : decode cX0_holds 35 = .ok (.instanceof 47, 3) := dk_193 0 47 (dk_at dksX0_holds_1 11 rfl rfl)
theorem dX0_holds_38 : decode cX0_holds 38 = .ok (.ifCond .eq 13, 3) := dk_153 0 13 (dk_at dksX0_holds_1 14 rfl rfl)
theorem dX0_holds_41 : decode cX0_holds 41 = .ok (.aload_n 2, 1) := dk_44 (dk_at dksX0_holds_1 17 rfl rfl)
theorem dX0_holds_42 : decode cX0_holds 42 = .ok (.checkcast 47, 3) := dk_192 0 47 (dk_at dksX0_holds_1 18 rfl rfl)
theorem dX0_holds_45 : decode cX0_holds 45 = .ok (.getfield 130, 3) := dk_180 0 130 (dk_at dksX0_holds_1 21 rfl rfl)
theorem dX0_holds_48 : decode cX0_holds 48 = .ok (.goto 13, 3) := dk_167 0 13 (dk_at dksX0_holds_2 0 rfl rfl)
theorem dX0_holds_51 : decode cX0_holds 51 = .ok (.bipush 100, 2) := dk_16 100 (dk_at dksX0_holds_2 3 rfl rfl)
theorem dX0_holds_53 : decode cX0_holds 53 = .ok (.aload_n 2, 1) := dk_44 (dk_at dksX0_holds_2 5 rfl rfl)
theorem dX0_holds_54 : decode cX0_holds 54 = .ok (.checkcast 2, 3) := dk_192 0 2 (dk_at dksX0_holds_2 6 rfl rfl)
theorem dX0_holds_57 : decode cX0_holds 57 = .ok (.invokevirtual 176, 3) := dk_182 0 176 (dk_at dksX0_holds_2 9 rfl rfl)
theorem dX0_holds_60 : decode cX0_holds 60 = .ok (.iadd, 1) := dk_96 (dk_at dksX0_holds_2 12 rfl rfl)
theorem dX0_holds_61 : decode cX0_holds 61 = .ok (.ireturn, 1) := dk_172 (dk_at dksX0_holds_2 13 rfl rfl)
abbrev cX0_says : ByteArray := prog_1_method_19_code
def yX0_says : MethodName := ⟨RX0, "says", "(II)I"⟩
def dkwX0_says_1 : List UInt8 := [180, 0, 99, 182, 0, 190, 172, 78, 42, 45, 182, 0, 165, 172]
abbrev dktX0_says_1 : List UInt8 := dkwX0_says_1 ++ []
def dkwX0_says_0 : List UInt8 := [42, 27, 182, 0, 151, 78, 28, 133, 9, 20, 0, 188, 184, 0, 157, 2, 184, 0, 116, 45, 28, 42]
abbrev dktX0_says_0 : List UInt8 := dkwX0_says_0 ++ dktX0_says_1
theorem dksX0_says_0 : cX0_says.data.toList.drop 0 = dktX0_says_0 := by decide +kernel
theorem dksX0_says_1 : cX0_says.data.toList.drop 22 = dktX0_says_1 := dk_seg dksX0_says_0 22 rfl rfl
theorem dX0_says_0 : decode cX0_says 0 = .ok (.aload_n 0, 1) := dk_42 (dk_at dksX0_says_0 0 rfl rfl)
theorem dX0_says_1 : decode cX0_says 1 = .ok (.iload_n 1, 1) := dk_27 (dk_at dksX0_says_0 1 rfl rfl)
theorem dX0_says_2 : decode cX0_says 2 = .ok (.invokevirtual 151, 3) := dk_182 0 151 (dk_at dksX0_says_0 2 rfl rfl)
theorem dX0_says_5 : decode cX0_says 5 = .ok (.astore_n 3, 1) := dk_78 (dk_at dksX0_says_0 5 rfl rfl)
theorem dX0_says_6 : decode cX0_says 6 = .ok (.iload_n 2, 1) := dk_28 (dk_at dksX0_says_0 6 rfl rfl)
theorem dX0_says_7 : decode cX0_says 7 = .ok (.i2l, 1) := dk_133 (dk_at dksX0_says_0 7 rfl rfl)
theorem dX0_says_8 : decode cX0_says 8 = .ok (.lconst 0, 1) := dk_9 (dk_at dksX0_says_0 8 rfl rfl)
theorem dX0_says_9 : decode cX0_says 9 = .ok (.ldc2_w 188, 3) := dk_20 0 188 (dk_at dksX0_says_0 9 rfl rfl)
theorem dX0_says_12 : decode cX0_says 12 = .ok (.invokestatic 157, 3) := dk_184 0 157 (dk_at dksX0_says_0 12 rfl rfl)
theorem dX0_says_15 : decode cX0_says 15 = .ok (.iconst (-1), 1) := dk_2 (dk_at dksX0_says_0 15 rfl rfl)
theorem dX0_says_16 : decode cX0_says 16 = .ok (.invokestatic 116, 3) := dk_184 0 116 (dk_at dksX0_says_0 16 rfl rfl)
theorem dX0_says_19 : decode cX0_says 19 = .ok (.aload_n 3, 1) := dk_45 (dk_at dksX0_says_0 19 rfl rfl)
theorem dX0_says_20 : decode cX0_says 20 = .ok (.iload_n 2, 1) := dk_28 (dk_at dksX0_says_0 20 rfl rfl)
theorem dX0_says_21 : decode cX0_says 21 = .ok (.aload_n 0, 1) := dk_42 (dk_at dksX0_says_0 21 rfl rfl)
theorem dX0_says_22 : decode cX0_says 22 = .ok (.getfield 99, 3) := dk_180 0 99 (dk_at dksX0_says_1 0 rfl rfl)
theorem dX0_says_25 : decode cX0_says 25 = .ok (.invokevirtual 190, 3) := dk_182 0 190 (dk_at dksX0_says_1 3 rfl rfl)
theorem dX0_says_28 : decode cX0_says 28 = .ok (.ireturn, 1) := dk_172 (dk_at dksX0_says_1 6 rfl rfl)
theorem dX0_says_29 : decode cX0_says 29 = .ok (.astore_n 3, 1) := dk_78 (dk_at dksX0_says_1 7 rfl rfl)
theorem dX0_says_30 : decode cX0_says 30 = .ok (.aload_n 0, 1) := dk_42 (dk_at dksX0_says_1 8 rfl rfl)
theorem dX0_says_31 : decode cX0_says 31 = .ok (.aload_n 3, 1) := dk_45 (dk_at dksX0_says_1 9 rfl rfl)
theorem dX0_says_32 : decode cX0_says 32 = .ok (.invokevirtual 165, 3) := dk_182 0 165 (dk_at dksX0_says_1 10 rfl rfl)
theorem dX0_says_35 : decode cX0_says 35 = .ok (.ireturn, 1) := dk_172 (dk_at dksX0_says_1 13 rfl rfl)
abbrev cX0_child : ByteArray := prog_1_method_20_code
def yX0_child : MethodName := ⟨RX0, "child", "(III)I"⟩
def dkwX0_child_4 : List UInt8 := [58, 4, 42, 25, 4, 182, 0, 165, 172]
abbrev dktX0_child_4 : List UInt8 := dkwX0_child_4 ++ []
def dkwX0_child_3 : List UInt8 := [184, 0, 116, 42, 180, 0, 99, 27, 28, 29, 182, 0, 196, 42, 180, 0, 99, 180, 0, 120, 4, 100, 172]
abbrev dktX0_child_3 : List UInt8 := dkwX0_child_3 ++ dktX0_child_4
def dkwX0_child_2 : List UInt8 := [184, 0, 116, 42, 180, 0, 99, 180, 0, 120, 16, 8, 162, 0, 7, 4, 167, 0, 4, 3, 16, 249]
abbrev dktX0_child_2 : List UInt8 := dkwX0_child_2 ++ dktX0_child_3
def dkwX0_child_1 : List UInt8 := [153, 0, 19, 29, 133, 10, 20, 0, 194, 184, 0, 157, 153, 0, 7, 4, 167, 0, 4, 3, 16, 250]
abbrev dktX0_child_1 : List UInt8 := dkwX0_child_1 ++ dktX0_child_2
def dkwX0_child_0 : List UInt8 := [27, 133, 9, 20, 0, 188, 184, 0, 157, 2, 184, 0, 116, 28, 133, 9, 20, 0, 194, 184, 0, 157]
abbrev dktX0_child_0 : List UInt8 := dkwX0_child_0 ++ dktX0_child_1
theorem dksX0_child_0 : cX0_child.data.toList.drop 0 = dktX0_child_0 := by decide +kernel
theorem dksX0_child_1 : cX0_child.data.toList.drop 22 = dktX0_child_1 := dk_seg dksX0_child_0 22 rfl rfl
theorem dksX0_child_2 : cX0_child.data.toList.drop 44 = dktX0_child_2 := dk_seg dksX0_child_1 22 rfl rfl
theorem dksX0_child_3 : cX0_child.data.toList.drop 66 = dktX0_child_3 := dk_seg dksX0_child_2 22 rfl rfl
theorem dksX0_child_4 : cX0_child.data.toList.drop 89 = dktX0_child_4 := dk_seg dksX0_child_3 23 rfl rfl
theorem dX0_child_0 : decode cX0_child 0 = .ok (.iload_n 1, 1) := dk_27 (dk_at dksX0_child_0 0 rfl rfl)
theorem dX0_child_1 : decode cX0_child 1 = .ok (.i2l, 1) := dk_133 (dk_at dksX0_child_0 1 rfl rfl)
theorem dX0_child_2 : decode cX0_child 2 = .ok (.lconst 0, 1) := dk_9 (dk_at dksX0_child_0 2 rfl rfl)
theorem dX0_child_3 : decode cX0_child 3 = .ok (.ldc2_w 188, 3) := dk_20 0 188 (dk_at dksX0_child_0 3 rfl rfl)
theorem dX0_child_6 : decode cX0_child 6 = .ok (.invokestatic 157, 3) := dk_184 0 157 (dk_at dksX0_child_0 6 rfl rfl)
theorem dX0_child_9 : decode cX0_child 9 = .ok (.iconst (-1), 1) := dk_2 (dk_at dksX0_child_0 9 rfl rfl)
theorem dX0_child_10 : decode cX0_child 10 = .ok (.invokestatic 116, 3) := dk_184 0 116 (dk_at dksX0_child_0 10 rfl rfl)
theorem dX0_child_13 : decode cX0_child 13 = .ok (.iload_n 2, 1) := dk_28 (dk_at dksX0_child_0 13 rfl rfl)
theorem dX0_child_14 : decode cX0_child 14 = .ok (.i2l, 1) := dk_133 (dk_at dksX0_child_0 14 rfl rfl)
theorem dX0_child_15 : decode cX0_child 15 = .ok (.lconst 0, 1) := dk_9 (dk_at dksX0_child_0 15 rfl rfl)
theorem dX0_child_16 : decode cX0_child 16 = .ok (.ldc2_w 194, 3) := dk_20 0 194 (dk_at dksX0_child_0 16 rfl rfl)
theorem dX0_child_19 : decode cX0_child 19 = .ok (.invokestatic 157, 3) := dk_184 0 157 (dk_at dksX0_child_0 19 rfl rfl)
theorem dX0_child_22 : decode cX0_child 22 = .ok (.ifCond .eq 19, 3) := dk_153 0 19 (dk_at dksX0_child_1 0 rfl rfl)
theorem dX0_child_25 : decode cX0_child 25 = .ok (.iload_n 3, 1) := dk_29 (dk_at dksX0_child_1 3 rfl rfl)
theorem dX0_child_26 : decode cX0_child 26 = .ok (.i2l, 1) := dk_133 (dk_at dksX0_child_1 4 rfl rfl)
theorem dX0_child_27 : decode cX0_child 27 = .ok (.lconst 1, 1) := dk_10 (dk_at dksX0_child_1 5 rfl rfl)
theorem dX0_child_28 : decode cX0_child 28 = .ok (.ldc2_w 194, 3) := dk_20 0 194 (dk_at dksX0_child_1 6 rfl rfl)
theorem dX0_child_31 : decode cX0_child 31 = .ok (.invokestatic 157, 3) := dk_184 0 157 (dk_at dksX0_child_1 9 rfl rfl)
theorem dX0_child_34 : decode cX0_child 34 = .ok (.ifCond .eq 7, 3) := dk_153 0 7 (dk_at dksX0_child_1 12 rfl rfl)
theorem dX0_child_37 : decode cX0_child 37 = .ok (.iconst 1, 1) := dk_4 (dk_at dksX0_child_1 15 rfl rfl)
theorem dX0_child_38 : decode cX0_child 38 = .ok (.goto 4, 3) := dk_167 0 4 (dk_at dksX0_child_1 16 rfl rfl)
theorem dX0_child_41 : decode cX0_child 41 = .ok (.iconst 0, 1) := dk_3 (dk_at dksX0_child_1 19 rfl rfl)
theorem dX0_child_42 : decode cX0_child 42 = .ok (.bipush (-6), 2) := dk_16 250 (dk_at dksX0_child_1 20 rfl rfl)
theorem dX0_child_44 : decode cX0_child 44 = .ok (.invokestatic 116, 3) := dk_184 0 116 (dk_at dksX0_child_2 0 rfl rfl)
theorem dX0_child_47 : decode cX0_child 47 = .ok (.aload_n 0, 1) := dk_42 (dk_at dksX0_child_2 3 rfl rfl)
theorem dX0_child_48 : decode cX0_child 48 = .ok (.getfield 99, 3) := dk_180 0 99 (dk_at dksX0_child_2 4 rfl rfl)
theorem dX0_child_51 : decode cX0_child 51 = .ok (.getfield 120, 3) := dk_180 0 120 (dk_at dksX0_child_2 7 rfl rfl)
theorem dX0_child_54 : decode cX0_child 54 = .ok (.bipush 8, 2) := dk_16 8 (dk_at dksX0_child_2 10 rfl rfl)
theorem dX0_child_56 : decode cX0_child 56 = .ok (.if_icmp .ge 7, 3) := dk_162 0 7 (dk_at dksX0_child_2 12 rfl rfl)
theorem dX0_child_59 : decode cX0_child 59 = .ok (.iconst 1, 1) := dk_4 (dk_at dksX0_child_2 15 rfl rfl)
theorem dX0_child_60 : decode cX0_child 60 = .ok (.goto 4, 3) := dk_167 0 4 (dk_at dksX0_child_2 16 rfl rfl)
theorem dX0_child_63 : decode cX0_child 63 = .ok (.iconst 0, 1) := dk_3 (dk_at dksX0_child_2 19 rfl rfl)
theorem dX0_child_64 : decode cX0_child 64 = .ok (.bipush (-7), 2) := dk_16 249 (dk_at dksX0_child_2 20 rfl rfl)
theorem dX0_child_66 : decode cX0_child 66 = .ok (.invokestatic 116, 3) := dk_184 0 116 (dk_at dksX0_child_3 0 rfl rfl)
theorem dX0_child_69 : decode cX0_child 69 = .ok (.aload_n 0, 1) := dk_42 (dk_at dksX0_child_3 3 rfl rfl)
theorem dX0_child_70 : decode cX0_child 70 = .ok (.getfield 99, 3) := dk_180 0 99 (dk_at dksX0_child_3 4 rfl rfl)
theorem dX0_child_73 : decode cX0_child 73 = .ok (.iload_n 1, 1) := dk_27 (dk_at dksX0_child_3 7 rfl rfl)
theorem dX0_child_74 : decode cX0_child 74 = .ok (.iload_n 2, 1) := dk_28 (dk_at dksX0_child_3 8 rfl rfl)
theorem dX0_child_75 : decode cX0_child 75 = .ok (.iload_n 3, 1) := dk_29 (dk_at dksX0_child_3 9 rfl rfl)
theorem dX0_child_76 : decode cX0_child 76 = .ok (.invokevirtual 196, 3) := dk_182 0 196 (dk_at dksX0_child_3 10 rfl rfl)
theorem dX0_child_79 : decode cX0_child 79 = .ok (.aload_n 0, 1) := dk_42 (dk_at dksX0_child_3 13 rfl rfl)
theorem dX0_child_80 : decode cX0_child 80 = .ok (.getfield 99, 3) := dk_180 0 99 (dk_at dksX0_child_3 14 rfl rfl)
theorem dX0_child_83 : decode cX0_child 83 = .ok (.getfield 120, 3) := dk_180 0 120 (dk_at dksX0_child_3 17 rfl rfl)
theorem dX0_child_86 : decode cX0_child 86 = .ok (.iconst 1, 1) := dk_4 (dk_at dksX0_child_3 20 rfl rfl)
theorem dX0_child_87 : decode cX0_child 87 = .ok (.isub, 1) := dk_100 (dk_at dksX0_child_3 21 rfl rfl)
theorem dX0_child_88 : decode cX0_child 88 = .ok (.ireturn, 1) := dk_172 (dk_at dksX0_child_3 22 rfl rfl)
theorem dX0_child_89 : decode cX0_child 89 = .ok (.astore 4, 2) := dk_58 4 (dk_at dksX0_child_4 0 rfl rfl)
theorem dX0_child_91 : decode cX0_child 91 = .ok (.aload_n 0, 1) := dk_42 (dk_at dksX0_child_4 2 rfl rfl)
theorem dX0_child_92 : decode cX0_child 92 = .ok (.aload 4, 2) := dk_25 4 (dk_at dksX0_child_4 3 rfl rfl)
theorem dX0_child_94 : decode cX0_child 94 = .ok (.invokevirtual 165, 3) := dk_182 0 165 (dk_at dksX0_child_4 5 rfl rfl)
theorem dX0_child_97 : decode cX0_child 97 = .ok (.ireturn, 1) := dk_172 (dk_at dksX0_child_4 8 rfl rfl)
abbrev cX0_hopperOfKind : ByteArray := prog_1_method_4_code
def yX0_hopperOfKind : MethodName := ⟨RX0, "hopperOfKind", "(III)LInASackToTheRope$Hopper;"⟩
def dkwX0_hopperOfKind_4 : List UInt8 := [183, 0, 43, 176, 187, 0, 44, 89, 27, 28, 183, 0, 46, 176, 187, 0, 47, 89, 27, 28, 183, 0, 49, 176]
abbrev dktX0_hopperOfKind_4 : List UInt8 := dkwX0_hopperOfKind_4 ++ []
def dkwX0_hopperOfKind_3 : List UInt8 := [27, 28, 183, 0, 37, 176, 187, 0, 38, 89, 27, 28, 183, 0, 40, 176, 187, 0, 41, 89, 27, 28]
abbrev dktX0_hopperOfKind_3 : List UInt8 := dkwX0_hopperOfKind_3 ++ dktX0_hopperOfKind_4
def dkwX0_hopperOfKind_2 : List UInt8 := [187, 0, 27, 89, 27, 28, 183, 0, 29, 176, 187, 0, 32, 89, 27, 28, 183, 0, 34, 176, 187, 0, 35, 89]
abbrev dktX0_hopperOfKind_2 : List UInt8 := dkwX0_hopperOfKind_2 ++ dktX0_hopperOfKind_3
def dkwX0_hopperOfKind_1 : List UInt8 := [170, 0, 0, 0, 0, 0, 99, 0, 0, 0, 1, 0, 0, 0, 6, 0, 0, 0, 39, 0, 0, 0, 49, 0, 0, 0, 59, 0, 0, 0, 69, 0, 0, 0, 79, 0, 0, 0, 89]
abbrev dktX0_hopperOfKind_1 : List UInt8 := dkwX0_hopperOfKind_1 ++ dktX0_hopperOfKind_2
def dkwX0_hopperOfKind_0 : List UInt8 := [26]
abbrev dktX0_hopperOfKind_0 : List UInt8 := dkwX0_hopperOfKind_0 ++ dktX0_hopperOfKind_1
theorem dksX0_hopperOfKind_0 : cX0_hopperOfKind.data.toList.drop 0 = dktX0_hopperOfKind_0 := by decide +kernel
theorem dksX0_hopperOfKind_1 : cX0_hopperOfKind.data.toList.drop 1 = dktX0_hopperOfKind_1 := dk_seg dksX0_hopperOfKind_0 1 rfl rfl
theorem dksX0_hopperOfKind_2 : cX0_hopperOfKind.data.toList.drop 40 = dktX0_hopperOfKind_2 := dk_seg dksX0_hopperOfKind_1 39 rfl rfl
theorem dksX0_hopperOfKind_3 : cX0_hopperOfKind.data.toList.drop 64 = dktX0_hopperOfKind_3 := dk_seg dksX0_hopperOfKind_2 24 rfl rfl
theorem dksX0_hopperOfKind_4 : cX0_hopperOfKind.data.toList.drop 86 = dktX0_hopperOfKind_4 := dk_seg dksX0_hopperOfKind_3 22 rfl rfl
theorem dX0_hopperOfKind_0 : decode cX0_hopperOfKind 0 = .ok (.iload_n 0, 1) := dk_26 (dk_at dksX0_hopperOfKind_0 0 rfl rfl)
theorem dX0_hopperOfKind_1 : decode cX0_hopperOfKind 1 = .ok (.tableswitch 99 1 6 #[39, 49, 59, 69, 79, 89], 39) := by decide +kernel
theorem dX0_hopperOfKind_40 : decode cX0_hopperOfKind 40 = .ok (.new 27, 3) := dk_187 0 27 (dk_at dksX0_hopperOfKind_2 0 rfl rfl)
theorem dX0_hopperOfKind_43 : decode cX0_hopperOfKind 43 = .ok (.dup, 1) := dk_89 (dk_at dksX0_hopperOfKind_2 3 rfl rfl)
theorem dX0_hopperOfKind_44 : decode cX0_hopperOfKind 44 = .ok (.iload_n 1, 1) := dk_27 (dk_at dksX0_hopperOfKind_2 4 rfl rfl)
theorem dX0_hopperOfKind_45 : decode cX0_hopperOfKind 45 = .ok (.iload_n 2, 1) := dk_28 (dk_at dksX0_hopperOfKind_2 5 rfl rfl)
theorem dX0_hopperOfKind_46 : decode cX0_hopperOfKind 46 = .ok (.invokespecial 29, 3) := dk_183 0 29 (dk_at dksX0_hopperOfKind_2 6 rfl rfl)
theorem dX0_hopperOfKind_49 : decode cX0_hopperOfKind 49 = .ok (.areturn, 1) := dk_176 (dk_at dksX0_hopperOfKind_2 9 rfl rfl)
theorem dX0_hopperOfKind_50 : decode cX0_hopperOfKind 50 = .ok (.new 32, 3) := dk_187 0 32 (dk_at dksX0_hopperOfKind_2 10 rfl rfl)
theorem dX0_hopperOfKind_53 : decode cX0_hopperOfKind 53 = .ok (.dup, 1) := dk_89 (dk_at dksX0_hopperOfKind_2 13 rfl rfl)
theorem dX0_hopperOfKind_54 : decode cX0_hopperOfKind 54 = .ok (.iload_n 1, 1) := dk_27 (dk_at dksX0_hopperOfKind_2 14 rfl rfl)
theorem dX0_hopperOfKind_55 : decode cX0_hopperOfKind 55 = .ok (.iload_n 2, 1) := dk_28 (dk_at dksX0_hopperOfKind_2 15 rfl rfl)
theorem dX0_hopperOfKind_56 : decode cX0_hopperOfKind 56 = .ok (.invokespecial 34, 3) := dk_183 0 34 (dk_at dksX0_hopperOfKind_2 16 rfl rfl)
theorem dX0_hopperOfKind_59 : decode cX0_hopperOfKind 59 = .ok (.areturn, 1) := dk_176 (dk_at dksX0_hopperOfKind_2 19 rfl rfl)
theorem dX0_hopperOfKind_60 : decode cX0_hopperOfKind 60 = .ok (.new 35, 3) := dk_187 0 35 (dk_at dksX0_hopperOfKind_2 20 rfl rfl)
theorem dX0_hopperOfKind_63 : decode cX0_hopperOfKind 63 = .ok (.dup, 1) := dk_89 (dk_at dksX0_hopperOfKind_2 23 rfl rfl)
theorem dX0_hopperOfKind_64 : decode cX0_hopperOfKind 64 = .ok (.iload_n 1, 1) := dk_27 (dk_at dksX0_hopperOfKind_3 0 rfl rfl)
theorem dX0_hopperOfKind_65 : decode cX0_hopperOfKind 65 = .ok (.iload_n 2, 1) := dk_28 (dk_at dksX0_hopperOfKind_3 1 rfl rfl)
theorem dX0_hopperOfKind_66 : decode cX0_hopperOfKind 66 = .ok (.invokespecial 37, 3) := dk_183 0 37 (dk_at dksX0_hopperOfKind_3 2 rfl rfl)
theorem dX0_hopperOfKind_69 : decode cX0_hopperOfKind 69 = .ok (.areturn, 1) := dk_176 (dk_at dksX0_hopperOfKind_3 5 rfl rfl)
theorem dX0_hopperOfKind_70 : decode cX0_hopperOfKind 70 = .ok (.new 38, 3) := dk_187 0 38 (dk_at dksX0_hopperOfKind_3 6 rfl rfl)
theorem dX0_hopperOfKind_73 : decode cX0_hopperOfKind 73 = .ok (.dup, 1) := dk_89 (dk_at dksX0_hopperOfKind_3 9 rfl rfl)
theorem dX0_hopperOfKind_74 : decode cX0_hopperOfKind 74 = .ok (.iload_n 1, 1) := dk_27 (dk_at dksX0_hopperOfKind_3 10 rfl rfl)
theorem dX0_hopperOfKind_75 : decode cX0_hopperOfKind 75 = .ok (.iload_n 2, 1) := dk_28 (dk_at dksX0_hopperOfKind_3 11 rfl rfl)
theorem dX0_hopperOfKind_76 : decode cX0_hopperOfKind 76 = .ok (.invokespecial 40, 3) := dk_183 0 40 (dk_at dksX0_hopperOfKind_3 12 rfl rfl)
theorem dX0_hopperOfKind_79 : decode cX0_hopperOfKind 79 = .ok (.areturn, 1) := dk_176 (dk_at dksX0_hopperOfKind_3 15 rfl rfl)
theorem dX0_hopperOfKind_80 : decode cX0_hopperOfKind 80 = .ok (.new 41, 3) := dk_187 0 41 (dk_at dksX0_hopperOfKind_3 16 rfl rfl)
theorem dX0_hopperOfKind_83 : decode cX0_hopperOfKind 83 = .ok (.dup, 1) := dk_89 (dk_at dksX0_hopperOfKind_3 19 rfl rfl)
theorem dX0_hopperOfKind_84 : decode cX0_hopperOfKind 84 = .ok (.iload_n 1, 1) := dk_27 (dk_at dksX0_hopperOfKind_3 20 rfl rfl)
theorem dX0_hopperOfKind_85 : decode cX0_hopperOfKind 85 = .ok (.iload_n 2, 1) := dk_28 (dk_at dksX0_hopperOfKind_3 21 rfl rfl)
theorem dX0_hopperOfKind_86 : decode cX0_hopperOfKind 86 = .ok (.invokespecial 43, 3) := dk_183 0 43 (dk_at dksX0_hopperOfKind_4 0 rfl rfl)
theorem dX0_hopperOfKind_89 : decode cX0_hopperOfKind 89 = .ok (.areturn, 1) := dk_176 (dk_at dksX0_hopperOfKind_4 3 rfl rfl)
theorem dX0_hopperOfKind_90 : decode cX0_hopperOfKind 90 = .ok (.new 44, 3) := dk_187 0 44 (dk_at dksX0_hopperOfKind_4 4 rfl rfl)
theorem dX0_hopperOfKind_93 : decode cX0_hopperOfKind 93 = .ok (.dup, 1) := dk_89 (dk_at dksX0_hopperOfKind_4 7 rfl rfl)
theorem dX0_hopperOfKind_94 : decode cX0_hopperOfKind 94 = .ok (.iload_n 1, 1) := dk_27 (dk_at dksX0_hopperOfKind_4 8 rfl rfl)
theorem dX0_hopperOfKind_95 : decode cX0_hopperOfKind 95 = .ok (.iload_n 2, 1) := dk_28 (dk_at dksX0_hopperOfKind_4 9 rfl rfl)
theorem dX0_hopperOfKind_96 : decode cX0_hopperOfKind 96 = .ok (.invokespecial 46, 3) := dk_183 0 46 (dk_at dksX0_hopperOfKind_4 10 rfl rfl)
theorem dX0_hopperOfKind_99 : decode cX0_hopperOfKind 99 = .ok (.areturn, 1) := dk_176 (dk_at dksX0_hopperOfKind_4 13 rfl rfl)
theorem dX0_hopperOfKind_100 : decode cX0_hopperOfKind 100 = .ok (.new 47, 3) := dk_187 0 47 (dk_at dksX0_hopperOfKind_4 14 rfl rfl)
theorem dX0_hopperOfKind_103 : decode cX0_hopperOfKind 103 = .ok (.dup, 1) := dk_89 (dk_at dksX0_hopperOfKind_4 17 rfl rfl)
theorem dX0_hopperOfKind_104 : decode cX0_hopperOfKind 104 = .ok (.iload_n 1, 1) := dk_27 (dk_at dksX0_hopperOfKind_4 18 rfl rfl)
theorem dX0_hopperOfKind_105 : decode cX0_hopperOfKind 105 = .ok (.iload_n 2, 1) := dk_28 (dk_at dksX0_hopperOfKind_4 19 rfl rfl)
theorem dX0_hopperOfKind_106 : decode cX0_hopperOfKind 106 = .ok (.invokespecial 49, 3) := dk_183 0 49 (dk_at dksX0_hopperOfKind_4 20 rfl rfl)
theorem dX0_hopperOfKind_109 : decode cX0_hopperOfKind 109 = .ok (.areturn, 1) := dk_176 (dk_at dksX0_hopperOfKind_4 23 rfl rfl)
abbrev cX0_sack : ByteArray := prog_1_method_21_code
def yX0_sack : MethodName := ⟨RX0, "sack", "(II)I"⟩
def dkwX0_sack_3 : List UInt8 := [180, 0, 200, 4, 100, 172, 78, 42, 45, 182, 0, 165, 172]
abbrev dktX0_sack_3 : List UInt8 := dkwX0_sack_3 ++ []
def dkwX0_sack_2 : List UInt8 := [167, 0, 4, 3, 16, 249, 184, 0, 116, 42, 180, 0, 99, 27, 28, 182, 0, 203, 42, 180, 0, 99]
abbrev dktX0_sack_2 : List UInt8 := dkwX0_sack_2 ++ dktX0_sack_3
def dkwX0_sack_1 : List UInt8 := [4, 167, 0, 4, 3, 16, 250, 184, 0, 116, 42, 180, 0, 99, 180, 0, 200, 16, 8, 162, 0, 7, 4]
abbrev dktX0_sack_1 : List UInt8 := dkwX0_sack_1 ++ dktX0_sack_2
def dkwX0_sack_0 : List UInt8 := [27, 133, 10, 20, 0, 194, 184, 0, 157, 153, 0, 19, 28, 133, 9, 20, 0, 194, 184, 0, 157, 153, 0, 7]
abbrev dktX0_sack_0 : List UInt8 := dkwX0_sack_0 ++ dktX0_sack_1
theorem dksX0_sack_0 : cX0_sack.data.toList.drop 0 = dktX0_sack_0 := by decide +kernel
theorem dksX0_sack_1 : cX0_sack.data.toList.drop 24 = dktX0_sack_1 := dk_seg dksX0_sack_0 24 rfl rfl
theorem dksX0_sack_2 : cX0_sack.data.toList.drop 47 = dktX0_sack_2 := dk_seg dksX0_sack_1 23 rfl rfl
theorem dksX0_sack_3 : cX0_sack.data.toList.drop 69 = dktX0_sack_3 := dk_seg dksX0_sack_2 22 rfl rfl
theorem dX0_sack_0 : decode cX0_sack 0 = .ok (.iload_n 1, 1) := dk_27 (dk_at dksX0_sack_0 0 rfl rfl)
theorem dX0_sack_1 : decode cX0_sack 1 = .ok (.i2l, 1) := dk_133 (dk_at dksX0_sack_0 1 rfl rfl)
theorem dX0_sack_2 : decode cX0_sack 2 = .ok (.lconst 1, 1) := dk_10 (dk_at dksX0_sack_0 2 rfl rfl)
theorem dX0_sack_3 : decode cX0_sack 3 = .ok (.ldc2_w 194, 3) := dk_20 0 194 (dk_at dksX0_sack_0 3 rfl rfl)
theorem dX0_sack_6 : decode cX0_sack 6 = .ok (.invokestatic 157, 3) := dk_184 0 157 (dk_at dksX0_sack_0 6 rfl rfl)
theorem dX0_sack_9 : decode cX0_sack 9 = .ok (.ifCond .eq 19, 3) := dk_153 0 19 (dk_at dksX0_sack_0 9 rfl rfl)
theorem dX0_sack_12 : decode cX0_sack 12 = .ok (.iload_n 2, 1) := dk_28 (dk_at dksX0_sack_0 12 rfl rfl)
theorem dX0_sack_13 : decode cX0_sack 13 = .ok (.i2l, 1) := dk_133 (dk_at dksX0_sack_0 13 rfl rfl)
theorem dX0_sack_14 : decode cX0_sack 14 = .ok (.lconst 0, 1) := dk_9 (dk_at dksX0_sack_0 14 rfl rfl)
theorem dX0_sack_15 : decode cX0_sack 15 = .ok (.ldc2_w 194, 3) := dk_20 0 194 (dk_at dksX0_sack_0 15 rfl rfl)
theorem dX0_sack_18 : decode cX0_sack 18 = .ok (.invokestatic 157, 3) := dk_184 0 157 (dk_at dksX0_sack_0 18 rfl rfl)
theorem dX0_sack_21 : decode cX0_sack 21 = .ok (.ifCond .eq 7, 3) := dk_153 0 7 (dk_at dksX0_sack_0 21 rfl rfl)
theorem dX0_sack_24 : decode cX0_sack 24 = .ok (.iconst 1, 1) := dk_4 (dk_at dksX0_sack_1 0 rfl rfl)
theorem dX0_sack_25 : decode cX0_sack 25 = .ok (.goto 4, 3) := dk_167 0 4 (dk_at dksX0_sack_1 1 rfl rfl)
theorem dX0_sack_28 : decode cX0_sack 28 = .ok (.iconst 0, 1) := dk_3 (dk_at dksX0_sack_1 4 rfl rfl)
theorem dX0_sack_29 : decode cX0_sack 29 = .ok (.bipush (-6), 2) := dk_16 250 (dk_at dksX0_sack_1 5 rfl rfl)
theorem dX0_sack_31 : decode cX0_sack 31 = .ok (.invokestatic 116, 3) := dk_184 0 116 (dk_at dksX0_sack_1 7 rfl rfl)
theorem dX0_sack_34 : decode cX0_sack 34 = .ok (.aload_n 0, 1) := dk_42 (dk_at dksX0_sack_1 10 rfl rfl)
theorem dX0_sack_35 : decode cX0_sack 35 = .ok (.getfield 99, 3) := dk_180 0 99 (dk_at dksX0_sack_1 11 rfl rfl)
theorem dX0_sack_38 : decode cX0_sack 38 = .ok (.getfield 200, 3) := dk_180 0 200 (dk_at dksX0_sack_1 14 rfl rfl)
theorem dX0_sack_41 : decode cX0_sack 41 = .ok (.bipush 8, 2) := dk_16 8 (dk_at dksX0_sack_1 17 rfl rfl)
theorem dX0_sack_43 : decode cX0_sack 43 = .ok (.if_icmp .ge 7, 3) := dk_162 0 7 (dk_at dksX0_sack_1 19 rfl rfl)
theorem dX0_sack_46 : decode cX0_sack 46 = .ok (.iconst 1, 1) := dk_4 (dk_at dksX0_sack_1 22 rfl rfl)
theorem dX0_sack_47 : decode cX0_sack 47 = .ok (.goto 4, 3) := dk_167 0 4 (dk_at dksX0_sack_2 0 rfl rfl)
theorem dX0_sack_50 : decode cX0_sack 50 = .ok (.iconst 0, 1) := dk_3 (dk_at dksX0_sack_2 3 rfl rfl)
theorem dX0_sack_51 : decode cX0_sack 51 = .ok (.bipush (-7), 2) := dk_16 249 (dk_at dksX0_sack_2 4 rfl rfl)
theorem dX0_sack_53 : decode cX0_sack 53 = .ok (.invokestatic 116, 3) := dk_184 0 116 (dk_at dksX0_sack_2 6 rfl rfl)
theorem dX0_sack_56 : decode cX0_sack 56 = .ok (.aload_n 0, 1) := dk_42 (dk_at dksX0_sack_2 9 rfl rfl)
theorem dX0_sack_57 : decode cX0_sack 57 = .ok (.getfield 99, 3) := dk_180 0 99 (dk_at dksX0_sack_2 10 rfl rfl)
theorem dX0_sack_60 : decode cX0_sack 60 = .ok (.iload_n 1, 1) := dk_27 (dk_at dksX0_sack_2 13 rfl rfl)
theorem dX0_sack_61 : decode cX0_sack 61 = .ok (.iload_n 2, 1) := dk_28 (dk_at dksX0_sack_2 14 rfl rfl)
theorem dX0_sack_62 : decode cX0_sack 62 = .ok (.invokevirtual 203, 3) := dk_182 0 203 (dk_at dksX0_sack_2 15 rfl rfl)
theorem dX0_sack_65 : decode cX0_sack 65 = .ok (.aload_n 0, 1) := dk_42 (dk_at dksX0_sack_2 18 rfl rfl)
theorem dX0_sack_66 : decode cX0_sack 66 = .ok (.getfield 99, 3) := dk_180 0 99 (dk_at dksX0_sack_2 19 rfl rfl)
theorem dX0_sack_69 : decode cX0_sack 69 = .ok (.getfield 200, 3) := dk_180 0 200 (dk_at dksX0_sack_3 0 rfl rfl)
theorem dX0_sack_72 : decode cX0_sack 72 = .ok (.iconst 1, 1) := dk_4 (dk_at dksX0_sack_3 3 rfl rfl)
theorem dX0_sack_73 : decode cX0_sack 73 = .ok (.isub, 1) := dk_100 (dk_at dksX0_sack_3 4 rfl rfl)
theorem dX0_sack_74 : decode cX0_sack 74 = .ok (.ireturn, 1) := dk_172 (dk_at dksX0_sack_3 5 rfl rfl)
theorem dX0_sack_75 : decode cX0_sack 75 = .ok (.astore_n 3, 1) := dk_78 (dk_at dksX0_sack_3 6 rfl rfl)
theorem dX0_sack_76 : decode cX0_sack 76 = .ok (.aload_n 0, 1) := dk_42 (dk_at dksX0_sack_3 7 rfl rfl)
theorem dX0_sack_77 : decode cX0_sack 77 = .ok (.aload_n 3, 1) := dk_45 (dk_at dksX0_sack_3 8 rfl rfl)
theorem dX0_sack_78 : decode cX0_sack 78 = .ok (.invokevirtual 165, 3) := dk_182 0 165 (dk_at dksX0_sack_3 9 rfl rfl)
theorem dX0_sack_81 : decode cX0_sack 81 = .ok (.ireturn, 1) := dk_172 (dk_at dksX0_sack_3 12 rfl rfl)
abbrev cX0_childOf : ByteArray := prog_1_method_22_code
def yX0_childOf : MethodName := ⟨RX0, "childOf", "(II)I"⟩
def dkwX0_childOf_6 : List UInt8 := [180, 0, 234, 27, 46, 172, 42, 182, 0, 206, 172]
abbrev dktX0_childOf_6 : List UInt8 := dkwX0_childOf_6 ++ []
def dkwX0_childOf_5 : List UInt8 := [180, 0, 133, 27, 50, 182, 0, 228, 172, 42, 180, 0, 99, 27, 182, 0, 231, 172, 42, 180, 0, 99]
abbrev dktX0_childOf_5 : List UInt8 := dkwX0_childOf_5 ++ dktX0_childOf_6
def dkwX0_childOf_4 : List UInt8 := [42, 180, 0, 99, 180, 0, 221, 27, 46, 172, 42, 180, 0, 99, 27, 182, 0, 224, 172, 42, 180, 0, 99]
abbrev dktX0_childOf_4 : List UInt8 := dkwX0_childOf_4 ++ dktX0_childOf_5
def dkwX0_childOf_3 : List UInt8 := [180, 0, 212, 172, 42, 180, 0, 99, 180, 0, 215, 27, 46, 172, 42, 180, 0, 99, 180, 0, 218, 27, 46, 172]
abbrev dktX0_childOf_3 : List UInt8 := dkwX0_childOf_3 ++ dktX0_childOf_4
def dkwX0_childOf_2 : List UInt8 := [42, 180, 0, 99, 180, 0, 133, 27, 50, 182, 0, 209, 172, 42, 180, 0, 99, 180, 0, 133, 27, 50]
abbrev dktX0_childOf_2 : List UInt8 := dkwX0_childOf_2 ++ dktX0_childOf_3
def dkwX0_childOf_1 : List UInt8 := [170, 0, 0, 0, 0, 0, 148, 0, 0, 0, 0, 0, 0, 0, 8, 0, 0, 0, 51, 0, 0, 0, 64, 0, 0, 0, 77, 0, 0, 0, 87, 0, 0, 0, 97, 0, 0, 0, 107, 0, 0, 0, 116, 0, 0, 0, 129, 0, 0, 0, 138]
abbrev dktX0_childOf_1 : List UInt8 := dkwX0_childOf_1 ++ dktX0_childOf_2
def dkwX0_childOf_0 : List UInt8 := [42, 180, 0, 99, 27, 182, 0, 112, 154, 0, 8, 42, 182, 0, 206, 172, 28]
abbrev dktX0_childOf_0 : List UInt8 := dkwX0_childOf_0 ++ dktX0_childOf_1
theorem dksX0_childOf_0 : cX0_childOf.data.toList.drop 0 = dktX0_childOf_0 := by decide +kernel
theorem dksX0_childOf_1 : cX0_childOf.data.toList.drop 17 = dktX0_childOf_1 := dk_seg dksX0_childOf_0 17 rfl rfl
theorem dksX0_childOf_2 : cX0_childOf.data.toList.drop 68 = dktX0_childOf_2 := dk_seg dksX0_childOf_1 51 rfl rfl
theorem dksX0_childOf_3 : cX0_childOf.data.toList.drop 90 = dktX0_childOf_3 := dk_seg dksX0_childOf_2 22 rfl rfl
theorem dksX0_childOf_4 : cX0_childOf.data.toList.drop 114 = dktX0_childOf_4 := dk_seg dksX0_childOf_3 24 rfl rfl
theorem dksX0_childOf_5 : cX0_childOf.data.toList.drop 137 = dktX0_childOf_5 := dk_seg dksX0_childOf_4 23 rfl rfl
theorem dksX0_childOf_6 : cX0_childOf.data.toList.drop 159 = dktX0_childOf_6 := dk_seg dksX0_childOf_5 22 rfl rfl
theorem dX0_childOf_0 : decode cX0_childOf 0 = .ok (.aload_n 0, 1) := dk_42 (dk_at dksX0_childOf_0 0 rfl rfl)
theorem dX0_childOf_1 : decode cX0_childOf 1 = .ok (.getfield 99, 3) := dk_180 0 99 (dk_at dksX0_childOf_0 1 rfl rfl)
theorem dX0_childOf_4 : decode cX0_childOf 4 = .ok (.iload_n 1, 1) := dk_27 (dk_at dksX0_childOf_0 4 rfl rfl)
theorem dX0_childOf_5 : decode cX0_childOf 5 = .ok (.invokevirtual 112, 3) := dk_182 0 112 (dk_at dksX0_childOf_0 5 rfl rfl)
theorem dX0_childOf_8 : decode cX0_childOf 8 = .ok (.ifCond .ne 8, 3) := dk_154 0 8 (dk_at dksX0_childOf_0 8 rfl rfl)
theorem dX0_childOf_11 : decode cX0_childOf 11 = .ok (.aload_n 0, 1) := dk_42 (dk_at dksX0_childOf_0 11 rfl rfl)
theorem dX0_childOf_12 : decode cX0_childOf 12 = .ok (.invokevirtual 206, 3) := dk_182 0 206 (dk_at dksX0_childOf_0 12 rfl rfl)
theorem dX0_childOf_15 : decode cX0_childOf 15 = .ok (.ireturn, 1) := dk_172 (dk_at dksX0_childOf_0 15 rfl rfl)
theorem dX0_childOf_16 : decode cX0_childOf 16 = .ok (.iload_n 2, 1) := dk_28 (dk_at dksX0_childOf_0 16 rfl rfl)
theorem dX0_childOf_17 : decode cX0_childOf 17 = .ok (.tableswitch 148 0 8 #[51, 64, 77, 87, 97, 107, 116, 129, 138], 51) := by decide +kernel
theorem dX0_childOf_68 : decode cX0_childOf 68 = .ok (.aload_n 0, 1) := dk_42 (dk_at dksX0_childOf_2 0 rfl rfl)
theorem dX0_childOf_69 : decode cX0_childOf 69 = .ok (.getfield 99, 3) := dk_180 0 99 (dk_at dksX0_childOf_2 1 rfl rfl)
theorem dX0_childOf_72 : decode cX0_childOf 72 = .ok (.getfield 133, 3) := dk_180 0 133 (dk_at dksX0_childOf_2 4 rfl rfl)
theorem dX0_childOf_75 : decode cX0_childOf 75 = .ok (.iload_n 1, 1) := dk_27 (dk_at dksX0_childOf_2 7 rfl rfl)
theorem dX0_childOf_76 : decode cX0_childOf 76 = .ok (.aaload, 1) := dk_50 (dk_at dksX0_childOf_2 8 rfl rfl)
theorem dX0_childOf_77 : decode cX0_childOf 77 = .ok (.invokevirtual 209, 3) := dk_182 0 209 (dk_at dksX0_childOf_2 9 rfl rfl)
theorem dX0_childOf_80 : decode cX0_childOf 80 = .ok (.ireturn, 1) := dk_172 (dk_at dksX0_childOf_2 12 rfl rfl)
theorem dX0_childOf_81 : decode cX0_childOf 81 = .ok (.aload_n 0, 1) := dk_42 (dk_at dksX0_childOf_2 13 rfl rfl)
theorem dX0_childOf_82 : decode cX0_childOf 82 = .ok (.getfield 99, 3) := dk_180 0 99 (dk_at dksX0_childOf_2 14 rfl rfl)
theorem dX0_childOf_85 : decode cX0_childOf 85 = .ok (.getfield 133, 3) := dk_180 0 133 (dk_at dksX0_childOf_2 17 rfl rfl)
theorem dX0_childOf_88 : decode cX0_childOf 88 = .ok (.iload_n 1, 1) := dk_27 (dk_at dksX0_childOf_2 20 rfl rfl)
theorem dX0_childOf_89 : decode cX0_childOf 89 = .ok (.aaload, 1) := dk_50 (dk_at dksX0_childOf_2 21 rfl rfl)
theorem dX0_childOf_90 : decode cX0_childOf 90 = .ok (.getfield 212, 3) := dk_180 0 212 (dk_at dksX0_childOf_3 0 rfl rfl)
theorem dX0_childOf_93 : decode cX0_childOf 93 = .ok (.ireturn, 1) := dk_172 (dk_at dksX0_childOf_3 3 rfl rfl)
theorem dX0_childOf_94 : decode cX0_childOf 94 = .ok (.aload_n 0, 1) := dk_42 (dk_at dksX0_childOf_3 4 rfl rfl)
theorem dX0_childOf_95 : decode cX0_childOf 95 = .ok (.getfield 99, 3) := dk_180 0 99 (dk_at dksX0_childOf_3 5 rfl rfl)
theorem dX0_childOf_98 : decode cX0_childOf 98 = .ok (.getfield 215, 3) := dk_180 0 215 (dk_at dksX0_childOf_3 8 rfl rfl)
theorem dX0_childOf_101 : decode cX0_childOf 101 = .ok (.iload_n 1, 1) := dk_27 (dk_at dksX0_childOf_3 11 rfl rfl)
theorem dX0_childOf_102 : decode cX0_childOf 102 = .ok (.iaload, 1) := dk_46 (dk_at dksX0_childOf_3 12 rfl rfl)
theorem dX0_childOf_103 : decode cX0_childOf 103 = .ok (.ireturn, 1) := dk_172 (dk_at dksX0_childOf_3 13 rfl rfl)
theorem dX0_childOf_104 : decode cX0_childOf 104 = .ok (.aload_n 0, 1) := dk_42 (dk_at dksX0_childOf_3 14 rfl rfl)
theorem dX0_childOf_105 : decode cX0_childOf 105 = .ok (.getfield 99, 3) := dk_180 0 99 (dk_at dksX0_childOf_3 15 rfl rfl)
theorem dX0_childOf_108 : decode cX0_childOf 108 = .ok (.getfield 218, 3) := dk_180 0 218 (dk_at dksX0_childOf_3 18 rfl rfl)
theorem dX0_childOf_111 : decode cX0_childOf 111 = .ok (.iload_n 1, 1) := dk_27 (dk_at dksX0_childOf_3 21 rfl rfl)
theorem dX0_childOf_112 : decode cX0_childOf 112 = .ok (.iaload, 1) := dk_46 (dk_at dksX0_childOf_3 22 rfl rfl)
theorem dX0_childOf_113 : decode cX0_childOf 113 = .ok (.ireturn, 1) := dk_172 (dk_at dksX0_childOf_3 23 rfl rfl)
theorem dX0_childOf_114 : decode cX0_childOf 114 = .ok (.aload_n 0, 1) := dk_42 (dk_at dksX0_childOf_4 0 rfl rfl)
theorem dX0_childOf_115 : decode cX0_childOf 115 = .ok (.getfield 99, 3) := dk_180 0 99 (dk_at dksX0_childOf_4 1 rfl rfl)
theorem dX0_childOf_118 : decode cX0_childOf 118 = .ok (.getfield 221, 3) := dk_180 0 221 (dk_at dksX0_childOf_4 4 rfl rfl)
theorem dX0_childOf_121 : decode cX0_childOf 121 = .ok (.iload_n 1, 1) := dk_27 (dk_at dksX0_childOf_4 7 rfl rfl)
theorem dX0_childOf_122 : decode cX0_childOf 122 = .ok (.iaload, 1) := dk_46 (dk_at dksX0_childOf_4 8 rfl rfl)
theorem dX0_childOf_123 : decode cX0_childOf 123 = .ok (.ireturn, 1) := dk_172 (dk_at dksX0_childOf_4 9 rfl rfl)
theorem dX0_childOf_124 : decode cX0_childOf 124 = .ok (.aload_n 0, 1) := dk_42 (dk_at dksX0_childOf_4 10 rfl rfl)
theorem dX0_childOf_125 : decode cX0_childOf 125 = .ok (.getfield 99, 3) := dk_180 0 99 (dk_at dksX0_childOf_4 11 rfl rfl)
theorem dX0_childOf_128 : decode cX0_childOf 128 = .ok (.iload_n 1, 1) := dk_27 (dk_at dksX0_childOf_4 14 rfl rfl)
theorem dX0_childOf_129 : decode cX0_childOf 129 = .ok (.invokevirtual 224, 3) := dk_182 0 224 (dk_at dksX0_childOf_4 15 rfl rfl)
theorem dX0_childOf_132 : decode cX0_childOf 132 = .ok (.ireturn, 1) := dk_172 (dk_at dksX0_childOf_4 18 rfl rfl)
theorem dX0_childOf_133 : decode cX0_childOf 133 = .ok (.aload_n 0, 1) := dk_42 (dk_at dksX0_childOf_4 19 rfl rfl)
theorem dX0_childOf_134 : decode cX0_childOf 134 = .ok (.getfield 99, 3) := dk_180 0 99 (dk_at dksX0_childOf_4 20 rfl rfl)
theorem dX0_childOf_137 : decode cX0_childOf 137 = .ok (.getfield 133, 3) := dk_180 0 133 (dk_at dksX0_childOf_5 0 rfl rfl)
theorem dX0_childOf_140 : decode cX0_childOf 140 = .ok (.iload_n 1, 1) := dk_27 (dk_at dksX0_childOf_5 3 rfl rfl)
theorem dX0_childOf_141 : decode cX0_childOf 141 = .ok (.aaload, 1) := dk_50 (dk_at dksX0_childOf_5 4 rfl rfl)
theorem dX0_childOf_142 : decode cX0_childOf 142 = .ok (.invokevirtual 228, 3) := dk_182 0 228 (dk_at dksX0_childOf_5 5 rfl rfl)
theorem dX0_childOf_145 : decode cX0_childOf 145 = .ok (.ireturn, 1) := dk_172 (dk_at dksX0_childOf_5 8 rfl rfl)
theorem dX0_childOf_146 : decode cX0_childOf 146 = .ok (.aload_n 0, 1) := dk_42 (dk_at dksX0_childOf_5 9 rfl rfl)
theorem dX0_childOf_147 : decode cX0_childOf 147 = .ok (.getfield 99, 3) := dk_180 0 99 (dk_at dksX0_childOf_5 10 rfl rfl)
theorem dX0_childOf_150 : decode cX0_childOf 150 = .ok (.iload_n 1, 1) := dk_27 (dk_at dksX0_childOf_5 13 rfl rfl)
theorem dX0_childOf_151 : decode cX0_childOf 151 = .ok (.invokevirtual 231, 3) := dk_182 0 231 (dk_at dksX0_childOf_5 14 rfl rfl)
theorem dX0_childOf_154 : decode cX0_childOf 154 = .ok (.ireturn, 1) := dk_172 (dk_at dksX0_childOf_5 17 rfl rfl)
theorem dX0_childOf_155 : decode cX0_childOf 155 = .ok (.aload_n 0, 1) := dk_42 (dk_at dksX0_childOf_5 18 rfl rfl)
theorem dX0_childOf_156 : decode cX0_childOf 156 = .ok (.getfield 99, 3) := dk_180 0 99 (dk_at dksX0_childOf_5 19 rfl rfl)
theorem dX0_childOf_159 : decode cX0_childOf 159 = .ok (.getfield 234, 3) := dk_180 0 234 (dk_at dksX0_childOf_6 0 rfl rfl)
theorem dX0_childOf_162 : decode cX0_childOf 162 = .ok (.iload_n 1, 1) := dk_27 (dk_at dksX0_childOf_6 3 rfl rfl)
theorem dX0_childOf_163 : decode cX0_childOf 163 = .ok (.iaload, 1) := dk_46 (dk_at dksX0_childOf_6 4 rfl rfl)
theorem dX0_childOf_164 : decode cX0_childOf 164 = .ok (.ireturn, 1) := dk_172 (dk_at dksX0_childOf_6 5 rfl rfl)
theorem dX0_childOf_165 : decode cX0_childOf 165 = .ok (.aload_n 0, 1) := dk_42 (dk_at dksX0_childOf_6 6 rfl rfl)
theorem dX0_childOf_166 : decode cX0_childOf 166 = .ok (.invokevirtual 206, 3) := dk_182 0 206 (dk_at dksX0_childOf_6 7 rfl rfl)
theorem dX0_childOf_169 : decode cX0_childOf 169 = .ok (.ireturn, 1) := dk_172 (dk_at dksX0_childOf_6 10 rfl rfl)
abbrev cX0_beyond : ByteArray := prog_1_method_7_code
def yX0_beyond : MethodName := ⟨RX0, "beyond", "()I"⟩
def dkwX0_beyond_0 : List UInt8 := [42, 180, 0, 63, 8, 92, 46, 4, 96, 79, 16, 251, 172]
abbrev dktX0_beyond_0 : List UInt8 := dkwX0_beyond_0 ++ []
theorem dksX0_beyond_0 : cX0_beyond.data.toList.drop 0 = dktX0_beyond_0 := by decide +kernel
theorem dX0_beyond_0 : decode cX0_beyond 0 = .ok (.aload_n 0, 1) := dk_42 (dk_at dksX0_beyond_0 0 rfl rfl)
theorem dX0_beyond_1 : decode cX0_beyond 1 = .ok (.getfield 63, 3) := dk_180 0 63 (dk_at dksX0_beyond_0 1 rfl rfl)
theorem dX0_beyond_4 : decode cX0_beyond 4 = .ok (.iconst 5, 1) := dk_8 (dk_at dksX0_beyond_0 4 rfl rfl)
theorem dX0_beyond_5 : decode cX0_beyond 5 = .ok (.dup2, 1) := dk_92 (dk_at dksX0_beyond_0 5 rfl rfl)
theorem dX0_beyond_6 : decode cX0_beyond 6 = .ok (.iaload, 1) := dk_46 (dk_at dksX0_beyond_0 6 rfl rfl)
theorem dX0_beyond_7 : decode cX0_beyond 7 = .ok (.iconst 1, 1) := dk_4 (dk_at dksX0_beyond_0 7 rfl rfl)
theorem dX0_beyond_8 : decode cX0_beyond 8 = .ok (.iadd, 1) := dk_96 (dk_at dksX0_beyond_0 8 rfl rfl)
theorem dX0_beyond_9 : decode cX0_beyond 9 = .ok (.iastore, 1) := dk_79 (dk_at dksX0_beyond_0 9 rfl rfl)
theorem dX0_beyond_10 : decode cX0_beyond 10 = .ok (.bipush (-5), 2) := dk_16 251 (dk_at dksX0_beyond_0 10 rfl rfl)
theorem dX0_beyond_12 : decode cX0_beyond 12 = .ok (.ireturn, 1) := dk_172 (dk_at dksX0_beyond_0 12 rfl rfl)
abbrev cX0_sackOf : ByteArray := prog_1_method_23_code
def yX0_sackOf : MethodName := ⟨RX0, "sackOf", "(II)I"⟩
def dkwX0_sackOf_2 : List UInt8 := [46, 172, 78, 42, 45, 182, 0, 165, 172]
abbrev dktX0_sackOf_2 : List UInt8 := dkwX0_sackOf_2 ++ []
def dkwX0_sackOf_1 : List UInt8 := [28, 154, 0, 15, 42, 180, 0, 99, 180, 0, 240, 27, 46, 167, 0, 12, 42, 180, 0, 99, 180, 0, 242, 27]
abbrev dktX0_sackOf_1 : List UInt8 := dkwX0_sackOf_1 ++ dktX0_sackOf_2
def dkwX0_sackOf_0 : List UInt8 := [42, 180, 0, 99, 27, 182, 0, 237, 2, 184, 0, 116, 28, 133, 9, 10, 184, 0, 157, 16, 251, 184, 0, 116]
abbrev dktX0_sackOf_0 : List UInt8 := dkwX0_sackOf_0 ++ dktX0_sackOf_1
theorem dksX0_sackOf_0 : cX0_sackOf.data.toList.drop 0 = dktX0_sackOf_0 := by decide +kernel
theorem dksX0_sackOf_1 : cX0_sackOf.data.toList.drop 24 = dktX0_sackOf_1 := dk_seg dksX0_sackOf_0 24 rfl rfl
theorem dksX0_sackOf_2 : cX0_sackOf.data.toList.drop 48 = dktX0_sackOf_2 := dk_seg dksX0_sackOf_1 24 rfl rfl
theorem dX0_sackOf_0 : decode cX0_sackOf 0 = .ok (.aload_n 0, 1) := dk_42 (dk_at dksX0_sackOf_0 0 rfl rfl)
theorem dX0_sackOf_1 : decode cX0_sackOf 1 = .ok (.getfield 99, 3) := dk_180 0 99 (dk_at dksX0_sackOf_0 1 rfl rfl)
theorem dX0_sackOf_4 : decode cX0_sackOf 4 = .ok (.iload_n 1, 1) := dk_27 (dk_at dksX0_sackOf_0 4 rfl rfl)
theorem dX0_sackOf_5 : decode cX0_sackOf 5 = .ok (.invokevirtual 237, 3) := dk_182 0 237 (dk_at dksX0_sackOf_0 5 rfl rfl)
theorem dX0_sackOf_8 : decode cX0_sackOf 8 = .ok (.iconst (-1), 1) := dk_2 (dk_at dksX0_sackOf_0 8 rfl rfl)
theorem dX0_sackOf_9 : decode cX0_sackOf 9 = .ok (.invokestatic 116, 3) := dk_184 0 116 (dk_at dksX0_sackOf_0 9 rfl rfl)
theorem dX0_sackOf_12 : decode cX0_sackOf 12 = .ok (.iload_n 2, 1) := dk_28 (dk_at dksX0_sackOf_0 12 rfl rfl)
theorem dX0_sackOf_13 : decode cX0_sackOf 13 = .ok (.i2l, 1) := dk_133 (dk_at dksX0_sackOf_0 13 rfl rfl)
theorem dX0_sackOf_14 : decode cX0_sackOf 14 = .ok (.lconst 0, 1) := dk_9 (dk_at dksX0_sackOf_0 14 rfl rfl)
theorem dX0_sackOf_15 : decode cX0_sackOf 15 = .ok (.lconst 1, 1) := dk_10 (dk_at dksX0_sackOf_0 15 rfl rfl)
theorem dX0_sackOf_16 : decode cX0_sackOf 16 = .ok (.invokestatic 157, 3) := dk_184 0 157 (dk_at dksX0_sackOf_0 16 rfl rfl)
theorem dX0_sackOf_19 : decode cX0_sackOf 19 = .ok (.bipush (-5), 2) := dk_16 251 (dk_at dksX0_sackOf_0 19 rfl rfl)
theorem dX0_sackOf_21 : decode cX0_sackOf 21 = .ok (.invokestatic 116, 3) := dk_184 0 116 (dk_at dksX0_sackOf_0 21 rfl rfl)
theorem dX0_sackOf_24 : decode cX0_sackOf 24 = .ok (.iload_n 2, 1) := dk_28 (dk_at dksX0_sackOf_1 0 rfl rfl)
theorem dX0_sackOf_25 : decode cX0_sackOf 25 = .ok (.ifCond .ne 15, 3) := dk_154 0 15 (dk_at dksX0_sackOf_1 1 rfl rfl)
theorem dX0_sackOf_28 : decode cX0_sackOf 28 = .ok (.aload_n 0, 1) := dk_42 (dk_at dksX0_sackOf_1 4 rfl rfl)
theorem dX0_sackOf_29 : decode cX0_sackOf 29 = .ok (.getfield 99, 3) := dk_180 0 99 (dk_at dksX0_sackOf_1 5 rfl rfl)
theorem dX0_sackOf_32 : decode cX0_sackOf 32 = .ok (.getfield 240, 3) := dk_180 0 240 (dk_at dksX0_sackOf_1 8 rfl rfl)
theorem dX0_sackOf_35 : decode cX0_sackOf 35 = .ok (.iload_n 1, 1) := dk_27 (dk_at dksX0_sackOf_1 11 rfl rfl)
theorem dX0_sackOf_36 : decode cX0_sackOf 36 = .ok (.iaload, 1) := dk_46 (dk_at dksX0_sackOf_1 12 rfl rfl)
theorem dX0_sackOf_37 : decode cX0_sackOf 37 = .ok (.goto 12, 3) := dk_167 0 12 (dk_at dksX0_sackOf_1 13 rfl rfl)
theorem dX0_sackOf_40 : decode cX0_sackOf 40 = .ok (.aload_n 0, 1) := dk_42 (dk_at dksX0_sackOf_1 16 rfl rfl)
theorem dX0_sackOf_41 : decode cX0_sackOf 41 = .ok (.getfield 99, 3) := dk_180 0 99 (dk_at dksX0_sackOf_1 17 rfl rfl)
theorem dX0_sackOf_44 : decode cX0_sackOf 44 = .ok (.getfield 242, 3) := dk_180 0 242 (dk_at dksX0_sackOf_1 20 rfl rfl)
theorem dX0_sackOf_47 : decode cX0_sackOf 47 = .ok (.iload_n 1, 1) := dk_27 (dk_at dksX0_sackOf_1 23 rfl rfl)
theorem dX0_sackOf_48 : decode cX0_sackOf 48 = .ok (.iaload, 1) := dk_46 (dk_at dksX0_sackOf_2 0 rfl rfl)
theorem dX0_sackOf_49 : decode cX0_sackOf 49 = .ok (.ireturn, 1) := dk_172 (dk_at dksX0_sackOf_2 1 rfl rfl)
theorem dX0_sackOf_50 : decode cX0_sackOf 50 = .ok (.astore_n 3, 1) := dk_78 (dk_at dksX0_sackOf_2 2 rfl rfl)
theorem dX0_sackOf_51 : decode cX0_sackOf 51 = .ok (.aload_n 0, 1) := dk_42 (dk_at dksX0_sackOf_2 3 rfl rfl)
theorem dX0_sackOf_52 : decode cX0_sackOf 52 = .ok (.aload_n 3, 1) := dk_45 (dk_at dksX0_sackOf_2 4 rfl rfl)
theorem dX0_sackOf_53 : decode cX0_sackOf 53 = .ok (.invokevirtual 165, 3) := dk_182 0 165 (dk_at dksX0_sackOf_2 5 rfl rfl)
theorem dX0_sackOf_56 : decode cX0_sackOf 56 = .ok (.ireturn, 1) := dk_172 (dk_at dksX0_sackOf_2 8 rfl rfl)
abbrev cX0_wears : ByteArray := prog_1_method_24_code
def yX0_wears : MethodName := ⟨RX0, "wears", "(II)I"⟩
def dkwX0_wears_2 : List UInt8 := [180, 0, 218, 27, 28, 79, 29, 172, 78, 42, 45, 182, 0, 165, 172]
abbrev dktX0_wears_2 : List UInt8 := dkwX0_wears_2 ++ []
def dkwX0_wears_1 : List UInt8 := [167, 0, 4, 3, 2, 184, 0, 116, 42, 180, 0, 99, 180, 0, 218, 27, 46, 62, 42, 180, 0, 99]
abbrev dktX0_wears_1 : List UInt8 := dkwX0_wears_1 ++ dktX0_wears_2
def dkwX0_wears_0 : List UInt8 := [42, 180, 0, 99, 27, 182, 0, 112, 153, 0, 18, 42, 180, 0, 99, 28, 182, 0, 237, 153, 0, 7, 4]
abbrev dktX0_wears_0 : List UInt8 := dkwX0_wears_0 ++ dktX0_wears_1
theorem dksX0_wears_0 : cX0_wears.data.toList.drop 0 = dktX0_wears_0 := by decide +kernel
theorem dksX0_wears_1 : cX0_wears.data.toList.drop 23 = dktX0_wears_1 := dk_seg dksX0_wears_0 23 rfl rfl
theorem dksX0_wears_2 : cX0_wears.data.toList.drop 45 = dktX0_wears_2 := dk_seg dksX0_wears_1 22 rfl rfl
theorem dX0_wears_0 : decode cX0_wears 0 = .ok (.aload_n 0, 1) := dk_42 (dk_at dksX0_wears_0 0 rfl rfl)
theorem dX0_wears_1 : decode cX0_wears 1 = .ok (.getfield 99, 3) := dk_180 0 99 (dk_at dksX0_wears_0 1 rfl rfl)
theorem dX0_wears_4 : decode cX0_wears 4 = .ok (.iload_n 1, 1) := dk_27 (dk_at dksX0_wears_0 4 rfl rfl)
theorem dX0_wears_5 : decode cX0_wears 5 = .ok (.invokevirtual 112, 3) := dk_182 0 112 (dk_at dksX0_wears_0 5 rfl rfl)
theorem dX0_wears_8 : decode cX0_wears 8 = .ok (.ifCond .eq 18, 3) := dk_153 0 18 (dk_at dksX0_wears_0 8 rfl rfl)
theorem dX0_wears_11 : decode cX0_wears 11 = .ok (.aload_n 0, 1) := dk_42 (dk_at dksX0_wears_0 11 rfl rfl)
theorem dX0_wears_12 : decode cX0_wears 12 = .ok (.getfield 99, 3) := dk_180 0 99 (dk_at dksX0_wears_0 12 rfl rfl)
theorem dX0_wears_15 : decode cX0_wears 15 = .ok (.iload_n 2, 1) := dk_28 (dk_at dksX0_wears_0 15 rfl rfl)
theorem dX0_wears_16 : decode cX0_wears 16 = .ok (.invokevirtual 237, 3) := dk_182 0 237 (dk_at dksX0_wears_0 16 rfl rfl)
theorem dX0_wears_19 : decode cX0_wears 19 = .ok (.ifCond .eq 7, 3) := dk_153 0 7 (dk_at dksX0_wears_0 19 rfl rfl)
theorem dX0_wears_22 : decode cX0_wears 22 = .ok (.iconst 1, 1) := dk_4 (dk_at dksX0_wears_0 22 rfl rfl)
theorem dX0_wears_23 : decode cX0_wears 23 = .ok (.goto 4, 3) := dk_167 0 4 (dk_at dksX0_wears_1 0 rfl rfl)
theorem dX0_wears_26 : decode cX0_wears 26 = .ok (.iconst 0, 1) := dk_3 (dk_at dksX0_wears_1 3 rfl rfl)
theorem dX0_wears_27 : decode cX0_wears 27 = .ok (.iconst (-1), 1) := dk_2 (dk_at dksX0_wears_1 4 rfl rfl)
theorem dX0_wears_28 : decode cX0_wears 28 = .ok (.invokestatic 116, 3) := dk_184 0 116 (dk_at dksX0_wears_1 5 rfl rfl)
theorem dX0_wears_31 : decode cX0_wears 31 = .ok (.aload_n 0, 1) := dk_42 (dk_at dksX0_wears_1 8 rfl rfl)
theorem dX0_wears_32 : decode cX0_wears 32 = .ok (.getfield 99, 3) := dk_180 0 99 (dk_at dksX0_wears_1 9 rfl rfl)
theorem dX0_wears_35 : decode cX0_wears 35 = .ok (.getfield 218, 3) := dk_180 0 218 (dk_at dksX0_wears_1 12 rfl rfl)
theorem dX0_wears_38 : decode cX0_wears 38 = .ok (.iload_n 1, 1) := dk_27 (dk_at dksX0_wears_1 15 rfl rfl)
theorem dX0_wears_39 : decode cX0_wears 39 = .ok (.iaload, 1) := dk_46 (dk_at dksX0_wears_1 16 rfl rfl)
theorem dX0_wears_40 : decode cX0_wears 40 = .ok (.istore_n 3, 1) := dk_62 (dk_at dksX0_wears_1 17 rfl rfl)
theorem dX0_wears_41 : decode cX0_wears 41 = .ok (.aload_n 0, 1) := dk_42 (dk_at dksX0_wears_1 18 rfl rfl)
theorem dX0_wears_42 : decode cX0_wears 42 = .ok (.getfield 99, 3) := dk_180 0 99 (dk_at dksX0_wears_1 19 rfl rfl)
theorem dX0_wears_45 : decode cX0_wears 45 = .ok (.getfield 218, 3) := dk_180 0 218 (dk_at dksX0_wears_2 0 rfl rfl)
theorem dX0_wears_48 : decode cX0_wears 48 = .ok (.iload_n 1, 1) := dk_27 (dk_at dksX0_wears_2 3 rfl rfl)
theorem dX0_wears_49 : decode cX0_wears 49 = .ok (.iload_n 2, 1) := dk_28 (dk_at dksX0_wears_2 4 rfl rfl)
theorem dX0_wears_50 : decode cX0_wears 50 = .ok (.iastore, 1) := dk_79 (dk_at dksX0_wears_2 5 rfl rfl)
theorem dX0_wears_51 : decode cX0_wears 51 = .ok (.iload_n 3, 1) := dk_29 (dk_at dksX0_wears_2 6 rfl rfl)
theorem dX0_wears_52 : decode cX0_wears 52 = .ok (.ireturn, 1) := dk_172 (dk_at dksX0_wears_2 7 rfl rfl)
theorem dX0_wears_53 : decode cX0_wears 53 = .ok (.astore_n 3, 1) := dk_78 (dk_at dksX0_wears_2 8 rfl rfl)
theorem dX0_wears_54 : decode cX0_wears 54 = .ok (.aload_n 0, 1) := dk_42 (dk_at dksX0_wears_2 9 rfl rfl)
theorem dX0_wears_55 : decode cX0_wears 55 = .ok (.aload_n 3, 1) := dk_45 (dk_at dksX0_wears_2 10 rfl rfl)
theorem dX0_wears_56 : decode cX0_wears 56 = .ok (.invokevirtual 165, 3) := dk_182 0 165 (dk_at dksX0_wears_2 11 rfl rfl)
theorem dX0_wears_59 : decode cX0_wears 59 = .ok (.ireturn, 1) := dk_172 (dk_at dksX0_wears_2 14 rfl rfl)
abbrev cX0_ahead : ByteArray := prog_1_method_25_code
def yX0_ahead : MethodName := ⟨RX0, "ahead", "(II)I"⟩
def dkwX0_ahead_2 : List UInt8 := [172]
abbrev dktX0_ahead_2 : List UInt8 := dkwX0_ahead_2 ++ []
def dkwX0_ahead_1 : List UInt8 := [180, 0, 221, 27, 46, 62, 42, 180, 0, 99, 180, 0, 221, 27, 28, 79, 29, 172, 78, 42, 45, 182, 0, 165]
abbrev dktX0_ahead_1 : List UInt8 := dkwX0_ahead_1 ++ dktX0_ahead_2
def dkwX0_ahead_0 : List UInt8 := [42, 27, 182, 0, 185, 28, 133, 9, 20, 0, 245, 184, 0, 157, 16, 250, 184, 0, 116, 42, 180, 0, 99]
abbrev dktX0_ahead_0 : List UInt8 := dkwX0_ahead_0 ++ dktX0_ahead_1
theorem dksX0_ahead_0 : cX0_ahead.data.toList.drop 0 = dktX0_ahead_0 := by decide +kernel
theorem dksX0_ahead_1 : cX0_ahead.data.toList.drop 23 = dktX0_ahead_1 := dk_seg dksX0_ahead_0 23 rfl rfl
theorem dksX0_ahead_2 : cX0_ahead.data.toList.drop 47 = dktX0_ahead_2 := dk_seg dksX0_ahead_1 24 rfl rfl
theorem dX0_ahead_0 : decode cX0_ahead 0 = .ok (.aload_n 0, 1) := dk_42 (dk_at dksX0_ahead_0 0 rfl rfl)
theorem dX0_ahead_1 : decode cX0_ahead 1 = .ok (.iload_n 1, 1) := dk_27 (dk_at dksX0_ahead_0 1 rfl rfl)
theorem dX0_ahead_2 : decode cX0_ahead 2 = .ok (.invokevirtual 185, 3) := dk_182 0 185 (dk_at dksX0_ahead_0 2 rfl rfl)
theorem dX0_ahead_5 : decode cX0_ahead 5 = .ok (.iload_n 2, 1) := dk_28 (dk_at dksX0_ahead_0 5 rfl rfl)
theorem dX0_ahead_6 : decode cX0_ahead 6 = .ok (.i2l, 1) := dk_133 (dk_at dksX0_ahead_0 6 rfl rfl)
theorem dX0_ahead_7 : decode cX0_ahead 7 = .ok (.lconst 0, 1) := dk_9 (dk_at dksX0_ahead_0 7 rfl rfl)
theorem dX0_ahead_8 : decode cX0_ahead 8 = .ok (.ldc2_w 245, 3) := dk_20 0 245 (dk_at dksX0_ahead_0 8 rfl rfl)
theorem dX0_ahead_11 : decode cX0_ahead 11 = .ok (.invokestatic 157, 3) := dk_184 0 157 (dk_at dksX0_ahead_0 11 rfl rfl)
theorem dX0_ahead_14 : decode cX0_ahead 14 = .ok (.bipush (-6), 2) := dk_16 250 (dk_at dksX0_ahead_0 14 rfl rfl)
theorem dX0_ahead_16 : decode cX0_ahead 16 = .ok (.invokestatic 116, 3) := dk_184 0 116 (dk_at dksX0_ahead_0 16 rfl rfl)
theorem dX0_ahead_19 : decode cX0_ahead 19 = .ok (.aload_n 0, 1) := dk_42 (dk_at dksX0_ahead_0 19 rfl rfl)
theorem dX0_ahead_20 : decode cX0_ahead 20 = .ok (.getfield 99, 3) := dk_180 0 99 (dk_at dksX0_ahead_0 20 rfl rfl)
theorem dX0_ahead_23 : decode cX0_ahead 23 = .ok (.getfield 221, 3) := dk_180 0 221 (dk_at dksX0_ahead_1 0 rfl rfl)
theorem dX0_ahead_26 : decode cX0_ahead 26 = .ok (.iload_n 1, 1) := dk_27 (dk_at dksX0_ahead_1 3 rfl rfl)
theorem dX0_ahead_27 : decode cX0_ahead 27 = .ok (.iaload, 1) := dk_46 (dk_at dksX0_ahead_1 4 rfl rfl)
theorem dX0_ahead_28 : decode cX0_ahead 28 = .ok (.istore_n 3, 1) := dk_62 (dk_at dksX0_ahead_1 5 rfl rfl)
theorem dX0_ahead_29 : decode cX0_ahead 29 = .ok (.aload_n 0, 1) := dk_42 (dk_at dksX0_ahead_1 6 rfl rfl)
theorem dX0_ahead_30 : decode cX0_ahead 30 = .ok (.getfield 99, 3) := dk_180 0 99 (dk_at dksX0_ahead_1 7 rfl rfl)
theorem dX0_ahead_33 : decode cX0_ahead 33 = .ok (.getfield 221, 3) := dk_180 0 221 (dk_at dksX0_ahead_1 10 rfl rfl)
theorem dX0_ahead_36 : decode cX0_ahead 36 = .ok (.iload_n 1, 1) := dk_27 (dk_at dksX0_ahead_1 13 rfl rfl)
theorem dX0_ahead_37 : decode cX0_ahead 37 = .ok (.iload_n 2, 1) := dk_28 (dk_at dksX0_ahead_1 14 rfl rfl)
theorem dX0_ahead_38 : decode cX0_ahead 38 = .ok (.iastore, 1) := dk_79 (dk_at dksX0_ahead_1 15 rfl rfl)
theorem dX0_ahead_39 : decode cX0_ahead 39 = .ok (.iload_n 3, 1) := dk_29 (dk_at dksX0_ahead_1 16 rfl rfl)
theorem dX0_ahead_40 : decode cX0_ahead 40 = .ok (.ireturn, 1) := dk_172 (dk_at dksX0_ahead_1 17 rfl rfl)
theorem dX0_ahead_41 : decode cX0_ahead 41 = .ok (.astore_n 3, 1) := dk_78 (dk_at dksX0_ahead_1 18 rfl rfl)
theorem dX0_ahead_42 : decode cX0_ahead 42 = .ok (.aload_n 0, 1) := dk_42 (dk_at dksX0_ahead_1 19 rfl rfl)
theorem dX0_ahead_43 : decode cX0_ahead 43 = .ok (.aload_n 3, 1) := dk_45 (dk_at dksX0_ahead_1 20 rfl rfl)
theorem dX0_ahead_44 : decode cX0_ahead 44 = .ok (.invokevirtual 165, 3) := dk_182 0 165 (dk_at dksX0_ahead_1 21 rfl rfl)
theorem dX0_ahead_47 : decode cX0_ahead 47 = .ok (.ireturn, 1) := dk_172 (dk_at dksX0_ahead_2 0 rfl rfl)
abbrev cX0_ask : ByteArray := prog_1_method_27_code
def yX0_ask : MethodName := ⟨RX0, "ask", "(II)I"⟩
def dkwX0_ask_1 : List UInt8 := [180, 1, 1, 27, 28, 79, 29, 172, 78, 42, 45, 182, 0, 165, 172]
abbrev dktX0_ask_1 : List UInt8 := dkwX0_ask_1 ++ []
def dkwX0_ask_0 : List UInt8 := [27, 28, 184, 0, 253, 16, 250, 184, 0, 116, 42, 180, 0, 99, 180, 1, 1, 27, 46, 62, 42, 180, 0, 99]
abbrev dktX0_ask_0 : List UInt8 := dkwX0_ask_0 ++ dktX0_ask_1
theorem dksX0_ask_0 : cX0_ask.data.toList.drop 0 = dktX0_ask_0 := by decide +kernel
theorem dksX0_ask_1 : cX0_ask.data.toList.drop 24 = dktX0_ask_1 := dk_seg dksX0_ask_0 24 rfl rfl
theorem dX0_ask_0 : decode cX0_ask 0 = .ok (.iload_n 1, 1) := dk_27 (dk_at dksX0_ask_0 0 rfl rfl)
theorem dX0_ask_1 : decode cX0_ask 1 = .ok (.iload_n 2, 1) := dk_28 (dk_at dksX0_ask_0 1 rfl rfl)
theorem dX0_ask_2 : decode cX0_ask 2 = .ok (.invokestatic 253, 3) := dk_184 0 253 (dk_at dksX0_ask_0 2 rfl rfl)
theorem dX0_ask_5 : decode cX0_ask 5 = .ok (.bipush (-6), 2) := dk_16 250 (dk_at dksX0_ask_0 5 rfl rfl)
theorem dX0_ask_7 : decode cX0_ask 7 = .ok (.invokestatic 116, 3) := dk_184 0 116 (dk_at dksX0_ask_0 7 rfl rfl)
theorem dX0_ask_10 : decode cX0_ask 10 = .ok (.aload_n 0, 1) := dk_42 (dk_at dksX0_ask_0 10 rfl rfl)
theorem dX0_ask_11 : decode cX0_ask 11 = .ok (.getfield 99, 3) := dk_180 0 99 (dk_at dksX0_ask_0 11 rfl rfl)
theorem dX0_ask_14 : decode cX0_ask 14 = .ok (.getfield 257, 3) := dk_180 1 1 (dk_at dksX0_ask_0 14 rfl rfl)
theorem dX0_ask_17 : decode cX0_ask 17 = .ok (.iload_n 1, 1) := dk_27 (dk_at dksX0_ask_0 17 rfl rfl)
theorem dX0_ask_18 : decode cX0_ask 18 = .ok (.iaload, 1) := dk_46 (dk_at dksX0_ask_0 18 rfl rfl)
theorem dX0_ask_19 : decode cX0_ask 19 = .ok (.istore_n 3, 1) := dk_62 (dk_at dksX0_ask_0 19 rfl rfl)
theorem dX0_ask_20 : decode cX0_ask 20 = .ok (.aload_n 0, 1) := dk_42 (dk_at dksX0_ask_0 20 rfl rfl)
theorem dX0_ask_21 : decode cX0_ask 21 = .ok (.getfield 99, 3) := dk_180 0 99 (dk_at dksX0_ask_0 21 rfl rfl)
theorem dX0_ask_24 : decode cX0_ask 24 = .ok (.getfield 257, 3) := dk_180 1 1 (dk_at dksX0_ask_1 0 rfl rfl)
theorem dX0_ask_27 : decode cX0_ask 27 = .ok (.iload_n 1, 1) := dk_27 (dk_at dksX0_ask_1 3 rfl rfl)
theorem dX0_ask_28 : decode cX0_ask 28 = .ok (.iload_n 2, 1) := dk_28 (dk_at dksX0_ask_1 4 rfl rfl)
theorem dX0_ask_29 : decode cX0_ask 29 = .ok (.iastore, 1) := dk_79 (dk_at dksX0_ask_1 5 rfl rfl)
theorem dX0_ask_30 : decode cX0_ask 30 = .ok (.iload_n 3, 1) := dk_29 (dk_at dksX0_ask_1 6 rfl rfl)
theorem dX0_ask_31 : decode cX0_ask 31 = .ok (.ireturn, 1) := dk_172 (dk_at dksX0_ask_1 7 rfl rfl)
theorem dX0_ask_32 : decode cX0_ask 32 = .ok (.astore_n 3, 1) := dk_78 (dk_at dksX0_ask_1 8 rfl rfl)
theorem dX0_ask_33 : decode cX0_ask 33 = .ok (.aload_n 0, 1) := dk_42 (dk_at dksX0_ask_1 9 rfl rfl)
theorem dX0_ask_34 : decode cX0_ask 34 = .ok (.aload_n 3, 1) := dk_45 (dk_at dksX0_ask_1 10 rfl rfl)
theorem dX0_ask_35 : decode cX0_ask 35 = .ok (.invokevirtual 165, 3) := dk_182 0 165 (dk_at dksX0_ask_1 11 rfl rfl)
theorem dX0_ask_38 : decode cX0_ask 38 = .ok (.ireturn, 1) := dk_172 (dk_at dksX0_ask_1 14 rfl rfl)
abbrev cX0_mayAsk : ByteArray := prog_1_method_26_code
def yX0_mayAsk : MethodName := ⟨RX0, "mayAsk", "(II)Z"⟩
def dkwX0_mayAsk_4 : List UInt8 := [4, 167, 0, 4, 3, 172]
abbrev dktX0_mayAsk_4 : List UInt8 := dkwX0_mayAsk_4 ++ []
def dkwX0_mayAsk_3 : List UInt8 := [20, 0, 194, 184, 0, 157, 172, 26, 6, 160, 0, 19, 27, 133, 9, 20, 0, 251, 184, 0, 157, 153, 0, 7]
abbrev dktX0_mayAsk_3 : List UInt8 := dkwX0_mayAsk_3 ++ dktX0_mayAsk_4
def dkwX0_mayAsk_2 : List UInt8 := [27, 133, 10, 20, 0, 247, 184, 0, 157, 172, 27, 133, 10, 20, 0, 249, 184, 0, 157, 172, 27, 133, 9]
abbrev dktX0_mayAsk_2 : List UInt8 := dkwX0_mayAsk_2 ++ dktX0_mayAsk_3
def dkwX0_mayAsk_1 : List UInt8 := [170, 0, 0, 0, 0, 0, 57, 0, 0, 0, 0, 0, 0, 0, 2, 0, 0, 0, 27, 0, 0, 0, 37, 0, 0, 0, 47]
abbrev dktX0_mayAsk_1 : List UInt8 := dkwX0_mayAsk_1 ++ dktX0_mayAsk_2
def dkwX0_mayAsk_0 : List UInt8 := [26]
abbrev dktX0_mayAsk_0 : List UInt8 := dkwX0_mayAsk_0 ++ dktX0_mayAsk_1
theorem dksX0_mayAsk_0 : cX0_mayAsk.data.toList.drop 0 = dktX0_mayAsk_0 := by decide +kernel
theorem dksX0_mayAsk_1 : cX0_mayAsk.data.toList.drop 1 = dktX0_mayAsk_1 := dk_seg dksX0_mayAsk_0 1 rfl rfl
theorem dksX0_mayAsk_2 : cX0_mayAsk.data.toList.drop 28 = dktX0_mayAsk_2 := dk_seg dksX0_mayAsk_1 27 rfl rfl
theorem dksX0_mayAsk_3 : cX0_mayAsk.data.toList.drop 51 = dktX0_mayAsk_3 := dk_seg dksX0_mayAsk_2 23 rfl rfl
theorem dksX0_mayAsk_4 : cX0_mayAsk.data.toList.drop 75 = dktX0_mayAsk_4 := dk_seg dksX0_mayAsk_3 24 rfl rfl
theorem dX0_mayAsk_0 : decode cX0_mayAsk 0 = .ok (.iload_n 0, 1) := dk_26 (dk_at dksX0_mayAsk_0 0 rfl rfl)
theorem dX0_mayAsk_1 : decode cX0_mayAsk 1 = .ok (.tableswitch 57 0 2 #[27, 37, 47], 27) := by decide +kernel
theorem dX0_mayAsk_28 : decode cX0_mayAsk 28 = .ok (.iload_n 1, 1) := dk_27 (dk_at dksX0_mayAsk_2 0 rfl rfl)
theorem dX0_mayAsk_29 : decode cX0_mayAsk 29 = .ok (.i2l, 1) := dk_133 (dk_at dksX0_mayAsk_2 1 rfl rfl)
theorem dX0_mayAsk_30 : decode cX0_mayAsk 30 = .ok (.lconst 1, 1) := dk_10 (dk_at dksX0_mayAsk_2 2 rfl rfl)
theorem dX0_mayAsk_31 : decode cX0_mayAsk 31 = .ok (.ldc2_w 247, 3) := dk_20 0 247 (dk_at dksX0_mayAsk_2 3 rfl rfl)
theorem dX0_mayAsk_34 : decode cX0_mayAsk 34 = .ok (.invokestatic 157, 3) := dk_184 0 157 (dk_at dksX0_mayAsk_2 6 rfl rfl)
theorem dX0_mayAsk_37 : decode cX0_mayAsk 37 = .ok (.ireturn, 1) := dk_172 (dk_at dksX0_mayAsk_2 9 rfl rfl)
theorem dX0_mayAsk_38 : decode cX0_mayAsk 38 = .ok (.iload_n 1, 1) := dk_27 (dk_at dksX0_mayAsk_2 10 rfl rfl)
theorem dX0_mayAsk_39 : decode cX0_mayAsk 39 = .ok (.i2l, 1) := dk_133 (dk_at dksX0_mayAsk_2 11 rfl rfl)
theorem dX0_mayAsk_40 : decode cX0_mayAsk 40 = .ok (.lconst 1, 1) := dk_10 (dk_at dksX0_mayAsk_2 12 rfl rfl)
theorem dX0_mayAsk_41 : decode cX0_mayAsk 41 = .ok (.ldc2_w 249, 3) := dk_20 0 249 (dk_at dksX0_mayAsk_2 13 rfl rfl)
theorem dX0_mayAsk_44 : decode cX0_mayAsk 44 = .ok (.invokestatic 157, 3) := dk_184 0 157 (dk_at dksX0_mayAsk_2 16 rfl rfl)
theorem dX0_mayAsk_47 : decode cX0_mayAsk 47 = .ok (.ireturn, 1) := dk_172 (dk_at dksX0_mayAsk_2 19 rfl rfl)
theorem dX0_mayAsk_48 : decode cX0_mayAsk 48 = .ok (.iload_n 1, 1) := dk_27 (dk_at dksX0_mayAsk_2 20 rfl rfl)
theorem dX0_mayAsk_49 : decode cX0_mayAsk 49 = .ok (.i2l, 1) := dk_133 (dk_at dksX0_mayAsk_2 21 rfl rfl)
theorem dX0_mayAsk_50 : decode cX0_mayAsk 50 = .ok (.lconst 0, 1) := dk_9 (dk_at dksX0_mayAsk_2 22 rfl rfl)
theorem dX0_mayAsk_51 : decode cX0_mayAsk 51 = .ok (.ldc2_w 194, 3) := dk_20 0 194 (dk_at dksX0_mayAsk_3 0 rfl rfl)
theorem dX0_mayAsk_54 : decode cX0_mayAsk 54 = .ok (.invokestatic 157, 3) := dk_184 0 157 (dk_at dksX0_mayAsk_3 3 rfl rfl)
theorem dX0_mayAsk_57 : decode cX0_mayAsk 57 = .ok (.ireturn, 1) := dk_172 (dk_at dksX0_mayAsk_3 6 rfl rfl)
theorem dX0_mayAsk_58 : decode cX0_mayAsk 58 = .ok (.iload_n 0, 1) := dk_26 (dk_at dksX0_mayAsk_3 7 rfl rfl)
theorem dX0_mayAsk_59 : decode cX0_mayAsk 59 = .ok (.iconst 3, 1) := dk_6 (dk_at dksX0_mayAsk_3 8 rfl rfl)
theorem dX0_mayAsk_60 : decode cX0_mayAsk 60 = .ok (.if_icmp .ne 19, 3) := dk_160 0 19 (dk_at dksX0_mayAsk_3 9 rfl rfl)
theorem dX0_mayAsk_63 : decode cX0_mayAsk 63 = .ok (.iload_n 1, 1) := dk_27 (dk_at dksX0_mayAsk_3 12 rfl rfl)
theorem dX0_mayAsk_64 : decode cX0_mayAsk 64 = .ok (.i2l, 1) := dk_133 (dk_at dksX0_mayAsk_3 13 rfl rfl)
theorem dX0_mayAsk_65 : decode cX0_mayAsk 65 = .ok (.lconst 0, 1) := dk_9 (dk_at dksX0_mayAsk_3 14 rfl rfl)
theorem dX0_mayAsk_66 : decode cX0_mayAsk 66 = .ok (.ldc2_w 251, 3) := dk_20 0 251 (dk_at dksX0_mayAsk_3 15 rfl rfl)
theorem dX0_mayAsk_69 : decode cX0_mayAsk 69 = .ok (.invokestatic 157, 3) := dk_184 0 157 (dk_at dksX0_mayAsk_3 18 rfl rfl)
theorem dX0_mayAsk_72 : decode cX0_mayAsk 72 = .ok (.ifCond .eq 7, 3) := dk_153 0 7 (dk_at dksX0_mayAsk_3 21 rfl rfl)
theorem dX0_mayAsk_75 : decode cX0_mayAsk 75 = .ok (.iconst 1, 1) := dk_4 (dk_at dksX0_mayAsk_4 0 rfl rfl)
theorem dX0_mayAsk_76 : decode cX0_mayAsk 76 = .ok (.goto 4, 3) := dk_167 0 4 (dk_at dksX0_mayAsk_4 1 rfl rfl)
theorem dX0_mayAsk_79 : decode cX0_mayAsk 79 = .ok (.iconst 0, 1) := dk_3 (dk_at dksX0_mayAsk_4 4 rfl rfl)
theorem dX0_mayAsk_80 : decode cX0_mayAsk 80 = .ok (.ireturn, 1) := dk_172 (dk_at dksX0_mayAsk_4 5 rfl rfl)
abbrev cX0_roll : ByteArray := prog_1_method_28_code
def yX0_roll : MethodName := ⟨RX0, "roll", "(Z)I"⟩
def dkwX0_roll_1 : List UInt8 := [28, 172]
abbrev dktX0_roll_1 : List UInt8 := dkwX0_roll_1 ++ []
def dkwX0_roll_0 : List UInt8 := [42, 180, 0, 99, 180, 1, 4, 153, 0, 7, 4, 167, 0, 4, 3, 61, 42, 180, 0, 99, 27, 181, 1, 4]
abbrev dktX0_roll_0 : List UInt8 := dkwX0_roll_0 ++ dktX0_roll_1
theorem dksX0_roll_0 : cX0_roll.data.toList.drop 0 = dktX0_roll_0 := by decide +kernel
theorem dksX0_roll_1 : cX0_roll.data.toList.drop 24 = dktX0_roll_1 := dk_seg dksX0_roll_0 24 rfl rfl
theorem dX0_roll_0 : decode cX0_roll 0 = .ok (.aload_n 0, 1) := dk_42 (dk_at dksX0_roll_0 0 rfl rfl)
theorem dX0_roll_1 : decode cX0_roll 1 = .ok (.getfield 99, 3) := dk_180 0 99 (dk_at dksX0_roll_0 1 rfl rfl)
theorem dX0_roll_4 : decode cX0_roll 4 = .ok (.getfield 260, 3) := dk_180 1 4 (dk_at dksX0_roll_0 4 rfl rfl)
theorem dX0_roll_7 : decode cX0_roll 7 = .ok (.ifCond .eq 7, 3) := dk_153 0 7 (dk_at dksX0_roll_0 7 rfl rfl)
theorem dX0_roll_10 : decode cX0_roll 10 = .ok (.iconst 1, 1) := dk_4 (dk_at dksX0_roll_0 10 rfl rfl)
theorem dX0_roll_11 : decode cX0_roll 11 = .ok (.goto 4, 3) := dk_167 0 4 (dk_at dksX0_roll_0 11 rfl rfl)
theorem dX0_roll_14 : decode cX0_roll 14 = .ok (.iconst 0, 1) := dk_3 (dk_at dksX0_roll_0 14 rfl rfl)
theorem dX0_roll_15 : decode cX0_roll 15 = .ok (.istore_n 2, 1) := dk_61 (dk_at dksX0_roll_0 15 rfl rfl)
theorem dX0_roll_16 : decode cX0_roll 16 = .ok (.aload_n 0, 1) := dk_42 (dk_at dksX0_roll_0 16 rfl rfl)
theorem dX0_roll_17 : decode cX0_roll 17 = .ok (.getfield 99, 3) := dk_180 0 99 (dk_at dksX0_roll_0 17 rfl rfl)
theorem dX0_roll_20 : decode cX0_roll 20 = .ok (.iload_n 1, 1) := dk_27 (dk_at dksX0_roll_0 20 rfl rfl)
theorem dX0_roll_21 : decode cX0_roll 21 = .ok (.putfield 260, 3) := dk_181 1 4 (dk_at dksX0_roll_0 21 rfl rfl)
theorem dX0_roll_24 : decode cX0_roll 24 = .ok (.iload_n 2, 1) := dk_28 (dk_at dksX0_roll_1 0 rfl rfl)
theorem dX0_roll_25 : decode cX0_roll 25 = .ok (.ireturn, 1) := dk_172 (dk_at dksX0_roll_1 1 rfl rfl)
abbrev cX0_field : ByteArray := prog_1_method_29_code
def yX0_field : MethodName := ⟨RX0, "field", "(I)I"⟩
def dkwX0_field_3 : List UInt8 := [183, 0, 23, 191, 77, 42, 44, 182, 0, 165, 172]
abbrev dktX0_field_3 : List UInt8 := dkwX0_field_3 ++ []
def dkwX0_field_2 : List UInt8 := [181, 0, 99, 21, 4, 172, 58, 4, 42, 25, 4, 180, 1, 22, 181, 0, 102, 187, 0, 21, 89, 16, 250]
abbrev dktX0_field_2 : List UInt8 := dkwX0_field_2 ++ dktX0_field_3
def dkwX0_field_1 : List UInt8 := [180, 0, 99, 182, 1, 8, 78, 187, 1, 12, 89, 44, 45, 183, 1, 14, 182, 1, 17, 54, 4, 42, 45]
abbrev dktX0_field_1 : List UInt8 := dkwX0_field_1 ++ dktX0_field_2
def dkwX0_field_0 : List UInt8 := [42, 27, 182, 0, 151, 182, 0, 169, 77, 42, 2, 181, 0, 102, 187, 0, 92, 89, 183, 0, 94, 42]
abbrev dktX0_field_0 : List UInt8 := dkwX0_field_0 ++ dktX0_field_1
theorem dksX0_field_0 : cX0_field.data.toList.drop 0 = dktX0_field_0 := by decide +kernel
theorem dksX0_field_1 : cX0_field.data.toList.drop 22 = dktX0_field_1 := dk_seg dksX0_field_0 22 rfl rfl
theorem dksX0_field_2 : cX0_field.data.toList.drop 45 = dktX0_field_2 := dk_seg dksX0_field_1 23 rfl rfl
theorem dksX0_field_3 : cX0_field.data.toList.drop 68 = dktX0_field_3 := dk_seg dksX0_field_2 23 rfl rfl
theorem dX0_field_0 : decode cX0_field 0 = .ok (.aload_n 0, 1) := dk_42 (dk_at dksX0_field_0 0 rfl rfl)
theorem dX0_field_1 : decode cX0_field 1 = .ok (.iload_n 1, 1) := dk_27 (dk_at dksX0_field_0 1 rfl rfl)
theorem dX0_field_2 : decode cX0_field 2 = .ok (.invokevirtual 151, 3) := dk_182 0 151 (dk_at dksX0_field_0 2 rfl rfl)
theorem dX0_field_5 : decode cX0_field 5 = .ok (.invokevirtual 169, 3) := dk_182 0 169 (dk_at dksX0_field_0 5 rfl rfl)
theorem dX0_field_8 : decode cX0_field 8 = .ok (.astore_n 2, 1) := dk_77 (dk_at dksX0_field_0 8 rfl rfl)
theorem dX0_field_9 : decode cX0_field 9 = .ok (.aload_n 0, 1) := dk_42 (dk_at dksX0_field_0 9 rfl rfl)
theorem dX0_field_10 : decode cX0_field 10 = .ok (.iconst (-1), 1) := dk_2 (dk_at dksX0_field_0 10 rfl rfl)
theorem dX0_field_11 : decode cX0_field 11 = .ok (.putfield 102, 3) := dk_181 0 102 (dk_at dksX0_field_0 11 rfl rfl)
theorem dX0_field_14 : decode cX0_field 14 = .ok (.new 92, 3) := dk_187 0 92 (dk_at dksX0_field_0 14 rfl rfl)
theorem dX0_field_17 : decode cX0_field 17 = .ok (.dup, 1) := dk_89 (dk_at dksX0_field_0 17 rfl rfl)
theorem dX0_field_18 : decode cX0_field 18 = .ok (.invokespecial 94, 3) := dk_183 0 94 (dk_at dksX0_field_0 18 rfl rfl)
theorem dX0_field_21 : decode cX0_field 21 = .ok (.aload_n 0, 1) := dk_42 (dk_at dksX0_field_0 21 rfl rfl)
theorem dX0_field_22 : decode cX0_field 22 = .ok (.getfield 99, 3) := dk_180 0 99 (dk_at dksX0_field_1 0 rfl rfl)
theorem dX0_field_25 : decode cX0_field 25 = .ok (.invokevirtual 264, 3) := dk_182 1 8 (dk_at dksX0_field_1 3 rfl rfl)
theorem dX0_field_28 : decode cX0_field 28 = .ok (.astore_n 3, 1) := dk_78 (dk_at dksX0_field_1 6 rfl rfl)
theorem dX0_field_29 : decode cX0_field 29 = .ok (.new 268, 3) := dk_187 1 12 (dk_at dksX0_field_1 7 rfl rfl)
theorem dX0_field_32 : decode cX0_field 32 = .ok (.dup, 1) := dk_89 (dk_at dksX0_field_1 10 rfl rfl)
theorem dX0_field_33 : decode cX0_field 33 = .ok (.aload_n 2, 1) := dk_44 (dk_at dksX0_field_1 11 rfl rfl)
theorem dX0_field_34 : decode cX0_field 34 = .ok (.aload_n 3, 1) := dk_45 (dk_at dksX0_field_1 12 rfl rfl)
theorem dX0_field_35 : decode cX0_field 35 = .ok (.invokespecial 270, 3) := dk_183 1 14 (dk_at dksX0_field_1 13 rfl rfl)
theorem dX0_field_38 : decode cX0_field 38 = .ok (.invokevirtual 273, 3) := dk_182 1 17 (dk_at dksX0_field_1 16 rfl rfl)
theorem dX0_field_41 : decode cX0_field 41 = .ok (.istore 4, 2) := dk_54 4 (dk_at dksX0_field_1 19 rfl rfl)
theorem dX0_field_43 : decode cX0_field 43 = .ok (.aload_n 0, 1) := dk_42 (dk_at dksX0_field_1 21 rfl rfl)
theorem dX0_field_44 : decode cX0_field 44 = .ok (.aload_n 3, 1) := dk_45 (dk_at dksX0_field_1 22 rfl rfl)
theorem dX0_field_45 : decode cX0_field 45 = .ok (.putfield 99, 3) := dk_181 0 99 (dk_at dksX0_field_2 0 rfl rfl)
theorem dX0_field_48 : decode cX0_field 48 = .ok (.iload 4, 2) := dk_21 4 (dk_at dksX0_field_2 3 rfl rfl)
theorem dX0_field_50 : decode cX0_field 50 = .ok (.ireturn, 1) := dk_172 (dk_at dksX0_field_2 5 rfl rfl)
theorem dX0_field_51 : decode cX0_field 51 = .ok (.astore 4, 2) := dk_58 4 (dk_at dksX0_field_2 6 rfl rfl)
theorem dX0_field_53 : decode cX0_field 53 = .ok (.aload_n 0, 1) := dk_42 (dk_at dksX0_field_2 8 rfl rfl)
theorem dX0_field_54 : decode cX0_field 54 = .ok (.aload 4, 2) := dk_25 4 (dk_at dksX0_field_2 9 rfl rfl)
theorem dX0_field_56 : decode cX0_field 56 = .ok (.getfield 278, 3) := dk_180 1 22 (dk_at dksX0_field_2 11 rfl rfl)
theorem dX0_field_59 : decode cX0_field 59 = .ok (.putfield 102, 3) := dk_181 0 102 (dk_at dksX0_field_2 14 rfl rfl)
theorem dX0_field_62 : decode cX0_field 62 = .ok (.new 21, 3) := dk_187 0 21 (dk_at dksX0_field_2 17 rfl rfl)
theorem dX0_field_65 : decode cX0_field 65 = .ok (.dup, 1) := dk_89 (dk_at dksX0_field_2 20 rfl rfl)
theorem dX0_field_66 : decode cX0_field 66 = .ok (.bipush (-6), 2) := dk_16 250 (dk_at dksX0_field_2 21 rfl rfl)
theorem dX0_field_68 : decode cX0_field 68 = .ok (.invokespecial 23, 3) := dk_183 0 23 (dk_at dksX0_field_3 0 rfl rfl)
theorem dX0_field_71 : decode cX0_field 71 = .ok (.athrow, 1) := dk_191 (dk_at dksX0_field_3 3 rfl rfl)
theorem dX0_field_72 : decode cX0_field 72 = .ok (.astore_n 2, 1) := dk_77 (dk_at dksX0_field_3 4 rfl rfl)
theorem dX0_field_73 : decode cX0_field 73 = .ok (.aload_n 0, 1) := dk_42 (dk_at dksX0_field_3 5 rfl rfl)
theorem dX0_field_74 : decode cX0_field 74 = .ok (.aload_n 2, 1) := dk_44 (dk_at dksX0_field_3 6 rfl rfl)
theorem dX0_field_75 : decode cX0_field 75 = .ok (.invokevirtual 165, 3) := dk_182 0 165 (dk_at dksX0_field_3 7 rfl rfl)
theorem dX0_field_78 : decode cX0_field 78 = .ok (.ireturn, 1) := dk_172 (dk_at dksX0_field_3 10 rfl rfl)
abbrev cX0_fault : ByteArray := prog_1_method_30_code
def yX0_fault : MethodName := ⟨RX0, "fault", "()I"⟩
theorem dX0_fault_0 : decode cX0_fault 0 = .ok (.aload_n 0, 1) := by decide +kernel
theorem dX0_fault_1 : decode cX0_fault 1 = .ok (.getfield 102, 3) := by decide +kernel
theorem dX0_fault_4 : decode cX0_fault 4 = .ok (.ireturn, 1) := by decide +kernel
abbrev cX0_behind : ByteArray := prog_1_method_31_code
def yX0_behind : MethodName := ⟨RX0, "behind", "(III)I"⟩
def dkwX0_behind_5 : List UInt8 := [25, 4, 180, 1, 49, 172, 58, 4, 42, 25, 4, 182, 0, 165, 172]
abbrev dktX0_behind_5 : List UInt8 := dkwX0_behind_5 ++ []
def dkwX0_behind_4 : List UInt8 := [25, 4, 180, 1, 37, 172, 25, 4, 180, 1, 40, 172, 25, 4, 180, 1, 43, 172, 25, 4, 180, 1, 46, 172]
abbrev dktX0_behind_4 : List UInt8 := dkwX0_behind_4 ++ dktX0_behind_5
def dkwX0_behind_3 : List UInt8 := [170, 0, 0, 0, 0, 0, 0, 56, 0, 0, 0, 0, 0, 0, 0, 3, 0, 0, 0, 32, 0, 0, 0, 38, 0, 0, 0, 44, 0, 0, 0, 50]
abbrev dktX0_behind_3 : List UInt8 := dkwX0_behind_3 ++ dktX0_behind_4
def dkwX0_behind_2 : List UInt8 := [182, 1, 33, 58, 4, 29]
abbrev dktX0_behind_2 : List UInt8 := dkwX0_behind_2 ++ dktX0_behind_3
def dkwX0_behind_1 : List UInt8 := [20, 1, 27, 184, 0, 157, 16, 250, 184, 0, 116, 42, 180, 0, 77, 42, 180, 0, 99, 27, 182, 1, 29, 28]
abbrev dktX0_behind_1 : List UInt8 := dkwX0_behind_1 ++ dktX0_behind_2
def dkwX0_behind_0 : List UInt8 := [42, 27, 182, 0, 185, 29, 133, 9, 20, 1, 25, 184, 0, 157, 16, 251, 184, 0, 116, 28, 133, 9]
abbrev dktX0_behind_0 : List UInt8 := dkwX0_behind_0 ++ dktX0_behind_1
theorem dksX0_behind_0 : cX0_behind.data.toList.drop 0 = dktX0_behind_0 := by decide +kernel
theorem dksX0_behind_1 : cX0_behind.data.toList.drop 22 = dktX0_behind_1 := dk_seg dksX0_behind_0 22 rfl rfl
theorem dksX0_behind_2 : cX0_behind.data.toList.drop 46 = dktX0_behind_2 := dk_seg dksX0_behind_1 24 rfl rfl
theorem dksX0_behind_3 : cX0_behind.data.toList.drop 52 = dktX0_behind_3 := dk_seg dksX0_behind_2 6 rfl rfl
theorem dksX0_behind_4 : cX0_behind.data.toList.drop 84 = dktX0_behind_4 := dk_seg dksX0_behind_3 32 rfl rfl
theorem dksX0_behind_5 : cX0_behind.data.toList.drop 108 = dktX0_behind_5 := dk_seg dksX0_behind_4 24 rfl rfl
theorem dX0_behind_0 : decode cX0_behind 0 = .ok (.aload_n 0, 1) := dk_42 (dk_at dksX0_behind_0 0 rfl rfl)
theorem dX0_behind_1 : decode cX0_behind 1 = .ok (.iload_n 1, 1) := dk_27 (dk_at dksX0_behind_0 1 rfl rfl)
theorem dX0_behind_2 : decode cX0_behind 2 = .ok (.invokevirtual 185, 3) := dk_182 0 185 (dk_at dksX0_behind_0 2 rfl rfl)
theorem dX0_behind_5 : decode cX0_behind 5 = .ok (.iload_n 3, 1) := dk_29 (dk_at dksX0_behind_0 5 rfl rfl)
theorem dX0_behind_6 : decode cX0_behind 6 = .ok (.i2l, 1) := dk_133 (dk_at dksX0_behind_0 6 rfl rfl)
theorem dX0_behind_7 : decode cX0_behind 7 = .ok (.lconst 0, 1) := dk_9 (dk_at dksX0_behind_0 7 rfl rfl)
theorem dX0_behind_8 : decode cX0_behind 8 = .ok (.ldc2_w 281, 3) := dk_20 1 25 (dk_at dksX0_behind_0 8 rfl rfl)
theorem dX0_behind_11 : decode cX0_behind 11 = .ok (.invokestatic 157, 3) := dk_184 0 157 (dk_at dksX0_behind_0 11 rfl rfl)
theorem dX0_behind_14 : decode cX0_behind 14 = .ok (.bipush (-5), 2) := dk_16 251 (dk_at dksX0_behind_0 14 rfl rfl)
theorem dX0_behind_16 : decode cX0_behind 16 = .ok (.invokestatic 116, 3) := dk_184 0 116 (dk_at dksX0_behind_0 16 rfl rfl)
theorem dX0_behind_19 : decode cX0_behind 19 = .ok (.iload_n 2, 1) := dk_28 (dk_at dksX0_behind_0 19 rfl rfl)
theorem dX0_behind_20 : decode cX0_behind 20 = .ok (.i2l, 1) := dk_133 (dk_at dksX0_behind_0 20 rfl rfl)
theorem dX0_behind_21 : decode cX0_behind 21 = .ok (.lconst 0, 1) := dk_9 (dk_at dksX0_behind_0 21 rfl rfl)
theorem dX0_behind_22 : decode cX0_behind 22 = .ok (.ldc2_w 283, 3) := dk_20 1 27 (dk_at dksX0_behind_1 0 rfl rfl)
theorem dX0_behind_25 : decode cX0_behind 25 = .ok (.invokestatic 157, 3) := dk_184 0 157 (dk_at dksX0_behind_1 3 rfl rfl)
theorem dX0_behind_28 : decode cX0_behind 28 = .ok (.bipush (-6), 2) := dk_16 250 (dk_at dksX0_behind_1 6 rfl rfl)
theorem dX0_behind_30 : decode cX0_behind 30 = .ok (.invokestatic 116, 3) := dk_184 0 116 (dk_at dksX0_behind_1 8 rfl rfl)
theorem dX0_behind_33 : decode cX0_behind 33 = .ok (.aload_n 0, 1) := dk_42 (dk_at dksX0_behind_1 11 rfl rfl)
theorem dX0_behind_34 : decode cX0_behind 34 = .ok (.getfield 77, 3) := dk_180 0 77 (dk_at dksX0_behind_1 12 rfl rfl)
theorem dX0_behind_37 : decode cX0_behind 37 = .ok (.aload_n 0, 1) := dk_42 (dk_at dksX0_behind_1 15 rfl rfl)
theorem dX0_behind_38 : decode cX0_behind 38 = .ok (.getfield 99, 3) := dk_180 0 99 (dk_at dksX0_behind_1 16 rfl rfl)
theorem dX0_behind_41 : decode cX0_behind 41 = .ok (.iload_n 1, 1) := dk_27 (dk_at dksX0_behind_1 19 rfl rfl)
theorem dX0_behind_42 : decode cX0_behind 42 = .ok (.invokevirtual 285, 3) := dk_182 1 29 (dk_at dksX0_behind_1 20 rfl rfl)
theorem dX0_behind_45 : decode cX0_behind 45 = .ok (.iload_n 2, 1) := dk_28 (dk_at dksX0_behind_1 23 rfl rfl)
theorem dX0_behind_46 : decode cX0_behind 46 = .ok (.invokevirtual 289, 3) := dk_182 1 33 (dk_at dksX0_behind_2 0 rfl rfl)
theorem dX0_behind_49 : decode cX0_behind 49 = .ok (.astore 4, 2) := dk_58 4 (dk_at dksX0_behind_2 3 rfl rfl)
theorem dX0_behind_51 : decode cX0_behind 51 = .ok (.iload_n 3, 1) := dk_29 (dk_at dksX0_behind_2 5 rfl rfl)
theorem dX0_behind_52 : decode cX0_behind 52 = .ok (.tableswitch 56 0 3 #[32, 38, 44, 50], 32) := by decide +kernel
theorem dX0_behind_84 : decode cX0_behind 84 = .ok (.aload 4, 2) := dk_25 4 (dk_at dksX0_behind_4 0 rfl rfl)
theorem dX0_behind_86 : decode cX0_behind 86 = .ok (.getfield 293, 3) := dk_180 1 37 (dk_at dksX0_behind_4 2 rfl rfl)
theorem dX0_behind_89 : decode cX0_behind 89 = .ok (.ireturn, 1) := dk_172 (dk_at dksX0_behind_4 5 rfl rfl)
theorem dX0_behind_90 : decode cX0_behind 90 = .ok (.aload 4, 2) := dk_25 4 (dk_at dksX0_behind_4 6 rfl rfl)
theorem dX0_behind_92 : decode cX0_behind 92 = .ok (.getfield 296, 3) := dk_180 1 40 (dk_at dksX0_behind_4 8 rfl rfl)
theorem dX0_behind_95 : decode cX0_behind 95 = .ok (.ireturn, 1) := dk_172 (dk_at dksX0_behind_4 11 rfl rfl)
theorem dX0_behind_96 : decode cX0_behind 96 = .ok (.aload 4, 2) := dk_25 4 (dk_at dksX0_behind_4 12 rfl rfl)
theorem dX0_behind_98 : decode cX0_behind 98 = .ok (.getfield 299, 3) := dk_180 1 43 (dk_at dksX0_behind_4 14 rfl rfl)
theorem dX0_behind_101 : decode cX0_behind 101 = .ok (.ireturn, 1) := dk_172 (dk_at dksX0_behind_4 17 rfl rfl)
theorem dX0_behind_102 : decode cX0_behind 102 = .ok (.aload 4, 2) := dk_25 4 (dk_at dksX0_behind_4 18 rfl rfl)
theorem dX0_behind_104 : decode cX0_behind 104 = .ok (.getfield 302, 3) := dk_180 1 46 (dk_at dksX0_behind_4 20 rfl rfl)
theorem dX0_behind_107 : decode cX0_behind 107 = .ok (.ireturn, 1) := dk_172 (dk_at dksX0_behind_4 23 rfl rfl)
theorem dX0_behind_108 : decode cX0_behind 108 = .ok (.aload 4, 2) := dk_25 4 (dk_at dksX0_behind_5 0 rfl rfl)
theorem dX0_behind_110 : decode cX0_behind 110 = .ok (.getfield 305, 3) := dk_180 1 49 (dk_at dksX0_behind_5 2 rfl rfl)
theorem dX0_behind_113 : decode cX0_behind 113 = .ok (.ireturn, 1) := dk_172 (dk_at dksX0_behind_5 5 rfl rfl)
theorem dX0_behind_114 : decode cX0_behind 114 = .ok (.astore 4, 2) := dk_58 4 (dk_at dksX0_behind_5 6 rfl rfl)
theorem dX0_behind_116 : decode cX0_behind 116 = .ok (.aload_n 0, 1) := dk_42 (dk_at dksX0_behind_5 8 rfl rfl)
theorem dX0_behind_117 : decode cX0_behind 117 = .ok (.aload 4, 2) := dk_25 4 (dk_at dksX0_behind_5 9 rfl rfl)
theorem dX0_behind_119 : decode cX0_behind 119 = .ok (.invokevirtual 165, 3) := dk_182 0 165 (dk_at dksX0_behind_5 11 rfl rfl)
theorem dX0_behind_122 : decode cX0_behind 122 = .ok (.ireturn, 1) := dk_172 (dk_at dksX0_behind_5 14 rfl rfl)
abbrev cX0_comesIn : ByteArray := prog_1_method_33_code
def yX0_comesIn : MethodName := ⟨RX0, "comesIn", "(I)I"⟩
def dkwX0_comesIn_0 : List UInt8 := [42, 27, 182, 0, 185, 42, 27, 182, 1, 55, 172, 77, 42, 44, 182, 0, 165, 172]
abbrev dktX0_comesIn_0 : List UInt8 := dkwX0_comesIn_0 ++ []
theorem dksX0_comesIn_0 : cX0_comesIn.data.toList.drop 0 = dktX0_comesIn_0 := by decide +kernel
theorem dX0_comesIn_0 : decode cX0_comesIn 0 = .ok (.aload_n 0, 1) := dk_42 (dk_at dksX0_comesIn_0 0 rfl rfl)
theorem dX0_comesIn_1 : decode cX0_comesIn 1 = .ok (.iload_n 1, 1) := dk_27 (dk_at dksX0_comesIn_0 1 rfl rfl)
theorem dX0_comesIn_2 : decode cX0_comesIn 2 = .ok (.invokevirtual 185, 3) := dk_182 0 185 (dk_at dksX0_comesIn_0 2 rfl rfl)
theorem dX0_comesIn_5 : decode cX0_comesIn 5 = .ok (.aload_n 0, 1) := dk_42 (dk_at dksX0_comesIn_0 5 rfl rfl)
theorem dX0_comesIn_6 : decode cX0_comesIn 6 = .ok (.iload_n 1, 1) := dk_27 (dk_at dksX0_comesIn_0 6 rfl rfl)
theorem dX0_comesIn_7 : decode cX0_comesIn 7 = .ok (.invokevirtual 311, 3) := dk_182 1 55 (dk_at dksX0_comesIn_0 7 rfl rfl)
theorem dX0_comesIn_10 : decode cX0_comesIn 10 = .ok (.ireturn, 1) := dk_172 (dk_at dksX0_comesIn_0 10 rfl rfl)
theorem dX0_comesIn_11 : decode cX0_comesIn 11 = .ok (.astore_n 2, 1) := dk_77 (dk_at dksX0_comesIn_0 11 rfl rfl)
theorem dX0_comesIn_12 : decode cX0_comesIn 12 = .ok (.aload_n 0, 1) := dk_42 (dk_at dksX0_comesIn_0 12 rfl rfl)
theorem dX0_comesIn_13 : decode cX0_comesIn 13 = .ok (.aload_n 2, 1) := dk_44 (dk_at dksX0_comesIn_0 13 rfl rfl)
theorem dX0_comesIn_14 : decode cX0_comesIn 14 = .ok (.invokevirtual 165, 3) := dk_182 0 165 (dk_at dksX0_comesIn_0 14 rfl rfl)
theorem dX0_comesIn_17 : decode cX0_comesIn 17 = .ok (.ireturn, 1) := dk_172 (dk_at dksX0_comesIn_0 17 rfl rfl)
abbrev cX0_timeOf : ByteArray := prog_1_method_32_code
def yX0_timeOf : MethodName := ⟨RX0, "timeOf", "(I)I"⟩
def dkwX0_timeOf_0 : List UInt8 := [42, 180, 0, 77, 42, 180, 0, 99, 27, 182, 1, 29, 182, 1, 52, 172]
abbrev dktX0_timeOf_0 : List UInt8 := dkwX0_timeOf_0 ++ []
theorem dksX0_timeOf_0 : cX0_timeOf.data.toList.drop 0 = dktX0_timeOf_0 := by decide +kernel
theorem dX0_timeOf_0 : decode cX0_timeOf 0 = .ok (.aload_n 0, 1) := dk_42 (dk_at dksX0_timeOf_0 0 rfl rfl)
theorem dX0_timeOf_1 : decode cX0_timeOf 1 = .ok (.getfield 77, 3) := dk_180 0 77 (dk_at dksX0_timeOf_0 1 rfl rfl)
theorem dX0_timeOf_4 : decode cX0_timeOf 4 = .ok (.aload_n 0, 1) := dk_42 (dk_at dksX0_timeOf_0 4 rfl rfl)
theorem dX0_timeOf_5 : decode cX0_timeOf 5 = .ok (.getfield 99, 3) := dk_180 0 99 (dk_at dksX0_timeOf_0 5 rfl rfl)
theorem dX0_timeOf_8 : decode cX0_timeOf 8 = .ok (.iload_n 1, 1) := dk_27 (dk_at dksX0_timeOf_0 8 rfl rfl)
theorem dX0_timeOf_9 : decode cX0_timeOf 9 = .ok (.invokevirtual 285, 3) := dk_182 1 29 (dk_at dksX0_timeOf_0 9 rfl rfl)
theorem dX0_timeOf_12 : decode cX0_timeOf 12 = .ok (.invokevirtual 308, 3) := dk_182 1 52 (dk_at dksX0_timeOf_0 12 rfl rfl)
theorem dX0_timeOf_15 : decode cX0_timeOf 15 = .ok (.ireturn, 1) := dk_172 (dk_at dksX0_timeOf_0 15 rfl rfl)
abbrev cX0_wins : ByteArray := prog_1_method_36_code
def yX0_wins : MethodName := ⟨RX0, "wins", "(I)I"⟩
def dkwX0_wins_3 : List UInt8 := [182, 0, 165, 172]
abbrev dktX0_wins_3 : List UInt8 := dkwX0_wins_3 ++ []
def dkwX0_wins_2 : List UInt8 := [29, 2, 160, 0, 7, 3, 167, 0, 14, 42, 29, 182, 1, 55, 42, 28, 182, 1, 55, 100, 172, 77, 42, 44]
abbrev dktX0_wins_2 : List UInt8 := dkwX0_wins_2 ++ dktX0_wins_3
def dkwX0_wins_1 : List UInt8 := [61, 42, 42, 182, 1, 61, 4, 28, 120, 2, 130, 126, 182, 1, 64, 62, 27, 154, 0, 7, 28, 167, 0, 23]
abbrev dktX0_wins_1 : List UInt8 := dkwX0_wins_1 ++ dktX0_wins_2
def dkwX0_wins_0 : List UInt8 := [27, 133, 9, 10, 184, 0, 157, 16, 251, 184, 0, 116, 42, 182, 1, 58, 42, 42, 182, 1, 61, 182, 1, 64]
abbrev dktX0_wins_0 : List UInt8 := dkwX0_wins_0 ++ dktX0_wins_1
theorem dksX0_wins_0 : cX0_wins.data.toList.drop 0 = dktX0_wins_0 := by decide +kernel
theorem dksX0_wins_1 : cX0_wins.data.toList.drop 24 = dktX0_wins_1 := dk_seg dksX0_wins_0 24 rfl rfl
theorem dksX0_wins_2 : cX0_wins.data.toList.drop 48 = dktX0_wins_2 := dk_seg dksX0_wins_1 24 rfl rfl
theorem dksX0_wins_3 : cX0_wins.data.toList.drop 72 = dktX0_wins_3 := dk_seg dksX0_wins_2 24 rfl rfl
theorem dX0_wins_0 : decode cX0_wins 0 = .ok (.iload_n 1, 1) := dk_27 (dk_at dksX0_wins_0 0 rfl rfl)
theorem dX0_wins_1 : decode cX0_wins 1 = .ok (.i2l, 1) := dk_133 (dk_at dksX0_wins_0 1 rfl rfl)
theorem dX0_wins_2 : decode cX0_wins 2 = .ok (.lconst 0, 1) := dk_9 (dk_at dksX0_wins_0 2 rfl rfl)
theorem dX0_wins_3 : decode cX0_wins 3 = .ok (.lconst 1, 1) := dk_10 (dk_at dksX0_wins_0 3 rfl rfl)
theorem dX0_wins_4 : decode cX0_wins 4 = .ok (.invokestatic 157, 3) := dk_184 0 157 (dk_at dksX0_wins_0 4 rfl rfl)
theorem dX0_wins_7 : decode cX0_wins 7 = .ok (.bipush (-5), 2) := dk_16 251 (dk_at dksX0_wins_0 7 rfl rfl)
theorem dX0_wins_9 : decode cX0_wins 9 = .ok (.invokestatic 116, 3) := dk_184 0 116 (dk_at dksX0_wins_0 9 rfl rfl)
theorem dX0_wins_12 : decode cX0_wins 12 = .ok (.aload_n 0, 1) := dk_42 (dk_at dksX0_wins_0 12 rfl rfl)
theorem dX0_wins_13 : decode cX0_wins 13 = .ok (.invokevirtual 314, 3) := dk_182 1 58 (dk_at dksX0_wins_0 13 rfl rfl)
theorem dX0_wins_16 : decode cX0_wins 16 = .ok (.aload_n 0, 1) := dk_42 (dk_at dksX0_wins_0 16 rfl rfl)
theorem dX0_wins_17 : decode cX0_wins 17 = .ok (.aload_n 0, 1) := dk_42 (dk_at dksX0_wins_0 17 rfl rfl)
theorem dX0_wins_18 : decode cX0_wins 18 = .ok (.invokevirtual 317, 3) := dk_182 1 61 (dk_at dksX0_wins_0 18 rfl rfl)
theorem dX0_wins_21 : decode cX0_wins 21 = .ok (.invokevirtual 320, 3) := dk_182 1 64 (dk_at dksX0_wins_0 21 rfl rfl)
theorem dX0_wins_24 : decode cX0_wins 24 = .ok (.istore_n 2, 1) := dk_61 (dk_at dksX0_wins_1 0 rfl rfl)
theorem dX0_wins_25 : decode cX0_wins 25 = .ok (.aload_n 0, 1) := dk_42 (dk_at dksX0_wins_1 1 rfl rfl)
theorem dX0_wins_26 : decode cX0_wins 26 = .ok (.aload_n 0, 1) := dk_42 (dk_at dksX0_wins_1 2 rfl rfl)
theorem dX0_wins_27 : decode cX0_wins 27 = .ok (.invokevirtual 317, 3) := dk_182 1 61 (dk_at dksX0_wins_1 3 rfl rfl)
theorem dX0_wins_30 : decode cX0_wins 30 = .ok (.iconst 1, 1) := dk_4 (dk_at dksX0_wins_1 6 rfl rfl)
theorem dX0_wins_31 : decode cX0_wins 31 = .ok (.iload_n 2, 1) := dk_28 (dk_at dksX0_wins_1 7 rfl rfl)
theorem dX0_wins_32 : decode cX0_wins 32 = .ok (.ishl, 1) := dk_120 (dk_at dksX0_wins_1 8 rfl rfl)
theorem dX0_wins_33 : decode cX0_wins 33 = .ok (.iconst (-1), 1) := dk_2 (dk_at dksX0_wins_1 9 rfl rfl)
theorem dX0_wins_34 : decode cX0_wins 34 = .ok (.ixor, 1) := dk_130 (dk_at dksX0_wins_1 10 rfl rfl)
theorem dX0_wins_35 : decode cX0_wins 35 = .ok (.iand, 1) := dk_126 (dk_at dksX0_wins_1 11 rfl rfl)
theorem dX0_wins_36 : decode cX0_wins 36 = .ok (.invokevirtual 320, 3) := dk_182 1 64 (dk_at dksX0_wins_1 12 rfl rfl)
theorem dX0_wins_39 : decode cX0_wins 39 = .ok (.istore_n 3, 1) := dk_62 (dk_at dksX0_wins_1 15 rfl rfl)
theorem dX0_wins_40 : decode cX0_wins 40 = .ok (.iload_n 1, 1) := dk_27 (dk_at dksX0_wins_1 16 rfl rfl)
theorem dX0_wins_41 : decode cX0_wins 41 = .ok (.ifCond .ne 7, 3) := dk_154 0 7 (dk_at dksX0_wins_1 17 rfl rfl)
theorem dX0_wins_44 : decode cX0_wins 44 = .ok (.iload_n 2, 1) := dk_28 (dk_at dksX0_wins_1 20 rfl rfl)
theorem dX0_wins_45 : decode cX0_wins 45 = .ok (.goto 23, 3) := dk_167 0 23 (dk_at dksX0_wins_1 21 rfl rfl)
theorem dX0_wins_48 : decode cX0_wins 48 = .ok (.iload_n 3, 1) := dk_29 (dk_at dksX0_wins_2 0 rfl rfl)
theorem dX0_wins_49 : decode cX0_wins 49 = .ok (.iconst (-1), 1) := dk_2 (dk_at dksX0_wins_2 1 rfl rfl)
theorem dX0_wins_50 : decode cX0_wins 50 = .ok (.if_icmp .ne 7, 3) := dk_160 0 7 (dk_at dksX0_wins_2 2 rfl rfl)
theorem dX0_wins_53 : decode cX0_wins 53 = .ok (.iconst 0, 1) := dk_3 (dk_at dksX0_wins_2 5 rfl rfl)
theorem dX0_wins_54 : decode cX0_wins 54 = .ok (.goto 14, 3) := dk_167 0 14 (dk_at dksX0_wins_2 6 rfl rfl)
theorem dX0_wins_57 : decode cX0_wins 57 = .ok (.aload_n 0, 1) := dk_42 (dk_at dksX0_wins_2 9 rfl rfl)
theorem dX0_wins_58 : decode cX0_wins 58 = .ok (.iload_n 3, 1) := dk_29 (dk_at dksX0_wins_2 10 rfl rfl)
theorem dX0_wins_59 : decode cX0_wins 59 = .ok (.invokevirtual 311, 3) := dk_182 1 55 (dk_at dksX0_wins_2 11 rfl rfl)
theorem dX0_wins_62 : decode cX0_wins 62 = .ok (.aload_n 0, 1) := dk_42 (dk_at dksX0_wins_2 14 rfl rfl)
theorem dX0_wins_63 : decode cX0_wins 63 = .ok (.iload_n 2, 1) := dk_28 (dk_at dksX0_wins_2 15 rfl rfl)
theorem dX0_wins_64 : decode cX0_wins 64 = .ok (.invokevirtual 311, 3) := dk_182 1 55 (dk_at dksX0_wins_2 16 rfl rfl)
theorem dX0_wins_67 : decode cX0_wins 67 = .ok (.isub, 1) := dk_100 (dk_at dksX0_wins_2 19 rfl rfl)
theorem dX0_wins_68 : decode cX0_wins 68 = .ok (.ireturn, 1) := dk_172 (dk_at dksX0_wins_2 20 rfl rfl)
theorem dX0_wins_69 : decode cX0_wins 69 = .ok (.astore_n 2, 1) := dk_77 (dk_at dksX0_wins_2 21 rfl rfl)
theorem dX0_wins_70 : decode cX0_wins 70 = .ok (.aload_n 0, 1) := dk_42 (dk_at dksX0_wins_2 22 rfl rfl)
theorem dX0_wins_71 : decode cX0_wins 71 = .ok (.aload_n 2, 1) := dk_44 (dk_at dksX0_wins_2 23 rfl rfl)
theorem dX0_wins_72 : decode cX0_wins 72 = .ok (.invokevirtual 165, 3) := dk_182 0 165 (dk_at dksX0_wins_3 0 rfl rfl)
theorem dX0_wins_75 : decode cX0_wins 75 = .ok (.ireturn, 1) := dk_172 (dk_at dksX0_wins_3 3 rfl rfl)
abbrev cX0_someChildren : ByteArray := prog_1_method_10_code
def yX0_someChildren : MethodName := ⟨RX0, "someChildren", "()V"⟩
def dkwX0_someChildren_0 : List UInt8 := [42, 180, 0, 99, 180, 0, 120, 158, 0, 7, 4, 167, 0, 4, 3, 16, 251, 184, 0, 116, 177]
abbrev dktX0_someChildren_0 : List UInt8 := dkwX0_someChildren_0 ++ []
theorem dksX0_someChildren_0 : cX0_someChildren.data.toList.drop 0 = dktX0_someChildren_0 := by decide +kernel
theorem dX0_someChildren_0 : decode cX0_someChildren 0 = .ok (.aload_n 0, 1) := dk_42 (dk_at dksX0_someChildren_0 0 rfl rfl)
theorem dX0_someChildren_1 : decode cX0_someChildren 1 = .ok (.getfield 99, 3) := dk_180 0 99 (dk_at dksX0_someChildren_0 1 rfl rfl)
theorem dX0_someChildren_4 : decode cX0_someChildren 4 = .ok (.getfield 120, 3) := dk_180 0 120 (dk_at dksX0_someChildren_0 4 rfl rfl)
theorem dX0_someChildren_7 : decode cX0_someChildren 7 = .ok (.ifCond .le 7, 3) := dk_158 0 7 (dk_at dksX0_someChildren_0 7 rfl rfl)
theorem dX0_someChildren_10 : decode cX0_someChildren 10 = .ok (.iconst 1, 1) := dk_4 (dk_at dksX0_someChildren_0 10 rfl rfl)
theorem dX0_someChildren_11 : decode cX0_someChildren 11 = .ok (.goto 4, 3) := dk_167 0 4 (dk_at dksX0_someChildren_0 11 rfl rfl)
theorem dX0_someChildren_14 : decode cX0_someChildren 14 = .ok (.iconst 0, 1) := dk_3 (dk_at dksX0_someChildren_0 14 rfl rfl)
theorem dX0_someChildren_15 : decode cX0_someChildren 15 = .ok (.bipush (-5), 2) := dk_16 251 (dk_at dksX0_someChildren_0 15 rfl rfl)
theorem dX0_someChildren_17 : decode cX0_someChildren 17 = .ok (.invokestatic 116, 3) := dk_184 0 116 (dk_at dksX0_someChildren_0 17 rfl rfl)
theorem dX0_someChildren_20 : decode cX0_someChildren 20 = .ok (.return_, 1) := dk_177 (dk_at dksX0_someChildren_0 20 rfl rfl)
abbrev cX0_all : ByteArray := prog_1_method_35_code
def yX0_all : MethodName := ⟨RX0, "all", "()I"⟩
def dkwX0_all_0 : List UInt8 := [4, 42, 180, 0, 99, 180, 0, 120, 120, 4, 100, 172]
abbrev dktX0_all_0 : List UInt8 := dkwX0_all_0 ++ []
theorem dksX0_all_0 : cX0_all.data.toList.drop 0 = dktX0_all_0 := by decide +kernel
theorem dX0_all_0 : decode cX0_all 0 = .ok (.iconst 1, 1) := dk_4 (dk_at dksX0_all_0 0 rfl rfl)
theorem dX0_all_1 : decode cX0_all 1 = .ok (.aload_n 0, 1) := dk_42 (dk_at dksX0_all_0 1 rfl rfl)
theorem dX0_all_2 : decode cX0_all 2 = .ok (.getfield 99, 3) := dk_180 0 99 (dk_at dksX0_all_0 2 rfl rfl)
theorem dX0_all_5 : decode cX0_all 5 = .ok (.getfield 120, 3) := dk_180 0 120 (dk_at dksX0_all_0 5 rfl rfl)
theorem dX0_all_8 : decode cX0_all 8 = .ok (.ishl, 1) := dk_120 (dk_at dksX0_all_0 8 rfl rfl)
theorem dX0_all_9 : decode cX0_all 9 = .ok (.iconst 1, 1) := dk_4 (dk_at dksX0_all_0 9 rfl rfl)
theorem dX0_all_10 : decode cX0_all 10 = .ok (.isub, 1) := dk_100 (dk_at dksX0_all_0 10 rfl rfl)
theorem dX0_all_11 : decode cX0_all 11 = .ok (.ireturn, 1) := dk_172 (dk_at dksX0_all_0 11 rfl rfl)
abbrev cX0_winnerOf : ByteArray := prog_1_method_34_code
def yX0_winnerOf : MethodName := ⟨RX0, "winnerOf", "(I)I"⟩
def dkwX0_winnerOf_3 : List UInt8 := [167, 255, 192, 28, 172]
abbrev dktX0_winnerOf_3 : List UInt8 := dkwX0_winnerOf_3 ++ []
def dkwX0_winnerOf_2 : List UInt8 := [153, 0, 20, 28, 2, 159, 0, 9, 21, 5, 29, 162, 0, 9, 21, 4, 61, 21, 5, 62, 132, 4, 1]
abbrev dktX0_winnerOf_2 : List UInt8 := dkwX0_winnerOf_2 ++ dktX0_winnerOf_3
def dkwX0_winnerOf_1 : List UInt8 := [126, 153, 0, 12, 42, 21, 4, 182, 1, 55, 167, 0, 6, 17, 3, 231, 54, 5, 27, 21, 4, 122, 4, 126]
abbrev dktX0_winnerOf_1 : List UInt8 := dkwX0_winnerOf_1 ++ dktX0_winnerOf_2
def dkwX0_winnerOf_0 : List UInt8 := [2, 61, 3, 62, 3, 54, 4, 21, 4, 42, 180, 0, 99, 180, 0, 120, 162, 0, 58, 27, 21, 4, 122, 4]
abbrev dktX0_winnerOf_0 : List UInt8 := dkwX0_winnerOf_0 ++ dktX0_winnerOf_1
theorem dksX0_winnerOf_0 : cX0_winnerOf.data.toList.drop 0 = dktX0_winnerOf_0 := by decide +kernel
theorem dksX0_winnerOf_1 : cX0_winnerOf.data.toList.drop 24 = dktX0_winnerOf_1 := dk_seg dksX0_winnerOf_0 24 rfl rfl
theorem dksX0_winnerOf_2 : cX0_winnerOf.data.toList.drop 48 = dktX0_winnerOf_2 := dk_seg dksX0_winnerOf_1 24 rfl rfl
theorem dksX0_winnerOf_3 : cX0_winnerOf.data.toList.drop 71 = dktX0_winnerOf_3 := dk_seg dksX0_winnerOf_2 23 rfl rfl
theorem dX0_winnerOf_0 : decode cX0_winnerOf 0 = .ok (.iconst (-1), 1) := dk_2 (dk_at dksX0_winnerOf_0 0 rfl rfl)
theorem dX0_winnerOf_1 : decode cX0_winnerOf 1 = .ok (.istore_n 2, 1) := dk_61 (dk_at dksX0_winnerOf_0 1 rfl rfl)
theorem dX0_winnerOf_2 : decode cX0_winnerOf 2 = .ok (.iconst 0, 1) := dk_3 (dk_at dksX0_winnerOf_0 2 rfl rfl)
theorem dX0_winnerOf_3 : decode cX0_winnerOf 3 = .ok (.istore_n 3, 1) := dk_62 (dk_at dksX0_winnerOf_0 3 rfl rfl)
theorem dX0_winnerOf_4 : decode cX0_winnerOf 4 = .ok (.iconst 0, 1) := dk_3 (dk_at dksX0_winnerOf_0 4 rfl rfl)
theorem dX0_winnerOf_5 : decode cX0_winnerOf 5 = .ok (.istore 4, 2) := dk_54 4 (dk_at dksX0_winnerOf_0 5 rfl rfl)
theorem dX0_winnerOf_7 : decode cX0_winnerOf 7 = .ok (.iload 4, 2) := dk_21 4 (dk_at dksX0_winnerOf_0 7 rfl rfl)
theorem dX0_winnerOf_9 : decode cX0_winnerOf 9 = .ok (.aload_n 0, 1) := dk_42 (dk_at dksX0_winnerOf_0 9 rfl rfl)
theorem dX0_winnerOf_10 : decode cX0_winnerOf 10 = .ok (.getfield 99, 3) := dk_180 0 99 (dk_at dksX0_winnerOf_0 10 rfl rfl)
theorem dX0_winnerOf_13 : decode cX0_winnerOf 13 = .ok (.getfield 120, 3) := dk_180 0 120 (dk_at dksX0_winnerOf_0 13 rfl rfl)
theorem dX0_winnerOf_16 : decode cX0_winnerOf 16 = .ok (.if_icmp .ge 58, 3) := dk_162 0 58 (dk_at dksX0_winnerOf_0 16 rfl rfl)
theorem dX0_winnerOf_19 : decode cX0_winnerOf 19 = .ok (.iload_n 1, 1) := dk_27 (dk_at dksX0_winnerOf_0 19 rfl rfl)
theorem dX0_winnerOf_20 : decode cX0_winnerOf 20 = .ok (.iload 4, 2) := dk_21 4 (dk_at dksX0_winnerOf_0 20 rfl rfl)
theorem dX0_winnerOf_22 : decode cX0_winnerOf 22 = .ok (.ishr, 1) := dk_122 (dk_at dksX0_winnerOf_0 22 rfl rfl)
theorem dX0_winnerOf_23 : decode cX0_winnerOf 23 = .ok (.iconst 1, 1) := dk_4 (dk_at dksX0_winnerOf_0 23 rfl rfl)
theorem dX0_winnerOf_24 : decode cX0_winnerOf 24 = .ok (.iand, 1) := dk_126 (dk_at dksX0_winnerOf_1 0 rfl rfl)
theorem dX0_winnerOf_25 : decode cX0_winnerOf 25 = .ok (.ifCond .eq 12, 3) := dk_153 0 12 (dk_at dksX0_winnerOf_1 1 rfl rfl)
theorem dX0_winnerOf_28 : decode cX0_winnerOf 28 = .ok (.aload_n 0, 1) := dk_42 (dk_at dksX0_winnerOf_1 4 rfl rfl)
theorem dX0_winnerOf_29 : decode cX0_winnerOf 29 = .ok (.iload 4, 2) := dk_21 4 (dk_at dksX0_winnerOf_1 5 rfl rfl)
theorem dX0_winnerOf_31 : decode cX0_winnerOf 31 = .ok (.invokevirtual 311, 3) := dk_182 1 55 (dk_at dksX0_winnerOf_1 7 rfl rfl)
theorem dX0_winnerOf_34 : decode cX0_winnerOf 34 = .ok (.goto 6, 3) := dk_167 0 6 (dk_at dksX0_winnerOf_1 10 rfl rfl)
theorem dX0_winnerOf_37 : decode cX0_winnerOf 37 = .ok (.sipush 999, 3) := dk_17 3 231 (dk_at dksX0_winnerOf_1 13 rfl rfl)
theorem dX0_winnerOf_40 : decode cX0_winnerOf 40 = .ok (.istore 5, 2) := dk_54 5 (dk_at dksX0_winnerOf_1 16 rfl rfl)
theorem dX0_winnerOf_42 : decode cX0_winnerOf 42 = .ok (.iload_n 1, 1) := dk_27 (dk_at dksX0_winnerOf_1 18 rfl rfl)
theorem dX0_winnerOf_43 : decode cX0_winnerOf 43 = .ok (.iload 4, 2) := dk_21 4 (dk_at dksX0_winnerOf_1 19 rfl rfl)
theorem dX0_winnerOf_45 : decode cX0_winnerOf 45 = .ok (.ishr, 1) := dk_122 (dk_at dksX0_winnerOf_1 21 rfl rfl)
theorem dX0_winnerOf_46 : decode cX0_winnerOf 46 = .ok (.iconst 1, 1) := dk_4 (dk_at dksX0_winnerOf_1 22 rfl rfl)
theorem dX0_winnerOf_47 : decode cX0_winnerOf 47 = .ok (.iand, 1) := dk_126 (dk_at dksX0_winnerOf_1 23 rfl rfl)
theorem dX0_winnerOf_48 : decode cX0_winnerOf 48 = .ok (.ifCond .eq 20, 3) := dk_153 0 20 (dk_at dksX0_winnerOf_2 0 rfl rfl)
theorem dX0_winnerOf_51 : decode cX0_winnerOf 51 = .ok (.iload_n 2, 1) := dk_28 (dk_at dksX0_winnerOf_2 3 rfl rfl)
theorem dX0_winnerOf_52 : decode cX0_winnerOf 52 = .ok (.iconst (-1), 1) := dk_2 (dk_at dksX0_winnerOf_2 4 rfl rfl)
theorem dX0_winnerOf_53 : decode cX0_winnerOf 53 = .ok (.if_icmp .eq 9, 3) := dk_159 0 9 (dk_at dksX0_winnerOf_2 5 rfl rfl)
theorem dX0_winnerOf_56 : decode cX0_winnerOf 56 = .ok (.iload 5, 2) := dk_21 5 (dk_at dksX0_winnerOf_2 8 rfl rfl)
theorem dX0_winnerOf_58 : decode cX0_winnerOf 58 = .ok (.iload_n 3, 1) := dk_29 (dk_at dksX0_winnerOf_2 10 rfl rfl)
theorem dX0_winnerOf_59 : decode cX0_winnerOf 59 = .ok (.if_icmp .ge 9, 3) := dk_162 0 9 (dk_at dksX0_winnerOf_2 11 rfl rfl)
theorem dX0_winnerOf_62 : decode cX0_winnerOf 62 = .ok (.iload 4, 2) := dk_21 4 (dk_at dksX0_winnerOf_2 14 rfl rfl)
theorem dX0_winnerOf_64 : decode cX0_winnerOf 64 = .ok (.istore_n 2, 1) := dk_61 (dk_at dksX0_winnerOf_2 16 rfl rfl)
theorem dX0_winnerOf_65 : decode cX0_winnerOf 65 = .ok (.iload 5, 2) := dk_21 5 (dk_at dksX0_winnerOf_2 17 rfl rfl)
theorem dX0_winnerOf_67 : decode cX0_winnerOf 67 = .ok (.istore_n 3, 1) := dk_62 (dk_at dksX0_winnerOf_2 19 rfl rfl)
theorem dX0_winnerOf_68 : decode cX0_winnerOf 68 = .ok (.iinc 4 1, 3) := dk_132 4 1 (dk_at dksX0_winnerOf_2 20 rfl rfl)
theorem dX0_winnerOf_71 : decode cX0_winnerOf 71 = .ok (.goto (-64), 3) := dk_167 255 192 (dk_at dksX0_winnerOf_3 0 rfl rfl)
theorem dX0_winnerOf_74 : decode cX0_winnerOf 74 = .ok (.iload_n 2, 1) := dk_28 (dk_at dksX0_winnerOf_3 3 rfl rfl)
theorem dX0_winnerOf_75 : decode cX0_winnerOf 75 = .ok (.ireturn, 1) := dk_172 (dk_at dksX0_winnerOf_3 4 rfl rfl)
abbrev cX0_best : ByteArray := prog_1_method_42_code
def yX0_best : MethodName := ⟨RX0, "best", "(II)I"⟩
def dkwX0_best_5 : List UInt8 := [162, 0, 7, 4, 167, 0, 4, 3, 172, 78, 42, 45, 182, 0, 165, 172]
abbrev dktX0_best_5 : List UInt8 := dkwX0_best_5 ++ []
def dkwX0_best_4 : List UInt8 := [167, 0, 4, 3, 172, 42, 27, 182, 1, 85, 172, 42, 27, 4, 182, 1, 88, 42, 27, 3, 182, 1, 88]
abbrev dktX0_best_4 : List UInt8 := dkwX0_best_4 ++ dktX0_best_5
def dkwX0_best_3 : List UInt8 := [42, 27, 182, 1, 82, 172, 42, 27, 6, 182, 1, 75, 42, 27, 8, 182, 1, 75, 162, 0, 7, 4]
abbrev dktX0_best_3 : List UInt8 := dkwX0_best_3 ++ dktX0_best_4
def dkwX0_best_2 : List UInt8 := [170, 0, 0, 0, 58, 0, 0, 0, 0, 0, 0, 0, 2, 0, 0, 0, 25, 0, 0, 0, 31, 0, 0, 0, 52]
abbrev dktX0_best_2 : List UInt8 := dkwX0_best_2 ++ dktX0_best_3
def dkwX0_best_1 : List UInt8 := [180, 0, 99, 180, 0, 200, 158, 0, 7, 4, 167, 0, 4, 3, 16, 251, 184, 0, 116, 28]
abbrev dktX0_best_1 : List UInt8 := dkwX0_best_1 ++ dktX0_best_2
def dkwX0_best_0 : List UInt8 := [42, 27, 182, 0, 185, 28, 133, 9, 20, 0, 155, 184, 0, 157, 153, 0, 22, 28, 5, 160, 0, 13, 42]
abbrev dktX0_best_0 : List UInt8 := dkwX0_best_0 ++ dktX0_best_1
theorem dksX0_best_0 : cX0_best.data.toList.drop 0 = dktX0_best_0 := by decide +kernel
theorem dksX0_best_1 : cX0_best.data.toList.drop 23 = dktX0_best_1 := dk_seg dksX0_best_0 23 rfl rfl
theorem dksX0_best_2 : cX0_best.data.toList.drop 43 = dktX0_best_2 := dk_seg dksX0_best_1 20 rfl rfl
theorem dksX0_best_3 : cX0_best.data.toList.drop 68 = dktX0_best_3 := dk_seg dksX0_best_2 25 rfl rfl
theorem dksX0_best_4 : cX0_best.data.toList.drop 90 = dktX0_best_4 := dk_seg dksX0_best_3 22 rfl rfl
theorem dksX0_best_5 : cX0_best.data.toList.drop 113 = dktX0_best_5 := dk_seg dksX0_best_4 23 rfl rfl
theorem dX0_best_0 : decode cX0_best 0 = .ok (.aload_n 0, 1) := dk_42 (dk_at dksX0_best_0 0 rfl rfl)
theorem dX0_best_1 : decode cX0_best 1 = .ok (.iload_n 1, 1) := dk_27 (dk_at dksX0_best_0 1 rfl rfl)
theorem dX0_best_2 : decode cX0_best 2 = .ok (.invokevirtual 185, 3) := dk_182 0 185 (dk_at dksX0_best_0 2 rfl rfl)
theorem dX0_best_5 : decode cX0_best 5 = .ok (.iload_n 2, 1) := dk_28 (dk_at dksX0_best_0 5 rfl rfl)
theorem dX0_best_6 : decode cX0_best 6 = .ok (.i2l, 1) := dk_133 (dk_at dksX0_best_0 6 rfl rfl)
theorem dX0_best_7 : decode cX0_best 7 = .ok (.lconst 0, 1) := dk_9 (dk_at dksX0_best_0 7 rfl rfl)
theorem dX0_best_8 : decode cX0_best 8 = .ok (.ldc2_w 155, 3) := dk_20 0 155 (dk_at dksX0_best_0 8 rfl rfl)
theorem dX0_best_11 : decode cX0_best 11 = .ok (.invokestatic 157, 3) := dk_184 0 157 (dk_at dksX0_best_0 11 rfl rfl)
theorem dX0_best_14 : decode cX0_best 14 = .ok (.ifCond .eq 22, 3) := dk_153 0 22 (dk_at dksX0_best_0 14 rfl rfl)
theorem dX0_best_17 : decode cX0_best 17 = .ok (.iload_n 2, 1) := dk_28 (dk_at dksX0_best_0 17 rfl rfl)
theorem dX0_best_18 : decode cX0_best 18 = .ok (.iconst 2, 1) := dk_5 (dk_at dksX0_best_0 18 rfl rfl)
theorem dX0_best_19 : decode cX0_best 19 = .ok (.if_icmp .ne 13, 3) := dk_160 0 13 (dk_at dksX0_best_0 19 rfl rfl)
theorem dX0_best_22 : decode cX0_best 22 = .ok (.aload_n 0, 1) := dk_42 (dk_at dksX0_best_0 22 rfl rfl)
theorem dX0_best_23 : decode cX0_best 23 = .ok (.getfield 99, 3) := dk_180 0 99 (dk_at dksX0_best_1 0 rfl rfl)
theorem dX0_best_26 : decode cX0_best 26 = .ok (.getfield 200, 3) := dk_180 0 200 (dk_at dksX0_best_1 3 rfl rfl)
theorem dX0_best_29 : decode cX0_best 29 = .ok (.ifCond .le 7, 3) := dk_158 0 7 (dk_at dksX0_best_1 6 rfl rfl)
theorem dX0_best_32 : decode cX0_best 32 = .ok (.iconst 1, 1) := dk_4 (dk_at dksX0_best_1 9 rfl rfl)
theorem dX0_best_33 : decode cX0_best 33 = .ok (.goto 4, 3) := dk_167 0 4 (dk_at dksX0_best_1 10 rfl rfl)
theorem dX0_best_36 : decode cX0_best 36 = .ok (.iconst 0, 1) := dk_3 (dk_at dksX0_best_1 13 rfl rfl)
theorem dX0_best_37 : decode cX0_best 37 = .ok (.bipush (-5), 2) := dk_16 251 (dk_at dksX0_best_1 14 rfl rfl)
theorem dX0_best_39 : decode cX0_best 39 = .ok (.invokestatic 116, 3) := dk_184 0 116 (dk_at dksX0_best_1 16 rfl rfl)
theorem dX0_best_42 : decode cX0_best 42 = .ok (.iload_n 2, 1) := dk_28 (dk_at dksX0_best_1 19 rfl rfl)
theorem dX0_best_43 : decode cX0_best 43 = .ok (.tableswitch 58 0 2 #[25, 31, 52], 25) := by decide +kernel
theorem dX0_best_68 : decode cX0_best 68 = .ok (.aload_n 0, 1) := dk_42 (dk_at dksX0_best_3 0 rfl rfl)
theorem dX0_best_69 : decode cX0_best 69 = .ok (.iload_n 1, 1) := dk_27 (dk_at dksX0_best_3 1 rfl rfl)
theorem dX0_best_70 : decode cX0_best 70 = .ok (.invokevirtual 338, 3) := dk_182 1 82 (dk_at dksX0_best_3 2 rfl rfl)
theorem dX0_best_73 : decode cX0_best 73 = .ok (.ireturn, 1) := dk_172 (dk_at dksX0_best_3 5 rfl rfl)
theorem dX0_best_74 : decode cX0_best 74 = .ok (.aload_n 0, 1) := dk_42 (dk_at dksX0_best_3 6 rfl rfl)
theorem dX0_best_75 : decode cX0_best 75 = .ok (.iload_n 1, 1) := dk_27 (dk_at dksX0_best_3 7 rfl rfl)
theorem dX0_best_76 : decode cX0_best 76 = .ok (.iconst 3, 1) := dk_6 (dk_at dksX0_best_3 8 rfl rfl)
theorem dX0_best_77 : decode cX0_best 77 = .ok (.invokevirtual 331, 3) := dk_182 1 75 (dk_at dksX0_best_3 9 rfl rfl)
theorem dX0_best_80 : decode cX0_best 80 = .ok (.aload_n 0, 1) := dk_42 (dk_at dksX0_best_3 12 rfl rfl)
theorem dX0_best_81 : decode cX0_best 81 = .ok (.iload_n 1, 1) := dk_27 (dk_at dksX0_best_3 13 rfl rfl)
theorem dX0_best_82 : decode cX0_best 82 = .ok (.iconst 5, 1) := dk_8 (dk_at dksX0_best_3 14 rfl rfl)
theorem dX0_best_83 : decode cX0_best 83 = .ok (.invokevirtual 331, 3) := dk_182 1 75 (dk_at dksX0_best_3 15 rfl rfl)
theorem dX0_best_86 : decode cX0_best 86 = .ok (.if_icmp .ge 7, 3) := dk_162 0 7 (dk_at dksX0_best_3 18 rfl rfl)
theorem dX0_best_89 : decode cX0_best 89 = .ok (.iconst 1, 1) := dk_4 (dk_at dksX0_best_3 21 rfl rfl)
theorem dX0_best_90 : decode cX0_best 90 = .ok (.goto 4, 3) := dk_167 0 4 (dk_at dksX0_best_4 0 rfl rfl)
theorem dX0_best_93 : decode cX0_best 93 = .ok (.iconst 0, 1) := dk_3 (dk_at dksX0_best_4 3 rfl rfl)
theorem dX0_best_94 : decode cX0_best 94 = .ok (.ireturn, 1) := dk_172 (dk_at dksX0_best_4 4 rfl rfl)
theorem dX0_best_95 : decode cX0_best 95 = .ok (.aload_n 0, 1) := dk_42 (dk_at dksX0_best_4 5 rfl rfl)
theorem dX0_best_96 : decode cX0_best 96 = .ok (.iload_n 1, 1) := dk_27 (dk_at dksX0_best_4 6 rfl rfl)
theorem dX0_best_97 : decode cX0_best 97 = .ok (.invokevirtual 341, 3) := dk_182 1 85 (dk_at dksX0_best_4 7 rfl rfl)
theorem dX0_best_100 : decode cX0_best 100 = .ok (.ireturn, 1) := dk_172 (dk_at dksX0_best_4 10 rfl rfl)
theorem dX0_best_101 : decode cX0_best 101 = .ok (.aload_n 0, 1) := dk_42 (dk_at dksX0_best_4 11 rfl rfl)
theorem dX0_best_102 : decode cX0_best 102 = .ok (.iload_n 1, 1) := dk_27 (dk_at dksX0_best_4 12 rfl rfl)
theorem dX0_best_103 : decode cX0_best 103 = .ok (.iconst 1, 1) := dk_4 (dk_at dksX0_best_4 13 rfl rfl)
theorem dX0_best_104 : decode cX0_best 104 = .ok (.invokevirtual 344, 3) := dk_182 1 88 (dk_at dksX0_best_4 14 rfl rfl)
theorem dX0_best_107 : decode cX0_best 107 = .ok (.aload_n 0, 1) := dk_42 (dk_at dksX0_best_4 17 rfl rfl)
theorem dX0_best_108 : decode cX0_best 108 = .ok (.iload_n 1, 1) := dk_27 (dk_at dksX0_best_4 18 rfl rfl)
theorem dX0_best_109 : decode cX0_best 109 = .ok (.iconst 0, 1) := dk_3 (dk_at dksX0_best_4 19 rfl rfl)
theorem dX0_best_110 : decode cX0_best 110 = .ok (.invokevirtual 344, 3) := dk_182 1 88 (dk_at dksX0_best_4 20 rfl rfl)
theorem dX0_best_113 : decode cX0_best 113 = .ok (.if_icmp .ge 7, 3) := dk_162 0 7 (dk_at dksX0_best_5 0 rfl rfl)
theorem dX0_best_116 : decode cX0_best 116 = .ok (.iconst 1, 1) := dk_4 (dk_at dksX0_best_5 3 rfl rfl)
theorem dX0_best_117 : decode cX0_best 117 = .ok (.goto 4, 3) := dk_167 0 4 (dk_at dksX0_best_5 4 rfl rfl)
theorem dX0_best_120 : decode cX0_best 120 = .ok (.iconst 0, 1) := dk_3 (dk_at dksX0_best_5 7 rfl rfl)
theorem dX0_best_121 : decode cX0_best 121 = .ok (.ireturn, 1) := dk_172 (dk_at dksX0_best_5 8 rfl rfl)
theorem dX0_best_122 : decode cX0_best 122 = .ok (.astore_n 3, 1) := dk_78 (dk_at dksX0_best_5 9 rfl rfl)
theorem dX0_best_123 : decode cX0_best 123 = .ok (.aload_n 0, 1) := dk_42 (dk_at dksX0_best_5 10 rfl rfl)
theorem dX0_best_124 : decode cX0_best 124 = .ok (.aload_n 3, 1) := dk_45 (dk_at dksX0_best_5 11 rfl rfl)
theorem dX0_best_125 : decode cX0_best 125 = .ok (.invokevirtual 165, 3) := dk_182 0 165 (dk_at dksX0_best_5 12 rfl rfl)
theorem dX0_best_128 : decode cX0_best 128 = .ok (.ireturn, 1) := dk_172 (dk_at dksX0_best_5 15 rfl rfl)
abbrev cX0_bestKind : ByteArray := prog_1_method_38_code
def yX0_bestKind : MethodName := ⟨RX0, "bestKind", "(I)I"⟩
def dkwX0_bestKind_1 : List UInt8 := [162, 0, 7, 29, 167, 0, 4, 28, 61, 132, 3, 1, 167, 255, 226, 28, 172]
abbrev dktX0_bestKind_1 : List UInt8 := dkwX0_bestKind_1 ++ []
def dkwX0_bestKind_0 : List UInt8 := [3, 61, 4, 62, 29, 16, 7, 162, 0, 30, 42, 27, 29, 182, 1, 75, 42, 27, 28, 182, 1, 75]
abbrev dktX0_bestKind_0 : List UInt8 := dkwX0_bestKind_0 ++ dktX0_bestKind_1
theorem dksX0_bestKind_0 : cX0_bestKind.data.toList.drop 0 = dktX0_bestKind_0 := by decide +kernel
theorem dksX0_bestKind_1 : cX0_bestKind.data.toList.drop 22 = dktX0_bestKind_1 := dk_seg dksX0_bestKind_0 22 rfl rfl
theorem dX0_bestKind_0 : decode cX0_bestKind 0 = .ok (.iconst 0, 1) := dk_3 (dk_at dksX0_bestKind_0 0 rfl rfl)
theorem dX0_bestKind_1 : decode cX0_bestKind 1 = .ok (.istore_n 2, 1) := dk_61 (dk_at dksX0_bestKind_0 1 rfl rfl)
theorem dX0_bestKind_2 : decode cX0_bestKind 2 = .ok (.iconst 1, 1) := dk_4 (dk_at dksX0_bestKind_0 2 rfl rfl)
theorem dX0_bestKind_3 : decode cX0_bestKind 3 = .ok (.istore_n 3, 1) := dk_62 (dk_at dksX0_bestKind_0 3 rfl rfl)
theorem dX0_bestKind_4 : decode cX0_bestKind 4 = .ok (.iload_n 3, 1) := dk_29 (dk_at dksX0_bestKind_0 4 rfl rfl)
theorem dX0_bestKind_5 : decode cX0_bestKind 5 = .ok (.bipush 7, 2) := dk_16 7 (dk_at dksX0_bestKind_0 5 rfl rfl)
theorem dX0_bestKind_7 : decode cX0_bestKind 7 = .ok (.if_icmp .ge 30, 3) := dk_162 0 30 (dk_at dksX0_bestKind_0 7 rfl rfl)
theorem dX0_bestKind_10 : decode cX0_bestKind 10 = .ok (.aload_n 0, 1) := dk_42 (dk_at dksX0_bestKind_0 10 rfl rfl)
theorem dX0_bestKind_11 : decode cX0_bestKind 11 = .ok (.iload_n 1, 1) := dk_27 (dk_at dksX0_bestKind_0 11 rfl rfl)
theorem dX0_bestKind_12 : decode cX0_bestKind 12 = .ok (.iload_n 3, 1) := dk_29 (dk_at dksX0_bestKind_0 12 rfl rfl)
theorem dX0_bestKind_13 : decode cX0_bestKind 13 = .ok (.invokevirtual 331, 3) := dk_182 1 75 (dk_at dksX0_bestKind_0 13 rfl rfl)
theorem dX0_bestKind_16 : decode cX0_bestKind 16 = .ok (.aload_n 0, 1) := dk_42 (dk_at dksX0_bestKind_0 16 rfl rfl)
theorem dX0_bestKind_17 : decode cX0_bestKind 17 = .ok (.iload_n 1, 1) := dk_27 (dk_at dksX0_bestKind_0 17 rfl rfl)
theorem dX0_bestKind_18 : decode cX0_bestKind 18 = .ok (.iload_n 2, 1) := dk_28 (dk_at dksX0_bestKind_0 18 rfl rfl)
theorem dX0_bestKind_19 : decode cX0_bestKind 19 = .ok (.invokevirtual 331, 3) := dk_182 1 75 (dk_at dksX0_bestKind_0 19 rfl rfl)
theorem dX0_bestKind_22 : decode cX0_bestKind 22 = .ok (.if_icmp .ge 7, 3) := dk_162 0 7 (dk_at dksX0_bestKind_1 0 rfl rfl)
theorem dX0_bestKind_25 : decode cX0_bestKind 25 = .ok (.iload_n 3, 1) := dk_29 (dk_at dksX0_bestKind_1 3 rfl rfl)
theorem dX0_bestKind_26 : decode cX0_bestKind 26 = .ok (.goto 4, 3) := dk_167 0 4 (dk_at dksX0_bestKind_1 4 rfl rfl)
theorem dX0_bestKind_29 : decode cX0_bestKind 29 = .ok (.iload_n 2, 1) := dk_28 (dk_at dksX0_bestKind_1 7 rfl rfl)
theorem dX0_bestKind_30 : decode cX0_bestKind 30 = .ok (.istore_n 2, 1) := dk_61 (dk_at dksX0_bestKind_1 8 rfl rfl)
theorem dX0_bestKind_31 : decode cX0_bestKind 31 = .ok (.iinc 3 1, 3) := dk_132 3 1 (dk_at dksX0_bestKind_1 9 rfl rfl)
theorem dX0_bestKind_34 : decode cX0_bestKind 34 = .ok (.goto (-30), 3) := dk_167 255 226 (dk_at dksX0_bestKind_1 12 rfl rfl)
theorem dX0_bestKind_37 : decode cX0_bestKind 37 = .ok (.iload_n 2, 1) := dk_28 (dk_at dksX0_bestKind_1 15 rfl rfl)
theorem dX0_bestKind_38 : decode cX0_bestKind 38 = .ok (.ireturn, 1) := dk_172 (dk_at dksX0_bestKind_1 16 rfl rfl)
abbrev cX0_timeAs : ByteArray := prog_1_method_37_code
def yX0_timeAs : MethodName := ⟨RX0, "timeAs", "(II)I"⟩
def dkwX0_timeAs_1 : List UInt8 := [184, 1, 67, 27, 42, 180, 0, 99, 180, 0, 218, 27, 46, 182, 1, 71, 182, 1, 52, 172]
abbrev dktX0_timeAs_1 : List UInt8 := dkwX0_timeAs_1 ++ []
def dkwX0_timeAs_0 : List UInt8 := [42, 180, 0, 77, 42, 180, 0, 99, 28, 27, 42, 180, 0, 99, 180, 0, 133, 27, 50, 180, 0, 212]
abbrev dktX0_timeAs_0 : List UInt8 := dkwX0_timeAs_0 ++ dktX0_timeAs_1
theorem dksX0_timeAs_0 : cX0_timeAs.data.toList.drop 0 = dktX0_timeAs_0 := by decide +kernel
theorem dksX0_timeAs_1 : cX0_timeAs.data.toList.drop 22 = dktX0_timeAs_1 := dk_seg dksX0_timeAs_0 22 rfl rfl
theorem dX0_timeAs_0 : decode cX0_timeAs 0 = .ok (.aload_n 0, 1) := dk_42 (dk_at dksX0_timeAs_0 0 rfl rfl)
theorem dX0_timeAs_1 : decode cX0_timeAs 1 = .ok (.getfield 77, 3) := dk_180 0 77 (dk_at dksX0_timeAs_0 1 rfl rfl)
theorem dX0_timeAs_4 : decode cX0_timeAs 4 = .ok (.aload_n 0, 1) := dk_42 (dk_at dksX0_timeAs_0 4 rfl rfl)
theorem dX0_timeAs_5 : decode cX0_timeAs 5 = .ok (.getfield 99, 3) := dk_180 0 99 (dk_at dksX0_timeAs_0 5 rfl rfl)
theorem dX0_timeAs_8 : decode cX0_timeAs 8 = .ok (.iload_n 2, 1) := dk_28 (dk_at dksX0_timeAs_0 8 rfl rfl)
theorem dX0_timeAs_9 : decode cX0_timeAs 9 = .ok (.iload_n 1, 1) := dk_27 (dk_at dksX0_timeAs_0 9 rfl rfl)
theorem dX0_timeAs_10 : decode cX0_timeAs 10 = .ok (.aload_n 0, 1) := dk_42 (dk_at dksX0_timeAs_0 10 rfl rfl)
theorem dX0_timeAs_11 : decode cX0_timeAs 11 = .ok (.getfield 99, 3) := dk_180 0 99 (dk_at dksX0_timeAs_0 11 rfl rfl)
theorem dX0_timeAs_14 : decode cX0_timeAs 14 = .ok (.getfield 133, 3) := dk_180 0 133 (dk_at dksX0_timeAs_0 14 rfl rfl)
theorem dX0_timeAs_17 : decode cX0_timeAs 17 = .ok (.iload_n 1, 1) := dk_27 (dk_at dksX0_timeAs_0 17 rfl rfl)
theorem dX0_timeAs_18 : decode cX0_timeAs 18 = .ok (.aaload, 1) := dk_50 (dk_at dksX0_timeAs_0 18 rfl rfl)
theorem dX0_timeAs_19 : decode cX0_timeAs 19 = .ok (.getfield 212, 3) := dk_180 0 212 (dk_at dksX0_timeAs_0 19 rfl rfl)
theorem dX0_timeAs_22 : decode cX0_timeAs 22 = .ok (.invokestatic 323, 3) := dk_184 1 67 (dk_at dksX0_timeAs_1 0 rfl rfl)
theorem dX0_timeAs_25 : decode cX0_timeAs 25 = .ok (.iload_n 1, 1) := dk_27 (dk_at dksX0_timeAs_1 3 rfl rfl)
theorem dX0_timeAs_26 : decode cX0_timeAs 26 = .ok (.aload_n 0, 1) := dk_42 (dk_at dksX0_timeAs_1 4 rfl rfl)
theorem dX0_timeAs_27 : decode cX0_timeAs 27 = .ok (.getfield 99, 3) := dk_180 0 99 (dk_at dksX0_timeAs_1 5 rfl rfl)
theorem dX0_timeAs_30 : decode cX0_timeAs 30 = .ok (.getfield 218, 3) := dk_180 0 218 (dk_at dksX0_timeAs_1 8 rfl rfl)
theorem dX0_timeAs_33 : decode cX0_timeAs 33 = .ok (.iload_n 1, 1) := dk_27 (dk_at dksX0_timeAs_1 11 rfl rfl)
theorem dX0_timeAs_34 : decode cX0_timeAs 34 = .ok (.iaload, 1) := dk_46 (dk_at dksX0_timeAs_1 12 rfl rfl)
theorem dX0_timeAs_35 : decode cX0_timeAs 35 = .ok (.invokevirtual 327, 3) := dk_182 1 71 (dk_at dksX0_timeAs_1 13 rfl rfl)
theorem dX0_timeAs_38 : decode cX0_timeAs 38 = .ok (.invokevirtual 308, 3) := dk_182 1 52 (dk_at dksX0_timeAs_1 16 rfl rfl)
theorem dX0_timeAs_41 : decode cX0_timeAs 41 = .ok (.ireturn, 1) := dk_172 (dk_at dksX0_timeAs_1 19 rfl rfl)
abbrev cX0_bestSack : ByteArray := prog_1_method_40_code
def yX0_bestSack : MethodName := ⟨RX0, "bestSack", "(I)I"⟩
def dkwX0_bestSack_1 : List UInt8 := [182, 1, 79, 162, 0, 7, 29, 167, 0, 4, 28, 61, 132, 3, 1, 167, 255, 221, 28, 172]
abbrev dktX0_bestSack_1 : List UInt8 := dkwX0_bestSack_1 ++ []
def dkwX0_bestSack_0 : List UInt8 := [3, 61, 4, 62, 29, 42, 180, 0, 99, 180, 0, 200, 162, 0, 30, 42, 27, 29, 182, 1, 79, 42, 27, 28]
abbrev dktX0_bestSack_0 : List UInt8 := dkwX0_bestSack_0 ++ dktX0_bestSack_1
theorem dksX0_bestSack_0 : cX0_bestSack.data.toList.drop 0 = dktX0_bestSack_0 := by decide +kernel
theorem dksX0_bestSack_1 : cX0_bestSack.data.toList.drop 24 = dktX0_bestSack_1 := dk_seg dksX0_bestSack_0 24 rfl rfl
theorem dX0_bestSack_0 : decode cX0_bestSack 0 = .ok (.iconst 0, 1) := dk_3 (dk_at dksX0_bestSack_0 0 rfl rfl)
theorem dX0_bestSack_1 : decode cX0_bestSack 1 = .ok (.istore_n 2, 1) := dk_61 (dk_at dksX0_bestSack_0 1 rfl rfl)
theorem dX0_bestSack_2 : decode cX0_bestSack 2 = .ok (.iconst 1, 1) := dk_4 (dk_at dksX0_bestSack_0 2 rfl rfl)
theorem dX0_bestSack_3 : decode cX0_bestSack 3 = .ok (.istore_n 3, 1) := dk_62 (dk_at dksX0_bestSack_0 3 rfl rfl)
theorem dX0_bestSack_4 : decode cX0_bestSack 4 = .ok (.iload_n 3, 1) := dk_29 (dk_at dksX0_bestSack_0 4 rfl rfl)
theorem dX0_bestSack_5 : decode cX0_bestSack 5 = .ok (.aload_n 0, 1) := dk_42 (dk_at dksX0_bestSack_0 5 rfl rfl)
theorem dX0_bestSack_6 : decode cX0_bestSack 6 = .ok (.getfield 99, 3) := dk_180 0 99 (dk_at dksX0_bestSack_0 6 rfl rfl)
theorem dX0_bestSack_9 : decode cX0_bestSack 9 = .ok (.getfield 200, 3) := dk_180 0 200 (dk_at dksX0_bestSack_0 9 rfl rfl)
theorem dX0_bestSack_12 : decode cX0_bestSack 12 = .ok (.if_icmp .ge 30, 3) := dk_162 0 30 (dk_at dksX0_bestSack_0 12 rfl rfl)
theorem dX0_bestSack_15 : decode cX0_bestSack 15 = .ok (.aload_n 0, 1) := dk_42 (dk_at dksX0_bestSack_0 15 rfl rfl)
theorem dX0_bestSack_16 : decode cX0_bestSack 16 = .ok (.iload_n 1, 1) := dk_27 (dk_at dksX0_bestSack_0 16 rfl rfl)
theorem dX0_bestSack_17 : decode cX0_bestSack 17 = .ok (.iload_n 3, 1) := dk_29 (dk_at dksX0_bestSack_0 17 rfl rfl)
theorem dX0_bestSack_18 : decode cX0_bestSack 18 = .ok (.invokevirtual 335, 3) := dk_182 1 79 (dk_at dksX0_bestSack_0 18 rfl rfl)
theorem dX0_bestSack_21 : decode cX0_bestSack 21 = .ok (.aload_n 0, 1) := dk_42 (dk_at dksX0_bestSack_0 21 rfl rfl)
theorem dX0_bestSack_22 : decode cX0_bestSack 22 = .ok (.iload_n 1, 1) := dk_27 (dk_at dksX0_bestSack_0 22 rfl rfl)
theorem dX0_bestSack_23 : decode cX0_bestSack 23 = .ok (.iload_n 2, 1) := dk_28 (dk_at dksX0_bestSack_0 23 rfl rfl)
theorem dX0_bestSack_24 : decode cX0_bestSack 24 = .ok (.invokevirtual 335, 3) := dk_182 1 79 (dk_at dksX0_bestSack_1 0 rfl rfl)
theorem dX0_bestSack_27 : decode cX0_bestSack 27 = .ok (.if_icmp .ge 7, 3) := dk_162 0 7 (dk_at dksX0_bestSack_1 3 rfl rfl)
theorem dX0_bestSack_30 : decode cX0_bestSack 30 = .ok (.iload_n 3, 1) := dk_29 (dk_at dksX0_bestSack_1 6 rfl rfl)
theorem dX0_bestSack_31 : decode cX0_bestSack 31 = .ok (.goto 4, 3) := dk_167 0 4 (dk_at dksX0_bestSack_1 7 rfl rfl)
theorem dX0_bestSack_34 : decode cX0_bestSack 34 = .ok (.iload_n 2, 1) := dk_28 (dk_at dksX0_bestSack_1 10 rfl rfl)
theorem dX0_bestSack_35 : decode cX0_bestSack 35 = .ok (.istore_n 2, 1) := dk_61 (dk_at dksX0_bestSack_1 11 rfl rfl)
theorem dX0_bestSack_36 : decode cX0_bestSack 36 = .ok (.iinc 3 1, 3) := dk_132 3 1 (dk_at dksX0_bestSack_1 12 rfl rfl)
theorem dX0_bestSack_39 : decode cX0_bestSack 39 = .ok (.goto (-35), 3) := dk_167 255 221 (dk_at dksX0_bestSack_1 15 rfl rfl)
theorem dX0_bestSack_42 : decode cX0_bestSack 42 = .ok (.iload_n 2, 1) := dk_28 (dk_at dksX0_bestSack_1 18 rfl rfl)
theorem dX0_bestSack_43 : decode cX0_bestSack 43 = .ok (.ireturn, 1) := dk_172 (dk_at dksX0_bestSack_1 19 rfl rfl)
abbrev cX0_timeIn : ByteArray := prog_1_method_39_code
def yX0_timeIn : MethodName := ⟨RX0, "timeIn", "(II)I"⟩
def dkwX0_timeIn_1 : List UInt8 := [182, 1, 52, 172]
abbrev dktX0_timeIn_1 : List UInt8 := dkwX0_timeIn_1 ++ []
def dkwX0_timeIn_0 : List UInt8 := [42, 180, 0, 77, 42, 180, 0, 99, 42, 180, 0, 99, 180, 0, 133, 27, 50, 27, 28, 182, 1, 71]
abbrev dktX0_timeIn_0 : List UInt8 := dkwX0_timeIn_0 ++ dktX0_timeIn_1
theorem dksX0_timeIn_0 : cX0_timeIn.data.toList.drop 0 = dktX0_timeIn_0 := by decide +kernel
theorem dksX0_timeIn_1 : cX0_timeIn.data.toList.drop 22 = dktX0_timeIn_1 := dk_seg dksX0_timeIn_0 22 rfl rfl
theorem dX0_timeIn_0 : decode cX0_timeIn 0 = .ok (.aload_n 0, 1) := dk_42 (dk_at dksX0_timeIn_0 0 rfl rfl)
theorem dX0_timeIn_1 : decode cX0_timeIn 1 = .ok (.getfield 77, 3) := dk_180 0 77 (dk_at dksX0_timeIn_0 1 rfl rfl)
theorem dX0_timeIn_4 : decode cX0_timeIn 4 = .ok (.aload_n 0, 1) := dk_42 (dk_at dksX0_timeIn_0 4 rfl rfl)
theorem dX0_timeIn_5 : decode cX0_timeIn 5 = .ok (.getfield 99, 3) := dk_180 0 99 (dk_at dksX0_timeIn_0 5 rfl rfl)
theorem dX0_timeIn_8 : decode cX0_timeIn 8 = .ok (.aload_n 0, 1) := dk_42 (dk_at dksX0_timeIn_0 8 rfl rfl)
theorem dX0_timeIn_9 : decode cX0_timeIn 9 = .ok (.getfield 99, 3) := dk_180 0 99 (dk_at dksX0_timeIn_0 9 rfl rfl)
theorem dX0_timeIn_12 : decode cX0_timeIn 12 = .ok (.getfield 133, 3) := dk_180 0 133 (dk_at dksX0_timeIn_0 12 rfl rfl)
theorem dX0_timeIn_15 : decode cX0_timeIn 15 = .ok (.iload_n 1, 1) := dk_27 (dk_at dksX0_timeIn_0 15 rfl rfl)
theorem dX0_timeIn_16 : decode cX0_timeIn 16 = .ok (.aaload, 1) := dk_50 (dk_at dksX0_timeIn_0 16 rfl rfl)
theorem dX0_timeIn_17 : decode cX0_timeIn 17 = .ok (.iload_n 1, 1) := dk_27 (dk_at dksX0_timeIn_0 17 rfl rfl)
theorem dX0_timeIn_18 : decode cX0_timeIn 18 = .ok (.iload_n 2, 1) := dk_28 (dk_at dksX0_timeIn_0 18 rfl rfl)
theorem dX0_timeIn_19 : decode cX0_timeIn 19 = .ok (.invokevirtual 327, 3) := dk_182 1 71 (dk_at dksX0_timeIn_0 19 rfl rfl)
theorem dX0_timeIn_22 : decode cX0_timeIn 22 = .ok (.invokevirtual 308, 3) := dk_182 1 52 (dk_at dksX0_timeIn_1 0 rfl rfl)
theorem dX0_timeIn_25 : decode cX0_timeIn 25 = .ok (.ireturn, 1) := dk_172 (dk_at dksX0_timeIn_1 3 rfl rfl)
abbrev cX0_timeRolling : ByteArray := prog_1_method_41_code
def yX0_timeRolling : MethodName := ⟨RX0, "timeRolling", "(IZ)I"⟩
def dkwX0_timeRolling_1 : List UInt8 := [182, 1, 29, 182, 1, 52, 172]
abbrev dktX0_timeRolling_1 : List UInt8 := dkwX0_timeRolling_1 ++ []
def dkwX0_timeRolling_0 : List UInt8 := [42, 180, 0, 95, 42, 180, 0, 99, 182, 1, 8, 28, 181, 1, 4, 42, 180, 0, 77, 42, 180, 0, 95, 27]
abbrev dktX0_timeRolling_0 : List UInt8 := dkwX0_timeRolling_0 ++ dktX0_timeRolling_1
theorem dksX0_timeRolling_0 : cX0_timeRolling.data.toList.drop 0 = dktX0_timeRolling_0 := by decide +kernel
theorem dksX0_timeRolling_1 : cX0_timeRolling.data.toList.drop 24 = dktX0_timeRolling_1 := dk_seg dksX0_timeRolling_0 24 rfl rfl
theorem dX0_timeRolling_0 : decode cX0_timeRolling 0 = .ok (.aload_n 0, 1) := dk_42 (dk_at dksX0_timeRolling_0 0 rfl rfl)
theorem dX0_timeRolling_1 : decode cX0_timeRolling 1 = .ok (.getfield 95, 3) := dk_180 0 95 (dk_at dksX0_timeRolling_0 1 rfl rfl)
theorem dX0_timeRolling_4 : decode cX0_timeRolling 4 = .ok (.aload_n 0, 1) := dk_42 (dk_at dksX0_timeRolling_0 4 rfl rfl)
theorem dX0_timeRolling_5 : decode cX0_timeRolling 5 = .ok (.getfield 99, 3) := dk_180 0 99 (dk_at dksX0_timeRolling_0 5 rfl rfl)
theorem dX0_timeRolling_8 : decode cX0_timeRolling 8 = .ok (.invokevirtual 264, 3) := dk_182 1 8 (dk_at dksX0_timeRolling_0 8 rfl rfl)
theorem dX0_timeRolling_11 : decode cX0_timeRolling 11 = .ok (.iload_n 2, 1) := dk_28 (dk_at dksX0_timeRolling_0 11 rfl rfl)
theorem dX0_timeRolling_12 : decode cX0_timeRolling 12 = .ok (.putfield 260, 3) := dk_181 1 4 (dk_at dksX0_timeRolling_0 12 rfl rfl)
theorem dX0_timeRolling_15 : decode cX0_timeRolling 15 = .ok (.aload_n 0, 1) := dk_42 (dk_at dksX0_timeRolling_0 15 rfl rfl)
theorem dX0_timeRolling_16 : decode cX0_timeRolling 16 = .ok (.getfield 77, 3) := dk_180 0 77 (dk_at dksX0_timeRolling_0 16 rfl rfl)
theorem dX0_timeRolling_19 : decode cX0_timeRolling 19 = .ok (.aload_n 0, 1) := dk_42 (dk_at dksX0_timeRolling_0 19 rfl rfl)
theorem dX0_timeRolling_20 : decode cX0_timeRolling 20 = .ok (.getfield 95, 3) := dk_180 0 95 (dk_at dksX0_timeRolling_0 20 rfl rfl)
theorem dX0_timeRolling_23 : decode cX0_timeRolling 23 = .ok (.iload_n 1, 1) := dk_27 (dk_at dksX0_timeRolling_0 23 rfl rfl)
theorem dX0_timeRolling_24 : decode cX0_timeRolling 24 = .ok (.invokevirtual 285, 3) := dk_182 1 29 (dk_at dksX0_timeRolling_1 0 rfl rfl)
theorem dX0_timeRolling_27 : decode cX0_timeRolling 27 = .ok (.invokevirtual 308, 3) := dk_182 1 52 (dk_at dksX0_timeRolling_1 3 rfl rfl)
theorem dX0_timeRolling_30 : decode cX0_timeRolling 30 = .ok (.ireturn, 1) := dk_172 (dk_at dksX0_timeRolling_1 6 rfl rfl)
abbrev cX0_given : ByteArray := prog_1_method_43_code
def yX0_given : MethodName := ⟨RX0, "given", "(III)I"⟩
def dkwX0_given_5 : List UInt8 := [167, 0, 12, 42, 180, 0, 88, 180, 1, 104, 29, 46, 172, 58, 4, 42, 25, 4, 182, 0, 165, 172]
abbrev dktX0_given_5 : List UInt8 := dkwX0_given_5 ++ []
def dkwX0_given_4 : List UInt8 := [42, 180, 0, 99, 27, 28, 182, 1, 98, 87, 29, 2, 160, 0, 13, 42, 180, 0, 88, 180, 1, 101]
abbrev dktX0_given_4 : List UInt8 := dkwX0_given_4 ++ dktX0_given_5
def dkwX0_given_3 : List UInt8 := [153, 0, 7, 4, 167, 0, 4, 3, 16, 251, 184, 0, 116, 21, 4, 16, 250, 184, 0, 116, 42, 180, 0, 88]
abbrev dktX0_given_3 : List UInt8 := dkwX0_given_3 ++ dktX0_given_4
def dkwX0_given_2 : List UInt8 := [167, 0, 4, 3, 54, 4, 21, 4, 153, 0, 18, 29, 133, 20, 1, 96, 28, 4, 100, 133, 184, 0, 157]
abbrev dktX0_given_2 : List UInt8 := dkwX0_given_2 ++ dktX0_given_3
def dkwX0_given_1 : List UInt8 := [28, 42, 180, 0, 99, 180, 0, 120, 163, 0, 18, 28, 42, 180, 0, 99, 180, 0, 200, 163, 0, 7, 4]
abbrev dktX0_given_1 : List UInt8 := dkwX0_given_1 ++ dktX0_given_2
def dkwX0_given_0 : List UInt8 := [27, 133, 9, 20, 1, 92, 184, 0, 157, 153, 0, 41, 28, 133, 10, 20, 1, 94, 184, 0, 157, 153, 0, 29]
abbrev dktX0_given_0 : List UInt8 := dkwX0_given_0 ++ dktX0_given_1
theorem dksX0_given_0 : cX0_given.data.toList.drop 0 = dktX0_given_0 := by decide +kernel
theorem dksX0_given_1 : cX0_given.data.toList.drop 24 = dktX0_given_1 := dk_seg dksX0_given_0 24 rfl rfl
theorem dksX0_given_2 : cX0_given.data.toList.drop 47 = dktX0_given_2 := dk_seg dksX0_given_1 23 rfl rfl
theorem dksX0_given_3 : cX0_given.data.toList.drop 70 = dktX0_given_3 := dk_seg dksX0_given_2 23 rfl rfl
theorem dksX0_given_4 : cX0_given.data.toList.drop 94 = dktX0_given_4 := dk_seg dksX0_given_3 24 rfl rfl
theorem dksX0_given_5 : cX0_given.data.toList.drop 116 = dktX0_given_5 := dk_seg dksX0_given_4 22 rfl rfl
theorem dX0_given_0 : decode cX0_given 0 = .ok (.iload_n 1, 1) := dk_27 (dk_at dksX0_given_0 0 rfl rfl)
theorem dX0_given_1 : decode cX0_given 1 = .ok (.i2l, 1) := dk_133 (dk_at dksX0_given_0 1 rfl rfl)
theorem dX0_given_2 : decode cX0_given 2 = .ok (.lconst 0, 1) := dk_9 (dk_at dksX0_given_0 2 rfl rfl)
theorem dX0_given_3 : decode cX0_given 3 = .ok (.ldc2_w 348, 3) := dk_20 1 92 (dk_at dksX0_given_0 3 rfl rfl)
theorem dX0_given_6 : decode cX0_given 6 = .ok (.invokestatic 157, 3) := dk_184 0 157 (dk_at dksX0_given_0 6 rfl rfl)
theorem dX0_given_9 : decode cX0_given 9 = .ok (.ifCond .eq 41, 3) := dk_153 0 41 (dk_at dksX0_given_0 9 rfl rfl)
theorem dX0_given_12 : decode cX0_given 12 = .ok (.iload_n 2, 1) := dk_28 (dk_at dksX0_given_0 12 rfl rfl)
theorem dX0_given_13 : decode cX0_given 13 = .ok (.i2l, 1) := dk_133 (dk_at dksX0_given_0 13 rfl rfl)
theorem dX0_given_14 : decode cX0_given 14 = .ok (.lconst 1, 1) := dk_10 (dk_at dksX0_given_0 14 rfl rfl)
theorem dX0_given_15 : decode cX0_given 15 = .ok (.ldc2_w 350, 3) := dk_20 1 94 (dk_at dksX0_given_0 15 rfl rfl)
theorem dX0_given_18 : decode cX0_given 18 = .ok (.invokestatic 157, 3) := dk_184 0 157 (dk_at dksX0_given_0 18 rfl rfl)
theorem dX0_given_21 : decode cX0_given 21 = .ok (.ifCond .eq 29, 3) := dk_153 0 29 (dk_at dksX0_given_0 21 rfl rfl)
theorem dX0_given_24 : decode cX0_given 24 = .ok (.iload_n 2, 1) := dk_28 (dk_at dksX0_given_1 0 rfl rfl)
theorem dX0_given_25 : decode cX0_given 25 = .ok (.aload_n 0, 1) := dk_42 (dk_at dksX0_given_1 1 rfl rfl)
theorem dX0_given_26 : decode cX0_given 26 = .ok (.getfield 99, 3) := dk_180 0 99 (dk_at dksX0_given_1 2 rfl rfl)
theorem dX0_given_29 : decode cX0_given 29 = .ok (.getfield 120, 3) := dk_180 0 120 (dk_at dksX0_given_1 5 rfl rfl)
theorem dX0_given_32 : decode cX0_given 32 = .ok (.if_icmp .gt 18, 3) := dk_163 0 18 (dk_at dksX0_given_1 8 rfl rfl)
theorem dX0_given_35 : decode cX0_given 35 = .ok (.iload_n 2, 1) := dk_28 (dk_at dksX0_given_1 11 rfl rfl)
theorem dX0_given_36 : decode cX0_given 36 = .ok (.aload_n 0, 1) := dk_42 (dk_at dksX0_given_1 12 rfl rfl)
theorem dX0_given_37 : decode cX0_given 37 = .ok (.getfield 99, 3) := dk_180 0 99 (dk_at dksX0_given_1 13 rfl rfl)
theorem dX0_given_40 : decode cX0_given 40 = .ok (.getfield 200, 3) := dk_180 0 200 (dk_at dksX0_given_1 16 rfl rfl)
theorem dX0_given_43 : decode cX0_given 43 = .ok (.if_icmp .gt 7, 3) := dk_163 0 7 (dk_at dksX0_given_1 19 rfl rfl)
theorem dX0_given_46 : decode cX0_given 46 = .ok (.iconst 1, 1) := dk_4 (dk_at dksX0_given_1 22 rfl rfl)
theorem dX0_given_47 : decode cX0_given 47 = .ok (.goto 4, 3) := dk_167 0 4 (dk_at dksX0_given_2 0 rfl rfl)
theorem dX0_given_50 : decode cX0_given 50 = .ok (.iconst 0, 1) := dk_3 (dk_at dksX0_given_2 3 rfl rfl)
theorem dX0_given_51 : decode cX0_given 51 = .ok (.istore 4, 2) := dk_54 4 (dk_at dksX0_given_2 4 rfl rfl)
theorem dX0_given_53 : decode cX0_given 53 = .ok (.iload 4, 2) := dk_21 4 (dk_at dksX0_given_2 6 rfl rfl)
theorem dX0_given_55 : decode cX0_given 55 = .ok (.ifCond .eq 18, 3) := dk_153 0 18 (dk_at dksX0_given_2 8 rfl rfl)
theorem dX0_given_58 : decode cX0_given 58 = .ok (.iload_n 3, 1) := dk_29 (dk_at dksX0_given_2 11 rfl rfl)
theorem dX0_given_59 : decode cX0_given 59 = .ok (.i2l, 1) := dk_133 (dk_at dksX0_given_2 12 rfl rfl)
theorem dX0_given_60 : decode cX0_given 60 = .ok (.ldc2_w 352, 3) := dk_20 1 96 (dk_at dksX0_given_2 13 rfl rfl)
theorem dX0_given_63 : decode cX0_given 63 = .ok (.iload_n 2, 1) := dk_28 (dk_at dksX0_given_2 16 rfl rfl)
theorem dX0_given_64 : decode cX0_given 64 = .ok (.iconst 1, 1) := dk_4 (dk_at dksX0_given_2 17 rfl rfl)
theorem dX0_given_65 : decode cX0_given 65 = .ok (.isub, 1) := dk_100 (dk_at dksX0_given_2 18 rfl rfl)
theorem dX0_given_66 : decode cX0_given 66 = .ok (.i2l, 1) := dk_133 (dk_at dksX0_given_2 19 rfl rfl)
theorem dX0_given_67 : decode cX0_given 67 = .ok (.invokestatic 157, 3) := dk_184 0 157 (dk_at dksX0_given_2 20 rfl rfl)
theorem dX0_given_70 : decode cX0_given 70 = .ok (.ifCond .eq 7, 3) := dk_153 0 7 (dk_at dksX0_given_3 0 rfl rfl)
theorem dX0_given_73 : decode cX0_given 73 = .ok (.iconst 1, 1) := dk_4 (dk_at dksX0_given_3 3 rfl rfl)
theorem dX0_given_74 : decode cX0_given 74 = .ok (.goto 4, 3) := dk_167 0 4 (dk_at dksX0_given_3 4 rfl rfl)
theorem dX0_given_77 : decode cX0_given 77 = .ok (.iconst 0, 1) := dk_3 (dk_at dksX0_given_3 7 rfl rfl)
theorem dX0_given_78 : decode cX0_given 78 = .ok (.bipush (-5), 2) := dk_16 251 (dk_at dksX0_given_3 8 rfl rfl)
theorem dX0_given_80 : decode cX0_given 80 = .ok (.invokestatic 116, 3) := dk_184 0 116 (dk_at dksX0_given_3 10 rfl rfl)
theorem dX0_given_83 : decode cX0_given 83 = .ok (.iload 4, 2) := dk_21 4 (dk_at dksX0_given_3 13 rfl rfl)
theorem dX0_given_85 : decode cX0_given 85 = .ok (.bipush (-6), 2) := dk_16 250 (dk_at dksX0_given_3 15 rfl rfl)
theorem dX0_given_87 : decode cX0_given 87 = .ok (.invokestatic 116, 3) := dk_184 0 116 (dk_at dksX0_given_3 17 rfl rfl)
theorem dX0_given_90 : decode cX0_given 90 = .ok (.aload_n 0, 1) := dk_42 (dk_at dksX0_given_3 20 rfl rfl)
theorem dX0_given_91 : decode cX0_given 91 = .ok (.getfield 88, 3) := dk_180 0 88 (dk_at dksX0_given_3 21 rfl rfl)
theorem dX0_given_94 : decode cX0_given 94 = .ok (.aload_n 0, 1) := dk_42 (dk_at dksX0_given_4 0 rfl rfl)
theorem dX0_given_95 : decode cX0_given 95 = .ok (.getfield 99, 3) := dk_180 0 99 (dk_at dksX0_given_4 1 rfl rfl)
theorem dX0_given_98 : decode cX0_given 98 = .ok (.iload_n 1, 1) := dk_27 (dk_at dksX0_given_4 4 rfl rfl)
theorem dX0_given_99 : decode cX0_given 99 = .ok (.iload_n 2, 1) := dk_28 (dk_at dksX0_given_4 5 rfl rfl)
theorem dX0_given_100 : decode cX0_given 100 = .ok (.invokevirtual 354, 3) := dk_182 1 98 (dk_at dksX0_given_4 6 rfl rfl)
theorem dX0_given_103 : decode cX0_given 103 = .ok (.pop, 1) := dk_87 (dk_at dksX0_given_4 9 rfl rfl)
theorem dX0_given_104 : decode cX0_given 104 = .ok (.iload_n 3, 1) := dk_29 (dk_at dksX0_given_4 10 rfl rfl)
theorem dX0_given_105 : decode cX0_given 105 = .ok (.iconst (-1), 1) := dk_2 (dk_at dksX0_given_4 11 rfl rfl)
theorem dX0_given_106 : decode cX0_given 106 = .ok (.if_icmp .ne 13, 3) := dk_160 0 13 (dk_at dksX0_given_4 12 rfl rfl)
theorem dX0_given_109 : decode cX0_given 109 = .ok (.aload_n 0, 1) := dk_42 (dk_at dksX0_given_4 15 rfl rfl)
theorem dX0_given_110 : decode cX0_given 110 = .ok (.getfield 88, 3) := dk_180 0 88 (dk_at dksX0_given_4 16 rfl rfl)
theorem dX0_given_113 : decode cX0_given 113 = .ok (.getfield 357, 3) := dk_180 1 101 (dk_at dksX0_given_4 19 rfl rfl)
theorem dX0_given_116 : decode cX0_given 116 = .ok (.goto 12, 3) := dk_167 0 12 (dk_at dksX0_given_5 0 rfl rfl)
theorem dX0_given_119 : decode cX0_given 119 = .ok (.aload_n 0, 1) := dk_42 (dk_at dksX0_given_5 3 rfl rfl)
theorem dX0_given_120 : decode cX0_given 120 = .ok (.getfield 88, 3) := dk_180 0 88 (dk_at dksX0_given_5 4 rfl rfl)
theorem dX0_given_123 : decode cX0_given 123 = .ok (.getfield 360, 3) := dk_180 1 104 (dk_at dksX0_given_5 7 rfl rfl)
theorem dX0_given_126 : decode cX0_given 126 = .ok (.iload_n 3, 1) := dk_29 (dk_at dksX0_given_5 10 rfl rfl)
theorem dX0_given_127 : decode cX0_given 127 = .ok (.iaload, 1) := dk_46 (dk_at dksX0_given_5 11 rfl rfl)
theorem dX0_given_128 : decode cX0_given 128 = .ok (.ireturn, 1) := dk_172 (dk_at dksX0_given_5 12 rfl rfl)
theorem dX0_given_129 : decode cX0_given 129 = .ok (.astore 4, 2) := dk_58 4 (dk_at dksX0_given_5 13 rfl rfl)
theorem dX0_given_131 : decode cX0_given 131 = .ok (.aload_n 0, 1) := dk_42 (dk_at dksX0_given_5 15 rfl rfl)
theorem dX0_given_132 : decode cX0_given 132 = .ok (.aload 4, 2) := dk_25 4 (dk_at dksX0_given_5 16 rfl rfl)
theorem dX0_given_134 : decode cX0_given 134 = .ok (.invokevirtual 165, 3) := dk_182 0 165 (dk_at dksX0_given_5 18 rfl rfl)
theorem dX0_given_137 : decode cX0_given 137 = .ok (.ireturn, 1) := dk_172 (dk_at dksX0_given_5 21 rfl rfl)
abbrev cX0_two : ByteArray := prog_1_method_44_code
def yX0_two : MethodName := ⟨RX0, "two", "(III)I"⟩
def dkwX0_two_3 : List UInt8 := [182, 1, 52, 172, 58, 4, 42, 25, 4, 182, 0, 165, 172]
abbrev dktX0_two_3 : List UInt8 := dkwX0_two_3 ++ []
def dkwX0_two_2 : List UInt8 := [4, 167, 0, 4, 3, 16, 250, 184, 0, 116, 42, 180, 0, 77, 42, 180, 0, 99, 27, 28, 29, 182, 1, 107]
abbrev dktX0_two_2 : List UInt8 := dkwX0_two_2 ++ dktX0_two_3
def dkwX0_two_1 : List UInt8 := [180, 0, 99, 29, 182, 0, 237, 153, 0, 7, 4, 167, 0, 4, 3, 2, 184, 0, 116, 27, 28, 159, 0, 7]
abbrev dktX0_two_1 : List UInt8 := dkwX0_two_1 ++ dktX0_two_2
def dkwX0_two_0 : List UInt8 := [42, 180, 0, 99, 27, 182, 0, 112, 153, 0, 29, 42, 180, 0, 99, 28, 182, 0, 112, 153, 0, 18, 42]
abbrev dktX0_two_0 : List UInt8 := dkwX0_two_0 ++ dktX0_two_1
theorem dksX0_two_0 : cX0_two.data.toList.drop 0 = dktX0_two_0 := by decide +kernel
theorem dksX0_two_1 : cX0_two.data.toList.drop 23 = dktX0_two_1 := dk_seg dksX0_two_0 23 rfl rfl
theorem dksX0_two_2 : cX0_two.data.toList.drop 47 = dktX0_two_2 := dk_seg dksX0_two_1 24 rfl rfl
theorem dksX0_two_3 : cX0_two.data.toList.drop 71 = dktX0_two_3 := dk_seg dksX0_two_2 24 rfl rfl
theorem dX0_two_0 : decode cX0_two 0 = .ok (.aload_n 0, 1) := dk_42 (dk_at dksX0_two_0 0 rfl rfl)
theorem dX0_two_1 : decode cX0_two 1 = .ok (.getfield 99, 3) := dk_180 0 99 (dk_at dksX0_two_0 1 rfl rfl)
theorem dX0_two_4 : decode cX0_two 4 = .ok (.iload_n 1, 1) := dk_27 (dk_at dksX0_two_0 4 rfl rfl)
theorem dX0_two_5 : decode cX0_two 5 = .ok (.invokevirtual 112, 3) := dk_182 0 112 (dk_at dksX0_two_0 5 rfl rfl)
theorem dX0_two_8 : decode cX0_two 8 = .ok (.ifCond .eq 29, 3) := dk_153 0 29 (dk_at dksX0_two_0 8 rfl rfl)
theorem dX0_two_11 : decode cX0_two 11 = .ok (.aload_n 0, 1) := dk_42 (dk_at dksX0_two_0 11 rfl rfl)
theorem dX0_two_12 : decode cX0_two 12 = .ok (.getfield 99, 3) := dk_180 0 99 (dk_at dksX0_two_0 12 rfl rfl)
theorem dX0_two_15 : decode cX0_two 15 = .ok (.iload_n 2, 1) := dk_28 (dk_at dksX0_two_0 15 rfl rfl)
theorem dX0_two_16 : decode cX0_two 16 = .ok (.invokevirtual 112, 3) := dk_182 0 112 (dk_at dksX0_two_0 16 rfl rfl)
theorem dX0_two_19 : decode cX0_two 19 = .ok (.ifCond .eq 18, 3) := dk_153 0 18 (dk_at dksX0_two_0 19 rfl rfl)
theorem dX0_two_22 : decode cX0_two 22 = .ok (.aload_n 0, 1) := dk_42 (dk_at dksX0_two_0 22 rfl rfl)
theorem dX0_two_23 : decode cX0_two 23 = .ok (.getfield 99, 3) := dk_180 0 99 (dk_at dksX0_two_1 0 rfl rfl)
theorem dX0_two_26 : decode cX0_two 26 = .ok (.iload_n 3, 1) := dk_29 (dk_at dksX0_two_1 3 rfl rfl)
theorem dX0_two_27 : decode cX0_two 27 = .ok (.invokevirtual 237, 3) := dk_182 0 237 (dk_at dksX0_two_1 4 rfl rfl)
theorem dX0_two_30 : decode cX0_two 30 = .ok (.ifCond .eq 7, 3) := dk_153 0 7 (dk_at dksX0_two_1 7 rfl rfl)
theorem dX0_two_33 : decode cX0_two 33 = .ok (.iconst 1, 1) := dk_4 (dk_at dksX0_two_1 10 rfl rfl)
theorem dX0_two_34 : decode cX0_two 34 = .ok (.goto 4, 3) := dk_167 0 4 (dk_at dksX0_two_1 11 rfl rfl)
theorem dX0_two_37 : decode cX0_two 37 = .ok (.iconst 0, 1) := dk_3 (dk_at dksX0_two_1 14 rfl rfl)
theorem dX0_two_38 : decode cX0_two 38 = .ok (.iconst (-1), 1) := dk_2 (dk_at dksX0_two_1 15 rfl rfl)
theorem dX0_two_39 : decode cX0_two 39 = .ok (.invokestatic 116, 3) := dk_184 0 116 (dk_at dksX0_two_1 16 rfl rfl)
theorem dX0_two_42 : decode cX0_two 42 = .ok (.iload_n 1, 1) := dk_27 (dk_at dksX0_two_1 19 rfl rfl)
theorem dX0_two_43 : decode cX0_two 43 = .ok (.iload_n 2, 1) := dk_28 (dk_at dksX0_two_1 20 rfl rfl)
theorem dX0_two_44 : decode cX0_two 44 = .ok (.if_icmp .eq 7, 3) := dk_159 0 7 (dk_at dksX0_two_1 21 rfl rfl)
theorem dX0_two_47 : decode cX0_two 47 = .ok (.iconst 1, 1) := dk_4 (dk_at dksX0_two_2 0 rfl rfl)
theorem dX0_two_48 : decode cX0_two 48 = .ok (.goto 4, 3) := dk_167 0 4 (dk_at dksX0_two_2 1 rfl rfl)
theorem dX0_two_51 : decode cX0_two 51 = .ok (.iconst 0, 1) := dk_3 (dk_at dksX0_two_2 4 rfl rfl)
theorem dX0_two_52 : decode cX0_two 52 = .ok (.bipush (-6), 2) := dk_16 250 (dk_at dksX0_two_2 5 rfl rfl)
theorem dX0_two_54 : decode cX0_two 54 = .ok (.invokestatic 116, 3) := dk_184 0 116 (dk_at dksX0_two_2 7 rfl rfl)
theorem dX0_two_57 : decode cX0_two 57 = .ok (.aload_n 0, 1) := dk_42 (dk_at dksX0_two_2 10 rfl rfl)
theorem dX0_two_58 : decode cX0_two 58 = .ok (.getfield 77, 3) := dk_180 0 77 (dk_at dksX0_two_2 11 rfl rfl)
theorem dX0_two_61 : decode cX0_two 61 = .ok (.aload_n 0, 1) := dk_42 (dk_at dksX0_two_2 14 rfl rfl)
theorem dX0_two_62 : decode cX0_two 62 = .ok (.getfield 99, 3) := dk_180 0 99 (dk_at dksX0_two_2 15 rfl rfl)
theorem dX0_two_65 : decode cX0_two 65 = .ok (.iload_n 1, 1) := dk_27 (dk_at dksX0_two_2 18 rfl rfl)
theorem dX0_two_66 : decode cX0_two 66 = .ok (.iload_n 2, 1) := dk_28 (dk_at dksX0_two_2 19 rfl rfl)
theorem dX0_two_67 : decode cX0_two 67 = .ok (.iload_n 3, 1) := dk_29 (dk_at dksX0_two_2 20 rfl rfl)
theorem dX0_two_68 : decode cX0_two 68 = .ok (.invokevirtual 363, 3) := dk_182 1 107 (dk_at dksX0_two_2 21 rfl rfl)
theorem dX0_two_71 : decode cX0_two 71 = .ok (.invokevirtual 308, 3) := dk_182 1 52 (dk_at dksX0_two_3 0 rfl rfl)
theorem dX0_two_74 : decode cX0_two 74 = .ok (.ireturn, 1) := dk_172 (dk_at dksX0_two_3 3 rfl rfl)
theorem dX0_two_75 : decode cX0_two 75 = .ok (.astore 4, 2) := dk_58 4 (dk_at dksX0_two_3 4 rfl rfl)
theorem dX0_two_77 : decode cX0_two 77 = .ok (.aload_n 0, 1) := dk_42 (dk_at dksX0_two_3 6 rfl rfl)
theorem dX0_two_78 : decode cX0_two 78 = .ok (.aload 4, 2) := dk_25 4 (dk_at dksX0_two_3 7 rfl rfl)
theorem dX0_two_80 : decode cX0_two 80 = .ok (.invokevirtual 165, 3) := dk_182 0 165 (dk_at dksX0_two_3 9 rfl rfl)
theorem dX0_two_83 : decode cX0_two 83 = .ok (.ireturn, 1) := dk_172 (dk_at dksX0_two_3 12 rfl rfl)
abbrev cX0_pair : ByteArray := prog_1_method_45_code
def yX0_pair : MethodName := ⟨RX0, "pair", "()I"⟩
def dkwX0_pair_5 : List UInt8 := [132, 4, 1, 167, 255, 191, 132, 3, 1, 167, 255, 169, 27, 172, 76, 42, 43, 182, 0, 165, 172]
abbrev dktX0_pair_5 : List UInt8 := dkwX0_pair_5 ++ []
def dkwX0_pair_4 : List UInt8 := [27, 2, 159, 0, 9, 21, 5, 28, 162, 0, 14, 16, 100, 29, 104, 21, 4, 96, 60, 21, 5, 61]
abbrev dktX0_pair_4 : List UInt8 := dkwX0_pair_4 ++ dktX0_pair_5
def dkwX0_pair_3 : List UInt8 := [42, 180, 0, 99, 29, 21, 4, 42, 180, 0, 99, 180, 0, 218, 29, 46, 182, 1, 107, 182, 1, 52, 54, 5]
abbrev dktX0_pair_3 : List UInt8 := dkwX0_pair_3 ++ dktX0_pair_4
def dkwX0_pair_2 : List UInt8 := [162, 0, 82, 29, 4, 96, 54, 4, 21, 4, 42, 180, 0, 99, 180, 0, 120, 162, 0, 59, 42, 180, 0, 77]
abbrev dktX0_pair_2 : List UInt8 := dkwX0_pair_2 ++ dktX0_pair_3
def dkwX0_pair_1 : List UInt8 := [167, 0, 4, 3, 16, 251, 184, 0, 116, 2, 60, 3, 61, 3, 62, 29, 42, 180, 0, 99, 180, 0, 120]
abbrev dktX0_pair_1 : List UInt8 := dkwX0_pair_1 ++ dktX0_pair_2
def dkwX0_pair_0 : List UInt8 := [42, 180, 0, 99, 180, 0, 120, 4, 164, 0, 17, 42, 180, 0, 99, 180, 0, 200, 158, 0, 7, 4]
abbrev dktX0_pair_0 : List UInt8 := dkwX0_pair_0 ++ dktX0_pair_1
theorem dksX0_pair_0 : cX0_pair.data.toList.drop 0 = dktX0_pair_0 := by decide +kernel
theorem dksX0_pair_1 : cX0_pair.data.toList.drop 22 = dktX0_pair_1 := dk_seg dksX0_pair_0 22 rfl rfl
theorem dksX0_pair_2 : cX0_pair.data.toList.drop 45 = dktX0_pair_2 := dk_seg dksX0_pair_1 23 rfl rfl
theorem dksX0_pair_3 : cX0_pair.data.toList.drop 69 = dktX0_pair_3 := dk_seg dksX0_pair_2 24 rfl rfl
theorem dksX0_pair_4 : cX0_pair.data.toList.drop 93 = dktX0_pair_4 := dk_seg dksX0_pair_3 24 rfl rfl
theorem dksX0_pair_5 : cX0_pair.data.toList.drop 115 = dktX0_pair_5 := dk_seg dksX0_pair_4 22 rfl rfl
theorem dX0_pair_0 : decode cX0_pair 0 = .ok (.aload_n 0, 1) := dk_42 (dk_at dksX0_pair_0 0 rfl rfl)
theorem dX0_pair_1 : decode cX0_pair 1 = .ok (.getfield 99, 3) := dk_180 0 99 (dk_at dksX0_pair_0 1 rfl rfl)
theorem dX0_pair_4 : decode cX0_pair 4 = .ok (.getfield 120, 3) := dk_180 0 120 (dk_at dksX0_pair_0 4 rfl rfl)
theorem dX0_pair_7 : decode cX0_pair 7 = .ok (.iconst 1, 1) := dk_4 (dk_at dksX0_pair_0 7 rfl rfl)
theorem dX0_pair_8 : decode cX0_pair 8 = .ok (.if_icmp .le 17, 3) := dk_164 0 17 (dk_at dksX0_pair_0 8 rfl rfl)
theorem dX0_pair_11 : decode cX0_pair 11 = .ok (.aload_n 0, 1) := dk_42 (dk_at dksX0_pair_0 11 rfl rfl)
theorem dX0_pair_12 : decode cX0_pair 12 = .ok (.getfield 99, 3) := dk_180 0 99 (dk_at dksX0_pair_0 12 rfl rfl)
theorem dX0_pair_15 : decode cX0_pair 15 = .ok (.getfield 200, 3) := dk_180 0 200 (dk_at dksX0_pair_0 15 rfl rfl)
theorem dX0_pair_18 : decode cX0_pair 18 = .ok (.ifCond .le 7, 3) := dk_158 0 7 (dk_at dksX0_pair_0 18 rfl rfl)
theorem dX0_pair_21 : decode cX0_pair 21 = .ok (.iconst 1, 1) := dk_4 (dk_at dksX0_pair_0 21 rfl rfl)
theorem dX0_pair_22 : decode cX0_pair 22 = .ok (.goto 4, 3) := dk_167 0 4 (dk_at dksX0_pair_1 0 rfl rfl)
theorem dX0_pair_25 : decode cX0_pair 25 = .ok (.iconst 0, 1) := dk_3 (dk_at dksX0_pair_1 3 rfl rfl)
theorem dX0_pair_26 : decode cX0_pair 26 = .ok (.bipush (-5), 2) := dk_16 251 (dk_at dksX0_pair_1 4 rfl rfl)
theorem dX0_pair_28 : decode cX0_pair 28 = .ok (.invokestatic 116, 3) := dk_184 0 116 (dk_at dksX0_pair_1 6 rfl rfl)
theorem dX0_pair_31 : decode cX0_pair 31 = .ok (.iconst (-1), 1) := dk_2 (dk_at dksX0_pair_1 9 rfl rfl)
theorem dX0_pair_32 : decode cX0_pair 32 = .ok (.istore_n 1, 1) := dk_60 (dk_at dksX0_pair_1 10 rfl rfl)
theorem dX0_pair_33 : decode cX0_pair 33 = .ok (.iconst 0, 1) := dk_3 (dk_at dksX0_pair_1 11 rfl rfl)
theorem dX0_pair_34 : decode cX0_pair 34 = .ok (.istore_n 2, 1) := dk_61 (dk_at dksX0_pair_1 12 rfl rfl)
theorem dX0_pair_35 : decode cX0_pair 35 = .ok (.iconst 0, 1) := dk_3 (dk_at dksX0_pair_1 13 rfl rfl)
theorem dX0_pair_36 : decode cX0_pair 36 = .ok (.istore_n 3, 1) := dk_62 (dk_at dksX0_pair_1 14 rfl rfl)
theorem dX0_pair_37 : decode cX0_pair 37 = .ok (.iload_n 3, 1) := dk_29 (dk_at dksX0_pair_1 15 rfl rfl)
theorem dX0_pair_38 : decode cX0_pair 38 = .ok (.aload_n 0, 1) := dk_42 (dk_at dksX0_pair_1 16 rfl rfl)
theorem dX0_pair_39 : decode cX0_pair 39 = .ok (.getfield 99, 3) := dk_180 0 99 (dk_at dksX0_pair_1 17 rfl rfl)
theorem dX0_pair_42 : decode cX0_pair 42 = .ok (.getfield 120, 3) := dk_180 0 120 (dk_at dksX0_pair_1 20 rfl rfl)
theorem dX0_pair_45 : decode cX0_pair 45 = .ok (.if_icmp .ge 82, 3) := dk_162 0 82 (dk_at dksX0_pair_2 0 rfl rfl)
theorem dX0_pair_48 : decode cX0_pair 48 = .ok (.iload_n 3, 1) := dk_29 (dk_at dksX0_pair_2 3 rfl rfl)
theorem dX0_pair_49 : decode cX0_pair 49 = .ok (.iconst 1, 1) := dk_4 (dk_at dksX0_pair_2 4 rfl rfl)
theorem dX0_pair_50 : decode cX0_pair 50 = .ok (.iadd, 1) := dk_96 (dk_at dksX0_pair_2 5 rfl rfl)
theorem dX0_pair_51 : decode cX0_pair 51 = .ok (.istore 4, 2) := dk_54 4 (dk_at dksX0_pair_2 6 rfl rfl)
theorem dX0_pair_53 : decode cX0_pair 53 = .ok (.iload 4, 2) := dk_21 4 (dk_at dksX0_pair_2 8 rfl rfl)
theorem dX0_pair_55 : decode cX0_pair 55 = .ok (.aload_n 0, 1) := dk_42 (dk_at dksX0_pair_2 10 rfl rfl)
theorem dX0_pair_56 : decode cX0_pair 56 = .ok (.getfield 99, 3) := dk_180 0 99 (dk_at dksX0_pair_2 11 rfl rfl)
theorem dX0_pair_59 : decode cX0_pair 59 = .ok (.getfield 120, 3) := dk_180 0 120 (dk_at dksX0_pair_2 14 rfl rfl)
theorem dX0_pair_62 : decode cX0_pair 62 = .ok (.if_icmp .ge 59, 3) := dk_162 0 59 (dk_at dksX0_pair_2 17 rfl rfl)
theorem dX0_pair_65 : decode cX0_pair 65 = .ok (.aload_n 0, 1) := dk_42 (dk_at dksX0_pair_2 20 rfl rfl)
theorem dX0_pair_66 : decode cX0_pair 66 = .ok (.getfield 77, 3) := dk_180 0 77 (dk_at dksX0_pair_2 21 rfl rfl)
theorem dX0_pair_69 : decode cX0_pair 69 = .ok (.aload_n 0, 1) := dk_42 (dk_at dksX0_pair_3 0 rfl rfl)
theorem dX0_pair_70 : decode cX0_pair 70 = .ok (.getfield 99, 3) := dk_180 0 99 (dk_at dksX0_pair_3 1 rfl rfl)
theorem dX0_pair_73 : decode cX0_pair 73 = .ok (.iload_n 3, 1) := dk_29 (dk_at dksX0_pair_3 4 rfl rfl)
theorem dX0_pair_74 : decode cX0_pair 74 = .ok (.iload 4, 2) := dk_21 4 (dk_at dksX0_pair_3 5 rfl rfl)
theorem dX0_pair_76 : decode cX0_pair 76 = .ok (.aload_n 0, 1) := dk_42 (dk_at dksX0_pair_3 7 rfl rfl)
theorem dX0_pair_77 : decode cX0_pair 77 = .ok (.getfield 99, 3) := dk_180 0 99 (dk_at dksX0_pair_3 8 rfl rfl)
theorem dX0_pair_80 : decode cX0_pair 80 = .ok (.getfield 218, 3) := dk_180 0 218 (dk_at dksX0_pair_3 11 rfl rfl)
theorem dX0_pair_83 : decode cX0_pair 83 = .ok (.iload_n 3, 1) := dk_29 (dk_at dksX0_pair_3 14 rfl rfl)
theorem dX0_pair_84 : decode cX0_pair 84 = .ok (.iaload, 1) := dk_46 (dk_at dksX0_pair_3 15 rfl rfl)
theorem dX0_pair_85 : decode cX0_pair 85 = .ok (.invokevirtual 363, 3) := dk_182 1 107 (dk_at dksX0_pair_3 16 rfl rfl)
theorem dX0_pair_88 : decode cX0_pair 88 = .ok (.invokevirtual 308, 3) := dk_182 1 52 (dk_at dksX0_pair_3 19 rfl rfl)
theorem dX0_pair_91 : decode cX0_pair 91 = .ok (.istore 5, 2) := dk_54 5 (dk_at dksX0_pair_3 22 rfl rfl)
theorem dX0_pair_93 : decode cX0_pair 93 = .ok (.iload_n 1, 1) := dk_27 (dk_at dksX0_pair_4 0 rfl rfl)
theorem dX0_pair_94 : decode cX0_pair 94 = .ok (.iconst (-1), 1) := dk_2 (dk_at dksX0_pair_4 1 rfl rfl)
theorem dX0_pair_95 : decode cX0_pair 95 = .ok (.if_icmp .eq 9, 3) := dk_159 0 9 (dk_at dksX0_pair_4 2 rfl rfl)
theorem dX0_pair_98 : decode cX0_pair 98 = .ok (.iload 5, 2) := dk_21 5 (dk_at dksX0_pair_4 5 rfl rfl)
theorem dX0_pair_100 : decode cX0_pair 100 = .ok (.iload_n 2, 1) := dk_28 (dk_at dksX0_pair_4 7 rfl rfl)
theorem dX0_pair_101 : decode cX0_pair 101 = .ok (.if_icmp .ge 14, 3) := dk_162 0 14 (dk_at dksX0_pair_4 8 rfl rfl)
theorem dX0_pair_104 : decode cX0_pair 104 = .ok (.bipush 100, 2) := dk_16 100 (dk_at dksX0_pair_4 11 rfl rfl)
theorem dX0_pair_106 : decode cX0_pair 106 = .ok (.iload_n 3, 1) := dk_29 (dk_at dksX0_pair_4 13 rfl rfl)
theorem dX0_pair_107 : decode cX0_pair 107 = .ok (.imul, 1) := dk_104 (dk_at dksX0_pair_4 14 rfl rfl)
theorem dX0_pair_108 : decode cX0_pair 108 = .ok (.iload 4, 2) := dk_21 4 (dk_at dksX0_pair_4 15 rfl rfl)
theorem dX0_pair_110 : decode cX0_pair 110 = .ok (.iadd, 1) := dk_96 (dk_at dksX0_pair_4 17 rfl rfl)
theorem dX0_pair_111 : decode cX0_pair 111 = .ok (.istore_n 1, 1) := dk_60 (dk_at dksX0_pair_4 18 rfl rfl)
theorem dX0_pair_112 : decode cX0_pair 112 = .ok (.iload 5, 2) := dk_21 5 (dk_at dksX0_pair_4 19 rfl rfl)
theorem dX0_pair_114 : decode cX0_pair 114 = .ok (.istore_n 2, 1) := dk_61 (dk_at dksX0_pair_4 21 rfl rfl)
theorem dX0_pair_115 : decode cX0_pair 115 = .ok (.iinc 4 1, 3) := dk_132 4 1 (dk_at dksX0_pair_5 0 rfl rfl)
theorem dX0_pair_118 : decode cX0_pair 118 = .ok (.goto (-65), 3) := dk_167 255 191 (dk_at dksX0_pair_5 3 rfl rfl)
theorem dX0_pair_121 : decode cX0_pair 121 = .ok (.iinc 3 1, 3) := dk_132 3 1 (dk_at dksX0_pair_5 6 rfl rfl)
theorem dX0_pair_124 : decode cX0_pair 124 = .ok (.goto (-87), 3) := dk_167 255 169 (dk_at dksX0_pair_5 9 rfl rfl)
theorem dX0_pair_127 : decode cX0_pair 127 = .ok (.iload_n 1, 1) := dk_27 (dk_at dksX0_pair_5 12 rfl rfl)
theorem dX0_pair_128 : decode cX0_pair 128 = .ok (.ireturn, 1) := dk_172 (dk_at dksX0_pair_5 13 rfl rfl)
theorem dX0_pair_129 : decode cX0_pair 129 = .ok (.astore_n 1, 1) := dk_76 (dk_at dksX0_pair_5 14 rfl rfl)
theorem dX0_pair_130 : decode cX0_pair 130 = .ok (.aload_n 0, 1) := dk_42 (dk_at dksX0_pair_5 15 rfl rfl)
theorem dX0_pair_131 : decode cX0_pair 131 = .ok (.aload_n 1, 1) := dk_43 (dk_at dksX0_pair_5 16 rfl rfl)
theorem dX0_pair_132 : decode cX0_pair 132 = .ok (.invokevirtual 165, 3) := dk_182 0 165 (dk_at dksX0_pair_5 17 rfl rfl)
theorem dX0_pair_135 : decode cX0_pair 135 = .ok (.ireturn, 1) := dk_172 (dk_at dksX0_pair_5 20 rfl rfl)
abbrev cX0_start : ByteArray := prog_1_method_47_code
def yX0_start : MethodName := ⟨RX0, "start", "(II)I"⟩
def dkwX0_start_2 : List UInt8 := [182, 0, 165, 16, 10, 100, 172]
abbrev dktX0_start_2 : List UInt8 := dkwX0_start_2 ++ []
def dkwX0_start_1 : List UInt8 := [167, 0, 4, 3, 2, 184, 0, 116, 42, 27, 42, 28, 182, 1, 55, 182, 1, 111, 172, 78, 42, 45]
abbrev dktX0_start_1 : List UInt8 := dkwX0_start_1 ++ dktX0_start_2
def dkwX0_start_0 : List UInt8 := [42, 180, 0, 99, 27, 182, 0, 112, 153, 0, 18, 42, 180, 0, 99, 28, 182, 0, 112, 153, 0, 7, 4]
abbrev dktX0_start_0 : List UInt8 := dkwX0_start_0 ++ dktX0_start_1
theorem dksX0_start_0 : cX0_start.data.toList.drop 0 = dktX0_start_0 := by decide +kernel
theorem dksX0_start_1 : cX0_start.data.toList.drop 23 = dktX0_start_1 := dk_seg dksX0_start_0 23 rfl rfl
theorem dksX0_start_2 : cX0_start.data.toList.drop 45 = dktX0_start_2 := dk_seg dksX0_start_1 22 rfl rfl
theorem dX0_start_0 : decode cX0_start 0 = .ok (.aload_n 0, 1) := dk_42 (dk_at dksX0_start_0 0 rfl rfl)
theorem dX0_start_1 : decode cX0_start 1 = .ok (.getfield 99, 3) := dk_180 0 99 (dk_at dksX0_start_0 1 rfl rfl)
theorem dX0_start_4 : decode cX0_start 4 = .ok (.iload_n 1, 1) := dk_27 (dk_at dksX0_start_0 4 rfl rfl)
theorem dX0_start_5 : decode cX0_start 5 = .ok (.invokevirtual 112, 3) := dk_182 0 112 (dk_at dksX0_start_0 5 rfl rfl)
theorem dX0_start_8 : decode cX0_start 8 = .ok (.ifCond .eq 18, 3) := dk_153 0 18 (dk_at dksX0_start_0 8 rfl rfl)
theorem dX0_start_11 : decode cX0_start 11 = .ok (.aload_n 0, 1) := dk_42 (dk_at dksX0_start_0 11 rfl rfl)
theorem dX0_start_12 : decode cX0_start 12 = .ok (.getfield 99, 3) := dk_180 0 99 (dk_at dksX0_start_0 12 rfl rfl)
theorem dX0_start_15 : decode cX0_start 15 = .ok (.iload_n 2, 1) := dk_28 (dk_at dksX0_start_0 15 rfl rfl)
theorem dX0_start_16 : decode cX0_start 16 = .ok (.invokevirtual 112, 3) := dk_182 0 112 (dk_at dksX0_start_0 16 rfl rfl)
theorem dX0_start_19 : decode cX0_start 19 = .ok (.ifCond .eq 7, 3) := dk_153 0 7 (dk_at dksX0_start_0 19 rfl rfl)
theorem dX0_start_22 : decode cX0_start 22 = .ok (.iconst 1, 1) := dk_4 (dk_at dksX0_start_0 22 rfl rfl)
theorem dX0_start_23 : decode cX0_start 23 = .ok (.goto 4, 3) := dk_167 0 4 (dk_at dksX0_start_1 0 rfl rfl)
theorem dX0_start_26 : decode cX0_start 26 = .ok (.iconst 0, 1) := dk_3 (dk_at dksX0_start_1 3 rfl rfl)
theorem dX0_start_27 : decode cX0_start 27 = .ok (.iconst (-1), 1) := dk_2 (dk_at dksX0_start_1 4 rfl rfl)
theorem dX0_start_28 : decode cX0_start 28 = .ok (.invokestatic 116, 3) := dk_184 0 116 (dk_at dksX0_start_1 5 rfl rfl)
theorem dX0_start_31 : decode cX0_start 31 = .ok (.aload_n 0, 1) := dk_42 (dk_at dksX0_start_1 8 rfl rfl)
theorem dX0_start_32 : decode cX0_start 32 = .ok (.iload_n 1, 1) := dk_27 (dk_at dksX0_start_1 9 rfl rfl)
theorem dX0_start_33 : decode cX0_start 33 = .ok (.aload_n 0, 1) := dk_42 (dk_at dksX0_start_1 10 rfl rfl)
theorem dX0_start_34 : decode cX0_start 34 = .ok (.iload_n 2, 1) := dk_28 (dk_at dksX0_start_1 11 rfl rfl)
theorem dX0_start_35 : decode cX0_start 35 = .ok (.invokevirtual 311, 3) := dk_182 1 55 (dk_at dksX0_start_1 12 rfl rfl)
theorem dX0_start_38 : decode cX0_start 38 = .ok (.invokevirtual 367, 3) := dk_182 1 111 (dk_at dksX0_start_1 15 rfl rfl)
theorem dX0_start_41 : decode cX0_start 41 = .ok (.ireturn, 1) := dk_172 (dk_at dksX0_start_1 18 rfl rfl)
theorem dX0_start_42 : decode cX0_start 42 = .ok (.astore_n 3, 1) := dk_78 (dk_at dksX0_start_1 19 rfl rfl)
theorem dX0_start_43 : decode cX0_start 43 = .ok (.aload_n 0, 1) := dk_42 (dk_at dksX0_start_1 20 rfl rfl)
theorem dX0_start_44 : decode cX0_start 44 = .ok (.aload_n 3, 1) := dk_45 (dk_at dksX0_start_1 21 rfl rfl)
theorem dX0_start_45 : decode cX0_start 45 = .ok (.invokevirtual 165, 3) := dk_182 0 165 (dk_at dksX0_start_2 0 rfl rfl)
theorem dX0_start_48 : decode cX0_start 48 = .ok (.bipush 10, 2) := dk_16 10 (dk_at dksX0_start_2 3 rfl rfl)
theorem dX0_start_50 : decode cX0_start 50 = .ok (.isub, 1) := dk_100 (dk_at dksX0_start_2 5 rfl rfl)
theorem dX0_start_51 : decode cX0_start 51 = .ok (.ireturn, 1) := dk_172 (dk_at dksX0_start_2 6 rfl rfl)
abbrev cX0_startOf : ByteArray := prog_1_method_46_code
def yX0_startOf : MethodName := ⟨RX0, "startOf", "(II)I"⟩
def dkwX0_startOf_2 : List UInt8 := [163, 0, 5, 29, 172, 132, 3, 1, 167, 255, 216, 2, 172]
abbrev dktX0_startOf_2 : List UInt8 := dkwX0_startOf_2 ++ []
def dkwX0_startOf_1 : List UInt8 := [180, 0, 221, 27, 29, 79, 42, 180, 0, 77, 42, 180, 0, 95, 27, 182, 1, 29, 182, 1, 52, 28]
abbrev dktX0_startOf_1 : List UInt8 := dkwX0_startOf_1 ++ dktX0_startOf_2
def dkwX0_startOf_0 : List UInt8 := [42, 180, 0, 95, 42, 180, 0, 99, 182, 1, 8, 87, 3, 62, 29, 16, 99, 163, 0, 40, 42, 180, 0, 95]
abbrev dktX0_startOf_0 : List UInt8 := dkwX0_startOf_0 ++ dktX0_startOf_1
theorem dksX0_startOf_0 : cX0_startOf.data.toList.drop 0 = dktX0_startOf_0 := by decide +kernel
theorem dksX0_startOf_1 : cX0_startOf.data.toList.drop 24 = dktX0_startOf_1 := dk_seg dksX0_startOf_0 24 rfl rfl
theorem dksX0_startOf_2 : cX0_startOf.data.toList.drop 46 = dktX0_startOf_2 := dk_seg dksX0_startOf_1 22 rfl rfl
theorem dX0_startOf_0 : decode cX0_startOf 0 = .ok (.aload_n 0, 1) := dk_42 (dk_at dksX0_startOf_0 0 rfl rfl)
theorem dX0_startOf_1 : decode cX0_startOf 1 = .ok (.getfield 95, 3) := dk_180 0 95 (dk_at dksX0_startOf_0 1 rfl rfl)
theorem dX0_startOf_4 : decode cX0_startOf 4 = .ok (.aload_n 0, 1) := dk_42 (dk_at dksX0_startOf_0 4 rfl rfl)
theorem dX0_startOf_5 : decode cX0_startOf 5 = .ok (.getfield 99, 3) := dk_180 0 99 (dk_at dksX0_startOf_0 5 rfl rfl)
theorem dX0_startOf_8 : decode cX0_startOf 8 = .ok (.invokevirtual 264, 3) := dk_182 1 8 (dk_at dksX0_startOf_0 8 rfl rfl)
theorem dX0_startOf_11 : decode cX0_startOf 11 = .ok (.pop, 1) := dk_87 (dk_at dksX0_startOf_0 11 rfl rfl)
theorem dX0_startOf_12 : decode cX0_startOf 12 = .ok (.iconst 0, 1) := dk_3 (dk_at dksX0_startOf_0 12 rfl rfl)
theorem dX0_startOf_13 : decode cX0_startOf 13 = .ok (.istore_n 3, 1) := dk_62 (dk_at dksX0_startOf_0 13 rfl rfl)
theorem dX0_startOf_14 : decode cX0_startOf 14 = .ok (.iload_n 3, 1) := dk_29 (dk_at dksX0_startOf_0 14 rfl rfl)
theorem dX0_startOf_15 : decode cX0_startOf 15 = .ok (.bipush 99, 2) := dk_16 99 (dk_at dksX0_startOf_0 15 rfl rfl)
theorem dX0_startOf_17 : decode cX0_startOf 17 = .ok (.if_icmp .gt 40, 3) := dk_163 0 40 (dk_at dksX0_startOf_0 17 rfl rfl)
theorem dX0_startOf_20 : decode cX0_startOf 20 = .ok (.aload_n 0, 1) := dk_42 (dk_at dksX0_startOf_0 20 rfl rfl)
theorem dX0_startOf_21 : decode cX0_startOf 21 = .ok (.getfield 95, 3) := dk_180 0 95 (dk_at dksX0_startOf_0 21 rfl rfl)
theorem dX0_startOf_24 : decode cX0_startOf 24 = .ok (.getfield 221, 3) := dk_180 0 221 (dk_at dksX0_startOf_1 0 rfl rfl)
theorem dX0_startOf_27 : decode cX0_startOf 27 = .ok (.iload_n 1, 1) := dk_27 (dk_at dksX0_startOf_1 3 rfl rfl)
theorem dX0_startOf_28 : decode cX0_startOf 28 = .ok (.iload_n 3, 1) := dk_29 (dk_at dksX0_startOf_1 4 rfl rfl)
theorem dX0_startOf_29 : decode cX0_startOf 29 = .ok (.iastore, 1) := dk_79 (dk_at dksX0_startOf_1 5 rfl rfl)
theorem dX0_startOf_30 : decode cX0_startOf 30 = .ok (.aload_n 0, 1) := dk_42 (dk_at dksX0_startOf_1 6 rfl rfl)
theorem dX0_startOf_31 : decode cX0_startOf 31 = .ok (.getfield 77, 3) := dk_180 0 77 (dk_at dksX0_startOf_1 7 rfl rfl)
theorem dX0_startOf_34 : decode cX0_startOf 34 = .ok (.aload_n 0, 1) := dk_42 (dk_at dksX0_startOf_1 10 rfl rfl)
theorem dX0_startOf_35 : decode cX0_startOf 35 = .ok (.getfield 95, 3) := dk_180 0 95 (dk_at dksX0_startOf_1 11 rfl rfl)
theorem dX0_startOf_38 : decode cX0_startOf 38 = .ok (.iload_n 1, 1) := dk_27 (dk_at dksX0_startOf_1 14 rfl rfl)
theorem dX0_startOf_39 : decode cX0_startOf 39 = .ok (.invokevirtual 285, 3) := dk_182 1 29 (dk_at dksX0_startOf_1 15 rfl rfl)
theorem dX0_startOf_42 : decode cX0_startOf 42 = .ok (.invokevirtual 308, 3) := dk_182 1 52 (dk_at dksX0_startOf_1 18 rfl rfl)
theorem dX0_startOf_45 : decode cX0_startOf 45 = .ok (.iload_n 2, 1) := dk_28 (dk_at dksX0_startOf_1 21 rfl rfl)
theorem dX0_startOf_46 : decode cX0_startOf 46 = .ok (.if_icmp .gt 5, 3) := dk_163 0 5 (dk_at dksX0_startOf_2 0 rfl rfl)
theorem dX0_startOf_49 : decode cX0_startOf 49 = .ok (.iload_n 3, 1) := dk_29 (dk_at dksX0_startOf_2 3 rfl rfl)
theorem dX0_startOf_50 : decode cX0_startOf 50 = .ok (.ireturn, 1) := dk_172 (dk_at dksX0_startOf_2 4 rfl rfl)
theorem dX0_startOf_51 : decode cX0_startOf 51 = .ok (.iinc 3 1, 3) := dk_132 3 1 (dk_at dksX0_startOf_2 5 rfl rfl)
theorem dX0_startOf_54 : decode cX0_startOf 54 = .ok (.goto (-40), 3) := dk_167 255 216 (dk_at dksX0_startOf_2 8 rfl rfl)
theorem dX0_startOf_57 : decode cX0_startOf 57 = .ok (.iconst (-1), 1) := dk_2 (dk_at dksX0_startOf_2 11 rfl rfl)
theorem dX0_startOf_58 : decode cX0_startOf 58 = .ok (.ireturn, 1) := dk_172 (dk_at dksX0_startOf_2 12 rfl rfl)
abbrev cX0_atOnce : ByteArray := prog_1_method_48_code
def yX0_atOnce : MethodName := ⟨RX0, "atOnce", "()I"⟩
def dkwX0_atOnce_2 : List UInt8 := [54, 4, 21, 4, 2, 160, 0, 5, 2, 172, 27, 21, 4, 96, 60, 132, 3, 1, 167, 255, 221, 27, 172]
abbrev dktX0_atOnce_2 : List UInt8 := dkwX0_atOnce_2 ++ []
def dkwX0_atOnce_1 : List UInt8 := [182, 1, 55, 61, 3, 62, 29, 42, 180, 0, 99, 180, 0, 120, 162, 0, 30, 42, 29, 28, 182, 1, 111]
abbrev dktX0_atOnce_1 : List UInt8 := dkwX0_atOnce_1 ++ dktX0_atOnce_2
def dkwX0_atOnce_0 : List UInt8 := [3, 60, 42, 180, 0, 99, 180, 0, 120, 154, 0, 5, 27, 172, 42, 42, 42, 182, 1, 61, 182, 1, 64]
abbrev dktX0_atOnce_0 : List UInt8 := dkwX0_atOnce_0 ++ dktX0_atOnce_1
theorem dksX0_atOnce_0 : cX0_atOnce.data.toList.drop 0 = dktX0_atOnce_0 := by decide +kernel
theorem dksX0_atOnce_1 : cX0_atOnce.data.toList.drop 23 = dktX0_atOnce_1 := dk_seg dksX0_atOnce_0 23 rfl rfl
theorem dksX0_atOnce_2 : cX0_atOnce.data.toList.drop 46 = dktX0_atOnce_2 := dk_seg dksX0_atOnce_1 23 rfl rfl
theorem dX0_atOnce_0 : decode cX0_atOnce 0 = .ok (.iconst 0, 1) := dk_3 (dk_at dksX0_atOnce_0 0 rfl rfl)
theorem dX0_atOnce_1 : decode cX0_atOnce 1 = .ok (.istore_n 1, 1) := dk_60 (dk_at dksX0_atOnce_0 1 rfl rfl)
theorem dX0_atOnce_2 : decode cX0_atOnce 2 = .ok (.aload_n 0, 1) := dk_42 (dk_at dksX0_atOnce_0 2 rfl rfl)
theorem dX0_atOnce_3 : decode cX0_atOnce 3 = .ok (.getfield 99, 3) := dk_180 0 99 (dk_at dksX0_atOnce_0 3 rfl rfl)
theorem dX0_atOnce_6 : decode cX0_atOnce 6 = .ok (.getfield 120, 3) := dk_180 0 120 (dk_at dksX0_atOnce_0 6 rfl rfl)
theorem dX0_atOnce_9 : decode cX0_atOnce 9 = .ok (.ifCond .ne 5, 3) := dk_154 0 5 (dk_at dksX0_atOnce_0 9 rfl rfl)
theorem dX0_atOnce_12 : decode cX0_atOnce 12 = .ok (.iload_n 1, 1) := dk_27 (dk_at dksX0_atOnce_0 12 rfl rfl)
theorem dX0_atOnce_13 : decode cX0_atOnce 13 = .ok (.ireturn, 1) := dk_172 (dk_at dksX0_atOnce_0 13 rfl rfl)
theorem dX0_atOnce_14 : decode cX0_atOnce 14 = .ok (.aload_n 0, 1) := dk_42 (dk_at dksX0_atOnce_0 14 rfl rfl)
theorem dX0_atOnce_15 : decode cX0_atOnce 15 = .ok (.aload_n 0, 1) := dk_42 (dk_at dksX0_atOnce_0 15 rfl rfl)
theorem dX0_atOnce_16 : decode cX0_atOnce 16 = .ok (.aload_n 0, 1) := dk_42 (dk_at dksX0_atOnce_0 16 rfl rfl)
theorem dX0_atOnce_17 : decode cX0_atOnce 17 = .ok (.invokevirtual 317, 3) := dk_182 1 61 (dk_at dksX0_atOnce_0 17 rfl rfl)
theorem dX0_atOnce_20 : decode cX0_atOnce 20 = .ok (.invokevirtual 320, 3) := dk_182 1 64 (dk_at dksX0_atOnce_0 20 rfl rfl)
theorem dX0_atOnce_23 : decode cX0_atOnce 23 = .ok (.invokevirtual 311, 3) := dk_182 1 55 (dk_at dksX0_atOnce_1 0 rfl rfl)
theorem dX0_atOnce_26 : decode cX0_atOnce 26 = .ok (.istore_n 2, 1) := dk_61 (dk_at dksX0_atOnce_1 3 rfl rfl)
theorem dX0_atOnce_27 : decode cX0_atOnce 27 = .ok (.iconst 0, 1) := dk_3 (dk_at dksX0_atOnce_1 4 rfl rfl)
theorem dX0_atOnce_28 : decode cX0_atOnce 28 = .ok (.istore_n 3, 1) := dk_62 (dk_at dksX0_atOnce_1 5 rfl rfl)
theorem dX0_atOnce_29 : decode cX0_atOnce 29 = .ok (.iload_n 3, 1) := dk_29 (dk_at dksX0_atOnce_1 6 rfl rfl)
theorem dX0_atOnce_30 : decode cX0_atOnce 30 = .ok (.aload_n 0, 1) := dk_42 (dk_at dksX0_atOnce_1 7 rfl rfl)
theorem dX0_atOnce_31 : decode cX0_atOnce 31 = .ok (.getfield 99, 3) := dk_180 0 99 (dk_at dksX0_atOnce_1 8 rfl rfl)
theorem dX0_atOnce_34 : decode cX0_atOnce 34 = .ok (.getfield 120, 3) := dk_180 0 120 (dk_at dksX0_atOnce_1 11 rfl rfl)
theorem dX0_atOnce_37 : decode cX0_atOnce 37 = .ok (.if_icmp .ge 30, 3) := dk_162 0 30 (dk_at dksX0_atOnce_1 14 rfl rfl)
theorem dX0_atOnce_40 : decode cX0_atOnce 40 = .ok (.aload_n 0, 1) := dk_42 (dk_at dksX0_atOnce_1 17 rfl rfl)
theorem dX0_atOnce_41 : decode cX0_atOnce 41 = .ok (.iload_n 3, 1) := dk_29 (dk_at dksX0_atOnce_1 18 rfl rfl)
theorem dX0_atOnce_42 : decode cX0_atOnce 42 = .ok (.iload_n 2, 1) := dk_28 (dk_at dksX0_atOnce_1 19 rfl rfl)
theorem dX0_atOnce_43 : decode cX0_atOnce 43 = .ok (.invokevirtual 367, 3) := dk_182 1 111 (dk_at dksX0_atOnce_1 20 rfl rfl)
theorem dX0_atOnce_46 : decode cX0_atOnce 46 = .ok (.istore 4, 2) := dk_54 4 (dk_at dksX0_atOnce_2 0 rfl rfl)
theorem dX0_atOnce_48 : decode cX0_atOnce 48 = .ok (.iload 4, 2) := dk_21 4 (dk_at dksX0_atOnce_2 2 rfl rfl)
theorem dX0_atOnce_50 : decode cX0_atOnce 50 = .ok (.iconst (-1), 1) := dk_2 (dk_at dksX0_atOnce_2 4 rfl rfl)
theorem dX0_atOnce_51 : decode cX0_atOnce 51 = .ok (.if_icmp .ne 5, 3) := dk_160 0 5 (dk_at dksX0_atOnce_2 5 rfl rfl)
theorem dX0_atOnce_54 : decode cX0_atOnce 54 = .ok (.iconst (-1), 1) := dk_2 (dk_at dksX0_atOnce_2 8 rfl rfl)
theorem dX0_atOnce_55 : decode cX0_atOnce 55 = .ok (.ireturn, 1) := dk_172 (dk_at dksX0_atOnce_2 9 rfl rfl)
theorem dX0_atOnce_56 : decode cX0_atOnce 56 = .ok (.iload_n 1, 1) := dk_27 (dk_at dksX0_atOnce_2 10 rfl rfl)
theorem dX0_atOnce_57 : decode cX0_atOnce 57 = .ok (.iload 4, 2) := dk_21 4 (dk_at dksX0_atOnce_2 11 rfl rfl)
theorem dX0_atOnce_59 : decode cX0_atOnce 59 = .ok (.iadd, 1) := dk_96 (dk_at dksX0_atOnce_2 13 rfl rfl)
theorem dX0_atOnce_60 : decode cX0_atOnce 60 = .ok (.istore_n 1, 1) := dk_60 (dk_at dksX0_atOnce_2 14 rfl rfl)
theorem dX0_atOnce_61 : decode cX0_atOnce 61 = .ok (.iinc 3 1, 3) := dk_132 3 1 (dk_at dksX0_atOnce_2 15 rfl rfl)
theorem dX0_atOnce_64 : decode cX0_atOnce 64 = .ok (.goto (-35), 3) := dk_167 255 221 (dk_at dksX0_atOnce_2 18 rfl rfl)
theorem dX0_atOnce_67 : decode cX0_atOnce 67 = .ok (.iload_n 1, 1) := dk_27 (dk_at dksX0_atOnce_2 21 rfl rfl)
theorem dX0_atOnce_68 : decode cX0_atOnce 68 = .ok (.ireturn, 1) := dk_172 (dk_at dksX0_atOnce_2 22 rfl rfl)
abbrev cX0_heats : ByteArray := prog_1_method_50_code
def yX0_heats : MethodName := ⟨RX0, "heats", "(II)I"⟩
def dkwX0_heats_4 : List UInt8 := [78, 42, 45, 182, 0, 165, 172]
abbrev dktX0_heats_4 : List UInt8 := dkwX0_heats_4 ++ []
def dkwX0_heats_3 : List UInt8 := [182, 1, 119, 54, 4, 167, 255, 237, 28, 154, 0, 11, 21, 4, 184, 1, 123, 167, 0, 6, 45, 3, 46, 172]
abbrev dktX0_heats_3 : List UInt8 := dkwX0_heats_3 ++ dktX0_heats_4
def dkwX0_heats_2 : List UInt8 := [188, 10, 78, 42, 182, 1, 61, 54, 4, 21, 4, 184, 1, 114, 4, 164, 0, 16, 42, 21, 4, 27, 45]
abbrev dktX0_heats_2 : List UInt8 := dkwX0_heats_2 ++ dktX0_heats_3
def dkwX0_heats_1 : List UInt8 := [3, 16, 251, 184, 0, 116, 27, 133, 20, 1, 92, 20, 1, 25, 184, 0, 157, 16, 250, 184, 0, 116, 4]
abbrev dktX0_heats_1 : List UInt8 := dkwX0_heats_1 ++ dktX0_heats_2
def dkwX0_heats_0 : List UInt8 := [28, 133, 9, 10, 184, 0, 157, 153, 0, 17, 42, 180, 0, 99, 180, 0, 120, 158, 0, 7, 4, 167, 0, 4]
abbrev dktX0_heats_0 : List UInt8 := dkwX0_heats_0 ++ dktX0_heats_1
theorem dksX0_heats_0 : cX0_heats.data.toList.drop 0 = dktX0_heats_0 := by decide +kernel
theorem dksX0_heats_1 : cX0_heats.data.toList.drop 24 = dktX0_heats_1 := dk_seg dksX0_heats_0 24 rfl rfl
theorem dksX0_heats_2 : cX0_heats.data.toList.drop 47 = dktX0_heats_2 := dk_seg dksX0_heats_1 23 rfl rfl
theorem dksX0_heats_3 : cX0_heats.data.toList.drop 70 = dktX0_heats_3 := dk_seg dksX0_heats_2 23 rfl rfl
theorem dksX0_heats_4 : cX0_heats.data.toList.drop 94 = dktX0_heats_4 := dk_seg dksX0_heats_3 24 rfl rfl
theorem dX0_heats_0 : decode cX0_heats 0 = .ok (.iload_n 2, 1) := dk_28 (dk_at dksX0_heats_0 0 rfl rfl)
theorem dX0_heats_1 : decode cX0_heats 1 = .ok (.i2l, 1) := dk_133 (dk_at dksX0_heats_0 1 rfl rfl)
theorem dX0_heats_2 : decode cX0_heats 2 = .ok (.lconst 0, 1) := dk_9 (dk_at dksX0_heats_0 2 rfl rfl)
theorem dX0_heats_3 : decode cX0_heats 3 = .ok (.lconst 1, 1) := dk_10 (dk_at dksX0_heats_0 3 rfl rfl)
theorem dX0_heats_4 : decode cX0_heats 4 = .ok (.invokestatic 157, 3) := dk_184 0 157 (dk_at dksX0_heats_0 4 rfl rfl)
theorem dX0_heats_7 : decode cX0_heats 7 = .ok (.ifCond .eq 17, 3) := dk_153 0 17 (dk_at dksX0_heats_0 7 rfl rfl)
theorem dX0_heats_10 : decode cX0_heats 10 = .ok (.aload_n 0, 1) := dk_42 (dk_at dksX0_heats_0 10 rfl rfl)
theorem dX0_heats_11 : decode cX0_heats 11 = .ok (.getfield 99, 3) := dk_180 0 99 (dk_at dksX0_heats_0 11 rfl rfl)
theorem dX0_heats_14 : decode cX0_heats 14 = .ok (.getfield 120, 3) := dk_180 0 120 (dk_at dksX0_heats_0 14 rfl rfl)
theorem dX0_heats_17 : decode cX0_heats 17 = .ok (.ifCond .le 7, 3) := dk_158 0 7 (dk_at dksX0_heats_0 17 rfl rfl)
theorem dX0_heats_20 : decode cX0_heats 20 = .ok (.iconst 1, 1) := dk_4 (dk_at dksX0_heats_0 20 rfl rfl)
theorem dX0_heats_21 : decode cX0_heats 21 = .ok (.goto 4, 3) := dk_167 0 4 (dk_at dksX0_heats_0 21 rfl rfl)
theorem dX0_heats_24 : decode cX0_heats 24 = .ok (.iconst 0, 1) := dk_3 (dk_at dksX0_heats_1 0 rfl rfl)
theorem dX0_heats_25 : decode cX0_heats 25 = .ok (.bipush (-5), 2) := dk_16 251 (dk_at dksX0_heats_1 1 rfl rfl)
theorem dX0_heats_27 : decode cX0_heats 27 = .ok (.invokestatic 116, 3) := dk_184 0 116 (dk_at dksX0_heats_1 3 rfl rfl)
theorem dX0_heats_30 : decode cX0_heats 30 = .ok (.iload_n 1, 1) := dk_27 (dk_at dksX0_heats_1 6 rfl rfl)
theorem dX0_heats_31 : decode cX0_heats 31 = .ok (.i2l, 1) := dk_133 (dk_at dksX0_heats_1 7 rfl rfl)
theorem dX0_heats_32 : decode cX0_heats 32 = .ok (.ldc2_w 348, 3) := dk_20 1 92 (dk_at dksX0_heats_1 8 rfl rfl)
theorem dX0_heats_35 : decode cX0_heats 35 = .ok (.ldc2_w 281, 3) := dk_20 1 25 (dk_at dksX0_heats_1 11 rfl rfl)
theorem dX0_heats_38 : decode cX0_heats 38 = .ok (.invokestatic 157, 3) := dk_184 0 157 (dk_at dksX0_heats_1 14 rfl rfl)
theorem dX0_heats_41 : decode cX0_heats 41 = .ok (.bipush (-6), 2) := dk_16 250 (dk_at dksX0_heats_1 17 rfl rfl)
theorem dX0_heats_43 : decode cX0_heats 43 = .ok (.invokestatic 116, 3) := dk_184 0 116 (dk_at dksX0_heats_1 19 rfl rfl)
theorem dX0_heats_46 : decode cX0_heats 46 = .ok (.iconst 1, 1) := dk_4 (dk_at dksX0_heats_1 22 rfl rfl)
theorem dX0_heats_47 : decode cX0_heats 47 = .ok (.newarray .int, 2) := dk_188_10 (dk_at dksX0_heats_2 0 rfl rfl)
theorem dX0_heats_49 : decode cX0_heats 49 = .ok (.astore_n 3, 1) := dk_78 (dk_at dksX0_heats_2 2 rfl rfl)
theorem dX0_heats_50 : decode cX0_heats 50 = .ok (.aload_n 0, 1) := dk_42 (dk_at dksX0_heats_2 3 rfl rfl)
theorem dX0_heats_51 : decode cX0_heats 51 = .ok (.invokevirtual 317, 3) := dk_182 1 61 (dk_at dksX0_heats_2 4 rfl rfl)
theorem dX0_heats_54 : decode cX0_heats 54 = .ok (.istore 4, 2) := dk_54 4 (dk_at dksX0_heats_2 7 rfl rfl)
theorem dX0_heats_56 : decode cX0_heats 56 = .ok (.iload 4, 2) := dk_21 4 (dk_at dksX0_heats_2 9 rfl rfl)
theorem dX0_heats_58 : decode cX0_heats 58 = .ok (.invokestatic 370, 3) := dk_184 1 114 (dk_at dksX0_heats_2 11 rfl rfl)
theorem dX0_heats_61 : decode cX0_heats 61 = .ok (.iconst 1, 1) := dk_4 (dk_at dksX0_heats_2 14 rfl rfl)
theorem dX0_heats_62 : decode cX0_heats 62 = .ok (.if_icmp .le 16, 3) := dk_164 0 16 (dk_at dksX0_heats_2 15 rfl rfl)
theorem dX0_heats_65 : decode cX0_heats 65 = .ok (.aload_n 0, 1) := dk_42 (dk_at dksX0_heats_2 18 rfl rfl)
theorem dX0_heats_66 : decode cX0_heats 66 = .ok (.iload 4, 2) := dk_21 4 (dk_at dksX0_heats_2 19 rfl rfl)
theorem dX0_heats_68 : decode cX0_heats 68 = .ok (.iload_n 1, 1) := dk_27 (dk_at dksX0_heats_2 21 rfl rfl)
theorem dX0_heats_69 : decode cX0_heats 69 = .ok (.aload_n 3, 1) := dk_45 (dk_at dksX0_heats_2 22 rfl rfl)
theorem dX0_heats_70 : decode cX0_heats 70 = .ok (.invokevirtual 375, 3) := dk_182 1 119 (dk_at dksX0_heats_3 0 rfl rfl)
theorem dX0_heats_73 : decode cX0_heats 73 = .ok (.istore 4, 2) := dk_54 4 (dk_at dksX0_heats_3 3 rfl rfl)
theorem dX0_heats_75 : decode cX0_heats 75 = .ok (.goto (-19), 3) := dk_167 255 237 (dk_at dksX0_heats_3 5 rfl rfl)
theorem dX0_heats_78 : decode cX0_heats 78 = .ok (.iload_n 2, 1) := dk_28 (dk_at dksX0_heats_3 8 rfl rfl)
theorem dX0_heats_79 : decode cX0_heats 79 = .ok (.ifCond .ne 11, 3) := dk_154 0 11 (dk_at dksX0_heats_3 9 rfl rfl)
theorem dX0_heats_82 : decode cX0_heats 82 = .ok (.iload 4, 2) := dk_21 4 (dk_at dksX0_heats_3 12 rfl rfl)
theorem dX0_heats_84 : decode cX0_heats 84 = .ok (.invokestatic 379, 3) := dk_184 1 123 (dk_at dksX0_heats_3 14 rfl rfl)
theorem dX0_heats_87 : decode cX0_heats 87 = .ok (.goto 6, 3) := dk_167 0 6 (dk_at dksX0_heats_3 17 rfl rfl)
theorem dX0_heats_90 : decode cX0_heats 90 = .ok (.aload_n 3, 1) := dk_45 (dk_at dksX0_heats_3 20 rfl rfl)
theorem dX0_heats_91 : decode cX0_heats 91 = .ok (.iconst 0, 1) := dk_3 (dk_at dksX0_heats_3 21 rfl rfl)
theorem dX0_heats_92 : decode cX0_heats 92 = .ok (.iaload, 1) := dk_46 (dk_at dksX0_heats_3 22 rfl rfl)
theorem dX0_heats_93 : decode cX0_heats 93 = .ok (.ireturn, 1) := dk_172 (dk_at dksX0_heats_3 23 rfl rfl)
theorem dX0_heats_94 : decode cX0_heats 94 = .ok (.astore_n 3, 1) := dk_78 (dk_at dksX0_heats_4 0 rfl rfl)
theorem dX0_heats_95 : decode cX0_heats 95 = .ok (.aload_n 0, 1) := dk_42 (dk_at dksX0_heats_4 1 rfl rfl)
theorem dX0_heats_96 : decode cX0_heats 96 = .ok (.aload_n 3, 1) := dk_45 (dk_at dksX0_heats_4 2 rfl rfl)
theorem dX0_heats_97 : decode cX0_heats 97 = .ok (.invokevirtual 165, 3) := dk_182 0 165 (dk_at dksX0_heats_4 3 rfl rfl)
theorem dX0_heats_100 : decode cX0_heats 100 = .ok (.ireturn, 1) := dk_172 (dk_at dksX0_heats_4 6 rfl rfl)
abbrev cX0_heatsOf : ByteArray := prog_1_method_49_code
def yX0_heatsOf : MethodName := ⟨RX0, "heatsOf", "(II[I)I"⟩
def dkwX0_heatsOf_4 : List UInt8 := [167, 255, 174, 21, 4, 172]
abbrev dktX0_heatsOf_4 : List UInt8 := dkwX0_heatsOf_4 ++ []
def dkwX0_heatsOf_3 : List UInt8 := [182, 1, 64, 120, 128, 54, 4, 45, 3, 92, 46, 4, 96, 79, 3, 54, 5, 3, 54, 6, 132, 7, 1]
abbrev dktX0_heatsOf_3 : List UInt8 := dkwX0_heatsOf_3 ++ dktX0_heatsOf_4
def dkwX0_heatsOf_2 : List UInt8 := [159, 0, 17, 21, 5, 153, 0, 38, 27, 21, 7, 4, 96, 122, 154, 0, 29, 21, 4, 4, 42, 21, 5]
abbrev dktX0_heatsOf_2 : List UInt8 := dkwX0_heatsOf_2 ++ dktX0_heatsOf_3
def dkwX0_heatsOf_1 : List UInt8 := [27, 21, 7, 122, 4, 126, 153, 0, 15, 21, 5, 4, 21, 7, 120, 128, 54, 5, 132, 6, 1, 21, 6, 28]
abbrev dktX0_heatsOf_1 : List UInt8 := dkwX0_heatsOf_1 ++ dktX0_heatsOf_2
def dkwX0_heatsOf_0 : List UInt8 := [3, 54, 4, 3, 54, 5, 3, 54, 6, 3, 54, 7, 21, 7, 42, 180, 0, 99, 180, 0, 120, 162, 0, 76]
abbrev dktX0_heatsOf_0 : List UInt8 := dkwX0_heatsOf_0 ++ dktX0_heatsOf_1
theorem dksX0_heatsOf_0 : cX0_heatsOf.data.toList.drop 0 = dktX0_heatsOf_0 := by decide +kernel
theorem dksX0_heatsOf_1 : cX0_heatsOf.data.toList.drop 24 = dktX0_heatsOf_1 := dk_seg dksX0_heatsOf_0 24 rfl rfl
theorem dksX0_heatsOf_2 : cX0_heatsOf.data.toList.drop 48 = dktX0_heatsOf_2 := dk_seg dksX0_heatsOf_1 24 rfl rfl
theorem dksX0_heatsOf_3 : cX0_heatsOf.data.toList.drop 71 = dktX0_heatsOf_3 := dk_seg dksX0_heatsOf_2 23 rfl rfl
theorem dksX0_heatsOf_4 : cX0_heatsOf.data.toList.drop 94 = dktX0_heatsOf_4 := dk_seg dksX0_heatsOf_3 23 rfl rfl
theorem dX0_heatsOf_0 : decode cX0_heatsOf 0 = .ok (.iconst 0, 1) := dk_3 (dk_at dksX0_heatsOf_0 0 rfl rfl)
theorem dX0_heatsOf_1 : decode cX0_heatsOf 1 = .ok (.istore 4, 2) := dk_54 4 (dk_at dksX0_heatsOf_0 1 rfl rfl)
theorem dX0_heatsOf_3 : decode cX0_heatsOf 3 = .ok (.iconst 0, 1) := dk_3 (dk_at dksX0_heatsOf_0 3 rfl rfl)
theorem dX0_heatsOf_4 : decode cX0_heatsOf 4 = .ok (.istore 5, 2) := dk_54 5 (dk_at dksX0_heatsOf_0 4 rfl rfl)
theorem dX0_heatsOf_6 : decode cX0_heatsOf 6 = .ok (.iconst 0, 1) := dk_3 (dk_at dksX0_heatsOf_0 6 rfl rfl)
theorem dX0_heatsOf_7 : decode cX0_heatsOf 7 = .ok (.istore 6, 2) := dk_54 6 (dk_at dksX0_heatsOf_0 7 rfl rfl)
theorem dX0_heatsOf_9 : decode cX0_heatsOf 9 = .ok (.iconst 0, 1) := dk_3 (dk_at dksX0_heatsOf_0 9 rfl rfl)
theorem dX0_heatsOf_10 : decode cX0_heatsOf 10 = .ok (.istore 7, 2) := dk_54 7 (dk_at dksX0_heatsOf_0 10 rfl rfl)
theorem dX0_heatsOf_12 : decode cX0_heatsOf 12 = .ok (.iload 7, 2) := dk_21 7 (dk_at dksX0_heatsOf_0 12 rfl rfl)
theorem dX0_heatsOf_14 : decode cX0_heatsOf 14 = .ok (.aload_n 0, 1) := dk_42 (dk_at dksX0_heatsOf_0 14 rfl rfl)
theorem dX0_heatsOf_15 : decode cX0_heatsOf 15 = .ok (.getfield 99, 3) := dk_180 0 99 (dk_at dksX0_heatsOf_0 15 rfl rfl)
theorem dX0_heatsOf_18 : decode cX0_heatsOf 18 = .ok (.getfield 120, 3) := dk_180 0 120 (dk_at dksX0_heatsOf_0 18 rfl rfl)
theorem dX0_heatsOf_21 : decode cX0_heatsOf 21 = .ok (.if_icmp .ge 76, 3) := dk_162 0 76 (dk_at dksX0_heatsOf_0 21 rfl rfl)
theorem dX0_heatsOf_24 : decode cX0_heatsOf 24 = .ok (.iload_n 1, 1) := dk_27 (dk_at dksX0_heatsOf_1 0 rfl rfl)
theorem dX0_heatsOf_25 : decode cX0_heatsOf 25 = .ok (.iload 7, 2) := dk_21 7 (dk_at dksX0_heatsOf_1 1 rfl rfl)
theorem dX0_heatsOf_27 : decode cX0_heatsOf 27 = .ok (.ishr, 1) := dk_122 (dk_at dksX0_heatsOf_1 3 rfl rfl)
theorem dX0_heatsOf_28 : decode cX0_heatsOf 28 = .ok (.iconst 1, 1) := dk_4 (dk_at dksX0_heatsOf_1 4 rfl rfl)
theorem dX0_heatsOf_29 : decode cX0_heatsOf 29 = .ok (.iand, 1) := dk_126 (dk_at dksX0_heatsOf_1 5 rfl rfl)
theorem dX0_heatsOf_30 : decode cX0_heatsOf 30 = .ok (.ifCond .eq 15, 3) := dk_153 0 15 (dk_at dksX0_heatsOf_1 6 rfl rfl)
theorem dX0_heatsOf_33 : decode cX0_heatsOf 33 = .ok (.iload 5, 2) := dk_21 5 (dk_at dksX0_heatsOf_1 9 rfl rfl)
theorem dX0_heatsOf_35 : decode cX0_heatsOf 35 = .ok (.iconst 1, 1) := dk_4 (dk_at dksX0_heatsOf_1 11 rfl rfl)
theorem dX0_heatsOf_36 : decode cX0_heatsOf 36 = .ok (.iload 7, 2) := dk_21 7 (dk_at dksX0_heatsOf_1 12 rfl rfl)
theorem dX0_heatsOf_38 : decode cX0_heatsOf 38 = .ok (.ishl, 1) := dk_120 (dk_at dksX0_heatsOf_1 14 rfl rfl)
theorem dX0_heatsOf_39 : decode cX0_heatsOf 39 = .ok (.ior, 1) := dk_128 (dk_at dksX0_heatsOf_1 15 rfl rfl)
theorem dX0_heatsOf_40 : decode cX0_heatsOf 40 = .ok (.istore 5, 2) := dk_54 5 (dk_at dksX0_heatsOf_1 16 rfl rfl)
theorem dX0_heatsOf_42 : decode cX0_heatsOf 42 = .ok (.iinc 6 1, 3) := dk_132 6 1 (dk_at dksX0_heatsOf_1 18 rfl rfl)
theorem dX0_heatsOf_45 : decode cX0_heatsOf 45 = .ok (.iload 6, 2) := dk_21 6 (dk_at dksX0_heatsOf_1 21 rfl rfl)
theorem dX0_heatsOf_47 : decode cX0_heatsOf 47 = .ok (.iload_n 2, 1) := dk_28 (dk_at dksX0_heatsOf_1 23 rfl rfl)
theorem dX0_heatsOf_48 : decode cX0_heatsOf 48 = .ok (.if_icmp .eq 17, 3) := dk_159 0 17 (dk_at dksX0_heatsOf_2 0 rfl rfl)
theorem dX0_heatsOf_51 : decode cX0_heatsOf 51 = .ok (.iload 5, 2) := dk_21 5 (dk_at dksX0_heatsOf_2 3 rfl rfl)
theorem dX0_heatsOf_53 : decode cX0_heatsOf 53 = .ok (.ifCond .eq 38, 3) := dk_153 0 38 (dk_at dksX0_heatsOf_2 5 rfl rfl)
theorem dX0_heatsOf_56 : decode cX0_heatsOf 56 = .ok (.iload_n 1, 1) := dk_27 (dk_at dksX0_heatsOf_2 8 rfl rfl)
theorem dX0_heatsOf_57 : decode cX0_heatsOf 57 = .ok (.iload 7, 2) := dk_21 7 (dk_at dksX0_heatsOf_2 9 rfl rfl)
theorem dX0_heatsOf_59 : decode cX0_heatsOf 59 = .ok (.iconst 1, 1) := dk_4 (dk_at dksX0_heatsOf_2 11 rfl rfl)
theorem dX0_heatsOf_60 : decode cX0_heatsOf 60 = .ok (.iadd, 1) := dk_96 (dk_at dksX0_heatsOf_2 12 rfl rfl)
theorem dX0_heatsOf_61 : decode cX0_heatsOf 61 = .ok (.ishr, 1) := dk_122 (dk_at dksX0_heatsOf_2 13 rfl rfl)
theorem dX0_heatsOf_62 : decode cX0_heatsOf 62 = .ok (.ifCond .ne 29, 3) := dk_154 0 29 (dk_at dksX0_heatsOf_2 14 rfl rfl)
theorem dX0_heatsOf_65 : decode cX0_heatsOf 65 = .ok (.iload 4, 2) := dk_21 4 (dk_at dksX0_heatsOf_2 17 rfl rfl)
theorem dX0_heatsOf_67 : decode cX0_heatsOf 67 = .ok (.iconst 1, 1) := dk_4 (dk_at dksX0_heatsOf_2 19 rfl rfl)
theorem dX0_heatsOf_68 : decode cX0_heatsOf 68 = .ok (.aload_n 0, 1) := dk_42 (dk_at dksX0_heatsOf_2 20 rfl rfl)
theorem dX0_heatsOf_69 : decode cX0_heatsOf 69 = .ok (.iload 5, 2) := dk_21 5 (dk_at dksX0_heatsOf_2 21 rfl rfl)
theorem dX0_heatsOf_71 : decode cX0_heatsOf 71 = .ok (.invokevirtual 320, 3) := dk_182 1 64 (dk_at dksX0_heatsOf_3 0 rfl rfl)
theorem dX0_heatsOf_74 : decode cX0_heatsOf 74 = .ok (.ishl, 1) := dk_120 (dk_at dksX0_heatsOf_3 3 rfl rfl)
theorem dX0_heatsOf_75 : decode cX0_heatsOf 75 = .ok (.ior, 1) := dk_128 (dk_at dksX0_heatsOf_3 4 rfl rfl)
theorem dX0_heatsOf_76 : decode cX0_heatsOf 76 = .ok (.istore 4, 2) := dk_54 4 (dk_at dksX0_heatsOf_3 5 rfl rfl)
theorem dX0_heatsOf_78 : decode cX0_heatsOf 78 = .ok (.aload_n 3, 1) := dk_45 (dk_at dksX0_heatsOf_3 7 rfl rfl)
theorem dX0_heatsOf_79 : decode cX0_heatsOf 79 = .ok (.iconst 0, 1) := dk_3 (dk_at dksX0_heatsOf_3 8 rfl rfl)
theorem dX0_heatsOf_80 : decode cX0_heatsOf 80 = .ok (.dup2, 1) := dk_92 (dk_at dksX0_heatsOf_3 9 rfl rfl)
theorem dX0_heatsOf_81 : decode cX0_heatsOf 81 = .ok (.iaload, 1) := dk_46 (dk_at dksX0_heatsOf_3 10 rfl rfl)
theorem dX0_heatsOf_82 : decode cX0_heatsOf 82 = .ok (.iconst 1, 1) := dk_4 (dk_at dksX0_heatsOf_3 11 rfl rfl)
theorem dX0_heatsOf_83 : decode cX0_heatsOf 83 = .ok (.iadd, 1) := dk_96 (dk_at dksX0_heatsOf_3 12 rfl rfl)
theorem dX0_heatsOf_84 : decode cX0_heatsOf 84 = .ok (.iastore, 1) := dk_79 (dk_at dksX0_heatsOf_3 13 rfl rfl)
theorem dX0_heatsOf_85 : decode cX0_heatsOf 85 = .ok (.iconst 0, 1) := dk_3 (dk_at dksX0_heatsOf_3 14 rfl rfl)
theorem dX0_heatsOf_86 : decode cX0_heatsOf 86 = .ok (.istore 5, 2) := dk_54 5 (dk_at dksX0_heatsOf_3 15 rfl rfl)
theorem dX0_heatsOf_88 : decode cX0_heatsOf 88 = .ok (.iconst 0, 1) := dk_3 (dk_at dksX0_heatsOf_3 17 rfl rfl)
theorem dX0_heatsOf_89 : decode cX0_heatsOf 89 = .ok (.istore 6, 2) := dk_54 6 (dk_at dksX0_heatsOf_3 18 rfl rfl)
theorem dX0_heatsOf_91 : decode cX0_heatsOf 91 = .ok (.iinc 7 1, 3) := dk_132 7 1 (dk_at dksX0_heatsOf_3 20 rfl rfl)
theorem dX0_heatsOf_94 : decode cX0_heatsOf 94 = .ok (.goto (-82), 3) := dk_167 255 174 (dk_at dksX0_heatsOf_4 0 rfl rfl)
theorem dX0_heatsOf_97 : decode cX0_heatsOf 97 = .ok (.iload 4, 2) := dk_21 4 (dk_at dksX0_heatsOf_4 3 rfl rfl)
theorem dX0_heatsOf_99 : decode cX0_heatsOf 99 = .ok (.ireturn, 1) := dk_172 (dk_at dksX0_heatsOf_4 5 rfl rfl)
abbrev cX0_legs : ByteArray := prog_1_method_51_code
def yX0_legs : MethodName := ⟨RX0, "legs", "(II)I"⟩
def dkwX0_legs_3 : List UInt8 := [132, 3, 1, 167, 255, 216, 2, 172, 78, 42, 45, 182, 0, 165, 16, 10, 100, 172]
abbrev dktX0_legs_3 : List UInt8 := dkwX0_legs_3 ++ []
def dkwX0_legs_2 : List UInt8 := [79, 42, 180, 0, 77, 42, 180, 0, 95, 27, 182, 1, 29, 182, 1, 52, 28, 163, 0, 5, 29, 172]
abbrev dktX0_legs_2 : List UInt8 := dkwX0_legs_2 ++ dktX0_legs_3
def dkwX0_legs_1 : List UInt8 := [180, 0, 99, 182, 1, 8, 87, 4, 62, 29, 16, 9, 163, 0, 40, 42, 180, 0, 95, 180, 0, 215, 27, 29]
abbrev dktX0_legs_1 : List UInt8 := dkwX0_legs_1 ++ dktX0_legs_2
def dkwX0_legs_0 : List UInt8 := [42, 27, 182, 0, 185, 28, 155, 0, 7, 4, 167, 0, 4, 3, 16, 250, 184, 0, 116, 42, 180, 0, 95, 42]
abbrev dktX0_legs_0 : List UInt8 := dkwX0_legs_0 ++ dktX0_legs_1
theorem dksX0_legs_0 : cX0_legs.data.toList.drop 0 = dktX0_legs_0 := by decide +kernel
theorem dksX0_legs_1 : cX0_legs.data.toList.drop 24 = dktX0_legs_1 := dk_seg dksX0_legs_0 24 rfl rfl
theorem dksX0_legs_2 : cX0_legs.data.toList.drop 48 = dktX0_legs_2 := dk_seg dksX0_legs_1 24 rfl rfl
theorem dksX0_legs_3 : cX0_legs.data.toList.drop 70 = dktX0_legs_3 := dk_seg dksX0_legs_2 22 rfl rfl
theorem dX0_legs_0 : decode cX0_legs 0 = .ok (.aload_n 0, 1) := dk_42 (dk_at dksX0_legs_0 0 rfl rfl)
theorem dX0_legs_1 : decode cX0_legs 1 = .ok (.iload_n 1, 1) := dk_27 (dk_at dksX0_legs_0 1 rfl rfl)
theorem dX0_legs_2 : decode cX0_legs 2 = .ok (.invokevirtual 185, 3) := dk_182 0 185 (dk_at dksX0_legs_0 2 rfl rfl)
theorem dX0_legs_5 : decode cX0_legs 5 = .ok (.iload_n 2, 1) := dk_28 (dk_at dksX0_legs_0 5 rfl rfl)
theorem dX0_legs_6 : decode cX0_legs 6 = .ok (.ifCond .lt 7, 3) := dk_155 0 7 (dk_at dksX0_legs_0 6 rfl rfl)
theorem dX0_legs_9 : decode cX0_legs 9 = .ok (.iconst 1, 1) := dk_4 (dk_at dksX0_legs_0 9 rfl rfl)
theorem dX0_legs_10 : decode cX0_legs 10 = .ok (.goto 4, 3) := dk_167 0 4 (dk_at dksX0_legs_0 10 rfl rfl)
theorem dX0_legs_13 : decode cX0_legs 13 = .ok (.iconst 0, 1) := dk_3 (dk_at dksX0_legs_0 13 rfl rfl)
theorem dX0_legs_14 : decode cX0_legs 14 = .ok (.bipush (-6), 2) := dk_16 250 (dk_at dksX0_legs_0 14 rfl rfl)
theorem dX0_legs_16 : decode cX0_legs 16 = .ok (.invokestatic 116, 3) := dk_184 0 116 (dk_at dksX0_legs_0 16 rfl rfl)
theorem dX0_legs_19 : decode cX0_legs 19 = .ok (.aload_n 0, 1) := dk_42 (dk_at dksX0_legs_0 19 rfl rfl)
theorem dX0_legs_20 : decode cX0_legs 20 = .ok (.getfield 95, 3) := dk_180 0 95 (dk_at dksX0_legs_0 20 rfl rfl)
theorem dX0_legs_23 : decode cX0_legs 23 = .ok (.aload_n 0, 1) := dk_42 (dk_at dksX0_legs_0 23 rfl rfl)
theorem dX0_legs_24 : decode cX0_legs 24 = .ok (.getfield 99, 3) := dk_180 0 99 (dk_at dksX0_legs_1 0 rfl rfl)
theorem dX0_legs_27 : decode cX0_legs 27 = .ok (.invokevirtual 264, 3) := dk_182 1 8 (dk_at dksX0_legs_1 3 rfl rfl)
theorem dX0_legs_30 : decode cX0_legs 30 = .ok (.pop, 1) := dk_87 (dk_at dksX0_legs_1 6 rfl rfl)
theorem dX0_legs_31 : decode cX0_legs 31 = .ok (.iconst 1, 1) := dk_4 (dk_at dksX0_legs_1 7 rfl rfl)
theorem dX0_legs_32 : decode cX0_legs 32 = .ok (.istore_n 3, 1) := dk_62 (dk_at dksX0_legs_1 8 rfl rfl)
theorem dX0_legs_33 : decode cX0_legs 33 = .ok (.iload_n 3, 1) := dk_29 (dk_at dksX0_legs_1 9 rfl rfl)
theorem dX0_legs_34 : decode cX0_legs 34 = .ok (.bipush 9, 2) := dk_16 9 (dk_at dksX0_legs_1 10 rfl rfl)
theorem dX0_legs_36 : decode cX0_legs 36 = .ok (.if_icmp .gt 40, 3) := dk_163 0 40 (dk_at dksX0_legs_1 12 rfl rfl)
theorem dX0_legs_39 : decode cX0_legs 39 = .ok (.aload_n 0, 1) := dk_42 (dk_at dksX0_legs_1 15 rfl rfl)
theorem dX0_legs_40 : decode cX0_legs 40 = .ok (.getfield 95, 3) := dk_180 0 95 (dk_at dksX0_legs_1 16 rfl rfl)
theorem dX0_legs_43 : decode cX0_legs 43 = .ok (.getfield 215, 3) := dk_180 0 215 (dk_at dksX0_legs_1 19 rfl rfl)
theorem dX0_legs_46 : decode cX0_legs 46 = .ok (.iload_n 1, 1) := dk_27 (dk_at dksX0_legs_1 22 rfl rfl)
theorem dX0_legs_47 : decode cX0_legs 47 = .ok (.iload_n 3, 1) := dk_29 (dk_at dksX0_legs_1 23 rfl rfl)
theorem dX0_legs_48 : decode cX0_legs 48 = .ok (.iastore, 1) := dk_79 (dk_at dksX0_legs_2 0 rfl rfl)
theorem dX0_legs_49 : decode cX0_legs 49 = .ok (.aload_n 0, 1) := dk_42 (dk_at dksX0_legs_2 1 rfl rfl)
theorem dX0_legs_50 : decode cX0_legs 50 = .ok (.getfield 77, 3) := dk_180 0 77 (dk_at dksX0_legs_2 2 rfl rfl)
theorem dX0_legs_53 : decode cX0_legs 53 = .ok (.aload_n 0, 1) := dk_42 (dk_at dksX0_legs_2 5 rfl rfl)
theorem dX0_legs_54 : decode cX0_legs 54 = .ok (.getfield 95, 3) := dk_180 0 95 (dk_at dksX0_legs_2 6 rfl rfl)
theorem dX0_legs_57 : decode cX0_legs 57 = .ok (.iload_n 1, 1) := dk_27 (dk_at dksX0_legs_2 9 rfl rfl)
theorem dX0_legs_58 : decode cX0_legs 58 = .ok (.invokevirtual 285, 3) := dk_182 1 29 (dk_at dksX0_legs_2 10 rfl rfl)
theorem dX0_legs_61 : decode cX0_legs 61 = .ok (.invokevirtual 308, 3) := dk_182 1 52 (dk_at dksX0_legs_2 13 rfl rfl)
theorem dX0_legs_64 : decode cX0_legs 64 = .ok (.iload_n 2, 1) := dk_28 (dk_at dksX0_legs_2 16 rfl rfl)
theorem dX0_legs_65 : decode cX0_legs 65 = .ok (.if_icmp .gt 5, 3) := dk_163 0 5 (dk_at dksX0_legs_2 17 rfl rfl)
theorem dX0_legs_68 : decode cX0_legs 68 = .ok (.iload_n 3, 1) := dk_29 (dk_at dksX0_legs_2 20 rfl rfl)
theorem dX0_legs_69 : decode cX0_legs 69 = .ok (.ireturn, 1) := dk_172 (dk_at dksX0_legs_2 21 rfl rfl)
theorem dX0_legs_70 : decode cX0_legs 70 = .ok (.iinc 3 1, 3) := dk_132 3 1 (dk_at dksX0_legs_3 0 rfl rfl)
theorem dX0_legs_73 : decode cX0_legs 73 = .ok (.goto (-40), 3) := dk_167 255 216 (dk_at dksX0_legs_3 3 rfl rfl)
theorem dX0_legs_76 : decode cX0_legs 76 = .ok (.iconst (-1), 1) := dk_2 (dk_at dksX0_legs_3 6 rfl rfl)
theorem dX0_legs_77 : decode cX0_legs 77 = .ok (.ireturn, 1) := dk_172 (dk_at dksX0_legs_3 7 rfl rfl)
theorem dX0_legs_78 : decode cX0_legs 78 = .ok (.astore_n 3, 1) := dk_78 (dk_at dksX0_legs_3 8 rfl rfl)
theorem dX0_legs_79 : decode cX0_legs 79 = .ok (.aload_n 0, 1) := dk_42 (dk_at dksX0_legs_3 9 rfl rfl)
theorem dX0_legs_80 : decode cX0_legs 80 = .ok (.aload_n 3, 1) := dk_45 (dk_at dksX0_legs_3 10 rfl rfl)
theorem dX0_legs_81 : decode cX0_legs 81 = .ok (.invokevirtual 165, 3) := dk_182 0 165 (dk_at dksX0_legs_3 11 rfl rfl)
theorem dX0_legs_84 : decode cX0_legs 84 = .ok (.bipush 10, 2) := dk_16 10 (dk_at dksX0_legs_3 14 rfl rfl)
theorem dX0_legs_86 : decode cX0_legs 86 = .ok (.isub, 1) := dk_100 (dk_at dksX0_legs_3 16 rfl rfl)
theorem dX0_legs_87 : decode cX0_legs 87 = .ok (.ireturn, 1) := dk_172 (dk_at dksX0_legs_3 17 rfl rfl)
abbrev cX0_wall : ByteArray := prog_1_method_52_code
def yX0_wall : MethodName := ⟨RX0, "wall", "(I)I"⟩
def dkwX0_wall_1 : List UInt8 := [180, 1, 126, 172, 77, 42, 44, 182, 0, 165, 16, 10, 100, 172]
abbrev dktX0_wall_1 : List UInt8 := dkwX0_wall_1 ++ []
def dkwX0_wall_0 : List UInt8 := [42, 27, 182, 0, 185, 42, 180, 0, 77, 42, 180, 0, 99, 27, 182, 1, 29, 17, 3, 231, 182, 1, 33]
abbrev dktX0_wall_0 : List UInt8 := dkwX0_wall_0 ++ dktX0_wall_1
theorem dksX0_wall_0 : cX0_wall.data.toList.drop 0 = dktX0_wall_0 := by decide +kernel
theorem dksX0_wall_1 : cX0_wall.data.toList.drop 23 = dktX0_wall_1 := dk_seg dksX0_wall_0 23 rfl rfl
theorem dX0_wall_0 : decode cX0_wall 0 = .ok (.aload_n 0, 1) := dk_42 (dk_at dksX0_wall_0 0 rfl rfl)
theorem dX0_wall_1 : decode cX0_wall 1 = .ok (.iload_n 1, 1) := dk_27 (dk_at dksX0_wall_0 1 rfl rfl)
theorem dX0_wall_2 : decode cX0_wall 2 = .ok (.invokevirtual 185, 3) := dk_182 0 185 (dk_at dksX0_wall_0 2 rfl rfl)
theorem dX0_wall_5 : decode cX0_wall 5 = .ok (.aload_n 0, 1) := dk_42 (dk_at dksX0_wall_0 5 rfl rfl)
theorem dX0_wall_6 : decode cX0_wall 6 = .ok (.getfield 77, 3) := dk_180 0 77 (dk_at dksX0_wall_0 6 rfl rfl)
theorem dX0_wall_9 : decode cX0_wall 9 = .ok (.aload_n 0, 1) := dk_42 (dk_at dksX0_wall_0 9 rfl rfl)
theorem dX0_wall_10 : decode cX0_wall 10 = .ok (.getfield 99, 3) := dk_180 0 99 (dk_at dksX0_wall_0 10 rfl rfl)
theorem dX0_wall_13 : decode cX0_wall 13 = .ok (.iload_n 1, 1) := dk_27 (dk_at dksX0_wall_0 13 rfl rfl)
theorem dX0_wall_14 : decode cX0_wall 14 = .ok (.invokevirtual 285, 3) := dk_182 1 29 (dk_at dksX0_wall_0 14 rfl rfl)
theorem dX0_wall_17 : decode cX0_wall 17 = .ok (.sipush 999, 3) := dk_17 3 231 (dk_at dksX0_wall_0 17 rfl rfl)
theorem dX0_wall_20 : decode cX0_wall 20 = .ok (.invokevirtual 289, 3) := dk_182 1 33 (dk_at dksX0_wall_0 20 rfl rfl)
theorem dX0_wall_23 : decode cX0_wall 23 = .ok (.getfield 382, 3) := dk_180 1 126 (dk_at dksX0_wall_1 0 rfl rfl)
theorem dX0_wall_26 : decode cX0_wall 26 = .ok (.ireturn, 1) := dk_172 (dk_at dksX0_wall_1 3 rfl rfl)
theorem dX0_wall_27 : decode cX0_wall 27 = .ok (.astore_n 2, 1) := dk_77 (dk_at dksX0_wall_1 4 rfl rfl)
theorem dX0_wall_28 : decode cX0_wall 28 = .ok (.aload_n 0, 1) := dk_42 (dk_at dksX0_wall_1 5 rfl rfl)
theorem dX0_wall_29 : decode cX0_wall 29 = .ok (.aload_n 2, 1) := dk_44 (dk_at dksX0_wall_1 6 rfl rfl)
theorem dX0_wall_30 : decode cX0_wall 30 = .ok (.invokevirtual 165, 3) := dk_182 0 165 (dk_at dksX0_wall_1 7 rfl rfl)
theorem dX0_wall_33 : decode cX0_wall 33 = .ok (.bipush 10, 2) := dk_16 10 (dk_at dksX0_wall_1 10 rfl rfl)
theorem dX0_wall_35 : decode cX0_wall 35 = .ok (.isub, 1) := dk_100 (dk_at dksX0_wall_1 12 rfl rfl)
theorem dX0_wall_36 : decode cX0_wall 36 = .ok (.ireturn, 1) := dk_172 (dk_at dksX0_wall_1 13 rfl rfl)
abbrev cX0_judge : ByteArray := prog_1_method_54_code
def yX0_judge : MethodName := ⟨RX0, "judge", "(II)I"⟩
def dkwX0_judge_3 : List UInt8 := [100, 172]
abbrev dktX0_judge_3 : List UInt8 := dkwX0_judge_3 ++ []
def dkwX0_judge_2 : List UInt8 := [167, 0, 4, 3, 16, 250, 184, 0, 116, 42, 45, 28, 182, 1, 132, 172, 78, 42, 45, 182, 0, 165, 16, 10]
abbrev dktX0_judge_2 : List UInt8 := dkwX0_judge_2 ++ dktX0_judge_3
def dkwX0_judge_1 : List UInt8 := [45, 182, 0, 11, 163, 0, 7, 4, 167, 0, 4, 3, 16, 251, 184, 0, 116, 28, 16, 8, 163, 0, 7, 4]
abbrev dktX0_judge_1 : List UInt8 := dkwX0_judge_1 ++ dktX0_judge_2
def dkwX0_judge_0 : List UInt8 := [42, 27, 182, 0, 151, 182, 0, 169, 78, 28, 155, 0, 7, 4, 167, 0, 4, 3, 16, 252, 184, 0, 116, 28]
abbrev dktX0_judge_0 : List UInt8 := dkwX0_judge_0 ++ dktX0_judge_1
theorem dksX0_judge_0 : cX0_judge.data.toList.drop 0 = dktX0_judge_0 := by decide +kernel
theorem dksX0_judge_1 : cX0_judge.data.toList.drop 24 = dktX0_judge_1 := dk_seg dksX0_judge_0 24 rfl rfl
theorem dksX0_judge_2 : cX0_judge.data.toList.drop 48 = dktX0_judge_2 := dk_seg dksX0_judge_1 24 rfl rfl
theorem dksX0_judge_3 : cX0_judge.data.toList.drop 72 = dktX0_judge_3 := dk_seg dksX0_judge_2 24 rfl rfl
theorem dX0_judge_0 : decode cX0_judge 0 = .ok (.aload_n 0, 1) := dk_42 (dk_at dksX0_judge_0 0 rfl rfl)
theorem dX0_judge_1 : decode cX0_judge 1 = .ok (.iload_n 1, 1) := dk_27 (dk_at dksX0_judge_0 1 rfl rfl)
theorem dX0_judge_2 : decode cX0_judge 2 = .ok (.invokevirtual 151, 3) := dk_182 0 151 (dk_at dksX0_judge_0 2 rfl rfl)
theorem dX0_judge_5 : decode cX0_judge 5 = .ok (.invokevirtual 169, 3) := dk_182 0 169 (dk_at dksX0_judge_0 5 rfl rfl)
theorem dX0_judge_8 : decode cX0_judge 8 = .ok (.astore_n 3, 1) := dk_78 (dk_at dksX0_judge_0 8 rfl rfl)
theorem dX0_judge_9 : decode cX0_judge 9 = .ok (.iload_n 2, 1) := dk_28 (dk_at dksX0_judge_0 9 rfl rfl)
theorem dX0_judge_10 : decode cX0_judge 10 = .ok (.ifCond .lt 7, 3) := dk_155 0 7 (dk_at dksX0_judge_0 10 rfl rfl)
theorem dX0_judge_13 : decode cX0_judge 13 = .ok (.iconst 1, 1) := dk_4 (dk_at dksX0_judge_0 13 rfl rfl)
theorem dX0_judge_14 : decode cX0_judge 14 = .ok (.goto 4, 3) := dk_167 0 4 (dk_at dksX0_judge_0 14 rfl rfl)
theorem dX0_judge_17 : decode cX0_judge 17 = .ok (.iconst 0, 1) := dk_3 (dk_at dksX0_judge_0 17 rfl rfl)
theorem dX0_judge_18 : decode cX0_judge 18 = .ok (.bipush (-4), 2) := dk_16 252 (dk_at dksX0_judge_0 18 rfl rfl)
theorem dX0_judge_20 : decode cX0_judge 20 = .ok (.invokestatic 116, 3) := dk_184 0 116 (dk_at dksX0_judge_0 20 rfl rfl)
theorem dX0_judge_23 : decode cX0_judge 23 = .ok (.iload_n 2, 1) := dk_28 (dk_at dksX0_judge_0 23 rfl rfl)
theorem dX0_judge_24 : decode cX0_judge 24 = .ok (.aload_n 3, 1) := dk_45 (dk_at dksX0_judge_1 0 rfl rfl)
theorem dX0_judge_25 : decode cX0_judge 25 = .ok (.invokevirtual 11, 3) := dk_182 0 11 (dk_at dksX0_judge_1 1 rfl rfl)
theorem dX0_judge_28 : decode cX0_judge 28 = .ok (.if_icmp .gt 7, 3) := dk_163 0 7 (dk_at dksX0_judge_1 4 rfl rfl)
theorem dX0_judge_31 : decode cX0_judge 31 = .ok (.iconst 1, 1) := dk_4 (dk_at dksX0_judge_1 7 rfl rfl)
theorem dX0_judge_32 : decode cX0_judge 32 = .ok (.goto 4, 3) := dk_167 0 4 (dk_at dksX0_judge_1 8 rfl rfl)
theorem dX0_judge_35 : decode cX0_judge 35 = .ok (.iconst 0, 1) := dk_3 (dk_at dksX0_judge_1 11 rfl rfl)
theorem dX0_judge_36 : decode cX0_judge 36 = .ok (.bipush (-5), 2) := dk_16 251 (dk_at dksX0_judge_1 12 rfl rfl)
theorem dX0_judge_38 : decode cX0_judge 38 = .ok (.invokestatic 116, 3) := dk_184 0 116 (dk_at dksX0_judge_1 14 rfl rfl)
theorem dX0_judge_41 : decode cX0_judge 41 = .ok (.iload_n 2, 1) := dk_28 (dk_at dksX0_judge_1 17 rfl rfl)
theorem dX0_judge_42 : decode cX0_judge 42 = .ok (.bipush 8, 2) := dk_16 8 (dk_at dksX0_judge_1 18 rfl rfl)
theorem dX0_judge_44 : decode cX0_judge 44 = .ok (.if_icmp .gt 7, 3) := dk_163 0 7 (dk_at dksX0_judge_1 20 rfl rfl)
theorem dX0_judge_47 : decode cX0_judge 47 = .ok (.iconst 1, 1) := dk_4 (dk_at dksX0_judge_1 23 rfl rfl)
theorem dX0_judge_48 : decode cX0_judge 48 = .ok (.goto 4, 3) := dk_167 0 4 (dk_at dksX0_judge_2 0 rfl rfl)
theorem dX0_judge_51 : decode cX0_judge 51 = .ok (.iconst 0, 1) := dk_3 (dk_at dksX0_judge_2 3 rfl rfl)
theorem dX0_judge_52 : decode cX0_judge 52 = .ok (.bipush (-6), 2) := dk_16 250 (dk_at dksX0_judge_2 4 rfl rfl)
theorem dX0_judge_54 : decode cX0_judge 54 = .ok (.invokestatic 116, 3) := dk_184 0 116 (dk_at dksX0_judge_2 6 rfl rfl)
theorem dX0_judge_57 : decode cX0_judge 57 = .ok (.aload_n 0, 1) := dk_42 (dk_at dksX0_judge_2 9 rfl rfl)
theorem dX0_judge_58 : decode cX0_judge 58 = .ok (.aload_n 3, 1) := dk_45 (dk_at dksX0_judge_2 10 rfl rfl)
theorem dX0_judge_59 : decode cX0_judge 59 = .ok (.iload_n 2, 1) := dk_28 (dk_at dksX0_judge_2 11 rfl rfl)
theorem dX0_judge_60 : decode cX0_judge 60 = .ok (.invokevirtual 388, 3) := dk_182 1 132 (dk_at dksX0_judge_2 12 rfl rfl)
theorem dX0_judge_63 : decode cX0_judge 63 = .ok (.ireturn, 1) := dk_172 (dk_at dksX0_judge_2 15 rfl rfl)
theorem dX0_judge_64 : decode cX0_judge 64 = .ok (.astore_n 3, 1) := dk_78 (dk_at dksX0_judge_2 16 rfl rfl)
theorem dX0_judge_65 : decode cX0_judge 65 = .ok (.aload_n 0, 1) := dk_42 (dk_at dksX0_judge_2 17 rfl rfl)
theorem dX0_judge_66 : decode cX0_judge 66 = .ok (.aload_n 3, 1) := dk_45 (dk_at dksX0_judge_2 18 rfl rfl)
theorem dX0_judge_67 : decode cX0_judge 67 = .ok (.invokevirtual 165, 3) := dk_182 0 165 (dk_at dksX0_judge_2 19 rfl rfl)
theorem dX0_judge_70 : decode cX0_judge 70 = .ok (.bipush 10, 2) := dk_16 10 (dk_at dksX0_judge_2 22 rfl rfl)
theorem dX0_judge_72 : decode cX0_judge 72 = .ok (.isub, 1) := dk_100 (dk_at dksX0_judge_3 0 rfl rfl)
theorem dX0_judge_73 : decode cX0_judge 73 = .ok (.ireturn, 1) := dk_172 (dk_at dksX0_judge_3 1 rfl rfl)
abbrev cX0_wrongIn : ByteArray := prog_1_method_53_code
def yX0_wrongIn : MethodName := ⟨RX0, "wrongIn", "(LInASackToTheRope$Row;I)I"⟩
def dkwX0_wrongIn_3 : List UInt8 := [167, 0, 6, 21, 5, 172, 132, 5, 1, 167, 255, 186, 2, 172]
abbrev dktX0_wrongIn_3 : List UInt8 := dkwX0_wrongIn_3 ++ []
def dkwX0_wrongIn_2 : List UInt8 := [182, 1, 55, 21, 4, 161, 0, 21, 42, 21, 6, 182, 1, 55, 54, 4, 29, 4, 21, 6, 120, 128, 62]
abbrev dktX0_wrongIn_2 : List UInt8 := dkwX0_wrongIn_2 ++ dktX0_wrongIn_3
def dkwX0_wrongIn_1 : List UInt8 := [180, 0, 99, 21, 6, 182, 0, 112, 153, 0, 41, 29, 21, 6, 122, 4, 126, 154, 0, 32, 42, 21, 6]
abbrev dktX0_wrongIn_1 : List UInt8 := dkwX0_wrongIn_1 ++ dktX0_wrongIn_2
def dkwX0_wrongIn_0 : List UInt8 := [3, 62, 3, 54, 4, 3, 54, 5, 21, 5, 28, 162, 0, 70, 43, 21, 5, 182, 1, 129, 54, 6, 42]
abbrev dktX0_wrongIn_0 : List UInt8 := dkwX0_wrongIn_0 ++ dktX0_wrongIn_1
theorem dksX0_wrongIn_0 : cX0_wrongIn.data.toList.drop 0 = dktX0_wrongIn_0 := by decide +kernel
theorem dksX0_wrongIn_1 : cX0_wrongIn.data.toList.drop 23 = dktX0_wrongIn_1 := dk_seg dksX0_wrongIn_0 23 rfl rfl
theorem dksX0_wrongIn_2 : cX0_wrongIn.data.toList.drop 46 = dktX0_wrongIn_2 := dk_seg dksX0_wrongIn_1 23 rfl rfl
theorem dksX0_wrongIn_3 : cX0_wrongIn.data.toList.drop 69 = dktX0_wrongIn_3 := dk_seg dksX0_wrongIn_2 23 rfl rfl
theorem dX0_wrongIn_0 : decode cX0_wrongIn 0 = .ok (.iconst 0, 1) := dk_3 (dk_at dksX0_wrongIn_0 0 rfl rfl)
theorem dX0_wrongIn_1 : decode cX0_wrongIn 1 = .ok (.istore_n 3, 1) := dk_62 (dk_at dksX0_wrongIn_0 1 rfl rfl)
theorem dX0_wrongIn_2 : decode cX0_wrongIn 2 = .ok (.iconst 0, 1) := dk_3 (dk_at dksX0_wrongIn_0 2 rfl rfl)
theorem dX0_wrongIn_3 : decode cX0_wrongIn 3 = .ok (.istore 4, 2) := dk_54 4 (dk_at dksX0_wrongIn_0 3 rfl rfl)
theorem dX0_wrongIn_5 : decode cX0_wrongIn 5 = .ok (.iconst 0, 1) := dk_3 (dk_at dksX0_wrongIn_0 5 rfl rfl)
theorem dX0_wrongIn_6 : decode cX0_wrongIn 6 = .ok (.istore 5, 2) := dk_54 5 (dk_at dksX0_wrongIn_0 6 rfl rfl)
theorem dX0_wrongIn_8 : decode cX0_wrongIn 8 = .ok (.iload 5, 2) := dk_21 5 (dk_at dksX0_wrongIn_0 8 rfl rfl)
theorem dX0_wrongIn_10 : decode cX0_wrongIn 10 = .ok (.iload_n 2, 1) := dk_28 (dk_at dksX0_wrongIn_0 10 rfl rfl)
theorem dX0_wrongIn_11 : decode cX0_wrongIn 11 = .ok (.if_icmp .ge 70, 3) := dk_162 0 70 (dk_at dksX0_wrongIn_0 11 rfl rfl)
theorem dX0_wrongIn_14 : decode cX0_wrongIn 14 = .ok (.aload_n 1, 1) := dk_43 (dk_at dksX0_wrongIn_0 14 rfl rfl)
theorem dX0_wrongIn_15 : decode cX0_wrongIn 15 = .ok (.iload 5, 2) := dk_21 5 (dk_at dksX0_wrongIn_0 15 rfl rfl)
theorem dX0_wrongIn_17 : decode cX0_wrongIn 17 = .ok (.invokevirtual 385, 3) := dk_182 1 129 (dk_at dksX0_wrongIn_0 17 rfl rfl)
theorem dX0_wrongIn_20 : decode cX0_wrongIn 20 = .ok (.istore 6, 2) := dk_54 6 (dk_at dksX0_wrongIn_0 20 rfl rfl)
theorem dX0_wrongIn_22 : decode cX0_wrongIn 22 = .ok (.aload_n 0, 1) := dk_42 (dk_at dksX0_wrongIn_0 22 rfl rfl)
theorem dX0_wrongIn_23 : decode cX0_wrongIn 23 = .ok (.getfield 99, 3) := dk_180 0 99 (dk_at dksX0_wrongIn_1 0 rfl rfl)
theorem dX0_wrongIn_26 : decode cX0_wrongIn 26 = .ok (.iload 6, 2) := dk_21 6 (dk_at dksX0_wrongIn_1 3 rfl rfl)
theorem dX0_wrongIn_28 : decode cX0_wrongIn 28 = .ok (.invokevirtual 112, 3) := dk_182 0 112 (dk_at dksX0_wrongIn_1 5 rfl rfl)
theorem dX0_wrongIn_31 : decode cX0_wrongIn 31 = .ok (.ifCond .eq 41, 3) := dk_153 0 41 (dk_at dksX0_wrongIn_1 8 rfl rfl)
theorem dX0_wrongIn_34 : decode cX0_wrongIn 34 = .ok (.iload_n 3, 1) := dk_29 (dk_at dksX0_wrongIn_1 11 rfl rfl)
theorem dX0_wrongIn_35 : decode cX0_wrongIn 35 = .ok (.iload 6, 2) := dk_21 6 (dk_at dksX0_wrongIn_1 12 rfl rfl)
theorem dX0_wrongIn_37 : decode cX0_wrongIn 37 = .ok (.ishr, 1) := dk_122 (dk_at dksX0_wrongIn_1 14 rfl rfl)
theorem dX0_wrongIn_38 : decode cX0_wrongIn 38 = .ok (.iconst 1, 1) := dk_4 (dk_at dksX0_wrongIn_1 15 rfl rfl)
theorem dX0_wrongIn_39 : decode cX0_wrongIn 39 = .ok (.iand, 1) := dk_126 (dk_at dksX0_wrongIn_1 16 rfl rfl)
theorem dX0_wrongIn_40 : decode cX0_wrongIn 40 = .ok (.ifCond .ne 32, 3) := dk_154 0 32 (dk_at dksX0_wrongIn_1 17 rfl rfl)
theorem dX0_wrongIn_43 : decode cX0_wrongIn 43 = .ok (.aload_n 0, 1) := dk_42 (dk_at dksX0_wrongIn_1 20 rfl rfl)
theorem dX0_wrongIn_44 : decode cX0_wrongIn 44 = .ok (.iload 6, 2) := dk_21 6 (dk_at dksX0_wrongIn_1 21 rfl rfl)
theorem dX0_wrongIn_46 : decode cX0_wrongIn 46 = .ok (.invokevirtual 311, 3) := dk_182 1 55 (dk_at dksX0_wrongIn_2 0 rfl rfl)
theorem dX0_wrongIn_49 : decode cX0_wrongIn 49 = .ok (.iload 4, 2) := dk_21 4 (dk_at dksX0_wrongIn_2 3 rfl rfl)
theorem dX0_wrongIn_51 : decode cX0_wrongIn 51 = .ok (.if_icmp .lt 21, 3) := dk_161 0 21 (dk_at dksX0_wrongIn_2 5 rfl rfl)
theorem dX0_wrongIn_54 : decode cX0_wrongIn 54 = .ok (.aload_n 0, 1) := dk_42 (dk_at dksX0_wrongIn_2 8 rfl rfl)
theorem dX0_wrongIn_55 : decode cX0_wrongIn 55 = .ok (.iload 6, 2) := dk_21 6 (dk_at dksX0_wrongIn_2 9 rfl rfl)
theorem dX0_wrongIn_57 : decode cX0_wrongIn 57 = .ok (.invokevirtual 311, 3) := dk_182 1 55 (dk_at dksX0_wrongIn_2 11 rfl rfl)
theorem dX0_wrongIn_60 : decode cX0_wrongIn 60 = .ok (.istore 4, 2) := dk_54 4 (dk_at dksX0_wrongIn_2 14 rfl rfl)
theorem dX0_wrongIn_62 : decode cX0_wrongIn 62 = .ok (.iload_n 3, 1) := dk_29 (dk_at dksX0_wrongIn_2 16 rfl rfl)
theorem dX0_wrongIn_63 : decode cX0_wrongIn 63 = .ok (.iconst 1, 1) := dk_4 (dk_at dksX0_wrongIn_2 17 rfl rfl)
theorem dX0_wrongIn_64 : decode cX0_wrongIn 64 = .ok (.iload 6, 2) := dk_21 6 (dk_at dksX0_wrongIn_2 18 rfl rfl)
theorem dX0_wrongIn_66 : decode cX0_wrongIn 66 = .ok (.ishl, 1) := dk_120 (dk_at dksX0_wrongIn_2 20 rfl rfl)
theorem dX0_wrongIn_67 : decode cX0_wrongIn 67 = .ok (.ior, 1) := dk_128 (dk_at dksX0_wrongIn_2 21 rfl rfl)
theorem dX0_wrongIn_68 : decode cX0_wrongIn 68 = .ok (.istore_n 3, 1) := dk_62 (dk_at dksX0_wrongIn_2 22 rfl rfl)
theorem dX0_wrongIn_69 : decode cX0_wrongIn 69 = .ok (.goto 6, 3) := dk_167 0 6 (dk_at dksX0_wrongIn_3 0 rfl rfl)
theorem dX0_wrongIn_72 : decode cX0_wrongIn 72 = .ok (.iload 5, 2) := dk_21 5 (dk_at dksX0_wrongIn_3 3 rfl rfl)
theorem dX0_wrongIn_74 : decode cX0_wrongIn 74 = .ok (.ireturn, 1) := dk_172 (dk_at dksX0_wrongIn_3 5 rfl rfl)
theorem dX0_wrongIn_75 : decode cX0_wrongIn 75 = .ok (.iinc 5 1, 3) := dk_132 5 1 (dk_at dksX0_wrongIn_3 6 rfl rfl)
theorem dX0_wrongIn_78 : decode cX0_wrongIn 78 = .ok (.goto (-70), 3) := dk_167 255 186 (dk_at dksX0_wrongIn_3 9 rfl rfl)
theorem dX0_wrongIn_81 : decode cX0_wrongIn 81 = .ok (.iconst (-1), 1) := dk_2 (dk_at dksX0_wrongIn_3 12 rfl rfl)
theorem dX0_wrongIn_82 : decode cX0_wrongIn 82 = .ok (.ireturn, 1) := dk_172 (dk_at dksX0_wrongIn_3 13 rfl rfl)
abbrev cX0_meant : ByteArray := prog_1_method_55_code
def yX0_meant : MethodName := ⟨RX0, "meant", "(I)I"⟩
def dkwX0_meant_4 : List UInt8 := [132, 4, 1, 167, 255, 198, 29, 172, 77, 42, 44, 182, 0, 165, 172]
abbrev dktX0_meant_4 : List UInt8 := dkwX0_meant_4 ++ []
def dkwX0_meant_3 : List UInt8 := [182, 1, 75, 159, 0, 6, 167, 0, 16, 132, 5, 1, 167, 255, 221, 29, 4, 21, 4, 120, 128, 62]
abbrev dktX0_meant_3 : List UInt8 := dkwX0_meant_3 ++ dktX0_meant_4
def dkwX0_meant_2 : List UInt8 := [21, 5, 42, 180, 0, 99, 180, 0, 120, 162, 0, 29, 44, 21, 5, 182, 1, 129, 42, 21, 5, 21, 4]
abbrev dktX0_meant_2 : List UInt8 := dkwX0_meant_2 ++ dktX0_meant_3
def dkwX0_meant_1 : List UInt8 := [167, 0, 4, 3, 16, 251, 184, 0, 116, 3, 62, 3, 54, 4, 21, 4, 16, 7, 162, 0, 57, 3, 54, 5]
abbrev dktX0_meant_1 : List UInt8 := dkwX0_meant_1 ++ dktX0_meant_2
def dkwX0_meant_0 : List UInt8 := [42, 27, 182, 0, 151, 182, 0, 169, 77, 44, 182, 0, 11, 42, 180, 0, 99, 180, 0, 120, 161, 0, 7, 4]
abbrev dktX0_meant_0 : List UInt8 := dkwX0_meant_0 ++ dktX0_meant_1
theorem dksX0_meant_0 : cX0_meant.data.toList.drop 0 = dktX0_meant_0 := by decide +kernel
theorem dksX0_meant_1 : cX0_meant.data.toList.drop 24 = dktX0_meant_1 := dk_seg dksX0_meant_0 24 rfl rfl
theorem dksX0_meant_2 : cX0_meant.data.toList.drop 48 = dktX0_meant_2 := dk_seg dksX0_meant_1 24 rfl rfl
theorem dksX0_meant_3 : cX0_meant.data.toList.drop 71 = dktX0_meant_3 := dk_seg dksX0_meant_2 23 rfl rfl
theorem dksX0_meant_4 : cX0_meant.data.toList.drop 93 = dktX0_meant_4 := dk_seg dksX0_meant_3 22 rfl rfl
theorem dX0_meant_0 : decode cX0_meant 0 = .ok (.aload_n 0, 1) := dk_42 (dk_at dksX0_meant_0 0 rfl rfl)
theorem dX0_meant_1 : decode cX0_meant 1 = .ok (.iload_n 1, 1) := dk_27 (dk_at dksX0_meant_0 1 rfl rfl)
theorem dX0_meant_2 : decode cX0_meant 2 = .ok (.invokevirtual 151, 3) := dk_182 0 151 (dk_at dksX0_meant_0 2 rfl rfl)
theorem dX0_meant_5 : decode cX0_meant 5 = .ok (.invokevirtual 169, 3) := dk_182 0 169 (dk_at dksX0_meant_0 5 rfl rfl)
theorem dX0_meant_8 : decode cX0_meant 8 = .ok (.astore_n 2, 1) := dk_77 (dk_at dksX0_meant_0 8 rfl rfl)
theorem dX0_meant_9 : decode cX0_meant 9 = .ok (.aload_n 2, 1) := dk_44 (dk_at dksX0_meant_0 9 rfl rfl)
theorem dX0_meant_10 : decode cX0_meant 10 = .ok (.invokevirtual 11, 3) := dk_182 0 11 (dk_at dksX0_meant_0 10 rfl rfl)
theorem dX0_meant_13 : decode cX0_meant 13 = .ok (.aload_n 0, 1) := dk_42 (dk_at dksX0_meant_0 13 rfl rfl)
theorem dX0_meant_14 : decode cX0_meant 14 = .ok (.getfield 99, 3) := dk_180 0 99 (dk_at dksX0_meant_0 14 rfl rfl)
theorem dX0_meant_17 : decode cX0_meant 17 = .ok (.getfield 120, 3) := dk_180 0 120 (dk_at dksX0_meant_0 17 rfl rfl)
theorem dX0_meant_20 : decode cX0_meant 20 = .ok (.if_icmp .lt 7, 3) := dk_161 0 7 (dk_at dksX0_meant_0 20 rfl rfl)
theorem dX0_meant_23 : decode cX0_meant 23 = .ok (.iconst 1, 1) := dk_4 (dk_at dksX0_meant_0 23 rfl rfl)
theorem dX0_meant_24 : decode cX0_meant 24 = .ok (.goto 4, 3) := dk_167 0 4 (dk_at dksX0_meant_1 0 rfl rfl)
theorem dX0_meant_27 : decode cX0_meant 27 = .ok (.iconst 0, 1) := dk_3 (dk_at dksX0_meant_1 3 rfl rfl)
theorem dX0_meant_28 : decode cX0_meant 28 = .ok (.bipush (-5), 2) := dk_16 251 (dk_at dksX0_meant_1 4 rfl rfl)
theorem dX0_meant_30 : decode cX0_meant 30 = .ok (.invokestatic 116, 3) := dk_184 0 116 (dk_at dksX0_meant_1 6 rfl rfl)
theorem dX0_meant_33 : decode cX0_meant 33 = .ok (.iconst 0, 1) := dk_3 (dk_at dksX0_meant_1 9 rfl rfl)
theorem dX0_meant_34 : decode cX0_meant 34 = .ok (.istore_n 3, 1) := dk_62 (dk_at dksX0_meant_1 10 rfl rfl)
theorem dX0_meant_35 : decode cX0_meant 35 = .ok (.iconst 0, 1) := dk_3 (dk_at dksX0_meant_1 11 rfl rfl)
theorem dX0_meant_36 : decode cX0_meant 36 = .ok (.istore 4, 2) := dk_54 4 (dk_at dksX0_meant_1 12 rfl rfl)
theorem dX0_meant_38 : decode cX0_meant 38 = .ok (.iload 4, 2) := dk_21 4 (dk_at dksX0_meant_1 14 rfl rfl)
theorem dX0_meant_40 : decode cX0_meant 40 = .ok (.bipush 7, 2) := dk_16 7 (dk_at dksX0_meant_1 16 rfl rfl)
theorem dX0_meant_42 : decode cX0_meant 42 = .ok (.if_icmp .ge 57, 3) := dk_162 0 57 (dk_at dksX0_meant_1 18 rfl rfl)
theorem dX0_meant_45 : decode cX0_meant 45 = .ok (.iconst 0, 1) := dk_3 (dk_at dksX0_meant_1 21 rfl rfl)
theorem dX0_meant_46 : decode cX0_meant 46 = .ok (.istore 5, 2) := dk_54 5 (dk_at dksX0_meant_1 22 rfl rfl)
theorem dX0_meant_48 : decode cX0_meant 48 = .ok (.iload 5, 2) := dk_21 5 (dk_at dksX0_meant_2 0 rfl rfl)
theorem dX0_meant_50 : decode cX0_meant 50 = .ok (.aload_n 0, 1) := dk_42 (dk_at dksX0_meant_2 2 rfl rfl)
theorem dX0_meant_51 : decode cX0_meant 51 = .ok (.getfield 99, 3) := dk_180 0 99 (dk_at dksX0_meant_2 3 rfl rfl)
theorem dX0_meant_54 : decode cX0_meant 54 = .ok (.getfield 120, 3) := dk_180 0 120 (dk_at dksX0_meant_2 6 rfl rfl)
theorem dX0_meant_57 : decode cX0_meant 57 = .ok (.if_icmp .ge 29, 3) := dk_162 0 29 (dk_at dksX0_meant_2 9 rfl rfl)
theorem dX0_meant_60 : decode cX0_meant 60 = .ok (.aload_n 2, 1) := dk_44 (dk_at dksX0_meant_2 12 rfl rfl)
theorem dX0_meant_61 : decode cX0_meant 61 = .ok (.iload 5, 2) := dk_21 5 (dk_at dksX0_meant_2 13 rfl rfl)
theorem dX0_meant_63 : decode cX0_meant 63 = .ok (.invokevirtual 385, 3) := dk_182 1 129 (dk_at dksX0_meant_2 15 rfl rfl)
theorem dX0_meant_66 : decode cX0_meant 66 = .ok (.aload_n 0, 1) := dk_42 (dk_at dksX0_meant_2 18 rfl rfl)
theorem dX0_meant_67 : decode cX0_meant 67 = .ok (.iload 5, 2) := dk_21 5 (dk_at dksX0_meant_2 19 rfl rfl)
theorem dX0_meant_69 : decode cX0_meant 69 = .ok (.iload 4, 2) := dk_21 4 (dk_at dksX0_meant_2 21 rfl rfl)
theorem dX0_meant_71 : decode cX0_meant 71 = .ok (.invokevirtual 331, 3) := dk_182 1 75 (dk_at dksX0_meant_3 0 rfl rfl)
theorem dX0_meant_74 : decode cX0_meant 74 = .ok (.if_icmp .eq 6, 3) := dk_159 0 6 (dk_at dksX0_meant_3 3 rfl rfl)
theorem dX0_meant_77 : decode cX0_meant 77 = .ok (.goto 16, 3) := dk_167 0 16 (dk_at dksX0_meant_3 6 rfl rfl)
theorem dX0_meant_80 : decode cX0_meant 80 = .ok (.iinc 5 1, 3) := dk_132 5 1 (dk_at dksX0_meant_3 9 rfl rfl)
theorem dX0_meant_83 : decode cX0_meant 83 = .ok (.goto (-35), 3) := dk_167 255 221 (dk_at dksX0_meant_3 12 rfl rfl)
theorem dX0_meant_86 : decode cX0_meant 86 = .ok (.iload_n 3, 1) := dk_29 (dk_at dksX0_meant_3 15 rfl rfl)
theorem dX0_meant_87 : decode cX0_meant 87 = .ok (.iconst 1, 1) := dk_4 (dk_at dksX0_meant_3 16 rfl rfl)
theorem dX0_meant_88 : decode cX0_meant 88 = .ok (.iload 4, 2) := dk_21 4 (dk_at dksX0_meant_3 17 rfl rfl)
theorem dX0_meant_90 : decode cX0_meant 90 = .ok (.ishl, 1) := dk_120 (dk_at dksX0_meant_3 19 rfl rfl)
theorem dX0_meant_91 : decode cX0_meant 91 = .ok (.ior, 1) := dk_128 (dk_at dksX0_meant_3 20 rfl rfl)
theorem dX0_meant_92 : decode cX0_meant 92 = .ok (.istore_n 3, 1) := dk_62 (dk_at dksX0_meant_3 21 rfl rfl)
theorem dX0_meant_93 : decode cX0_meant 93 = .ok (.iinc 4 1, 3) := dk_132 4 1 (dk_at dksX0_meant_4 0 rfl rfl)
theorem dX0_meant_96 : decode cX0_meant 96 = .ok (.goto (-58), 3) := dk_167 255 198 (dk_at dksX0_meant_4 3 rfl rfl)
theorem dX0_meant_99 : decode cX0_meant 99 = .ok (.iload_n 3, 1) := dk_29 (dk_at dksX0_meant_4 6 rfl rfl)
theorem dX0_meant_100 : decode cX0_meant 100 = .ok (.ireturn, 1) := dk_172 (dk_at dksX0_meant_4 7 rfl rfl)
theorem dX0_meant_101 : decode cX0_meant 101 = .ok (.astore_n 2, 1) := dk_77 (dk_at dksX0_meant_4 8 rfl rfl)
theorem dX0_meant_102 : decode cX0_meant 102 = .ok (.aload_n 0, 1) := dk_42 (dk_at dksX0_meant_4 9 rfl rfl)
theorem dX0_meant_103 : decode cX0_meant 103 = .ok (.aload_n 2, 1) := dk_44 (dk_at dksX0_meant_4 10 rfl rfl)
theorem dX0_meant_104 : decode cX0_meant 104 = .ok (.invokevirtual 165, 3) := dk_182 0 165 (dk_at dksX0_meant_4 11 rfl rfl)
theorem dX0_meant_107 : decode cX0_meant 107 = .ok (.ireturn, 1) := dk_172 (dk_at dksX0_meant_4 14 rfl rfl)
abbrev cX0_worn : ByteArray := prog_1_method_56_code
def yX0_worn : MethodName := ⟨RX0, "worn", "(II)I"⟩
def dkwX0_worn_2 : List UInt8 := [167, 255, 219, 29, 172, 78, 42, 45, 182, 0, 165, 172]
abbrev dktX0_worn_2 : List UInt8 := dkwX0_worn_2 ++ []
def dkwX0_worn_1 : List UInt8 := [27, 21, 4, 182, 1, 79, 28, 160, 0, 10, 4, 21, 4, 120, 167, 0, 4, 3, 128, 62, 132, 4, 1]
abbrev dktX0_worn_1 : List UInt8 := dkwX0_worn_1 ++ dktX0_worn_2
def dkwX0_worn_0 : List UInt8 := [42, 27, 182, 0, 185, 3, 62, 3, 54, 4, 21, 4, 42, 180, 0, 99, 180, 0, 200, 162, 0, 31, 29, 42]
abbrev dktX0_worn_0 : List UInt8 := dkwX0_worn_0 ++ dktX0_worn_1
theorem dksX0_worn_0 : cX0_worn.data.toList.drop 0 = dktX0_worn_0 := by decide +kernel
theorem dksX0_worn_1 : cX0_worn.data.toList.drop 24 = dktX0_worn_1 := dk_seg dksX0_worn_0 24 rfl rfl
theorem dksX0_worn_2 : cX0_worn.data.toList.drop 47 = dktX0_worn_2 := dk_seg dksX0_worn_1 23 rfl rfl
theorem dX0_worn_0 : decode cX0_worn 0 = .ok (.aload_n 0, 1) := dk_42 (dk_at dksX0_worn_0 0 rfl rfl)
theorem dX0_worn_1 : decode cX0_worn 1 = .ok (.iload_n 1, 1) := dk_27 (dk_at dksX0_worn_0 1 rfl rfl)
theorem dX0_worn_2 : decode cX0_worn 2 = .ok (.invokevirtual 185, 3) := dk_182 0 185 (dk_at dksX0_worn_0 2 rfl rfl)
theorem dX0_worn_5 : decode cX0_worn 5 = .ok (.iconst 0, 1) := dk_3 (dk_at dksX0_worn_0 5 rfl rfl)
theorem dX0_worn_6 : decode cX0_worn 6 = .ok (.istore_n 3, 1) := dk_62 (dk_at dksX0_worn_0 6 rfl rfl)
theorem dX0_worn_7 : decode cX0_worn 7 = .ok (.iconst 0, 1) := dk_3 (dk_at dksX0_worn_0 7 rfl rfl)
theorem dX0_worn_8 : decode cX0_worn 8 = .ok (.istore 4, 2) := dk_54 4 (dk_at dksX0_worn_0 8 rfl rfl)
theorem dX0_worn_10 : decode cX0_worn 10 = .ok (.iload 4, 2) := dk_21 4 (dk_at dksX0_worn_0 10 rfl rfl)
theorem dX0_worn_12 : decode cX0_worn 12 = .ok (.aload_n 0, 1) := dk_42 (dk_at dksX0_worn_0 12 rfl rfl)
theorem dX0_worn_13 : decode cX0_worn 13 = .ok (.getfield 99, 3) := dk_180 0 99 (dk_at dksX0_worn_0 13 rfl rfl)
theorem dX0_worn_16 : decode cX0_worn 16 = .ok (.getfield 200, 3) := dk_180 0 200 (dk_at dksX0_worn_0 16 rfl rfl)
theorem dX0_worn_19 : decode cX0_worn 19 = .ok (.if_icmp .ge 31, 3) := dk_162 0 31 (dk_at dksX0_worn_0 19 rfl rfl)
theorem dX0_worn_22 : decode cX0_worn 22 = .ok (.iload_n 3, 1) := dk_29 (dk_at dksX0_worn_0 22 rfl rfl)
theorem dX0_worn_23 : decode cX0_worn 23 = .ok (.aload_n 0, 1) := dk_42 (dk_at dksX0_worn_0 23 rfl rfl)
theorem dX0_worn_24 : decode cX0_worn 24 = .ok (.iload_n 1, 1) := dk_27 (dk_at dksX0_worn_1 0 rfl rfl)
theorem dX0_worn_25 : decode cX0_worn 25 = .ok (.iload 4, 2) := dk_21 4 (dk_at dksX0_worn_1 1 rfl rfl)
theorem dX0_worn_27 : decode cX0_worn 27 = .ok (.invokevirtual 335, 3) := dk_182 1 79 (dk_at dksX0_worn_1 3 rfl rfl)
theorem dX0_worn_30 : decode cX0_worn 30 = .ok (.iload_n 2, 1) := dk_28 (dk_at dksX0_worn_1 6 rfl rfl)
theorem dX0_worn_31 : decode cX0_worn 31 = .ok (.if_icmp .ne 10, 3) := dk_160 0 10 (dk_at dksX0_worn_1 7 rfl rfl)
theorem dX0_worn_34 : decode cX0_worn 34 = .ok (.iconst 1, 1) := dk_4 (dk_at dksX0_worn_1 10 rfl rfl)
theorem dX0_worn_35 : decode cX0_worn 35 = .ok (.iload 4, 2) := dk_21 4 (dk_at dksX0_worn_1 11 rfl rfl)
theorem dX0_worn_37 : decode cX0_worn 37 = .ok (.ishl, 1) := dk_120 (dk_at dksX0_worn_1 13 rfl rfl)
theorem dX0_worn_38 : decode cX0_worn 38 = .ok (.goto 4, 3) := dk_167 0 4 (dk_at dksX0_worn_1 14 rfl rfl)
theorem dX0_worn_41 : decode cX0_worn 41 = .ok (.iconst 0, 1) := dk_3 (dk_at dksX0_worn_1 17 rfl rfl)
theorem dX0_worn_42 : decode cX0_worn 42 = .ok (.ior, 1) := dk_128 (dk_at dksX0_worn_1 18 rfl rfl)
theorem dX0_worn_43 : decode cX0_worn 43 = .ok (.istore_n 3, 1) := dk_62 (dk_at dksX0_worn_1 19 rfl rfl)
theorem dX0_worn_44 : decode cX0_worn 44 = .ok (.iinc 4 1, 3) := dk_132 4 1 (dk_at dksX0_worn_1 20 rfl rfl)
theorem dX0_worn_47 : decode cX0_worn 47 = .ok (.goto (-37), 3) := dk_167 255 219 (dk_at dksX0_worn_2 0 rfl rfl)
theorem dX0_worn_50 : decode cX0_worn 50 = .ok (.iload_n 3, 1) := dk_29 (dk_at dksX0_worn_2 3 rfl rfl)
theorem dX0_worn_51 : decode cX0_worn 51 = .ok (.ireturn, 1) := dk_172 (dk_at dksX0_worn_2 4 rfl rfl)
theorem dX0_worn_52 : decode cX0_worn 52 = .ok (.astore_n 3, 1) := dk_78 (dk_at dksX0_worn_2 5 rfl rfl)
theorem dX0_worn_53 : decode cX0_worn 53 = .ok (.aload_n 0, 1) := dk_42 (dk_at dksX0_worn_2 6 rfl rfl)
theorem dX0_worn_54 : decode cX0_worn 54 = .ok (.aload_n 3, 1) := dk_45 (dk_at dksX0_worn_2 7 rfl rfl)
theorem dX0_worn_55 : decode cX0_worn 55 = .ok (.invokevirtual 165, 3) := dk_182 0 165 (dk_at dksX0_worn_2 8 rfl rfl)
theorem dX0_worn_58 : decode cX0_worn 58 = .ok (.ireturn, 1) := dk_172 (dk_at dksX0_worn_2 11 rfl rfl)
abbrev cX0_race : ByteArray := prog_1_method_58_code
def yX0_race : MethodName := ⟨RX0, "race", "()I"⟩
def dkwX0_race_0 : List UInt8 := [42, 182, 1, 58, 42, 182, 1, 153, 172, 76, 42, 43, 182, 0, 165, 16, 10, 100, 172]
abbrev dktX0_race_0 : List UInt8 := dkwX0_race_0 ++ []
theorem dksX0_race_0 : cX0_race.data.toList.drop 0 = dktX0_race_0 := by decide +kernel
theorem dX0_race_0 : decode cX0_race 0 = .ok (.aload_n 0, 1) := dk_42 (dk_at dksX0_race_0 0 rfl rfl)
theorem dX0_race_1 : decode cX0_race 1 = .ok (.invokevirtual 314, 3) := dk_182 1 58 (dk_at dksX0_race_0 1 rfl rfl)
theorem dX0_race_4 : decode cX0_race 4 = .ok (.aload_n 0, 1) := dk_42 (dk_at dksX0_race_0 4 rfl rfl)
theorem dX0_race_5 : decode cX0_race 5 = .ok (.invokevirtual 409, 3) := dk_182 1 153 (dk_at dksX0_race_0 5 rfl rfl)
theorem dX0_race_8 : decode cX0_race 8 = .ok (.ireturn, 1) := dk_172 (dk_at dksX0_race_0 8 rfl rfl)
theorem dX0_race_9 : decode cX0_race 9 = .ok (.astore_n 1, 1) := dk_76 (dk_at dksX0_race_0 9 rfl rfl)
theorem dX0_race_10 : decode cX0_race 10 = .ok (.aload_n 0, 1) := dk_42 (dk_at dksX0_race_0 10 rfl rfl)
theorem dX0_race_11 : decode cX0_race 11 = .ok (.aload_n 1, 1) := dk_43 (dk_at dksX0_race_0 11 rfl rfl)
theorem dX0_race_12 : decode cX0_race 12 = .ok (.invokevirtual 165, 3) := dk_182 0 165 (dk_at dksX0_race_0 12 rfl rfl)
theorem dX0_race_15 : decode cX0_race 15 = .ok (.bipush 10, 2) := dk_16 10 (dk_at dksX0_race_0 15 rfl rfl)
theorem dX0_race_17 : decode cX0_race 17 = .ok (.isub, 1) := dk_100 (dk_at dksX0_race_0 17 rfl rfl)
theorem dX0_race_18 : decode cX0_race 18 = .ok (.ireturn, 1) := dk_172 (dk_at dksX0_race_0 18 rfl rfl)
abbrev cX0_goesRace : ByteArray := prog_1_method_57_code
def yX0_goesRace : MethodName := ⟨RX0, "goesRace", "()I"⟩
def dkwX0_goesRace_8 : List UInt8 := [28, 92, 46, 4, 96, 79, 28, 172]
abbrev dktX0_goesRace_8 : List UInt8 := dkwX0_goesRace_8 ++ []
def dkwX0_goesRace_7 : List UInt8 := [180, 0, 99, 89, 180, 1, 150, 4, 96, 181, 1, 150, 28, 2, 159, 0, 16, 42, 180, 0, 99, 180, 0, 234]
abbrev dktX0_goesRace_7 : List UInt8 := dkwX0_goesRace_7 ++ dktX0_goesRace_8
def dkwX0_goesRace_6 : List UInt8 := [29, 42, 180, 0, 81, 21, 4, 50, 182, 1, 142, 184, 1, 145, 62, 132, 4, 1, 167, 255, 205, 42]
abbrev dktX0_goesRace_6 : List UInt8 := dkwX0_goesRace_6 ++ dktX0_goesRace_7
def dkwX0_goesRace_5 : List UInt8 := [162, 0, 45, 42, 180, 0, 81, 21, 4, 50, 182, 1, 142, 29, 162, 0, 8, 21, 4, 167, 0, 4, 28, 61]
abbrev dktX0_goesRace_5 : List UInt8 := dkwX0_goesRace_5 ++ dktX0_goesRace_6
def dkwX0_goesRace_4 : List UInt8 := [132, 2, 1, 167, 255, 198, 2, 61, 17, 3, 231, 62, 3, 54, 4, 21, 4, 42, 180, 0, 99, 180, 0, 120]
abbrev dktX0_goesRace_4 : List UInt8 := dkwX0_goesRace_4 ++ dktX0_goesRace_5
def dkwX0_goesRace_3 : List UInt8 := [182, 1, 136, 154, 0, 14, 42, 180, 0, 81, 29, 50, 182, 1, 139, 4, 60, 132, 3, 1, 167, 255, 219]
abbrev dktX0_goesRace_3 : List UInt8 := dkwX0_goesRace_3 ++ dktX0_goesRace_4
def dkwX0_goesRace_2 : List UInt8 := [153, 0, 53, 3, 60, 3, 62, 29, 42, 180, 0, 99, 180, 0, 120, 162, 0, 32, 42, 180, 0, 81, 29, 50]
abbrev dktX0_goesRace_2 : List UInt8 := dkwX0_goesRace_2 ++ dktX0_goesRace_3
def dkwX0_goesRace_1 : List UInt8 := [182, 1, 29, 87, 132, 1, 1, 167, 255, 227, 4, 60, 3, 61, 28, 17, 3, 231, 162, 0, 57, 27]
abbrev dktX0_goesRace_1 : List UInt8 := dkwX0_goesRace_1 ++ dktX0_goesRace_2
def dkwX0_goesRace_0 : List UInt8 := [3, 60, 27, 42, 180, 0, 99, 180, 0, 120, 162, 0, 24, 42, 180, 0, 81, 27, 50, 42, 180, 0, 99, 27]
abbrev dktX0_goesRace_0 : List UInt8 := dkwX0_goesRace_0 ++ dktX0_goesRace_1
theorem dksX0_goesRace_0 : cX0_goesRace.data.toList.drop 0 = dktX0_goesRace_0 := by decide +kernel
theorem dksX0_goesRace_1 : cX0_goesRace.data.toList.drop 24 = dktX0_goesRace_1 := dk_seg dksX0_goesRace_0 24 rfl rfl
theorem dksX0_goesRace_2 : cX0_goesRace.data.toList.drop 46 = dktX0_goesRace_2 := dk_seg dksX0_goesRace_1 22 rfl rfl
theorem dksX0_goesRace_3 : cX0_goesRace.data.toList.drop 70 = dktX0_goesRace_3 := dk_seg dksX0_goesRace_2 24 rfl rfl
theorem dksX0_goesRace_4 : cX0_goesRace.data.toList.drop 93 = dktX0_goesRace_4 := dk_seg dksX0_goesRace_3 23 rfl rfl
theorem dksX0_goesRace_5 : cX0_goesRace.data.toList.drop 117 = dktX0_goesRace_5 := dk_seg dksX0_goesRace_4 24 rfl rfl
theorem dksX0_goesRace_6 : cX0_goesRace.data.toList.drop 141 = dktX0_goesRace_6 := dk_seg dksX0_goesRace_5 24 rfl rfl
theorem dksX0_goesRace_7 : cX0_goesRace.data.toList.drop 163 = dktX0_goesRace_7 := dk_seg dksX0_goesRace_6 22 rfl rfl
theorem dksX0_goesRace_8 : cX0_goesRace.data.toList.drop 187 = dktX0_goesRace_8 := dk_seg dksX0_goesRace_7 24 rfl rfl
theorem dX0_goesRace_0 : decode cX0_goesRace 0 = .ok (.iconst 0, 1) := dk_3 (dk_at dksX0_goesRace_0 0 rfl rfl)
theorem dX0_goesRace_1 : decode cX0_goesRace 1 = .ok (.istore_n 1, 1) := dk_60 (dk_at dksX0_goesRace_0 1 rfl rfl)
theorem dX0_goesRace_2 : decode cX0_goesRace 2 = .ok (.iload_n 1, 1) := dk_27 (dk_at dksX0_goesRace_0 2 rfl rfl)
theorem dX0_goesRace_3 : decode cX0_goesRace 3 = .ok (.aload_n 0, 1) := dk_42 (dk_at dksX0_goesRace_0 3 rfl rfl)
theorem dX0_goesRace_4 : decode cX0_goesRace 4 = .ok (.getfield 99, 3) := dk_180 0 99 (dk_at dksX0_goesRace_0 4 rfl rfl)
theorem dX0_goesRace_7 : decode cX0_goesRace 7 = .ok (.getfield 120, 3) := dk_180 0 120 (dk_at dksX0_goesRace_0 7 rfl rfl)
theorem dX0_goesRace_10 : decode cX0_goesRace 10 = .ok (.if_icmp .ge 24, 3) := dk_162 0 24 (dk_at dksX0_goesRace_0 10 rfl rfl)
theorem dX0_goesRace_13 : decode cX0_goesRace 13 = .ok (.aload_n 0, 1) := dk_42 (dk_at dksX0_goesRace_0 13 rfl rfl)
theorem dX0_goesRace_14 : decode cX0_goesRace 14 = .ok (.getfield 81, 3) := dk_180 0 81 (dk_at dksX0_goesRace_0 14 rfl rfl)
theorem dX0_goesRace_17 : decode cX0_goesRace 17 = .ok (.iload_n 1, 1) := dk_27 (dk_at dksX0_goesRace_0 17 rfl rfl)
theorem dX0_goesRace_18 : decode cX0_goesRace 18 = .ok (.aaload, 1) := dk_50 (dk_at dksX0_goesRace_0 18 rfl rfl)
theorem dX0_goesRace_19 : decode cX0_goesRace 19 = .ok (.aload_n 0, 1) := dk_42 (dk_at dksX0_goesRace_0 19 rfl rfl)
theorem dX0_goesRace_20 : decode cX0_goesRace 20 = .ok (.getfield 99, 3) := dk_180 0 99 (dk_at dksX0_goesRace_0 20 rfl rfl)
theorem dX0_goesRace_23 : decode cX0_goesRace 23 = .ok (.iload_n 1, 1) := dk_27 (dk_at dksX0_goesRace_0 23 rfl rfl)
theorem dX0_goesRace_24 : decode cX0_goesRace 24 = .ok (.invokevirtual 285, 3) := dk_182 1 29 (dk_at dksX0_goesRace_1 0 rfl rfl)
theorem dX0_goesRace_27 : decode cX0_goesRace 27 = .ok (.pop, 1) := dk_87 (dk_at dksX0_goesRace_1 3 rfl rfl)
theorem dX0_goesRace_28 : decode cX0_goesRace 28 = .ok (.iinc 1 1, 3) := dk_132 1 1 (dk_at dksX0_goesRace_1 4 rfl rfl)
theorem dX0_goesRace_31 : decode cX0_goesRace 31 = .ok (.goto (-29), 3) := dk_167 255 227 (dk_at dksX0_goesRace_1 7 rfl rfl)
theorem dX0_goesRace_34 : decode cX0_goesRace 34 = .ok (.iconst 1, 1) := dk_4 (dk_at dksX0_goesRace_1 10 rfl rfl)
theorem dX0_goesRace_35 : decode cX0_goesRace 35 = .ok (.istore_n 1, 1) := dk_60 (dk_at dksX0_goesRace_1 11 rfl rfl)
theorem dX0_goesRace_36 : decode cX0_goesRace 36 = .ok (.iconst 0, 1) := dk_3 (dk_at dksX0_goesRace_1 12 rfl rfl)
theorem dX0_goesRace_37 : decode cX0_goesRace 37 = .ok (.istore_n 2, 1) := dk_61 (dk_at dksX0_goesRace_1 13 rfl rfl)
theorem dX0_goesRace_38 : decode cX0_goesRace 38 = .ok (.iload_n 2, 1) := dk_28 (dk_at dksX0_goesRace_1 14 rfl rfl)
theorem dX0_goesRace_39 : decode cX0_goesRace 39 = .ok (.sipush 999, 3) := dk_17 3 231 (dk_at dksX0_goesRace_1 15 rfl rfl)
theorem dX0_goesRace_42 : decode cX0_goesRace 42 = .ok (.if_icmp .ge 57, 3) := dk_162 0 57 (dk_at dksX0_goesRace_1 18 rfl rfl)
theorem dX0_goesRace_45 : decode cX0_goesRace 45 = .ok (.iload_n 1, 1) := dk_27 (dk_at dksX0_goesRace_1 21 rfl rfl)
theorem dX0_goesRace_46 : decode cX0_goesRace 46 = .ok (.ifCond .eq 53, 3) := dk_153 0 53 (dk_at dksX0_goesRace_2 0 rfl rfl)
theorem dX0_goesRace_49 : decode cX0_goesRace 49 = .ok (.iconst 0, 1) := dk_3 (dk_at dksX0_goesRace_2 3 rfl rfl)
theorem dX0_goesRace_50 : decode cX0_goesRace 50 = .ok (.istore_n 1, 1) := dk_60 (dk_at dksX0_goesRace_2 4 rfl rfl)
theorem dX0_goesRace_51 : decode cX0_goesRace 51 = .ok (.iconst 0, 1) := dk_3 (dk_at dksX0_goesRace_2 5 rfl rfl)
theorem dX0_goesRace_52 : decode cX0_goesRace 52 = .ok (.istore_n 3, 1) := dk_62 (dk_at dksX0_goesRace_2 6 rfl rfl)
theorem dX0_goesRace_53 : decode cX0_goesRace 53 = .ok (.iload_n 3, 1) := dk_29 (dk_at dksX0_goesRace_2 7 rfl rfl)
theorem dX0_goesRace_54 : decode cX0_goesRace 54 = .ok (.aload_n 0, 1) := dk_42 (dk_at dksX0_goesRace_2 8 rfl rfl)
theorem dX0_goesRace_55 : decode cX0_goesRace 55 = .ok (.getfield 99, 3) := dk_180 0 99 (dk_at dksX0_goesRace_2 9 rfl rfl)
theorem dX0_goesRace_58 : decode cX0_goesRace 58 = .ok (.getfield 120, 3) := dk_180 0 120 (dk_at dksX0_goesRace_2 12 rfl rfl)
theorem dX0_goesRace_61 : decode cX0_goesRace 61 = .ok (.if_icmp .ge 32, 3) := dk_162 0 32 (dk_at dksX0_goesRace_2 15 rfl rfl)
theorem dX0_goesRace_64 : decode cX0_goesRace 64 = .ok (.aload_n 0, 1) := dk_42 (dk_at dksX0_goesRace_2 18 rfl rfl)
theorem dX0_goesRace_65 : decode cX0_goesRace 65 = .ok (.getfield 81, 3) := dk_180 0 81 (dk_at dksX0_goesRace_2 19 rfl rfl)
theorem dX0_goesRace_68 : decode cX0_goesRace 68 = .ok (.iload_n 3, 1) := dk_29 (dk_at dksX0_goesRace_2 22 rfl rfl)
theorem dX0_goesRace_69 : decode cX0_goesRace 69 = .ok (.aaload, 1) := dk_50 (dk_at dksX0_goesRace_2 23 rfl rfl)
theorem dX0_goesRace_70 : decode cX0_goesRace 70 = .ok (.invokevirtual 392, 3) := dk_182 1 136 (dk_at dksX0_goesRace_3 0 rfl rfl)
theorem dX0_goesRace_73 : decode cX0_goesRace 73 = .ok (.ifCond .ne 14, 3) := dk_154 0 14 (dk_at dksX0_goesRace_3 3 rfl rfl)
theorem dX0_goesRace_76 : decode cX0_goesRace 76 = .ok (.aload_n 0, 1) := dk_42 (dk_at dksX0_goesRace_3 6 rfl rfl)
theorem dX0_goesRace_77 : decode cX0_goesRace 77 = .ok (.getfield 81, 3) := dk_180 0 81 (dk_at dksX0_goesRace_3 7 rfl rfl)
theorem dX0_goesRace_80 : decode cX0_goesRace 80 = .ok (.iload_n 3, 1) := dk_29 (dk_at dksX0_goesRace_3 10 rfl rfl)
theorem dX0_goesRace_81 : decode cX0_goesRace 81 = .ok (.aaload, 1) := dk_50 (dk_at dksX0_goesRace_3 11 rfl rfl)
theorem dX0_goesRace_82 : decode cX0_goesRace 82 = .ok (.invokevirtual 395, 3) := dk_182 1 139 (dk_at dksX0_goesRace_3 12 rfl rfl)
theorem dX0_goesRace_85 : decode cX0_goesRace 85 = .ok (.iconst 1, 1) := dk_4 (dk_at dksX0_goesRace_3 15 rfl rfl)
theorem dX0_goesRace_86 : decode cX0_goesRace 86 = .ok (.istore_n 1, 1) := dk_60 (dk_at dksX0_goesRace_3 16 rfl rfl)
theorem dX0_goesRace_87 : decode cX0_goesRace 87 = .ok (.iinc 3 1, 3) := dk_132 3 1 (dk_at dksX0_goesRace_3 17 rfl rfl)
theorem dX0_goesRace_90 : decode cX0_goesRace 90 = .ok (.goto (-37), 3) := dk_167 255 219 (dk_at dksX0_goesRace_3 20 rfl rfl)
theorem dX0_goesRace_93 : decode cX0_goesRace 93 = .ok (.iinc 2 1, 3) := dk_132 2 1 (dk_at dksX0_goesRace_4 0 rfl rfl)
theorem dX0_goesRace_96 : decode cX0_goesRace 96 = .ok (.goto (-58), 3) := dk_167 255 198 (dk_at dksX0_goesRace_4 3 rfl rfl)
theorem dX0_goesRace_99 : decode cX0_goesRace 99 = .ok (.iconst (-1), 1) := dk_2 (dk_at dksX0_goesRace_4 6 rfl rfl)
theorem dX0_goesRace_100 : decode cX0_goesRace 100 = .ok (.istore_n 2, 1) := dk_61 (dk_at dksX0_goesRace_4 7 rfl rfl)
theorem dX0_goesRace_101 : decode cX0_goesRace 101 = .ok (.sipush 999, 3) := dk_17 3 231 (dk_at dksX0_goesRace_4 8 rfl rfl)
theorem dX0_goesRace_104 : decode cX0_goesRace 104 = .ok (.istore_n 3, 1) := dk_62 (dk_at dksX0_goesRace_4 11 rfl rfl)
theorem dX0_goesRace_105 : decode cX0_goesRace 105 = .ok (.iconst 0, 1) := dk_3 (dk_at dksX0_goesRace_4 12 rfl rfl)
theorem dX0_goesRace_106 : decode cX0_goesRace 106 = .ok (.istore 4, 2) := dk_54 4 (dk_at dksX0_goesRace_4 13 rfl rfl)
theorem dX0_goesRace_108 : decode cX0_goesRace 108 = .ok (.iload 4, 2) := dk_21 4 (dk_at dksX0_goesRace_4 15 rfl rfl)
theorem dX0_goesRace_110 : decode cX0_goesRace 110 = .ok (.aload_n 0, 1) := dk_42 (dk_at dksX0_goesRace_4 17 rfl rfl)
theorem dX0_goesRace_111 : decode cX0_goesRace 111 = .ok (.getfield 99, 3) := dk_180 0 99 (dk_at dksX0_goesRace_4 18 rfl rfl)
theorem dX0_goesRace_114 : decode cX0_goesRace 114 = .ok (.getfield 120, 3) := dk_180 0 120 (dk_at dksX0_goesRace_4 21 rfl rfl)
theorem dX0_goesRace_117 : decode cX0_goesRace 117 = .ok (.if_icmp .ge 45, 3) := dk_162 0 45 (dk_at dksX0_goesRace_5 0 rfl rfl)
theorem dX0_goesRace_120 : decode cX0_goesRace 120 = .ok (.aload_n 0, 1) := dk_42 (dk_at dksX0_goesRace_5 3 rfl rfl)
theorem dX0_goesRace_121 : decode cX0_goesRace 121 = .ok (.getfield 81, 3) := dk_180 0 81 (dk_at dksX0_goesRace_5 4 rfl rfl)
theorem dX0_goesRace_124 : decode cX0_goesRace 124 = .ok (.iload 4, 2) := dk_21 4 (dk_at dksX0_goesRace_5 7 rfl rfl)
theorem dX0_goesRace_126 : decode cX0_goesRace 126 = .ok (.aaload, 1) := dk_50 (dk_at dksX0_goesRace_5 9 rfl rfl)
theorem dX0_goesRace_127 : decode cX0_goesRace 127 = .ok (.invokevirtual 398, 3) := dk_182 1 142 (dk_at dksX0_goesRace_5 10 rfl rfl)
theorem dX0_goesRace_130 : decode cX0_goesRace 130 = .ok (.iload_n 3, 1) := dk_29 (dk_at dksX0_goesRace_5 13 rfl rfl)
theorem dX0_goesRace_131 : decode cX0_goesRace 131 = .ok (.if_icmp .ge 8, 3) := dk_162 0 8 (dk_at dksX0_goesRace_5 14 rfl rfl)
theorem dX0_goesRace_134 : decode cX0_goesRace 134 = .ok (.iload 4, 2) := dk_21 4 (dk_at dksX0_goesRace_5 17 rfl rfl)
theorem dX0_goesRace_136 : decode cX0_goesRace 136 = .ok (.goto 4, 3) := dk_167 0 4 (dk_at dksX0_goesRace_5 19 rfl rfl)
theorem dX0_goesRace_139 : decode cX0_goesRace 139 = .ok (.iload_n 2, 1) := dk_28 (dk_at dksX0_goesRace_5 22 rfl rfl)
theorem dX0_goesRace_140 : decode cX0_goesRace 140 = .ok (.istore_n 2, 1) := dk_61 (dk_at dksX0_goesRace_5 23 rfl rfl)
theorem dX0_goesRace_141 : decode cX0_goesRace 141 = .ok (.iload_n 3, 1) := dk_29 (dk_at dksX0_goesRace_6 0 rfl rfl)
theorem dX0_goesRace_142 : decode cX0_goesRace 142 = .ok (.aload_n 0, 1) := dk_42 (dk_at dksX0_goesRace_6 1 rfl rfl)
theorem dX0_goesRace_143 : decode cX0_goesRace 143 = .ok (.getfield 81, 3) := dk_180 0 81 (dk_at dksX0_goesRace_6 2 rfl rfl)
theorem dX0_goesRace_146 : decode cX0_goesRace 146 = .ok (.iload 4, 2) := dk_21 4 (dk_at dksX0_goesRace_6 5 rfl rfl)
theorem dX0_goesRace_148 : decode cX0_goesRace 148 = .ok (.aaload, 1) := dk_50 (dk_at dksX0_goesRace_6 7 rfl rfl)
theorem dX0_goesRace_149 : decode cX0_goesRace 149 = .ok (.invokevirtual 398, 3) := dk_182 1 142 (dk_at dksX0_goesRace_6 8 rfl rfl)
theorem dX0_goesRace_152 : decode cX0_goesRace 152 = .ok (.invokestatic 401, 3) := dk_184 1 145 (dk_at dksX0_goesRace_6 11 rfl rfl)
theorem dX0_goesRace_155 : decode cX0_goesRace 155 = .ok (.istore_n 3, 1) := dk_62 (dk_at dksX0_goesRace_6 14 rfl rfl)
theorem dX0_goesRace_156 : decode cX0_goesRace 156 = .ok (.iinc 4 1, 3) := dk_132 4 1 (dk_at dksX0_goesRace_6 15 rfl rfl)
theorem dX0_goesRace_159 : decode cX0_goesRace 159 = .ok (.goto (-51), 3) := dk_167 255 205 (dk_at dksX0_goesRace_6 18 rfl rfl)
theorem dX0_goesRace_162 : decode cX0_goesRace 162 = .ok (.aload_n 0, 1) := dk_42 (dk_at dksX0_goesRace_6 21 rfl rfl)
theorem dX0_goesRace_163 : decode cX0_goesRace 163 = .ok (.getfield 99, 3) := dk_180 0 99 (dk_at dksX0_goesRace_7 0 rfl rfl)
theorem dX0_goesRace_166 : decode cX0_goesRace 166 = .ok (.dup, 1) := dk_89 (dk_at dksX0_goesRace_7 3 rfl rfl)
theorem dX0_goesRace_167 : decode cX0_goesRace 167 = .ok (.getfield 406, 3) := dk_180 1 150 (dk_at dksX0_goesRace_7 4 rfl rfl)
theorem dX0_goesRace_170 : decode cX0_goesRace 170 = .ok (.iconst 1, 1) := dk_4 (dk_at dksX0_goesRace_7 7 rfl rfl)
theorem dX0_goesRace_171 : decode cX0_goesRace 171 = .ok (.iadd, 1) := dk_96 (dk_at dksX0_goesRace_7 8 rfl rfl)
theorem dX0_goesRace_172 : decode cX0_goesRace 172 = .ok (.putfield 406, 3) := dk_181 1 150 (dk_at dksX0_goesRace_7 9 rfl rfl)
theorem dX0_goesRace_175 : decode cX0_goesRace 175 = .ok (.iload_n 2, 1) := dk_28 (dk_at dksX0_goesRace_7 12 rfl rfl)
theorem dX0_goesRace_176 : decode cX0_goesRace 176 = .ok (.iconst (-1), 1) := dk_2 (dk_at dksX0_goesRace_7 13 rfl rfl)
theorem dX0_goesRace_177 : decode cX0_goesRace 177 = .ok (.if_icmp .eq 16, 3) := dk_159 0 16 (dk_at dksX0_goesRace_7 14 rfl rfl)
theorem dX0_goesRace_180 : decode cX0_goesRace 180 = .ok (.aload_n 0, 1) := dk_42 (dk_at dksX0_goesRace_7 17 rfl rfl)
theorem dX0_goesRace_181 : decode cX0_goesRace 181 = .ok (.getfield 99, 3) := dk_180 0 99 (dk_at dksX0_goesRace_7 18 rfl rfl)
theorem dX0_goesRace_184 : decode cX0_goesRace 184 = .ok (.getfield 234, 3) := dk_180 0 234 (dk_at dksX0_goesRace_7 21 rfl rfl)
theorem dX0_goesRace_187 : decode cX0_goesRace 187 = .ok (.iload_n 2, 1) := dk_28 (dk_at dksX0_goesRace_8 0 rfl rfl)
theorem dX0_goesRace_188 : decode cX0_goesRace 188 = .ok (.dup2, 1) := dk_92 (dk_at dksX0_goesRace_8 1 rfl rfl)
theorem dX0_goesRace_189 : decode cX0_goesRace 189 = .ok (.iaload, 1) := dk_46 (dk_at dksX0_goesRace_8 2 rfl rfl)
theorem dX0_goesRace_190 : decode cX0_goesRace 190 = .ok (.iconst 1, 1) := dk_4 (dk_at dksX0_goesRace_8 3 rfl rfl)
theorem dX0_goesRace_191 : decode cX0_goesRace 191 = .ok (.iadd, 1) := dk_96 (dk_at dksX0_goesRace_8 4 rfl rfl)
theorem dX0_goesRace_192 : decode cX0_goesRace 192 = .ok (.iastore, 1) := dk_79 (dk_at dksX0_goesRace_8 5 rfl rfl)
theorem dX0_goesRace_193 : decode cX0_goesRace 193 = .ok (.iload_n 2, 1) := dk_28 (dk_at dksX0_goesRace_8 6 rfl rfl)
theorem dX0_goesRace_194 : decode cX0_goesRace 194 = .ok (.ireturn, 1) := dk_172 (dk_at dksX0_goesRace_8 7 rfl rfl)
abbrev cX0_summer : ByteArray := prog_1_method_59_code
def yX0_summer : MethodName := ⟨RX0, "summer", "(II)I"⟩
def dkwX0_summer_2 : List UInt8 := [167, 255, 242, 42, 180, 0, 99, 180, 0, 234, 28, 46, 29, 100, 172, 78, 42, 45, 182, 0, 165, 172]
abbrev dktX0_summer_2 : List UInt8 := dkwX0_summer_2 ++ []
def dkwX0_summer_1 : List UInt8 := [180, 0, 234, 28, 46, 62, 3, 54, 4, 21, 4, 27, 162, 0, 14, 42, 182, 1, 153, 87, 132, 4, 1]
abbrev dktX0_summer_1 : List UInt8 := dkwX0_summer_1 ++ dktX0_summer_2
def dkwX0_summer_0 : List UInt8 := [42, 28, 182, 0, 185, 27, 133, 10, 20, 1, 156, 184, 0, 157, 16, 250, 184, 0, 116, 42, 180, 0, 99]
abbrev dktX0_summer_0 : List UInt8 := dkwX0_summer_0 ++ dktX0_summer_1
theorem dksX0_summer_0 : cX0_summer.data.toList.drop 0 = dktX0_summer_0 := by decide +kernel
theorem dksX0_summer_1 : cX0_summer.data.toList.drop 23 = dktX0_summer_1 := dk_seg dksX0_summer_0 23 rfl rfl
theorem dksX0_summer_2 : cX0_summer.data.toList.drop 46 = dktX0_summer_2 := dk_seg dksX0_summer_1 23 rfl rfl
theorem dX0_summer_0 : decode cX0_summer 0 = .ok (.aload_n 0, 1) := dk_42 (dk_at dksX0_summer_0 0 rfl rfl)
theorem dX0_summer_1 : decode cX0_summer 1 = .ok (.iload_n 2, 1) := dk_28 (dk_at dksX0_summer_0 1 rfl rfl)
theorem dX0_summer_2 : decode cX0_summer 2 = .ok (.invokevirtual 185, 3) := dk_182 0 185 (dk_at dksX0_summer_0 2 rfl rfl)
theorem dX0_summer_5 : decode cX0_summer 5 = .ok (.iload_n 1, 1) := dk_27 (dk_at dksX0_summer_0 5 rfl rfl)
theorem dX0_summer_6 : decode cX0_summer 6 = .ok (.i2l, 1) := dk_133 (dk_at dksX0_summer_0 6 rfl rfl)
theorem dX0_summer_7 : decode cX0_summer 7 = .ok (.lconst 1, 1) := dk_10 (dk_at dksX0_summer_0 7 rfl rfl)
theorem dX0_summer_8 : decode cX0_summer 8 = .ok (.ldc2_w 412, 3) := dk_20 1 156 (dk_at dksX0_summer_0 8 rfl rfl)
theorem dX0_summer_11 : decode cX0_summer 11 = .ok (.invokestatic 157, 3) := dk_184 0 157 (dk_at dksX0_summer_0 11 rfl rfl)
theorem dX0_summer_14 : decode cX0_summer 14 = .ok (.bipush (-6), 2) := dk_16 250 (dk_at dksX0_summer_0 14 rfl rfl)
theorem dX0_summer_16 : decode cX0_summer 16 = .ok (.invokestatic 116, 3) := dk_184 0 116 (dk_at dksX0_summer_0 16 rfl rfl)
theorem dX0_summer_19 : decode cX0_summer 19 = .ok (.aload_n 0, 1) := dk_42 (dk_at dksX0_summer_0 19 rfl rfl)
theorem dX0_summer_20 : decode cX0_summer 20 = .ok (.getfield 99, 3) := dk_180 0 99 (dk_at dksX0_summer_0 20 rfl rfl)
theorem dX0_summer_23 : decode cX0_summer 23 = .ok (.getfield 234, 3) := dk_180 0 234 (dk_at dksX0_summer_1 0 rfl rfl)
theorem dX0_summer_26 : decode cX0_summer 26 = .ok (.iload_n 2, 1) := dk_28 (dk_at dksX0_summer_1 3 rfl rfl)
theorem dX0_summer_27 : decode cX0_summer 27 = .ok (.iaload, 1) := dk_46 (dk_at dksX0_summer_1 4 rfl rfl)
theorem dX0_summer_28 : decode cX0_summer 28 = .ok (.istore_n 3, 1) := dk_62 (dk_at dksX0_summer_1 5 rfl rfl)
theorem dX0_summer_29 : decode cX0_summer 29 = .ok (.iconst 0, 1) := dk_3 (dk_at dksX0_summer_1 6 rfl rfl)
theorem dX0_summer_30 : decode cX0_summer 30 = .ok (.istore 4, 2) := dk_54 4 (dk_at dksX0_summer_1 7 rfl rfl)
theorem dX0_summer_32 : decode cX0_summer 32 = .ok (.iload 4, 2) := dk_21 4 (dk_at dksX0_summer_1 9 rfl rfl)
theorem dX0_summer_34 : decode cX0_summer 34 = .ok (.iload_n 1, 1) := dk_27 (dk_at dksX0_summer_1 11 rfl rfl)
theorem dX0_summer_35 : decode cX0_summer 35 = .ok (.if_icmp .ge 14, 3) := dk_162 0 14 (dk_at dksX0_summer_1 12 rfl rfl)
theorem dX0_summer_38 : decode cX0_summer 38 = .ok (.aload_n 0, 1) := dk_42 (dk_at dksX0_summer_1 15 rfl rfl)
theorem dX0_summer_39 : decode cX0_summer 39 = .ok (.invokevirtual 409, 3) := dk_182 1 153 (dk_at dksX0_summer_1 16 rfl rfl)
theorem dX0_summer_42 : decode cX0_summer 42 = .ok (.pop, 1) := dk_87 (dk_at dksX0_summer_1 19 rfl rfl)
theorem dX0_summer_43 : decode cX0_summer 43 = .ok (.iinc 4 1, 3) := dk_132 4 1 (dk_at dksX0_summer_1 20 rfl rfl)
theorem dX0_summer_46 : decode cX0_summer 46 = .ok (.goto (-14), 3) := dk_167 255 242 (dk_at dksX0_summer_2 0 rfl rfl)
theorem dX0_summer_49 : decode cX0_summer 49 = .ok (.aload_n 0, 1) := dk_42 (dk_at dksX0_summer_2 3 rfl rfl)
theorem dX0_summer_50 : decode cX0_summer 50 = .ok (.getfield 99, 3) := dk_180 0 99 (dk_at dksX0_summer_2 4 rfl rfl)
theorem dX0_summer_53 : decode cX0_summer 53 = .ok (.getfield 234, 3) := dk_180 0 234 (dk_at dksX0_summer_2 7 rfl rfl)
theorem dX0_summer_56 : decode cX0_summer 56 = .ok (.iload_n 2, 1) := dk_28 (dk_at dksX0_summer_2 10 rfl rfl)
theorem dX0_summer_57 : decode cX0_summer 57 = .ok (.iaload, 1) := dk_46 (dk_at dksX0_summer_2 11 rfl rfl)
theorem dX0_summer_58 : decode cX0_summer 58 = .ok (.iload_n 3, 1) := dk_29 (dk_at dksX0_summer_2 12 rfl rfl)
theorem dX0_summer_59 : decode cX0_summer 59 = .ok (.isub, 1) := dk_100 (dk_at dksX0_summer_2 13 rfl rfl)
theorem dX0_summer_60 : decode cX0_summer 60 = .ok (.ireturn, 1) := dk_172 (dk_at dksX0_summer_2 14 rfl rfl)
theorem dX0_summer_61 : decode cX0_summer 61 = .ok (.astore_n 3, 1) := dk_78 (dk_at dksX0_summer_2 15 rfl rfl)
theorem dX0_summer_62 : decode cX0_summer 62 = .ok (.aload_n 0, 1) := dk_42 (dk_at dksX0_summer_2 16 rfl rfl)
theorem dX0_summer_63 : decode cX0_summer 63 = .ok (.aload_n 3, 1) := dk_45 (dk_at dksX0_summer_2 17 rfl rfl)
theorem dX0_summer_64 : decode cX0_summer 64 = .ok (.invokevirtual 165, 3) := dk_182 0 165 (dk_at dksX0_summer_2 18 rfl rfl)
theorem dX0_summer_67 : decode cX0_summer 67 = .ok (.ireturn, 1) := dk_172 (dk_at dksX0_summer_2 21 rfl rfl)
abbrev cX0_seed : ByteArray := prog_1_method_60_code
def yX0_seed : MethodName := ⟨RX0, "seed", "(I)I"⟩
def dkwX0_seed_0 : List UInt8 := [42, 180, 0, 99, 180, 1, 158, 61, 42, 180, 0, 99, 27, 181, 1, 158, 28, 172]
abbrev dktX0_seed_0 : List UInt8 := dkwX0_seed_0 ++ []
theorem dksX0_seed_0 : cX0_seed.data.toList.drop 0 = dktX0_seed_0 := by decide +kernel
theorem dX0_seed_0 : decode cX0_seed 0 = .ok (.aload_n 0, 1) := dk_42 (dk_at dksX0_seed_0 0 rfl rfl)
theorem dX0_seed_1 : decode cX0_seed 1 = .ok (.getfield 99, 3) := dk_180 0 99 (dk_at dksX0_seed_0 1 rfl rfl)
theorem dX0_seed_4 : decode cX0_seed 4 = .ok (.getfield 414, 3) := dk_180 1 158 (dk_at dksX0_seed_0 4 rfl rfl)
theorem dX0_seed_7 : decode cX0_seed 7 = .ok (.istore_n 2, 1) := dk_61 (dk_at dksX0_seed_0 7 rfl rfl)
theorem dX0_seed_8 : decode cX0_seed 8 = .ok (.aload_n 0, 1) := dk_42 (dk_at dksX0_seed_0 8 rfl rfl)
theorem dX0_seed_9 : decode cX0_seed 9 = .ok (.getfield 99, 3) := dk_180 0 99 (dk_at dksX0_seed_0 9 rfl rfl)
theorem dX0_seed_12 : decode cX0_seed 12 = .ok (.iload_n 1, 1) := dk_27 (dk_at dksX0_seed_0 12 rfl rfl)
theorem dX0_seed_13 : decode cX0_seed 13 = .ok (.putfield 414, 3) := dk_181 1 158 (dk_at dksX0_seed_0 13 rfl rfl)
theorem dX0_seed_16 : decode cX0_seed 16 = .ok (.iload_n 2, 1) := dk_28 (dk_at dksX0_seed_0 16 rfl rfl)
theorem dX0_seed_17 : decode cX0_seed 17 = .ok (.ireturn, 1) := dk_172 (dk_at dksX0_seed_0 17 rfl rfl)
abbrev cX0_act : ByteArray := prog_1_method_61_code
def yX0_act : MethodName := ⟨RX0, "act", "(III)I"⟩
def dkwX0_act_4 : List UInt8 := [29, 42, 180, 0, 70, 182, 1, 169, 172, 3, 172]
abbrev dktX0_act_4 : List UInt8 := dkwX0_act_4 ++ []
def dkwX0_act_3 : List UInt8 := [25, 4, 29, 42, 180, 0, 70, 182, 1, 162, 172, 25, 4, 29, 42, 180, 0, 70, 182, 1, 166, 172, 25, 4]
abbrev dktX0_act_3 : List UInt8 := dkwX0_act_3 ++ dktX0_act_4
def dkwX0_act_2 : List UInt8 := [170, 0, 0, 0, 0, 0, 60, 0, 0, 0, 0, 0, 0, 0, 2, 0, 0, 0, 27, 0, 0, 0, 38, 0, 0, 0, 49]
abbrev dktX0_act_2 : List UInt8 := dkwX0_act_2 ++ dktX0_act_3
def dkwX0_act_1 : List UInt8 := [180, 0, 99, 180, 0, 133, 27, 50, 58, 4, 28]
abbrev dktX0_act_1 : List UInt8 := dkwX0_act_1 ++ dktX0_act_2
def dkwX0_act_0 : List UInt8 := [42, 180, 0, 70, 3, 181, 1, 161, 42, 180, 0, 99, 27, 182, 0, 112, 154, 0, 5, 3, 172, 42]
abbrev dktX0_act_0 : List UInt8 := dkwX0_act_0 ++ dktX0_act_1
theorem dksX0_act_0 : cX0_act.data.toList.drop 0 = dktX0_act_0 := by decide +kernel
theorem dksX0_act_1 : cX0_act.data.toList.drop 22 = dktX0_act_1 := dk_seg dksX0_act_0 22 rfl rfl
theorem dksX0_act_2 : cX0_act.data.toList.drop 33 = dktX0_act_2 := dk_seg dksX0_act_1 11 rfl rfl
theorem dksX0_act_3 : cX0_act.data.toList.drop 60 = dktX0_act_3 := dk_seg dksX0_act_2 27 rfl rfl
theorem dksX0_act_4 : cX0_act.data.toList.drop 84 = dktX0_act_4 := dk_seg dksX0_act_3 24 rfl rfl
theorem dX0_act_0 : decode cX0_act 0 = .ok (.aload_n 0, 1) := dk_42 (dk_at dksX0_act_0 0 rfl rfl)
theorem dX0_act_1 : decode cX0_act 1 = .ok (.getfield 70, 3) := dk_180 0 70 (dk_at dksX0_act_0 1 rfl rfl)
theorem dX0_act_4 : decode cX0_act 4 = .ok (.iconst 0, 1) := dk_3 (dk_at dksX0_act_0 4 rfl rfl)
theorem dX0_act_5 : decode cX0_act 5 = .ok (.putfield 417, 3) := dk_181 1 161 (dk_at dksX0_act_0 5 rfl rfl)
theorem dX0_act_8 : decode cX0_act 8 = .ok (.aload_n 0, 1) := dk_42 (dk_at dksX0_act_0 8 rfl rfl)
theorem dX0_act_9 : decode cX0_act 9 = .ok (.getfield 99, 3) := dk_180 0 99 (dk_at dksX0_act_0 9 rfl rfl)
theorem dX0_act_12 : decode cX0_act 12 = .ok (.iload_n 1, 1) := dk_27 (dk_at dksX0_act_0 12 rfl rfl)
theorem dX0_act_13 : decode cX0_act 13 = .ok (.invokevirtual 112, 3) := dk_182 0 112 (dk_at dksX0_act_0 13 rfl rfl)
theorem dX0_act_16 : decode cX0_act 16 = .ok (.ifCond .ne 5, 3) := dk_154 0 5 (dk_at dksX0_act_0 16 rfl rfl)
theorem dX0_act_19 : decode cX0_act 19 = .ok (.iconst 0, 1) := dk_3 (dk_at dksX0_act_0 19 rfl rfl)
theorem dX0_act_20 : decode cX0_act 20 = .ok (.ireturn, 1) := dk_172 (dk_at dksX0_act_0 20 rfl rfl)
theorem dX0_act_21 : decode cX0_act 21 = .ok (.aload_n 0, 1) := dk_42 (dk_at dksX0_act_0 21 rfl rfl)
theorem dX0_act_22 : decode cX0_act 22 = .ok (.getfield 99, 3) := dk_180 0 99 (dk_at dksX0_act_1 0 rfl rfl)
theorem dX0_act_25 : decode cX0_act 25 = .ok (.getfield 133, 3) := dk_180 0 133 (dk_at dksX0_act_1 3 rfl rfl)
theorem dX0_act_28 : decode cX0_act 28 = .ok (.iload_n 1, 1) := dk_27 (dk_at dksX0_act_1 6 rfl rfl)
theorem dX0_act_29 : decode cX0_act 29 = .ok (.aaload, 1) := dk_50 (dk_at dksX0_act_1 7 rfl rfl)
theorem dX0_act_30 : decode cX0_act 30 = .ok (.astore 4, 2) := dk_58 4 (dk_at dksX0_act_1 8 rfl rfl)
theorem dX0_act_32 : decode cX0_act 32 = .ok (.iload_n 2, 1) := dk_28 (dk_at dksX0_act_1 10 rfl rfl)
theorem dX0_act_33 : decode cX0_act 33 = .ok (.tableswitch 60 0 2 #[27, 38, 49], 27) := by decide +kernel
theorem dX0_act_60 : decode cX0_act 60 = .ok (.aload 4, 2) := dk_25 4 (dk_at dksX0_act_3 0 rfl rfl)
theorem dX0_act_62 : decode cX0_act 62 = .ok (.iload_n 3, 1) := dk_29 (dk_at dksX0_act_3 2 rfl rfl)
theorem dX0_act_63 : decode cX0_act 63 = .ok (.aload_n 0, 1) := dk_42 (dk_at dksX0_act_3 3 rfl rfl)
theorem dX0_act_64 : decode cX0_act 64 = .ok (.getfield 70, 3) := dk_180 0 70 (dk_at dksX0_act_3 4 rfl rfl)
theorem dX0_act_67 : decode cX0_act 67 = .ok (.invokevirtual 418, 3) := dk_182 1 162 (dk_at dksX0_act_3 7 rfl rfl)
theorem dX0_act_70 : decode cX0_act 70 = .ok (.ireturn, 1) := dk_172 (dk_at dksX0_act_3 10 rfl rfl)
theorem dX0_act_71 : decode cX0_act 71 = .ok (.aload 4, 2) := dk_25 4 (dk_at dksX0_act_3 11 rfl rfl)
theorem dX0_act_73 : decode cX0_act 73 = .ok (.iload_n 3, 1) := dk_29 (dk_at dksX0_act_3 13 rfl rfl)
theorem dX0_act_74 : decode cX0_act 74 = .ok (.aload_n 0, 1) := dk_42 (dk_at dksX0_act_3 14 rfl rfl)
theorem dX0_act_75 : decode cX0_act 75 = .ok (.getfield 70, 3) := dk_180 0 70 (dk_at dksX0_act_3 15 rfl rfl)
theorem dX0_act_78 : decode cX0_act 78 = .ok (.invokevirtual 422, 3) := dk_182 1 166 (dk_at dksX0_act_3 18 rfl rfl)
theorem dX0_act_81 : decode cX0_act 81 = .ok (.ireturn, 1) := dk_172 (dk_at dksX0_act_3 21 rfl rfl)
theorem dX0_act_82 : decode cX0_act 82 = .ok (.aload 4, 2) := dk_25 4 (dk_at dksX0_act_3 22 rfl rfl)
theorem dX0_act_84 : decode cX0_act 84 = .ok (.iload_n 3, 1) := dk_29 (dk_at dksX0_act_4 0 rfl rfl)
theorem dX0_act_85 : decode cX0_act 85 = .ok (.aload_n 0, 1) := dk_42 (dk_at dksX0_act_4 1 rfl rfl)
theorem dX0_act_86 : decode cX0_act 86 = .ok (.getfield 70, 3) := dk_180 0 70 (dk_at dksX0_act_4 2 rfl rfl)
theorem dX0_act_89 : decode cX0_act 89 = .ok (.invokevirtual 425, 3) := dk_182 1 169 (dk_at dksX0_act_4 5 rfl rfl)
theorem dX0_act_92 : decode cX0_act 92 = .ok (.ireturn, 1) := dk_172 (dk_at dksX0_act_4 8 rfl rfl)
theorem dX0_act_93 : decode cX0_act 93 = .ok (.iconst 0, 1) := dk_3 (dk_at dksX0_act_4 9 rfl rfl)
theorem dX0_act_94 : decode cX0_act 94 = .ok (.ireturn, 1) := dk_172 (dk_at dksX0_act_4 10 rfl rfl)
abbrev cX0_trace : ByteArray := prog_1_method_62_code
def yX0_trace : MethodName := ⟨RX0, "trace", "(I)I"⟩
def dkwX0_trace_1 : List UInt8 := [42, 180, 0, 70, 180, 1, 172, 27, 46, 167, 0, 4, 2, 172]
abbrev dktX0_trace_1 : List UInt8 := dkwX0_trace_1 ++ []
def dkwX0_trace_0 : List UInt8 := [27, 133, 9, 42, 180, 0, 70, 180, 1, 161, 16, 20, 184, 1, 145, 4, 100, 133, 184, 0, 157, 153, 0, 15]
abbrev dktX0_trace_0 : List UInt8 := dkwX0_trace_0 ++ dktX0_trace_1
theorem dksX0_trace_0 : cX0_trace.data.toList.drop 0 = dktX0_trace_0 := by decide +kernel
theorem dksX0_trace_1 : cX0_trace.data.toList.drop 24 = dktX0_trace_1 := dk_seg dksX0_trace_0 24 rfl rfl
theorem dX0_trace_0 : decode cX0_trace 0 = .ok (.iload_n 1, 1) := dk_27 (dk_at dksX0_trace_0 0 rfl rfl)
theorem dX0_trace_1 : decode cX0_trace 1 = .ok (.i2l, 1) := dk_133 (dk_at dksX0_trace_0 1 rfl rfl)
theorem dX0_trace_2 : decode cX0_trace 2 = .ok (.lconst 0, 1) := dk_9 (dk_at dksX0_trace_0 2 rfl rfl)
theorem dX0_trace_3 : decode cX0_trace 3 = .ok (.aload_n 0, 1) := dk_42 (dk_at dksX0_trace_0 3 rfl rfl)
theorem dX0_trace_4 : decode cX0_trace 4 = .ok (.getfield 70, 3) := dk_180 0 70 (dk_at dksX0_trace_0 4 rfl rfl)
theorem dX0_trace_7 : decode cX0_trace 7 = .ok (.getfield 417, 3) := dk_180 1 161 (dk_at dksX0_trace_0 7 rfl rfl)
theorem dX0_trace_10 : decode cX0_trace 10 = .ok (.bipush 20, 2) := dk_16 20 (dk_at dksX0_trace_0 10 rfl rfl)
theorem dX0_trace_12 : decode cX0_trace 12 = .ok (.invokestatic 401, 3) := dk_184 1 145 (dk_at dksX0_trace_0 12 rfl rfl)
theorem dX0_trace_15 : decode cX0_trace 15 = .ok (.iconst 1, 1) := dk_4 (dk_at dksX0_trace_0 15 rfl rfl)
theorem dX0_trace_16 : decode cX0_trace 16 = .ok (.isub, 1) := dk_100 (dk_at dksX0_trace_0 16 rfl rfl)
theorem dX0_trace_17 : decode cX0_trace 17 = .ok (.i2l, 1) := dk_133 (dk_at dksX0_trace_0 17 rfl rfl)
theorem dX0_trace_18 : decode cX0_trace 18 = .ok (.invokestatic 157, 3) := dk_184 0 157 (dk_at dksX0_trace_0 18 rfl rfl)
theorem dX0_trace_21 : decode cX0_trace 21 = .ok (.ifCond .eq 15, 3) := dk_153 0 15 (dk_at dksX0_trace_0 21 rfl rfl)
theorem dX0_trace_24 : decode cX0_trace 24 = .ok (.aload_n 0, 1) := dk_42 (dk_at dksX0_trace_1 0 rfl rfl)
theorem dX0_trace_25 : decode cX0_trace 25 = .ok (.getfield 70, 3) := dk_180 0 70 (dk_at dksX0_trace_1 1 rfl rfl)
theorem dX0_trace_28 : decode cX0_trace 28 = .ok (.getfield 428, 3) := dk_180 1 172 (dk_at dksX0_trace_1 4 rfl rfl)
theorem dX0_trace_31 : decode cX0_trace 31 = .ok (.iload_n 1, 1) := dk_27 (dk_at dksX0_trace_1 7 rfl rfl)
theorem dX0_trace_32 : decode cX0_trace 32 = .ok (.iaload, 1) := dk_46 (dk_at dksX0_trace_1 8 rfl rfl)
theorem dX0_trace_33 : decode cX0_trace 33 = .ok (.goto 4, 3) := dk_167 0 4 (dk_at dksX0_trace_1 9 rfl rfl)
theorem dX0_trace_36 : decode cX0_trace 36 = .ok (.iconst (-1), 1) := dk_2 (dk_at dksX0_trace_1 12 rfl rfl)
theorem dX0_trace_37 : decode cX0_trace 37 = .ok (.ireturn, 1) := dk_172 (dk_at dksX0_trace_1 13 rfl rfl)
abbrev cX0_image : ByteArray := prog_1_method_63_code
def yX0_image : MethodName := ⟨RX0, "image", "()I"⟩
def dkwX0_image_1 : List UInt8 := [180, 0, 120, 172]
abbrev dktX0_image_1 : List UInt8 := dkwX0_image_1 ++ []
def dkwX0_image_0 : List UInt8 := [42, 187, 0, 92, 89, 183, 0, 94, 42, 180, 0, 99, 182, 1, 8, 181, 1, 175, 42, 180, 0, 99]
abbrev dktX0_image_0 : List UInt8 := dkwX0_image_0 ++ dktX0_image_1
theorem dksX0_image_0 : cX0_image.data.toList.drop 0 = dktX0_image_0 := by decide +kernel
theorem dksX0_image_1 : cX0_image.data.toList.drop 22 = dktX0_image_1 := dk_seg dksX0_image_0 22 rfl rfl
theorem dX0_image_0 : decode cX0_image 0 = .ok (.aload_n 0, 1) := dk_42 (dk_at dksX0_image_0 0 rfl rfl)
theorem dX0_image_1 : decode cX0_image 1 = .ok (.new 92, 3) := dk_187 0 92 (dk_at dksX0_image_0 1 rfl rfl)
theorem dX0_image_4 : decode cX0_image 4 = .ok (.dup, 1) := dk_89 (dk_at dksX0_image_0 4 rfl rfl)
theorem dX0_image_5 : decode cX0_image 5 = .ok (.invokespecial 94, 3) := dk_183 0 94 (dk_at dksX0_image_0 5 rfl rfl)
theorem dX0_image_8 : decode cX0_image 8 = .ok (.aload_n 0, 1) := dk_42 (dk_at dksX0_image_0 8 rfl rfl)
theorem dX0_image_9 : decode cX0_image 9 = .ok (.getfield 99, 3) := dk_180 0 99 (dk_at dksX0_image_0 9 rfl rfl)
theorem dX0_image_12 : decode cX0_image 12 = .ok (.invokevirtual 264, 3) := dk_182 1 8 (dk_at dksX0_image_0 12 rfl rfl)
theorem dX0_image_15 : decode cX0_image 15 = .ok (.putfield 431, 3) := dk_181 1 175 (dk_at dksX0_image_0 15 rfl rfl)
theorem dX0_image_18 : decode cX0_image 18 = .ok (.aload_n 0, 1) := dk_42 (dk_at dksX0_image_0 18 rfl rfl)
theorem dX0_image_19 : decode cX0_image 19 = .ok (.getfield 99, 3) := dk_180 0 99 (dk_at dksX0_image_0 19 rfl rfl)
theorem dX0_image_22 : decode cX0_image 22 = .ok (.getfield 120, 3) := dk_180 0 120 (dk_at dksX0_image_1 0 rfl rfl)
theorem dX0_image_25 : decode cX0_image 25 = .ok (.ireturn, 1) := dk_172 (dk_at dksX0_image_1 3 rfl rfl)
abbrev cX0_restore : ByteArray := prog_1_method_64_code
def yX0_restore : MethodName := ⟨RX0, "restore", "()I"⟩
def dkwX0_restore_2 : List UInt8 := [172, 76, 42, 43, 182, 0, 165, 172]
abbrev dktX0_restore_2 : List UInt8 := dkwX0_restore_2 ++ []
def dkwX0_restore_1 : List UInt8 := [183, 0, 94, 42, 180, 1, 175, 182, 1, 8, 181, 0, 99, 42, 182, 1, 178, 42, 180, 0, 99, 180, 0, 120]
abbrev dktX0_restore_1 : List UInt8 := dkwX0_restore_1 ++ dktX0_restore_2
def dkwX0_restore_0 : List UInt8 := [42, 180, 1, 175, 198, 0, 7, 4, 167, 0, 4, 3, 16, 250, 184, 0, 116, 42, 187, 0, 92, 89]
abbrev dktX0_restore_0 : List UInt8 := dkwX0_restore_0 ++ dktX0_restore_1
theorem dksX0_restore_0 : cX0_restore.data.toList.drop 0 = dktX0_restore_0 := by decide +kernel
theorem dksX0_restore_1 : cX0_restore.data.toList.drop 22 = dktX0_restore_1 := dk_seg dksX0_restore_0 22 rfl rfl
theorem dksX0_restore_2 : cX0_restore.data.toList.drop 46 = dktX0_restore_2 := dk_seg dksX0_restore_1 24 rfl rfl
theorem dX0_restore_0 : decode cX0_restore 0 = .ok (.aload_n 0, 1) := dk_42 (dk_at dksX0_restore_0 0 rfl rfl)
theorem dX0_restore_1 : decode cX0_restore 1 = .ok (.getfield 431, 3) := dk_180 1 175 (dk_at dksX0_restore_0 1 rfl rfl)
theorem dX0_restore_4 : decode cX0_restore 4 = .ok (.ifnull 7, 3) := dk_198 0 7 (dk_at dksX0_restore_0 4 rfl rfl)
theorem dX0_restore_7 : decode cX0_restore 7 = .ok (.iconst 1, 1) := dk_4 (dk_at dksX0_restore_0 7 rfl rfl)
theorem dX0_restore_8 : decode cX0_restore 8 = .ok (.goto 4, 3) := dk_167 0 4 (dk_at dksX0_restore_0 8 rfl rfl)
theorem dX0_restore_11 : decode cX0_restore 11 = .ok (.iconst 0, 1) := dk_3 (dk_at dksX0_restore_0 11 rfl rfl)
theorem dX0_restore_12 : decode cX0_restore 12 = .ok (.bipush (-6), 2) := dk_16 250 (dk_at dksX0_restore_0 12 rfl rfl)
theorem dX0_restore_14 : decode cX0_restore 14 = .ok (.invokestatic 116, 3) := dk_184 0 116 (dk_at dksX0_restore_0 14 rfl rfl)
theorem dX0_restore_17 : decode cX0_restore 17 = .ok (.aload_n 0, 1) := dk_42 (dk_at dksX0_restore_0 17 rfl rfl)
theorem dX0_restore_18 : decode cX0_restore 18 = .ok (.new 92, 3) := dk_187 0 92 (dk_at dksX0_restore_0 18 rfl rfl)
theorem dX0_restore_21 : decode cX0_restore 21 = .ok (.dup, 1) := dk_89 (dk_at dksX0_restore_0 21 rfl rfl)
theorem dX0_restore_22 : decode cX0_restore 22 = .ok (.invokespecial 94, 3) := dk_183 0 94 (dk_at dksX0_restore_1 0 rfl rfl)
theorem dX0_restore_25 : decode cX0_restore 25 = .ok (.aload_n 0, 1) := dk_42 (dk_at dksX0_restore_1 3 rfl rfl)
theorem dX0_restore_26 : decode cX0_restore 26 = .ok (.getfield 431, 3) := dk_180 1 175 (dk_at dksX0_restore_1 4 rfl rfl)
theorem dX0_restore_29 : decode cX0_restore 29 = .ok (.invokevirtual 264, 3) := dk_182 1 8 (dk_at dksX0_restore_1 7 rfl rfl)
theorem dX0_restore_32 : decode cX0_restore 32 = .ok (.putfield 99, 3) := dk_181 0 99 (dk_at dksX0_restore_1 10 rfl rfl)
theorem dX0_restore_35 : decode cX0_restore 35 = .ok (.aload_n 0, 1) := dk_42 (dk_at dksX0_restore_1 13 rfl rfl)
theorem dX0_restore_36 : decode cX0_restore 36 = .ok (.invokevirtual 434, 3) := dk_182 1 178 (dk_at dksX0_restore_1 14 rfl rfl)
theorem dX0_restore_39 : decode cX0_restore 39 = .ok (.aload_n 0, 1) := dk_42 (dk_at dksX0_restore_1 17 rfl rfl)
theorem dX0_restore_40 : decode cX0_restore 40 = .ok (.getfield 99, 3) := dk_180 0 99 (dk_at dksX0_restore_1 18 rfl rfl)
theorem dX0_restore_43 : decode cX0_restore 43 = .ok (.getfield 120, 3) := dk_180 0 120 (dk_at dksX0_restore_1 21 rfl rfl)
theorem dX0_restore_46 : decode cX0_restore 46 = .ok (.ireturn, 1) := dk_172 (dk_at dksX0_restore_2 0 rfl rfl)
theorem dX0_restore_47 : decode cX0_restore 47 = .ok (.astore_n 1, 1) := dk_76 (dk_at dksX0_restore_2 1 rfl rfl)
theorem dX0_restore_48 : decode cX0_restore 48 = .ok (.aload_n 0, 1) := dk_42 (dk_at dksX0_restore_2 2 rfl rfl)
theorem dX0_restore_49 : decode cX0_restore 49 = .ok (.aload_n 1, 1) := dk_43 (dk_at dksX0_restore_2 3 rfl rfl)
theorem dX0_restore_50 : decode cX0_restore 50 = .ok (.invokevirtual 165, 3) := dk_182 0 165 (dk_at dksX0_restore_2 4 rfl rfl)
theorem dX0_restore_53 : decode cX0_restore 53 = .ok (.ireturn, 1) := dk_172 (dk_at dksX0_restore_2 7 rfl rfl)
abbrev cX0_shelvesFollow : ByteArray := prog_1_method_11_code
def yX0_shelvesFollow : MethodName := ⟨RX0, "shelvesFollow", "()V"⟩
def dkwX0_shelvesFollow_3 : List UInt8 := [1, 181, 0, 127, 132, 3, 1, 167, 255, 191, 177]
abbrev dktX0_shelvesFollow_3 : List UInt8 := dkwX0_shelvesFollow_3 ++ []
def dkwX0_shelvesFollow_2 : List UInt8 := [180, 0, 99, 21, 5, 182, 0, 112, 153, 0, 16, 42, 180, 0, 99, 180, 0, 133, 21, 5, 50, 167, 0, 4]
abbrev dktX0_shelvesFollow_2 : List UInt8 := dkwX0_shelvesFollow_2 ++ dktX0_shelvesFollow_3
def dkwX0_shelvesFollow_1 : List UInt8 := [182, 0, 123, 153, 0, 47, 25, 4, 180, 0, 127, 192, 0, 47, 180, 0, 130, 54, 5, 25, 4, 42]
abbrev dktX0_shelvesFollow_1 : List UInt8 := dkwX0_shelvesFollow_1 ++ dktX0_shelvesFollow_2
def dkwX0_shelvesFollow_0 : List UInt8 := [42, 180, 0, 59, 76, 43, 190, 61, 3, 62, 29, 28, 162, 0, 66, 43, 29, 50, 58, 4, 25, 4]
abbrev dktX0_shelvesFollow_0 : List UInt8 := dkwX0_shelvesFollow_0 ++ dktX0_shelvesFollow_1
theorem dksX0_shelvesFollow_0 : cX0_shelvesFollow.data.toList.drop 0 = dktX0_shelvesFollow_0 := by decide +kernel
theorem dksX0_shelvesFollow_1 : cX0_shelvesFollow.data.toList.drop 22 = dktX0_shelvesFollow_1 := dk_seg dksX0_shelvesFollow_0 22 rfl rfl
theorem dksX0_shelvesFollow_2 : cX0_shelvesFollow.data.toList.drop 44 = dktX0_shelvesFollow_2 := dk_seg dksX0_shelvesFollow_1 22 rfl rfl
theorem dksX0_shelvesFollow_3 : cX0_shelvesFollow.data.toList.drop 68 = dktX0_shelvesFollow_3 := dk_seg dksX0_shelvesFollow_2 24 rfl rfl
theorem dX0_shelvesFollow_0 : decode cX0_shelvesFollow 0 = .ok (.aload_n 0, 1) := dk_42 (dk_at dksX0_shelvesFollow_0 0 rfl rfl)
theorem dX0_shelvesFollow_1 : decode cX0_shelvesFollow 1 = .ok (.getfield 59, 3) := dk_180 0 59 (dk_at dksX0_shelvesFollow_0 1 rfl rfl)
theorem dX0_shelvesFollow_4 : decode cX0_shelvesFollow 4 = .ok (.astore_n 1, 1) := dk_76 (dk_at dksX0_shelvesFollow_0 4 rfl rfl)
theorem dX0_shelvesFollow_5 : decode cX0_shelvesFollow 5 = .ok (.aload_n 1, 1) := dk_43 (dk_at dksX0_shelvesFollow_0 5 rfl rfl)
theorem dX0_shelvesFollow_6 : decode cX0_shelvesFollow 6 = .ok (.arraylength, 1) := dk_190 (dk_at dksX0_shelvesFollow_0 6 rfl rfl)
theorem dX0_shelvesFollow_7 : decode cX0_shelvesFollow 7 = .ok (.istore_n 2, 1) := dk_61 (dk_at dksX0_shelvesFollow_0 7 rfl rfl)
theorem dX0_shelvesFollow_8 : decode cX0_shelvesFollow 8 = .ok (.iconst 0, 1) := dk_3 (dk_at dksX0_shelvesFollow_0 8 rfl rfl)
theorem dX0_shelvesFollow_9 : decode cX0_shelvesFollow 9 = .ok (.istore_n 3, 1) := dk_62 (dk_at dksX0_shelvesFollow_0 9 rfl rfl)
theorem dX0_shelvesFollow_10 : decode cX0_shelvesFollow 10 = .ok (.iload_n 3, 1) := dk_29 (dk_at dksX0_shelvesFollow_0 10 rfl rfl)
theorem dX0_shelvesFollow_11 : decode cX0_shelvesFollow 11 = .ok (.iload_n 2, 1) := dk_28 (dk_at dksX0_shelvesFollow_0 11 rfl rfl)
theorem dX0_shelvesFollow_12 : decode cX0_shelvesFollow 12 = .ok (.if_icmp .ge 66, 3) := dk_162 0 66 (dk_at dksX0_shelvesFollow_0 12 rfl rfl)
theorem dX0_shelvesFollow_15 : decode cX0_shelvesFollow 15 = .ok (.aload_n 1, 1) := dk_43 (dk_at dksX0_shelvesFollow_0 15 rfl rfl)
theorem dX0_shelvesFollow_16 : decode cX0_shelvesFollow 16 = .ok (.iload_n 3, 1) := dk_29 (dk_at dksX0_shelvesFollow_0 16 rfl rfl)
theorem dX0_shelvesFollow_17 : decode cX0_shelvesFollow 17 = .ok (.aaload, 1) := dk_50 (dk_at dksX0_shelvesFollow_0 17 rfl rfl)
theorem dX0_shelvesFollow_18 : decode cX0_shelvesFollow 18 = .ok (.astore 4, 2) := dk_58 4 (dk_at dksX0_shelvesFollow_0 18 rfl rfl)
theorem dX0_shelvesFollow_20 : decode cX0_shelvesFollow 20 = .ok (.aload 4, 2) := dk_25 4 (dk_at dksX0_shelvesFollow_0 20 rfl rfl)
theorem dX0_shelvesFollow_22 : decode cX0_shelvesFollow 22 = .ok (.invokevirtual 123, 3) := dk_182 0 123 (dk_at dksX0_shelvesFollow_1 0 rfl rfl)
theorem dX0_shelvesFollow_25 : decode cX0_shelvesFollow 25 = .ok (.ifCond .eq 47, 3) := dk_153 0 47 (dk_at dksX0_shelvesFollow_1 3 rfl rfl)
theorem dX0_shelvesFollow_28 : decode cX0_shelvesFollow 28 = .ok (.aload 4, 2) := dk_25 4 (dk_at dksX0_shelvesFollow_1 6 rfl rfl)
theorem dX0_shelvesFollow_30 : decode cX0_shelvesFollow 30 = .ok (.getfield 127, 3) := dk_180 0 127 (dk_at dksX0_shelvesFollow_1 8 rfl rfl)
theorem dX0_shelvesFollow_33 : decode cX0_shelvesFollow 33 = .ok (.checkcast 47, 3) := dk_192 0 47 (dk_at dksX0_shelvesFollow_1 11 rfl rfl)
theorem dX0_shelvesFollow_36 : decode cX0_shelvesFollow 36 = .ok (.getfield 130, 3) := dk_180 0 130 (dk_at dksX0_shelvesFollow_1 14 rfl rfl)
theorem dX0_shelvesFollow_39 : decode cX0_shelvesFollow 39 = .ok (.istore 5, 2) := dk_54 5 (dk_at dksX0_shelvesFollow_1 17 rfl rfl)
theorem dX0_shelvesFollow_41 : decode cX0_shelvesFollow 41 = .ok (.aload 4, 2) := dk_25 4 (dk_at dksX0_shelvesFollow_1 19 rfl rfl)
theorem dX0_shelvesFollow_43 : decode cX0_shelvesFollow 43 = .ok (.aload_n 0, 1) := dk_42 (dk_at dksX0_shelvesFollow_1 21 rfl rfl)
theorem dX0_shelvesFollow_44 : decode cX0_shelvesFollow 44 = .ok (.getfield 99, 3) := dk_180 0 99 (dk_at dksX0_shelvesFollow_2 0 rfl rfl)
theorem dX0_shelvesFollow_47 : decode cX0_shelvesFollow 47 = .ok (.iload 5, 2) := dk_21 5 (dk_at dksX0_shelvesFollow_2 3 rfl rfl)
theorem dX0_shelvesFollow_49 : decode cX0_shelvesFollow 49 = .ok (.invokevirtual 112, 3) := dk_182 0 112 (dk_at dksX0_shelvesFollow_2 5 rfl rfl)
theorem dX0_shelvesFollow_52 : decode cX0_shelvesFollow 52 = .ok (.ifCond .eq 16, 3) := dk_153 0 16 (dk_at dksX0_shelvesFollow_2 8 rfl rfl)
theorem dX0_shelvesFollow_55 : decode cX0_shelvesFollow 55 = .ok (.aload_n 0, 1) := dk_42 (dk_at dksX0_shelvesFollow_2 11 rfl rfl)
theorem dX0_shelvesFollow_56 : decode cX0_shelvesFollow 56 = .ok (.getfield 99, 3) := dk_180 0 99 (dk_at dksX0_shelvesFollow_2 12 rfl rfl)
theorem dX0_shelvesFollow_59 : decode cX0_shelvesFollow 59 = .ok (.getfield 133, 3) := dk_180 0 133 (dk_at dksX0_shelvesFollow_2 15 rfl rfl)
theorem dX0_shelvesFollow_62 : decode cX0_shelvesFollow 62 = .ok (.iload 5, 2) := dk_21 5 (dk_at dksX0_shelvesFollow_2 18 rfl rfl)
theorem dX0_shelvesFollow_64 : decode cX0_shelvesFollow 64 = .ok (.aaload, 1) := dk_50 (dk_at dksX0_shelvesFollow_2 20 rfl rfl)
theorem dX0_shelvesFollow_65 : decode cX0_shelvesFollow 65 = .ok (.goto 4, 3) := dk_167 0 4 (dk_at dksX0_shelvesFollow_2 21 rfl rfl)
theorem dX0_shelvesFollow_68 : decode cX0_shelvesFollow 68 = .ok (.aconst_null, 1) := dk_1 (dk_at dksX0_shelvesFollow_3 0 rfl rfl)
theorem dX0_shelvesFollow_69 : decode cX0_shelvesFollow 69 = .ok (.putfield 127, 3) := dk_181 0 127 (dk_at dksX0_shelvesFollow_3 1 rfl rfl)
theorem dX0_shelvesFollow_72 : decode cX0_shelvesFollow 72 = .ok (.iinc 3 1, 3) := dk_132 3 1 (dk_at dksX0_shelvesFollow_3 4 rfl rfl)
theorem dX0_shelvesFollow_75 : decode cX0_shelvesFollow 75 = .ok (.goto (-65), 3) := dk_167 255 191 (dk_at dksX0_shelvesFollow_3 7 rfl rfl)
theorem dX0_shelvesFollow_78 : decode cX0_shelvesFollow 78 = .ok (.return_, 1) := dk_177 (dk_at dksX0_shelvesFollow_3 10 rfl rfl)
abbrev cX0_status : ByteArray := prog_1_method_65_code
def yX0_status : MethodName := ⟨RX0, "status", "(I)I"⟩
def dkwX0_status_6 : List UInt8 := [180, 0, 63, 27, 16, 10, 100, 46, 167, 0, 4, 2, 172]
abbrev dktX0_status_6 : List UInt8 := dkwX0_status_6 ++ []
def dkwX0_status_5 : List UInt8 := [172, 42, 180, 0, 70, 180, 1, 161, 172, 27, 133, 20, 1, 181, 20, 1, 183, 184, 0, 157, 153, 0, 15, 42]
abbrev dktX0_status_5 : List UInt8 := dkwX0_status_5 ++ dktX0_status_6
def dkwX0_status_4 : List UInt8 := [153, 0, 7, 4, 167, 0, 4, 3, 172, 42, 180, 0, 99, 180, 1, 150, 172, 42, 180, 0, 99, 180, 1, 158]
abbrev dktX0_status_4 : List UInt8 := dkwX0_status_4 ++ dktX0_status_5
def dkwX0_status_3 : List UInt8 := [42, 180, 0, 99, 180, 0, 120, 172, 42, 180, 0, 99, 180, 0, 200, 172, 42, 180, 0, 99, 180, 1, 4]
abbrev dktX0_status_3 : List UInt8 := dkwX0_status_3 ++ dktX0_status_4
def dkwX0_status_2 : List UInt8 := [170, 0, 0, 0, 109, 0, 0, 0, 0, 0, 0, 0, 9, 0, 0, 0, 53, 0, 0, 0, 61, 0, 0, 0, 109, 0, 0, 0, 109, 0, 0, 0, 109, 0, 0, 0, 109, 0, 0, 0, 69, 0, 0, 0, 85, 0, 0, 0, 93, 0, 0, 0, 101]
abbrev dktX0_status_2 : List UInt8 := dkwX0_status_2 ++ dktX0_status_3
def dkwX0_status_1 : List UInt8 := [46, 172, 27]
abbrev dktX0_status_1 : List UInt8 := dkwX0_status_1 ++ dktX0_status_2
def dkwX0_status_0 : List UInt8 := [27, 133, 20, 1, 92, 20, 1, 94, 184, 0, 157, 153, 0, 15, 42, 180, 0, 99, 180, 1, 1, 27, 5, 100]
abbrev dktX0_status_0 : List UInt8 := dkwX0_status_0 ++ dktX0_status_1
theorem dksX0_status_0 : cX0_status.data.toList.drop 0 = dktX0_status_0 := by decide +kernel
theorem dksX0_status_1 : cX0_status.data.toList.drop 24 = dktX0_status_1 := dk_seg dksX0_status_0 24 rfl rfl
theorem dksX0_status_2 : cX0_status.data.toList.drop 27 = dktX0_status_2 := dk_seg dksX0_status_1 3 rfl rfl
theorem dksX0_status_3 : cX0_status.data.toList.drop 80 = dktX0_status_3 := dk_seg dksX0_status_2 53 rfl rfl
theorem dksX0_status_4 : cX0_status.data.toList.drop 103 = dktX0_status_4 := dk_seg dksX0_status_3 23 rfl rfl
theorem dksX0_status_5 : cX0_status.data.toList.drop 127 = dktX0_status_5 := dk_seg dksX0_status_4 24 rfl rfl
theorem dksX0_status_6 : cX0_status.data.toList.drop 151 = dktX0_status_6 := dk_seg dksX0_status_5 24 rfl rfl
theorem dX0_status_0 : decode cX0_status 0 = .ok (.iload_n 1, 1) := dk_27 (dk_at dksX0_status_0 0 rfl rfl)
theorem dX0_status_1 : decode cX0_status 1 = .ok (.i2l, 1) := dk_133 (dk_at dksX0_status_0 1 rfl rfl)
theorem dX0_status_2 : decode cX0_status 2 = .ok (.ldc2_w 348, 3) := dk_20 1 92 (dk_at dksX0_status_0 2 rfl rfl)
theorem dX0_status_5 : decode cX0_status 5 = .ok (.ldc2_w 350, 3) := dk_20 1 94 (dk_at dksX0_status_0 5 rfl rfl)
theorem dX0_status_8 : decode cX0_status 8 = .ok (.invokestatic 157, 3) := dk_184 0 157 (dk_at dksX0_status_0 8 rfl rfl)
theorem dX0_status_11 : decode cX0_status 11 = .ok (.ifCond .eq 15, 3) := dk_153 0 15 (dk_at dksX0_status_0 11 rfl rfl)
theorem dX0_status_14 : decode cX0_status 14 = .ok (.aload_n 0, 1) := dk_42 (dk_at dksX0_status_0 14 rfl rfl)
theorem dX0_status_15 : decode cX0_status 15 = .ok (.getfield 99, 3) := dk_180 0 99 (dk_at dksX0_status_0 15 rfl rfl)
theorem dX0_status_18 : decode cX0_status 18 = .ok (.getfield 257, 3) := dk_180 1 1 (dk_at dksX0_status_0 18 rfl rfl)
theorem dX0_status_21 : decode cX0_status 21 = .ok (.iload_n 1, 1) := dk_27 (dk_at dksX0_status_0 21 rfl rfl)
theorem dX0_status_22 : decode cX0_status 22 = .ok (.iconst 2, 1) := dk_5 (dk_at dksX0_status_0 22 rfl rfl)
theorem dX0_status_23 : decode cX0_status 23 = .ok (.isub, 1) := dk_100 (dk_at dksX0_status_0 23 rfl rfl)
theorem dX0_status_24 : decode cX0_status 24 = .ok (.iaload, 1) := dk_46 (dk_at dksX0_status_1 0 rfl rfl)
theorem dX0_status_25 : decode cX0_status 25 = .ok (.ireturn, 1) := dk_172 (dk_at dksX0_status_1 1 rfl rfl)
theorem dX0_status_26 : decode cX0_status 26 = .ok (.iload_n 1, 1) := dk_27 (dk_at dksX0_status_1 2 rfl rfl)
theorem dX0_status_27 : decode cX0_status 27 = .ok (.tableswitch 109 0 9 #[53, 61, 109, 109, 109, 109, 69, 85, 93, 101], 53) := by decide +kernel
theorem dX0_status_80 : decode cX0_status 80 = .ok (.aload_n 0, 1) := dk_42 (dk_at dksX0_status_3 0 rfl rfl)
theorem dX0_status_81 : decode cX0_status 81 = .ok (.getfield 99, 3) := dk_180 0 99 (dk_at dksX0_status_3 1 rfl rfl)
theorem dX0_status_84 : decode cX0_status 84 = .ok (.getfield 120, 3) := dk_180 0 120 (dk_at dksX0_status_3 4 rfl rfl)
theorem dX0_status_87 : decode cX0_status 87 = .ok (.ireturn, 1) := dk_172 (dk_at dksX0_status_3 7 rfl rfl)
theorem dX0_status_88 : decode cX0_status 88 = .ok (.aload_n 0, 1) := dk_42 (dk_at dksX0_status_3 8 rfl rfl)
theorem dX0_status_89 : decode cX0_status 89 = .ok (.getfield 99, 3) := dk_180 0 99 (dk_at dksX0_status_3 9 rfl rfl)
theorem dX0_status_92 : decode cX0_status 92 = .ok (.getfield 200, 3) := dk_180 0 200 (dk_at dksX0_status_3 12 rfl rfl)
theorem dX0_status_95 : decode cX0_status 95 = .ok (.ireturn, 1) := dk_172 (dk_at dksX0_status_3 15 rfl rfl)
theorem dX0_status_96 : decode cX0_status 96 = .ok (.aload_n 0, 1) := dk_42 (dk_at dksX0_status_3 16 rfl rfl)
theorem dX0_status_97 : decode cX0_status 97 = .ok (.getfield 99, 3) := dk_180 0 99 (dk_at dksX0_status_3 17 rfl rfl)
theorem dX0_status_100 : decode cX0_status 100 = .ok (.getfield 260, 3) := dk_180 1 4 (dk_at dksX0_status_3 20 rfl rfl)
theorem dX0_status_103 : decode cX0_status 103 = .ok (.ifCond .eq 7, 3) := dk_153 0 7 (dk_at dksX0_status_4 0 rfl rfl)
theorem dX0_status_106 : decode cX0_status 106 = .ok (.iconst 1, 1) := dk_4 (dk_at dksX0_status_4 3 rfl rfl)
theorem dX0_status_107 : decode cX0_status 107 = .ok (.goto 4, 3) := dk_167 0 4 (dk_at dksX0_status_4 4 rfl rfl)
theorem dX0_status_110 : decode cX0_status 110 = .ok (.iconst 0, 1) := dk_3 (dk_at dksX0_status_4 7 rfl rfl)
theorem dX0_status_111 : decode cX0_status 111 = .ok (.ireturn, 1) := dk_172 (dk_at dksX0_status_4 8 rfl rfl)
theorem dX0_status_112 : decode cX0_status 112 = .ok (.aload_n 0, 1) := dk_42 (dk_at dksX0_status_4 9 rfl rfl)
theorem dX0_status_113 : decode cX0_status 113 = .ok (.getfield 99, 3) := dk_180 0 99 (dk_at dksX0_status_4 10 rfl rfl)
theorem dX0_status_116 : decode cX0_status 116 = .ok (.getfield 406, 3) := dk_180 1 150 (dk_at dksX0_status_4 13 rfl rfl)
theorem dX0_status_119 : decode cX0_status 119 = .ok (.ireturn, 1) := dk_172 (dk_at dksX0_status_4 16 rfl rfl)
theorem dX0_status_120 : decode cX0_status 120 = .ok (.aload_n 0, 1) := dk_42 (dk_at dksX0_status_4 17 rfl rfl)
theorem dX0_status_121 : decode cX0_status 121 = .ok (.getfield 99, 3) := dk_180 0 99 (dk_at dksX0_status_4 18 rfl rfl)
theorem dX0_status_124 : decode cX0_status 124 = .ok (.getfield 414, 3) := dk_180 1 158 (dk_at dksX0_status_4 21 rfl rfl)
theorem dX0_status_127 : decode cX0_status 127 = .ok (.ireturn, 1) := dk_172 (dk_at dksX0_status_5 0 rfl rfl)
theorem dX0_status_128 : decode cX0_status 128 = .ok (.aload_n 0, 1) := dk_42 (dk_at dksX0_status_5 1 rfl rfl)
theorem dX0_status_129 : decode cX0_status 129 = .ok (.getfield 70, 3) := dk_180 0 70 (dk_at dksX0_status_5 2 rfl rfl)
theorem dX0_status_132 : decode cX0_status 132 = .ok (.getfield 417, 3) := dk_180 1 161 (dk_at dksX0_status_5 5 rfl rfl)
theorem dX0_status_135 : decode cX0_status 135 = .ok (.ireturn, 1) := dk_172 (dk_at dksX0_status_5 8 rfl rfl)
theorem dX0_status_136 : decode cX0_status 136 = .ok (.iload_n 1, 1) := dk_27 (dk_at dksX0_status_5 9 rfl rfl)
theorem dX0_status_137 : decode cX0_status 137 = .ok (.i2l, 1) := dk_133 (dk_at dksX0_status_5 10 rfl rfl)
theorem dX0_status_138 : decode cX0_status 138 = .ok (.ldc2_w 437, 3) := dk_20 1 181 (dk_at dksX0_status_5 11 rfl rfl)
theorem dX0_status_141 : decode cX0_status 141 = .ok (.ldc2_w 439, 3) := dk_20 1 183 (dk_at dksX0_status_5 14 rfl rfl)
theorem dX0_status_144 : decode cX0_status 144 = .ok (.invokestatic 157, 3) := dk_184 0 157 (dk_at dksX0_status_5 17 rfl rfl)
theorem dX0_status_147 : decode cX0_status 147 = .ok (.ifCond .eq 15, 3) := dk_153 0 15 (dk_at dksX0_status_5 20 rfl rfl)
theorem dX0_status_150 : decode cX0_status 150 = .ok (.aload_n 0, 1) := dk_42 (dk_at dksX0_status_5 23 rfl rfl)
theorem dX0_status_151 : decode cX0_status 151 = .ok (.getfield 63, 3) := dk_180 0 63 (dk_at dksX0_status_6 0 rfl rfl)
theorem dX0_status_154 : decode cX0_status 154 = .ok (.iload_n 1, 1) := dk_27 (dk_at dksX0_status_6 3 rfl rfl)
theorem dX0_status_155 : decode cX0_status 155 = .ok (.bipush 10, 2) := dk_16 10 (dk_at dksX0_status_6 4 rfl rfl)
theorem dX0_status_157 : decode cX0_status 157 = .ok (.isub, 1) := dk_100 (dk_at dksX0_status_6 6 rfl rfl)
theorem dX0_status_158 : decode cX0_status 158 = .ok (.iaload, 1) := dk_46 (dk_at dksX0_status_6 7 rfl rfl)
theorem dX0_status_159 : decode cX0_status 159 = .ok (.goto 4, 3) := dk_167 0 4 (dk_at dksX0_status_6 8 rfl rfl)
theorem dX0_status_162 : decode cX0_status 162 = .ok (.iconst (-1), 1) := dk_2 (dk_at dksX0_status_6 11 rfl rfl)
theorem dX0_status_163 : decode cX0_status 163 = .ok (.ireturn, 1) := dk_172 (dk_at dksX0_status_6 12 rfl rfl)
theorem q94 : (Jvm.Cond.initialized "InASackToTheRope") ∈ lw_all := lw_g (lw_at lw_m1 1 rfl) rfl
theorem q131 : (Jvm.Cond.instantiable "InASackToTheRope" (10 : Nat)) ∈ lw_all := lw_g (lw_at lw_m1 38 rfl) rfl
theorem q133 : (Jvm.Cond.instanceMethod ({ cls := "InASackToTheRope", name := "<init>", desc := "()V" } : Jvm.MethodName)) ∈ lw_all := lw_g (lw_at lw_m1 40 rfl) rfl
theorem q134 : (Jvm.Cond.code ({ cls := "InASackToTheRope", name := "<init>", desc := "()V" } : Jvm.MethodName) prog_1_method_5_code (2 : Nat) (Option.none : Option Jvm.ClassFile.FieldType)) ∈ lw_all := lw_g (lw_at lw_m1 41 rfl) rfl
theorem q135 : (Jvm.Cond.methodLink "InASackToTheRope" (50 : Nat) ({ cls := "java/lang/Object", name := "<init>", desc := "()V" } : Jvm.MethodName)) ∈ lw_all := lw_g (lw_at lw_m1 42 rfl) rfl
theorem q138 : (Jvm.Cond.classLink "InASackToTheRope" (57 : Nat) "InASackToTheRope$Shelf") ∈ lw_all := lw_g (lw_at lw_m1 45 rfl) rfl
theorem q140 : (Jvm.Cond.classLink "InASackToTheRope" (67 : Nat) "InASackToTheRope$Trace") ∈ lw_all := lw_g (lw_at lw_m1 47 rfl) rfl
theorem q142 : (Jvm.Cond.methodLink "InASackToTheRope" (69 : Nat) ({ cls := "InASackToTheRope$Trace", name := "<init>", desc := "()V" } : Jvm.MethodName)) ∈ lw_all := lw_g (lw_at lw_m1 49 rfl) rfl
theorem q147 : (Jvm.Cond.fieldLink "InASackToTheRope" (428 : Nat) "InASackToTheRope$Trace" "bodies" "[I") ∈ lw_all := lw_g (lw_at lw_m1 54 rfl) rfl
theorem q149 : (Jvm.Cond.fieldLink "InASackToTheRope" (417 : Nat) "InASackToTheRope$Trace" "many" "I") ∈ lw_all := lw_g (lw_at lw_m1 56 rfl) rfl
theorem q156 : (Jvm.Cond.classLink "InASackToTheRope" (74 : Nat) "InASackToTheRope$Runner") ∈ lw_all := lw_g (lw_at lw_m1 63 rfl) rfl
theorem q158 : (Jvm.Cond.methodLink "InASackToTheRope" (76 : Nat) ({ cls := "InASackToTheRope$Runner", name := "<init>", desc := "()V" } : Jvm.MethodName)) ∈ lw_all := lw_g (lw_at lw_m1 65 rfl) rfl
theorem q168 : (Jvm.Cond.fieldLink "InASackToTheRope" (293 : Nat) "InASackToTheRope$Runner" "at" "I") ∈ lw_all := lw_g (lw_at lw_m1 75 rfl) rfl
theorem q170 : (Jvm.Cond.fieldLink "InASackToTheRope" (296 : Nat) "InASackToTheRope$Runner" "breath" "I") ∈ lw_all := lw_g (lw_at lw_m1 77 rfl) rfl
theorem q172 : (Jvm.Cond.fieldLink "InASackToTheRope" (299 : Nat) "InASackToTheRope$Runner" "wobble" "I") ∈ lw_all := lw_g (lw_at lw_m1 79 rfl) rfl
theorem q174 : (Jvm.Cond.fieldLink "InASackToTheRope" (302 : Nat) "InASackToTheRope$Runner" "down" "I") ∈ lw_all := lw_g (lw_at lw_m1 81 rfl) rfl
theorem q176 : (Jvm.Cond.fieldLink "InASackToTheRope" (305 : Nat) "InASackToTheRope$Runner" "falls" "I") ∈ lw_all := lw_g (lw_at lw_m1 83 rfl) rfl
theorem q178 : (Jvm.Cond.fieldLink "InASackToTheRope" (382 : Nat) "InASackToTheRope$Runner" "wall" "I") ∈ lw_all := lw_g (lw_at lw_m1 85 rfl) rfl
theorem q206 : (Jvm.Cond.classLink "InASackToTheRope" (85 : Nat) "InASackToTheRope$Given") ∈ lw_all := lw_g (lw_at lw_m1 113 rfl) rfl
theorem q208 : (Jvm.Cond.methodLink "InASackToTheRope" (87 : Nat) ({ cls := "InASackToTheRope$Given", name := "<init>", desc := "()V" } : Jvm.MethodName)) ∈ lw_all := lw_g (lw_at lw_m1 115 rfl) rfl
theorem q219 : (Jvm.Cond.fieldLink "InASackToTheRope" (360 : Nat) "InASackToTheRope$Given" "best" "[I") ∈ lw_all := lw_g (lw_at lw_m1 126 rfl) rfl
theorem q225 : (Jvm.Cond.fieldLink "InASackToTheRope" (357 : Nat) "InASackToTheRope$Given" "least" "I") ∈ lw_all := lw_g (lw_at lw_m1 132 rfl) rfl
theorem q243 : (Jvm.Cond.classLink "InASackToTheRope" (92 : Nat) "InASackToTheRope$Field") ∈ lw_all := lw_g (lw_at lw_m1 150 rfl) rfl
theorem q245 : (Jvm.Cond.methodLink "InASackToTheRope" (94 : Nat) ({ cls := "InASackToTheRope$Field", name := "<init>", desc := "()V" } : Jvm.MethodName)) ∈ lw_all := lw_g (lw_at lw_m1 152 rfl) rfl
theorem q252 : (Jvm.Cond.fieldLink "InASackToTheRope" (120 : Nat) "InASackToTheRope$Field" "many" "I") ∈ lw_all := lw_g (lw_at lw_m1 159 rfl) rfl
theorem q257 : (Jvm.Cond.fieldLink "InASackToTheRope" (200 : Nat) "InASackToTheRope$Field" "sacks" "I") ∈ lw_all := lw_g (lw_at lw_m1 164 rfl) rfl
theorem q259 : (Jvm.Cond.fieldLink "InASackToTheRope" (406 : Nat) "InASackToTheRope$Field" "races" "I") ∈ lw_all := lw_g (lw_at lw_m1 166 rfl) rfl
theorem q262 : (Jvm.Cond.fieldLink "InASackToTheRope" (260 : Nat) "InASackToTheRope$Field" "rolling" "Z") ∈ lw_all := lw_g (lw_at lw_m1 169 rfl) rfl
theorem q264 : (Jvm.Cond.fieldLink "InASackToTheRope" (414 : Nat) "InASackToTheRope$Field" "seed" "I") ∈ lw_all := lw_g (lw_at lw_m1 171 rfl) rfl
theorem q268 : (Jvm.Cond.fieldLink "InASackToTheRope" (257 : Nat) "InASackToTheRope$Field" "asked" "[I") ∈ lw_all := lw_g (lw_at lw_m1 175 rfl) rfl
theorem q272 : (Jvm.Cond.fieldLink "InASackToTheRope" (133 : Nat) "InASackToTheRope$Field" "children" "[LInASackToTheRope$Hopper;") ∈ lw_all := lw_g (lw_at lw_m1 179 rfl) rfl
theorem q276 : (Jvm.Cond.fieldLink "InASackToTheRope" (215 : Nat) "InASackToTheRope$Field" "legs" "[I") ∈ lw_all := lw_g (lw_at lw_m1 183 rfl) rfl
theorem q280 : (Jvm.Cond.fieldLink "InASackToTheRope" (218 : Nat) "InASackToTheRope$Field" "worn" "[I") ∈ lw_all := lw_g (lw_at lw_m1 187 rfl) rfl
theorem q284 : (Jvm.Cond.fieldLink "InASackToTheRope" (221 : Nat) "InASackToTheRope$Field" "ahead" "[I") ∈ lw_all := lw_g (lw_at lw_m1 191 rfl) rfl
theorem q286 : (Jvm.Cond.fieldLink "InASackToTheRope" (234 : Nat) "InASackToTheRope$Field" "won" "[I") ∈ lw_all := lw_g (lw_at lw_m1 193 rfl) rfl
theorem q288 : (Jvm.Cond.fieldLink "InASackToTheRope" (240 : Nat) "InASackToTheRope$Field" "length" "[I") ∈ lw_all := lw_g (lw_at lw_m1 195 rfl) rfl
theorem q290 : (Jvm.Cond.fieldLink "InASackToTheRope" (242 : Nat) "InASackToTheRope$Field" "holes" "[I") ∈ lw_all := lw_g (lw_at lw_m1 197 rfl) rfl
theorem q319 : (Jvm.Cond.methodLink "InASackToTheRope" (106 : Nat) ({ cls := "InASackToTheRope$Shelf", name := "<init>", desc := "()V" } : Jvm.MethodName)) ∈ lw_all := lw_g (lw_at lw_m1 226 rfl) rfl
theorem q324 : (Jvm.Cond.fieldLink "InASackToTheRope" (127 : Nat) "InASackToTheRope$Shelf" "held" "Ljava/lang/Object;") ∈ lw_all := lw_g (lw_at lw_m1 231 rfl) rfl
theorem q328 : (Jvm.Cond.fieldLink "InASackToTheRope" (59 : Nat) "InASackToTheRope" "shelves" "[LInASackToTheRope$Shelf;") ∈ lw_all := lw_g (lw_at lw_m1 235 rfl) rfl
theorem q329 : (Jvm.Cond.fieldLink "InASackToTheRope" (63 : Nat) "InASackToTheRope" "refusals" "[I") ∈ lw_all := lw_g (lw_at lw_m1 236 rfl) rfl
theorem q330 : (Jvm.Cond.fieldLink "InASackToTheRope" (70 : Nat) "InASackToTheRope" "ran" "LInASackToTheRope$Trace;") ∈ lw_all := lw_g (lw_at lw_m1 237 rfl) rfl
theorem q331 : (Jvm.Cond.fieldLink "InASackToTheRope" (77 : Nat) "InASackToTheRope" "runner" "LInASackToTheRope$Runner;") ∈ lw_all := lw_g (lw_at lw_m1 238 rfl) rfl
theorem q332 : (Jvm.Cond.fieldLink "InASackToTheRope" (81 : Nat) "InASackToTheRope" "runners" "[LInASackToTheRope$Runner;") ∈ lw_all := lw_g (lw_at lw_m1 239 rfl) rfl
theorem q333 : (Jvm.Cond.fieldLink "InASackToTheRope" (88 : Nat) "InASackToTheRope" "gives" "LInASackToTheRope$Given;") ∈ lw_all := lw_g (lw_at lw_m2 0 rfl) rfl
theorem q334 : (Jvm.Cond.fieldLink "InASackToTheRope" (95 : Nat) "InASackToTheRope" "tried" "LInASackToTheRope$Field;") ∈ lw_all := lw_g (lw_at lw_m2 1 rfl) rfl
theorem q335 : (Jvm.Cond.fieldLink "InASackToTheRope" (99 : Nat) "InASackToTheRope" "w" "LInASackToTheRope$Field;") ∈ lw_all := lw_g (lw_at lw_m2 2 rfl) rfl
theorem q336 : (Jvm.Cond.fieldLink "InASackToTheRope" (431 : Nat) "InASackToTheRope" "imaged" "LInASackToTheRope$Field;") ∈ lw_all := lw_g (lw_at lw_m2 3 rfl) rfl
theorem q337 : (Jvm.Cond.fieldLink "InASackToTheRope" (102 : Nat) "InASackToTheRope" "latestFault" "I") ∈ lw_all := lw_g (lw_at lw_m2 4 rfl) rfl
theorem q338 : (Jvm.Cond.laysFinal "InASackToTheRope" "InASackToTheRope" "shelves" "[LInASackToTheRope$Shelf;") ∈ lw_all := lw_g (lw_at lw_m2 5 rfl) rfl
theorem q339 : (Jvm.Cond.soleField "InASackToTheRope" "shelves") ∈ lw_all := lw_g (lw_at lw_m2 6 rfl) rfl
theorem q340 : (Jvm.Cond.laysFinal "InASackToTheRope" "InASackToTheRope" "refusals" "[I") ∈ lw_all := lw_g (lw_at lw_m2 7 rfl) rfl
theorem q341 : (Jvm.Cond.soleField "InASackToTheRope" "refusals") ∈ lw_all := lw_g (lw_at lw_m2 8 rfl) rfl
theorem q342 : (Jvm.Cond.laysFinal "InASackToTheRope" "InASackToTheRope" "ran" "LInASackToTheRope$Trace;") ∈ lw_all := lw_g (lw_at lw_m2 9 rfl) rfl
theorem q343 : (Jvm.Cond.soleField "InASackToTheRope" "ran") ∈ lw_all := lw_g (lw_at lw_m2 10 rfl) rfl
theorem q344 : (Jvm.Cond.laysFinal "InASackToTheRope" "InASackToTheRope" "runner" "LInASackToTheRope$Runner;") ∈ lw_all := lw_g (lw_at lw_m2 11 rfl) rfl
theorem q345 : (Jvm.Cond.soleField "InASackToTheRope" "runner") ∈ lw_all := lw_g (lw_at lw_m2 12 rfl) rfl
theorem q346 : (Jvm.Cond.laysFinal "InASackToTheRope" "InASackToTheRope" "runners" "[LInASackToTheRope$Runner;") ∈ lw_all := lw_g (lw_at lw_m2 13 rfl) rfl
theorem q347 : (Jvm.Cond.soleField "InASackToTheRope" "runners") ∈ lw_all := lw_g (lw_at lw_m2 14 rfl) rfl
theorem q348 : (Jvm.Cond.laysFinal "InASackToTheRope" "InASackToTheRope" "gives" "LInASackToTheRope$Given;") ∈ lw_all := lw_g (lw_at lw_m2 15 rfl) rfl
theorem q349 : (Jvm.Cond.soleField "InASackToTheRope" "gives") ∈ lw_all := lw_g (lw_at lw_m2 16 rfl) rfl
theorem q350 : (Jvm.Cond.laysFinal "InASackToTheRope" "InASackToTheRope" "tried" "LInASackToTheRope$Field;") ∈ lw_all := lw_g (lw_at lw_m2 17 rfl) rfl
theorem q351 : (Jvm.Cond.soleField "InASackToTheRope" "tried") ∈ lw_all := lw_g (lw_at lw_m2 18 rfl) rfl
theorem q352 : (Jvm.Cond.lays "InASackToTheRope" "InASackToTheRope" "w" "LInASackToTheRope$Field;") ∈ lw_all := lw_g (lw_at lw_m2 19 rfl) rfl
theorem q353 : (Jvm.Cond.soleField "InASackToTheRope" "w") ∈ lw_all := lw_g (lw_at lw_m2 20 rfl) rfl
theorem q354 : (Jvm.Cond.lays "InASackToTheRope" "InASackToTheRope" "imaged" "LInASackToTheRope$Field;") ∈ lw_all := lw_g (lw_at lw_m2 21 rfl) rfl
theorem q355 : (Jvm.Cond.soleField "InASackToTheRope" "imaged") ∈ lw_all := lw_g (lw_at lw_m2 22 rfl) rfl
theorem q356 : (Jvm.Cond.lays "InASackToTheRope" "InASackToTheRope" "latestFault" "I") ∈ lw_all := lw_g (lw_at lw_m2 23 rfl) rfl
theorem q357 : (Jvm.Cond.soleField "InASackToTheRope" "latestFault") ∈ lw_all := lw_g (lw_at lw_m2 24 rfl) rfl
theorem q358 : (Jvm.Cond.superclass "InASackToTheRope" "java/lang/Object") ∈ lw_all := lw_g (lw_at lw_m2 25 rfl) rfl
theorem q360 : (Jvm.Cond.instanceMethod ({ cls := "InASackToTheRope", name := "row", desc := "(III)I" } : Jvm.MethodName)) ∈ lw_all := lw_g (lw_at lw_m2 27 rfl) rfl
theorem q361 : (Jvm.Cond.selects "InASackToTheRope" ({ cls := "InASackToTheRope", name := "row", desc := "(III)I" } : Jvm.MethodName) ({ cls := "InASackToTheRope", name := "row", desc := "(III)I" } : Jvm.MethodName)) ∈ lw_all := lw_g (lw_at lw_m2 28 rfl) rfl
theorem q362 : (Jvm.Cond.codeWith ({ cls := "InASackToTheRope", name := "row", desc := "(III)I" } : Jvm.MethodName) prog_1_method_13_code (5 : Nat) (Option.some Jvm.ClassFile.FieldType.int) [((0 : Nat), (63 : Nat), (64 : Nat), (21 : Nat))]) ∈ lw_all := lw_g (lw_at lw_m2 29 rfl) rfl
theorem q363 : (Jvm.Cond.classLink "InASackToTheRope" (21 : Nat) "InASackToTheRope$Refused") ∈ lw_all := lw_g (lw_at lw_m2 30 rfl) rfl
theorem q364 : (Jvm.Cond.methodLink "InASackToTheRope" (151 : Nat) ({ cls := "InASackToTheRope", name := "shelf", desc := "(I)LInASackToTheRope$Shelf;" } : Jvm.MethodName)) ∈ lw_all := lw_g (lw_at lw_m2 31 rfl) rfl
theorem q365 : (Jvm.Cond.privateMethod ({ cls := "InASackToTheRope", name := "shelf", desc := "(I)LInASackToTheRope$Shelf;" } : Jvm.MethodName)) ∈ lw_tbl := lw_at lw_m2 32 rfl
theorem q366 : (Jvm.Cond.instanceMethod ({ cls := "InASackToTheRope", name := "shelf", desc := "(I)LInASackToTheRope$Shelf;" } : Jvm.MethodName)) ∈ lw_all := lw_g (lw_at lw_m2 33 rfl) rfl
theorem q367 : (Jvm.Cond.codeWith ({ cls := "InASackToTheRope", name := "shelf", desc := "(I)LInASackToTheRope$Shelf;" } : Jvm.MethodName) prog_1_method_8_code (3 : Nat) (Option.some (Jvm.ClassFile.FieldType.object "InASackToTheRope$Shelf")) [((0 : Nat), (6 : Nat), (7 : Nat), (110 : Nat))]) ∈ lw_all := lw_g (lw_at lw_m2 34 rfl) rfl
theorem q368 : (Jvm.Cond.classLink "InASackToTheRope" (110 : Nat) "java/lang/ArrayIndexOutOfBoundsException") ∈ lw_all := lw_g (lw_at lw_m2 35 rfl) rfl
theorem q454 : (Jvm.Cond.methodLink "InASackToTheRope" (23 : Nat) ({ cls := "InASackToTheRope$Refused", name := "<init>", desc := "(I)V" } : Jvm.MethodName)) ∈ lw_all := lw_g (lw_at lw_m2 121 rfl) rfl
theorem q464 : (Jvm.Cond.fieldLink "InASackToTheRope" (107 : Nat) "InASackToTheRope$Refused" "why" "I") ∈ lw_all := lw_g (lw_at lw_m2 131 rfl) rfl
theorem q469 : (Jvm.Cond.methodLink "InASackToTheRope" (116 : Nat) ({ cls := "InASackToTheRope", name := "need", desc := "(ZI)V" } : Jvm.MethodName)) ∈ lw_all := lw_g (lw_at lw_m2 136 rfl) rfl
theorem q470 : (Jvm.Cond.static ({ cls := "InASackToTheRope", name := "need", desc := "(ZI)V" } : Jvm.MethodName)) ∈ lw_all := lw_g (lw_at lw_m2 137 rfl) rfl
theorem q471 : (Jvm.Cond.code ({ cls := "InASackToTheRope", name := "need", desc := "(ZI)V" } : Jvm.MethodName) prog_1_method_2_code (2 : Nat) (Option.none : Option Jvm.ClassFile.FieldType)) ∈ lw_all := lw_g (lw_at lw_m2 138 rfl) rfl
theorem q472 : (Jvm.Cond.constantLong "InASackToTheRope" (155 : Nat) (3 : Int64)) ∈ lw_all := lw_g (lw_at lw_m2 139 rfl) rfl
theorem q473 : (Jvm.Cond.methodLink "InASackToTheRope" (157 : Nat) ({ cls := "InASackToTheRope", name := "in", desc := "(JJJ)Z" } : Jvm.MethodName)) ∈ lw_all := lw_g (lw_at lw_m2 140 rfl) rfl
theorem q474 : (Jvm.Cond.static ({ cls := "InASackToTheRope", name := "in", desc := "(JJJ)Z" } : Jvm.MethodName)) ∈ lw_all := lw_g (lw_at lw_m2 141 rfl) rfl
theorem q475 : (Jvm.Cond.code ({ cls := "InASackToTheRope", name := "in", desc := "(JJJ)Z" } : Jvm.MethodName) prog_1_method_3_code (6 : Nat) (Option.some Jvm.ClassFile.FieldType.boolean)) ∈ lw_all := lw_g (lw_at lw_m2 142 rfl) rfl
theorem q476 : (Jvm.Cond.methodLink "InASackToTheRope" (161 : Nat) ({ cls := "InASackToTheRope", name := "newRow", desc := "(II)LInASackToTheRope$Row;" } : Jvm.MethodName)) ∈ lw_all := lw_g (lw_at lw_m2 143 rfl) rfl
theorem q477 : (Jvm.Cond.static ({ cls := "InASackToTheRope", name := "newRow", desc := "(II)LInASackToTheRope$Row;" } : Jvm.MethodName)) ∈ lw_all := lw_g (lw_at lw_m2 144 rfl) rfl
theorem q478 : (Jvm.Cond.codeWith ({ cls := "InASackToTheRope", name := "newRow", desc := "(II)LInASackToTheRope$Row;" } : Jvm.MethodName) prog_1_method_12_code (3 : Nat) (Option.some (Jvm.ClassFile.FieldType.object "InASackToTheRope$Row")) [((0 : Nat), (40 : Nat), (78 : Nat), (149 : Nat)), ((41 : Nat), (49 : Nat), (78 : Nat), (149 : Nat)), ((50 : Nat), (58 : Nat), (78 : Nat), (149 : Nat)), ((59 : Nat), (67 : Nat), (78 : Nat), (149 : Nat)), ((68 : Nat), (78 : Nat), (78 : Nat), (149 : Nat))]) ∈ lw_all := lw_g (lw_at lw_m2 145 rfl) rfl
theorem q479 : (Jvm.Cond.classLink "InASackToTheRope" (149 : Nat) "java/lang/NegativeArraySizeException") ∈ lw_all := lw_g (lw_at lw_m2 146 rfl) rfl
theorem q493 : (Jvm.Cond.classLink "InASackToTheRope" (137 : Nat) "InASackToTheRope$Bytes") ∈ lw_all := lw_g (lw_at lw_m2 160 rfl) rfl
theorem q495 : (Jvm.Cond.methodLink "InASackToTheRope" (139 : Nat) ({ cls := "InASackToTheRope$Bytes", name := "<init>", desc := "(I)V" } : Jvm.MethodName)) ∈ lw_all := lw_g (lw_at lw_m2 162 rfl) rfl
theorem q506 : (Jvm.Cond.classLink "InASackToTheRope" (140 : Nat) "InASackToTheRope$Shorts") ∈ lw_all := lw_g (lw_at lw_m2 173 rfl) rfl
theorem q508 : (Jvm.Cond.methodLink "InASackToTheRope" (142 : Nat) ({ cls := "InASackToTheRope$Shorts", name := "<init>", desc := "(I)V" } : Jvm.MethodName)) ∈ lw_all := lw_g (lw_at lw_m2 175 rfl) rfl
theorem q517 : (Jvm.Cond.classLink "InASackToTheRope" (143 : Nat) "InASackToTheRope$Ints") ∈ lw_all := lw_g (lw_at lw_m2 184 rfl) rfl
theorem q519 : (Jvm.Cond.methodLink "InASackToTheRope" (145 : Nat) ({ cls := "InASackToTheRope$Ints", name := "<init>", desc := "(I)V" } : Jvm.MethodName)) ∈ lw_all := lw_g (lw_at lw_m2 186 rfl) rfl
theorem q527 : (Jvm.Cond.classLink "InASackToTheRope" (146 : Nat) "InASackToTheRope$Longs") ∈ lw_all := lw_g (lw_at lw_m2 194 rfl) rfl
theorem q529 : (Jvm.Cond.methodLink "InASackToTheRope" (148 : Nat) ({ cls := "InASackToTheRope$Longs", name := "<init>", desc := "(I)V" } : Jvm.MethodName)) ∈ lw_all := lw_g (lw_at lw_m2 196 rfl) rfl
theorem q538 : (Jvm.Cond.methodLink "InASackToTheRope" (165 : Nat) ({ cls := "InASackToTheRope", name := "refused", desc := "(LInASackToTheRope$Refused;)I" } : Jvm.MethodName)) ∈ lw_all := lw_g (lw_at lw_m2 205 rfl) rfl
theorem q539 : (Jvm.Cond.privateMethod ({ cls := "InASackToTheRope", name := "refused", desc := "(LInASackToTheRope$Refused;)I" } : Jvm.MethodName)) ∈ lw_tbl := lw_at lw_m2 206 rfl
theorem q540 : (Jvm.Cond.instanceMethod ({ cls := "InASackToTheRope", name := "refused", desc := "(LInASackToTheRope$Refused;)I" } : Jvm.MethodName)) ∈ lw_all := lw_g (lw_at lw_m2 207 rfl) rfl
theorem q541 : (Jvm.Cond.code ({ cls := "InASackToTheRope", name := "refused", desc := "(LInASackToTheRope$Refused;)I" } : Jvm.MethodName) prog_1_method_6_code (2 : Nat) (Option.some Jvm.ClassFile.FieldType.int)) ∈ lw_all := lw_g (lw_at lw_m2 208 rfl) rfl
theorem q543 : (Jvm.Cond.instanceMethod ({ cls := "InASackToTheRope", name := "set", desc := "(IIJ)I" } : Jvm.MethodName)) ∈ lw_all := lw_g (lw_at lw_m2 210 rfl) rfl
theorem q544 : (Jvm.Cond.selects "InASackToTheRope" ({ cls := "InASackToTheRope", name := "set", desc := "(IIJ)I" } : Jvm.MethodName) ({ cls := "InASackToTheRope", name := "set", desc := "(IIJ)I" } : Jvm.MethodName)) ∈ lw_all := lw_g (lw_at lw_m2 211 rfl) rfl
theorem q545 : (Jvm.Cond.codeWith ({ cls := "InASackToTheRope", name := "set", desc := "(IIJ)I" } : Jvm.MethodName) prog_1_method_14_code (7 : Nat) (Option.some Jvm.ClassFile.FieldType.int) [((10 : Nat), (17 : Nat), (20 : Nat), (110 : Nat)), ((0 : Nat), (33 : Nat), (34 : Nat), (21 : Nat))]) ∈ lw_all := lw_g (lw_at lw_m2 212 rfl) rfl
theorem q546 : (Jvm.Cond.methodLink "InASackToTheRope" (169 : Nat) ({ cls := "InASackToTheRope$Shelf", name := "row", desc := "()LInASackToTheRope$Row;" } : Jvm.MethodName)) ∈ lw_all := lw_g (lw_at lw_m2 213 rfl) rfl
theorem q568 : (Jvm.Cond.methodLink "InASackToTheRope" (172 : Nat) ({ cls := "InASackToTheRope$Row", name := "put", desc := "(IJ)V" } : Jvm.MethodName)) ∈ lw_all := lw_g (lw_at lw_m2 235 rfl) rfl
theorem q584 : (Jvm.Cond.instanceMethod ({ cls := "InASackToTheRope", name := "copy", desc := "(IIIII)I" } : Jvm.MethodName)) ∈ lw_all := lw_g (lw_at lw_m3 11 rfl) rfl
theorem q585 : (Jvm.Cond.selects "InASackToTheRope" ({ cls := "InASackToTheRope", name := "copy", desc := "(IIIII)I" } : Jvm.MethodName) ({ cls := "InASackToTheRope", name := "copy", desc := "(IIIII)I" } : Jvm.MethodName)) ∈ lw_all := lw_g (lw_at lw_m3 12 rfl) rfl
theorem q586 : (Jvm.Cond.codeWith ({ cls := "InASackToTheRope", name := "copy", desc := "(IIIII)I" } : Jvm.MethodName) prog_1_method_15_code (11 : Nat) (Option.some Jvm.ClassFile.FieldType.int) [((114 : Nat), (132 : Nat), (135 : Nat), (179 : Nat)), ((0 : Nat), (148 : Nat), (149 : Nat), (21 : Nat))]) ∈ lw_all := lw_g (lw_at lw_m3 13 rfl) rfl
theorem q587 : (Jvm.Cond.classLink "InASackToTheRope" (179 : Nat) "java/lang/IndexOutOfBoundsException") ∈ lw_all := lw_g (lw_at lw_m3 14 rfl) rfl
theorem q588 : (Jvm.Cond.methodLink "InASackToTheRope" (123 : Nat) ({ cls := "InASackToTheRope$Shelf", name := "holdsHopper", desc := "()Z" } : Jvm.MethodName)) ∈ lw_all := lw_g (lw_at lw_m3 15 rfl) rfl
theorem q593 : (Jvm.Cond.methodLink "InASackToTheRope" (176 : Nat) ({ cls := "InASackToTheRope$Row", name := "sort", desc := "()I" } : Jvm.MethodName)) ∈ lw_all := lw_g (lw_at lw_m3 20 rfl) rfl
theorem q608 : (Jvm.Cond.methodLink "InASackToTheRope" (7 : Nat) ({ cls := "InASackToTheRope$Row", name := "held", desc := "()Ljava/lang/Object;" } : Jvm.MethodName)) ∈ lw_all := lw_g (lw_at lw_m3 35 rfl) rfl
theorem q623 : (Jvm.Cond.methodLink "InASackToTheRope" (15 : Nat) ({ cls := "java/lang/System", name := "arraycopy", desc := "(Ljava/lang/Object;ILjava/lang/Object;II)V" } : Jvm.MethodName)) ∈ lw_all := lw_g (lw_at lw_m3 50 rfl) rfl
theorem q627 : (Jvm.Cond.instanceMethod ({ cls := "InASackToTheRope", name := "element", desc := "(II)J" } : Jvm.MethodName)) ∈ lw_all := lw_g (lw_at lw_m3 54 rfl) rfl
theorem q628 : (Jvm.Cond.selects "InASackToTheRope" ({ cls := "InASackToTheRope", name := "element", desc := "(II)J" } : Jvm.MethodName) ({ cls := "InASackToTheRope", name := "element", desc := "(II)J" } : Jvm.MethodName)) ∈ lw_all := lw_g (lw_at lw_m3 55 rfl) rfl
theorem q629 : (Jvm.Cond.codeWith ({ cls := "InASackToTheRope", name := "element", desc := "(II)J" } : Jvm.MethodName) prog_1_method_16_code (4 : Nat) (Option.some Jvm.ClassFile.FieldType.long) [((0 : Nat), (12 : Nat), (13 : Nat), (21 : Nat)), ((0 : Nat), (12 : Nat), (16 : Nat), (110 : Nat))]) ∈ lw_all := lw_g (lw_at lw_m3 56 rfl) rfl
theorem q630 : (Jvm.Cond.methodLink "InASackToTheRope" (181 : Nat) ({ cls := "InASackToTheRope$Row", name := "get", desc := "(I)J" } : Jvm.MethodName)) ∈ lw_all := lw_g (lw_at lw_m3 57 rfl) rfl
theorem q646 : (Jvm.Cond.instanceMethod ({ cls := "InASackToTheRope", name := "show", desc := "(II)I" } : Jvm.MethodName)) ∈ lw_all := lw_g (lw_at lw_m3 73 rfl) rfl
theorem q647 : (Jvm.Cond.selects "InASackToTheRope" ({ cls := "InASackToTheRope", name := "show", desc := "(II)I" } : Jvm.MethodName) ({ cls := "InASackToTheRope", name := "show", desc := "(II)I" } : Jvm.MethodName)) ∈ lw_all := lw_g (lw_at lw_m3 74 rfl) rfl
theorem q648 : (Jvm.Cond.codeWith ({ cls := "InASackToTheRope", name := "show", desc := "(II)I" } : Jvm.MethodName) prog_1_method_17_code (4 : Nat) (Option.some Jvm.ClassFile.FieldType.int) [((0 : Nat), (17 : Nat), (38 : Nat), (21 : Nat)), ((18 : Nat), (37 : Nat), (38 : Nat), (21 : Nat))]) ∈ lw_all := lw_g (lw_at lw_m3 75 rfl) rfl
theorem q649 : (Jvm.Cond.methodLink "InASackToTheRope" (185 : Nat) ({ cls := "InASackToTheRope", name := "mustChild", desc := "(I)V" } : Jvm.MethodName)) ∈ lw_all := lw_g (lw_at lw_m3 76 rfl) rfl
theorem q650 : (Jvm.Cond.privateMethod ({ cls := "InASackToTheRope", name := "mustChild", desc := "(I)V" } : Jvm.MethodName)) ∈ lw_tbl := lw_at lw_m3 77 rfl
theorem q651 : (Jvm.Cond.instanceMethod ({ cls := "InASackToTheRope", name := "mustChild", desc := "(I)V" } : Jvm.MethodName)) ∈ lw_all := lw_g (lw_at lw_m3 78 rfl) rfl
theorem q652 : (Jvm.Cond.code ({ cls := "InASackToTheRope", name := "mustChild", desc := "(I)V" } : Jvm.MethodName) prog_1_method_9_code (2 : Nat) (Option.none : Option Jvm.ClassFile.FieldType)) ∈ lw_all := lw_g (lw_at lw_m3 79 rfl) rfl
theorem q653 : (Jvm.Cond.methodLink "InASackToTheRope" (112 : Nat) ({ cls := "InASackToTheRope$Field", name := "isChild", desc := "(I)Z" } : Jvm.MethodName)) ∈ lw_all := lw_g (lw_at lw_m3 80 rfl) rfl
theorem q659 : (Jvm.Cond.instanceMethod ({ cls := "InASackToTheRope", name := "holds", desc := "(I)I" } : Jvm.MethodName)) ∈ lw_all := lw_g (lw_at lw_m3 86 rfl) rfl
theorem q660 : (Jvm.Cond.selects "InASackToTheRope" ({ cls := "InASackToTheRope", name := "holds", desc := "(I)I" } : Jvm.MethodName) ({ cls := "InASackToTheRope", name := "holds", desc := "(I)I" } : Jvm.MethodName)) ∈ lw_all := lw_g (lw_at lw_m3 87 rfl) rfl
theorem q661 : (Jvm.Cond.code ({ cls := "InASackToTheRope", name := "holds", desc := "(I)I" } : Jvm.MethodName) prog_1_method_18_code (3 : Nat) (Option.some Jvm.ClassFile.FieldType.int)) ∈ lw_all := lw_g (lw_at lw_m3 88 rfl) rfl
theorem q662 : (Jvm.Cond.classLink "InASackToTheRope" (47 : Nat) "InASackToTheRope$Hopper") ∈ lw_all := lw_g (lw_at lw_m3 89 rfl) rfl
theorem q663 : (Jvm.Cond.classLink "InASackToTheRope" (2 : Nat) "InASackToTheRope$Row") ∈ lw_all := lw_g (lw_at lw_m3 90 rfl) rfl
theorem q665 : (Jvm.Cond.instanceMethod ({ cls := "InASackToTheRope", name := "says", desc := "(II)I" } : Jvm.MethodName)) ∈ lw_all := lw_g (lw_at lw_m3 92 rfl) rfl
theorem q666 : (Jvm.Cond.selects "InASackToTheRope" ({ cls := "InASackToTheRope", name := "says", desc := "(II)I" } : Jvm.MethodName) ({ cls := "InASackToTheRope", name := "says", desc := "(II)I" } : Jvm.MethodName)) ∈ lw_all := lw_g (lw_at lw_m3 93 rfl) rfl
theorem q667 : (Jvm.Cond.codeWith ({ cls := "InASackToTheRope", name := "says", desc := "(II)I" } : Jvm.MethodName) prog_1_method_19_code (4 : Nat) (Option.some Jvm.ClassFile.FieldType.int) [((0 : Nat), (28 : Nat), (29 : Nat), (21 : Nat))]) ∈ lw_all := lw_g (lw_at lw_m3 94 rfl) rfl
theorem q668 : (Jvm.Cond.constantLong "InASackToTheRope" (188 : Nat) (6 : Int64)) ∈ lw_all := lw_g (lw_at lw_m3 95 rfl) rfl
theorem q669 : (Jvm.Cond.methodLink "InASackToTheRope" (190 : Nat) ({ cls := "InASackToTheRope$Shelf", name := "says", desc := "(ILInASackToTheRope$Field;)I" } : Jvm.MethodName)) ∈ lw_all := lw_g (lw_at lw_m3 96 rfl) rfl
theorem q772 : (Jvm.Cond.instanceMethod ({ cls := "InASackToTheRope", name := "child", desc := "(III)I" } : Jvm.MethodName)) ∈ lw_all := lw_g (lw_at lw_m3 199 rfl) rfl
theorem q773 : (Jvm.Cond.selects "InASackToTheRope" ({ cls := "InASackToTheRope", name := "child", desc := "(III)I" } : Jvm.MethodName) ({ cls := "InASackToTheRope", name := "child", desc := "(III)I" } : Jvm.MethodName)) ∈ lw_all := lw_g (lw_at lw_m3 200 rfl) rfl
theorem q774 : (Jvm.Cond.codeWith ({ cls := "InASackToTheRope", name := "child", desc := "(III)I" } : Jvm.MethodName) prog_1_method_20_code (5 : Nat) (Option.some Jvm.ClassFile.FieldType.int) [((0 : Nat), (88 : Nat), (89 : Nat), (21 : Nat))]) ∈ lw_all := lw_g (lw_at lw_m3 201 rfl) rfl
theorem q775 : (Jvm.Cond.constantLong "InASackToTheRope" (194 : Nat) (9 : Int64)) ∈ lw_all := lw_g (lw_at lw_m3 202 rfl) rfl
theorem q776 : (Jvm.Cond.methodLink "InASackToTheRope" (196 : Nat) ({ cls := "InASackToTheRope$Field", name := "addChild", desc := "(III)V" } : Jvm.MethodName)) ∈ lw_all := lw_g (lw_at lw_m3 203 rfl) rfl
theorem q781 : (Jvm.Cond.static ({ cls := "InASackToTheRope", name := "hopperOfKind", desc := "(III)LInASackToTheRope$Hopper;" } : Jvm.MethodName)) ∈ lw_all := lw_g (lw_at lw_m3 208 rfl) rfl
theorem q782 : (Jvm.Cond.code ({ cls := "InASackToTheRope", name := "hopperOfKind", desc := "(III)LInASackToTheRope$Hopper;" } : Jvm.MethodName) prog_1_method_4_code (3 : Nat) (Option.some (Jvm.ClassFile.FieldType.object "InASackToTheRope$Hopper"))) ∈ lw_all := lw_g (lw_at lw_m3 209 rfl) rfl
theorem q783 : (Jvm.Cond.classLink "InASackToTheRope" (27 : Nat) "InASackToTheRope$Even") ∈ lw_all := lw_g (lw_at lw_m3 210 rfl) rfl
theorem q785 : (Jvm.Cond.methodLink "InASackToTheRope" (29 : Nat) ({ cls := "InASackToTheRope$Even", name := "<init>", desc := "(II)V" } : Jvm.MethodName)) ∈ lw_all := lw_g (lw_at lw_m3 212 rfl) rfl
theorem q803 : (Jvm.Cond.fieldLink "InASackToTheRope" (130 : Nat) "InASackToTheRope$Hopper" "index" "I") ∈ lw_all := lw_g (lw_at lw_m3 230 rfl) rfl
theorem q811 : (Jvm.Cond.fieldLink "InASackToTheRope" (212 : Nat) "InASackToTheRope$Hopper" "by" "I") ∈ lw_all := lw_g (lw_at lw_m3 238 rfl) rfl
theorem q816 : (Jvm.Cond.classLink "InASackToTheRope" (32 : Nat) "InASackToTheRope$Far") ∈ lw_all := lw_g (lw_at lw_m4 3 rfl) rfl
theorem q818 : (Jvm.Cond.methodLink "InASackToTheRope" (34 : Nat) ({ cls := "InASackToTheRope$Far", name := "<init>", desc := "(II)V" } : Jvm.MethodName)) ∈ lw_all := lw_g (lw_at lw_m4 5 rfl) rfl
theorem q824 : (Jvm.Cond.classLink "InASackToTheRope" (35 : Nat) "InASackToTheRope$Calm") ∈ lw_all := lw_g (lw_at lw_m4 11 rfl) rfl
theorem q826 : (Jvm.Cond.methodLink "InASackToTheRope" (37 : Nat) ({ cls := "InASackToTheRope$Calm", name := "<init>", desc := "(II)V" } : Jvm.MethodName)) ∈ lw_all := lw_g (lw_at lw_m4 13 rfl) rfl
theorem q832 : (Jvm.Cond.classLink "InASackToTheRope" (38 : Nat) "InASackToTheRope$Running") ∈ lw_all := lw_g (lw_at lw_m4 19 rfl) rfl
theorem q834 : (Jvm.Cond.methodLink "InASackToTheRope" (40 : Nat) ({ cls := "InASackToTheRope$Running", name := "<init>", desc := "(II)V" } : Jvm.MethodName)) ∈ lw_all := lw_g (lw_at lw_m4 21 rfl) rfl
theorem q840 : (Jvm.Cond.classLink "InASackToTheRope" (41 : Nat) "InASackToTheRope$Greedy") ∈ lw_all := lw_g (lw_at lw_m4 27 rfl) rfl
theorem q842 : (Jvm.Cond.methodLink "InASackToTheRope" (43 : Nat) ({ cls := "InASackToTheRope$Greedy", name := "<init>", desc := "(II)V" } : Jvm.MethodName)) ∈ lw_all := lw_g (lw_at lw_m4 29 rfl) rfl
theorem q849 : (Jvm.Cond.classLink "InASackToTheRope" (44 : Nat) "InASackToTheRope$Tiptoe") ∈ lw_all := lw_g (lw_at lw_m4 36 rfl) rfl
theorem q851 : (Jvm.Cond.methodLink "InASackToTheRope" (46 : Nat) ({ cls := "InASackToTheRope$Tiptoe", name := "<init>", desc := "(II)V" } : Jvm.MethodName)) ∈ lw_all := lw_g (lw_at lw_m4 38 rfl) rfl
theorem q858 : (Jvm.Cond.methodLink "InASackToTheRope" (49 : Nat) ({ cls := "InASackToTheRope$Hopper", name := "<init>", desc := "(II)V" } : Jvm.MethodName)) ∈ lw_all := lw_g (lw_at lw_m4 45 rfl) rfl
theorem q863 : (Jvm.Cond.instanceMethod ({ cls := "InASackToTheRope", name := "sack", desc := "(II)I" } : Jvm.MethodName)) ∈ lw_all := lw_g (lw_at lw_m4 50 rfl) rfl
theorem q864 : (Jvm.Cond.selects "InASackToTheRope" ({ cls := "InASackToTheRope", name := "sack", desc := "(II)I" } : Jvm.MethodName) ({ cls := "InASackToTheRope", name := "sack", desc := "(II)I" } : Jvm.MethodName)) ∈ lw_all := lw_g (lw_at lw_m4 51 rfl) rfl
theorem q865 : (Jvm.Cond.codeWith ({ cls := "InASackToTheRope", name := "sack", desc := "(II)I" } : Jvm.MethodName) prog_1_method_21_code (4 : Nat) (Option.some Jvm.ClassFile.FieldType.int) [((0 : Nat), (74 : Nat), (75 : Nat), (21 : Nat))]) ∈ lw_all := lw_g (lw_at lw_m4 52 rfl) rfl
theorem q866 : (Jvm.Cond.methodLink "InASackToTheRope" (203 : Nat) ({ cls := "InASackToTheRope$Field", name := "addSack", desc := "(II)V" } : Jvm.MethodName)) ∈ lw_all := lw_g (lw_at lw_m4 53 rfl) rfl
theorem q871 : (Jvm.Cond.instanceMethod ({ cls := "InASackToTheRope", name := "childOf", desc := "(II)I" } : Jvm.MethodName)) ∈ lw_all := lw_g (lw_at lw_m4 58 rfl) rfl
theorem q872 : (Jvm.Cond.selects "InASackToTheRope" ({ cls := "InASackToTheRope", name := "childOf", desc := "(II)I" } : Jvm.MethodName) ({ cls := "InASackToTheRope", name := "childOf", desc := "(II)I" } : Jvm.MethodName)) ∈ lw_all := lw_g (lw_at lw_m4 59 rfl) rfl
theorem q873 : (Jvm.Cond.code ({ cls := "InASackToTheRope", name := "childOf", desc := "(II)I" } : Jvm.MethodName) prog_1_method_22_code (3 : Nat) (Option.some Jvm.ClassFile.FieldType.int)) ∈ lw_all := lw_g (lw_at lw_m4 60 rfl) rfl
theorem q874 : (Jvm.Cond.methodLink "InASackToTheRope" (206 : Nat) ({ cls := "InASackToTheRope", name := "beyond", desc := "()I" } : Jvm.MethodName)) ∈ lw_all := lw_g (lw_at lw_m4 61 rfl) rfl
theorem q875 : (Jvm.Cond.privateMethod ({ cls := "InASackToTheRope", name := "beyond", desc := "()I" } : Jvm.MethodName)) ∈ lw_tbl := lw_at lw_m4 62 rfl
theorem q876 : (Jvm.Cond.instanceMethod ({ cls := "InASackToTheRope", name := "beyond", desc := "()I" } : Jvm.MethodName)) ∈ lw_all := lw_g (lw_at lw_m4 63 rfl) rfl
theorem q877 : (Jvm.Cond.code ({ cls := "InASackToTheRope", name := "beyond", desc := "()I" } : Jvm.MethodName) prog_1_method_7_code (1 : Nat) (Option.some Jvm.ClassFile.FieldType.int)) ∈ lw_all := lw_g (lw_at lw_m4 64 rfl) rfl
theorem q878 : (Jvm.Cond.methodLink "InASackToTheRope" (209 : Nat) ({ cls := "InASackToTheRope$Hopper", name := "kind", desc := "()I" } : Jvm.MethodName)) ∈ lw_all := lw_g (lw_at lw_m4 65 rfl) rfl
theorem q901 : (Jvm.Cond.methodLink "InASackToTheRope" (224 : Nat) ({ cls := "InASackToTheRope$Field", name := "strideOf", desc := "(I)I" } : Jvm.MethodName)) ∈ lw_all := lw_g (lw_at lw_m4 88 rfl) rfl
theorem q902 : (Jvm.Cond.methodLink "InASackToTheRope" (228 : Nat) ({ cls := "InASackToTheRope$Hopper", name := "puff", desc := "()I" } : Jvm.MethodName)) ∈ lw_all := lw_g (lw_at lw_m4 89 rfl) rfl
theorem q915 : (Jvm.Cond.methodLink "InASackToTheRope" (231 : Nat) ({ cls := "InASackToTheRope$Field", name := "riskOf", desc := "(I)I" } : Jvm.MethodName)) ∈ lw_all := lw_g (lw_at lw_m4 102 rfl) rfl
theorem q917 : (Jvm.Cond.instanceMethod ({ cls := "InASackToTheRope", name := "sackOf", desc := "(II)I" } : Jvm.MethodName)) ∈ lw_all := lw_g (lw_at lw_m4 104 rfl) rfl
theorem q918 : (Jvm.Cond.selects "InASackToTheRope" ({ cls := "InASackToTheRope", name := "sackOf", desc := "(II)I" } : Jvm.MethodName) ({ cls := "InASackToTheRope", name := "sackOf", desc := "(II)I" } : Jvm.MethodName)) ∈ lw_all := lw_g (lw_at lw_m4 105 rfl) rfl
theorem q919 : (Jvm.Cond.codeWith ({ cls := "InASackToTheRope", name := "sackOf", desc := "(II)I" } : Jvm.MethodName) prog_1_method_23_code (4 : Nat) (Option.some Jvm.ClassFile.FieldType.int) [((0 : Nat), (49 : Nat), (50 : Nat), (21 : Nat))]) ∈ lw_all := lw_g (lw_at lw_m4 106 rfl) rfl
theorem q920 : (Jvm.Cond.methodLink "InASackToTheRope" (237 : Nat) ({ cls := "InASackToTheRope$Field", name := "isSack", desc := "(I)Z" } : Jvm.MethodName)) ∈ lw_all := lw_g (lw_at lw_m4 107 rfl) rfl
theorem q922 : (Jvm.Cond.instanceMethod ({ cls := "InASackToTheRope", name := "wears", desc := "(II)I" } : Jvm.MethodName)) ∈ lw_all := lw_g (lw_at lw_m4 109 rfl) rfl
theorem q923 : (Jvm.Cond.selects "InASackToTheRope" ({ cls := "InASackToTheRope", name := "wears", desc := "(II)I" } : Jvm.MethodName) ({ cls := "InASackToTheRope", name := "wears", desc := "(II)I" } : Jvm.MethodName)) ∈ lw_all := lw_g (lw_at lw_m4 110 rfl) rfl
theorem q924 : (Jvm.Cond.codeWith ({ cls := "InASackToTheRope", name := "wears", desc := "(II)I" } : Jvm.MethodName) prog_1_method_24_code (4 : Nat) (Option.some Jvm.ClassFile.FieldType.int) [((0 : Nat), (52 : Nat), (53 : Nat), (21 : Nat))]) ∈ lw_all := lw_g (lw_at lw_m4 111 rfl) rfl
theorem q926 : (Jvm.Cond.instanceMethod ({ cls := "InASackToTheRope", name := "ahead", desc := "(II)I" } : Jvm.MethodName)) ∈ lw_all := lw_g (lw_at lw_m4 113 rfl) rfl
theorem q927 : (Jvm.Cond.selects "InASackToTheRope" ({ cls := "InASackToTheRope", name := "ahead", desc := "(II)I" } : Jvm.MethodName) ({ cls := "InASackToTheRope", name := "ahead", desc := "(II)I" } : Jvm.MethodName)) ∈ lw_all := lw_g (lw_at lw_m4 114 rfl) rfl
theorem q928 : (Jvm.Cond.codeWith ({ cls := "InASackToTheRope", name := "ahead", desc := "(II)I" } : Jvm.MethodName) prog_1_method_25_code (4 : Nat) (Option.some Jvm.ClassFile.FieldType.int) [((0 : Nat), (40 : Nat), (41 : Nat), (21 : Nat))]) ∈ lw_all := lw_g (lw_at lw_m4 115 rfl) rfl
theorem q929 : (Jvm.Cond.constantLong "InASackToTheRope" (245 : Nat) (99 : Int64)) ∈ lw_all := lw_g (lw_at lw_m4 116 rfl) rfl
theorem q931 : (Jvm.Cond.instanceMethod ({ cls := "InASackToTheRope", name := "ask", desc := "(II)I" } : Jvm.MethodName)) ∈ lw_all := lw_g (lw_at lw_m4 118 rfl) rfl
theorem q932 : (Jvm.Cond.selects "InASackToTheRope" ({ cls := "InASackToTheRope", name := "ask", desc := "(II)I" } : Jvm.MethodName) ({ cls := "InASackToTheRope", name := "ask", desc := "(II)I" } : Jvm.MethodName)) ∈ lw_all := lw_g (lw_at lw_m4 119 rfl) rfl
theorem q933 : (Jvm.Cond.codeWith ({ cls := "InASackToTheRope", name := "ask", desc := "(II)I" } : Jvm.MethodName) prog_1_method_27_code (4 : Nat) (Option.some Jvm.ClassFile.FieldType.int) [((0 : Nat), (31 : Nat), (32 : Nat), (21 : Nat))]) ∈ lw_all := lw_g (lw_at lw_m4 120 rfl) rfl
theorem q934 : (Jvm.Cond.methodLink "InASackToTheRope" (253 : Nat) ({ cls := "InASackToTheRope", name := "mayAsk", desc := "(II)Z" } : Jvm.MethodName)) ∈ lw_all := lw_g (lw_at lw_m4 121 rfl) rfl
theorem q935 : (Jvm.Cond.static ({ cls := "InASackToTheRope", name := "mayAsk", desc := "(II)Z" } : Jvm.MethodName)) ∈ lw_all := lw_g (lw_at lw_m4 122 rfl) rfl
theorem q936 : (Jvm.Cond.code ({ cls := "InASackToTheRope", name := "mayAsk", desc := "(II)Z" } : Jvm.MethodName) prog_1_method_26_code (2 : Nat) (Option.some Jvm.ClassFile.FieldType.boolean)) ∈ lw_all := lw_g (lw_at lw_m4 123 rfl) rfl
theorem q937 : (Jvm.Cond.constantLong "InASackToTheRope" (247 : Nat) (200 : Int64)) ∈ lw_all := lw_g (lw_at lw_m4 124 rfl) rfl
theorem q938 : (Jvm.Cond.constantLong "InASackToTheRope" (249 : Nat) (20 : Int64)) ∈ lw_all := lw_g (lw_at lw_m4 125 rfl) rfl
theorem q939 : (Jvm.Cond.constantLong "InASackToTheRope" (251 : Nat) (60 : Int64)) ∈ lw_all := lw_g (lw_at lw_m4 126 rfl) rfl
theorem q941 : (Jvm.Cond.instanceMethod ({ cls := "InASackToTheRope", name := "roll", desc := "(Z)I" } : Jvm.MethodName)) ∈ lw_all := lw_g (lw_at lw_m4 128 rfl) rfl
theorem q942 : (Jvm.Cond.selects "InASackToTheRope" ({ cls := "InASackToTheRope", name := "roll", desc := "(Z)I" } : Jvm.MethodName) ({ cls := "InASackToTheRope", name := "roll", desc := "(Z)I" } : Jvm.MethodName)) ∈ lw_all := lw_g (lw_at lw_m4 129 rfl) rfl
theorem q943 : (Jvm.Cond.code ({ cls := "InASackToTheRope", name := "roll", desc := "(Z)I" } : Jvm.MethodName) prog_1_method_28_code (3 : Nat) (Option.some Jvm.ClassFile.FieldType.int)) ∈ lw_all := lw_g (lw_at lw_m4 130 rfl) rfl
theorem q945 : (Jvm.Cond.instanceMethod ({ cls := "InASackToTheRope", name := "field", desc := "(I)I" } : Jvm.MethodName)) ∈ lw_all := lw_g (lw_at lw_m4 132 rfl) rfl
theorem q946 : (Jvm.Cond.selects "InASackToTheRope" ({ cls := "InASackToTheRope", name := "field", desc := "(I)I" } : Jvm.MethodName) ({ cls := "InASackToTheRope", name := "field", desc := "(I)I" } : Jvm.MethodName)) ∈ lw_all := lw_g (lw_at lw_m4 133 rfl) rfl
theorem q947 : (Jvm.Cond.codeWith ({ cls := "InASackToTheRope", name := "field", desc := "(I)I" } : Jvm.MethodName) prog_1_method_29_code (5 : Nat) (Option.some Jvm.ClassFile.FieldType.int) [((29 : Nat), (50 : Nat), (51 : Nat), (276 : Nat)), ((0 : Nat), (50 : Nat), (72 : Nat), (21 : Nat)), ((51 : Nat), (72 : Nat), (72 : Nat), (21 : Nat))]) ∈ lw_all := lw_g (lw_at lw_m4 134 rfl) rfl
theorem q948 : (Jvm.Cond.classLink "InASackToTheRope" (276 : Nat) "InASackToTheRope$Faulty") ∈ lw_all := lw_g (lw_at lw_m4 135 rfl) rfl
theorem q949 : (Jvm.Cond.methodLink "InASackToTheRope" (264 : Nat) ({ cls := "InASackToTheRope$Field", name := "take", desc := "(LInASackToTheRope$Field;)LInASackToTheRope$Field;" } : Jvm.MethodName)) ∈ lw_all := lw_g (lw_at lw_m4 136 rfl) rfl
theorem q954 : (Jvm.Cond.classLink "InASackToTheRope" (268 : Nat) "InASackToTheRope$Reader") ∈ lw_all := lw_g (lw_at lw_m4 141 rfl) rfl
theorem q956 : (Jvm.Cond.methodLink "InASackToTheRope" (270 : Nat) ({ cls := "InASackToTheRope$Reader", name := "<init>", desc := "(LInASackToTheRope$Row;LInASackToTheRope$Field;)V" } : Jvm.MethodName)) ∈ lw_all := lw_g (lw_at lw_m4 143 rfl) rfl
theorem q973 : (Jvm.Cond.methodLink "InASackToTheRope" (273 : Nat) ({ cls := "InASackToTheRope$Reader", name := "items", desc := "()I" } : Jvm.MethodName)) ∈ lw_all := lw_g (lw_at lw_m4 160 rfl) rfl
theorem q1088 : (Jvm.Cond.fieldLink "InASackToTheRope" (278 : Nat) "InASackToTheRope$Faulty" "place" "I") ∈ lw_all := lw_g (lw_at lw_m5 35 rfl) rfl
theorem q1127 : (Jvm.Cond.instanceMethod ({ cls := "InASackToTheRope", name := "fault", desc := "()I" } : Jvm.MethodName)) ∈ lw_all := lw_g (lw_at lw_m5 74 rfl) rfl
theorem q1128 : (Jvm.Cond.selects "InASackToTheRope" ({ cls := "InASackToTheRope", name := "fault", desc := "()I" } : Jvm.MethodName) ({ cls := "InASackToTheRope", name := "fault", desc := "()I" } : Jvm.MethodName)) ∈ lw_all := lw_g (lw_at lw_m5 75 rfl) rfl
theorem q1129 : (Jvm.Cond.code ({ cls := "InASackToTheRope", name := "fault", desc := "()I" } : Jvm.MethodName) prog_1_method_30_code (1 : Nat) (Option.some Jvm.ClassFile.FieldType.int)) ∈ lw_all := lw_g (lw_at lw_m5 76 rfl) rfl
theorem q1131 : (Jvm.Cond.instanceMethod ({ cls := "InASackToTheRope", name := "behind", desc := "(III)I" } : Jvm.MethodName)) ∈ lw_all := lw_g (lw_at lw_m5 78 rfl) rfl
theorem q1132 : (Jvm.Cond.selects "InASackToTheRope" ({ cls := "InASackToTheRope", name := "behind", desc := "(III)I" } : Jvm.MethodName) ({ cls := "InASackToTheRope", name := "behind", desc := "(III)I" } : Jvm.MethodName)) ∈ lw_all := lw_g (lw_at lw_m5 79 rfl) rfl
theorem q1133 : (Jvm.Cond.codeWith ({ cls := "InASackToTheRope", name := "behind", desc := "(III)I" } : Jvm.MethodName) prog_1_method_31_code (5 : Nat) (Option.some Jvm.ClassFile.FieldType.int) [((0 : Nat), (89 : Nat), (114 : Nat), (21 : Nat)), ((90 : Nat), (95 : Nat), (114 : Nat), (21 : Nat)), ((96 : Nat), (101 : Nat), (114 : Nat), (21 : Nat)), ((102 : Nat), (107 : Nat), (114 : Nat), (21 : Nat)), ((108 : Nat), (113 : Nat), (114 : Nat), (21 : Nat))]) ∈ lw_all := lw_g (lw_at lw_m5 80 rfl) rfl
theorem q1134 : (Jvm.Cond.constantLong "InASackToTheRope" (281 : Nat) (4 : Int64)) ∈ lw_all := lw_g (lw_at lw_m5 81 rfl) rfl
theorem q1135 : (Jvm.Cond.constantLong "InASackToTheRope" (283 : Nat) (999 : Int64)) ∈ lw_all := lw_g (lw_at lw_m5 82 rfl) rfl
theorem q1136 : (Jvm.Cond.methodLink "InASackToTheRope" (285 : Nat) ({ cls := "InASackToTheRope$Runner", name := "of", desc := "(LInASackToTheRope$Field;I)LInASackToTheRope$Runner;" } : Jvm.MethodName)) ∈ lw_all := lw_g (lw_at lw_m5 83 rfl) rfl
theorem q1154 : (Jvm.Cond.methodLink "InASackToTheRope" (289 : Nat) ({ cls := "InASackToTheRope$Runner", name := "passesMany", desc := "(I)LInASackToTheRope$Runner;" } : Jvm.MethodName)) ∈ lw_all := lw_g (lw_at lw_m5 101 rfl) rfl
theorem q1190 : (Jvm.Cond.instanceMethod ({ cls := "InASackToTheRope", name := "comesIn", desc := "(I)I" } : Jvm.MethodName)) ∈ lw_all := lw_g (lw_at lw_m5 137 rfl) rfl
theorem q1191 : (Jvm.Cond.selects "InASackToTheRope" ({ cls := "InASackToTheRope", name := "comesIn", desc := "(I)I" } : Jvm.MethodName) ({ cls := "InASackToTheRope", name := "comesIn", desc := "(I)I" } : Jvm.MethodName)) ∈ lw_all := lw_g (lw_at lw_m5 138 rfl) rfl
theorem q1192 : (Jvm.Cond.codeWith ({ cls := "InASackToTheRope", name := "comesIn", desc := "(I)I" } : Jvm.MethodName) prog_1_method_33_code (3 : Nat) (Option.some Jvm.ClassFile.FieldType.int) [((0 : Nat), (10 : Nat), (11 : Nat), (21 : Nat))]) ∈ lw_all := lw_g (lw_at lw_m5 139 rfl) rfl
theorem q1193 : (Jvm.Cond.methodLink "InASackToTheRope" (311 : Nat) ({ cls := "InASackToTheRope", name := "timeOf", desc := "(I)I" } : Jvm.MethodName)) ∈ lw_all := lw_g (lw_at lw_m5 140 rfl) rfl
theorem q1194 : (Jvm.Cond.privateMethod ({ cls := "InASackToTheRope", name := "timeOf", desc := "(I)I" } : Jvm.MethodName)) ∈ lw_tbl := lw_at lw_m5 141 rfl
theorem q1195 : (Jvm.Cond.instanceMethod ({ cls := "InASackToTheRope", name := "timeOf", desc := "(I)I" } : Jvm.MethodName)) ∈ lw_all := lw_g (lw_at lw_m5 142 rfl) rfl
theorem q1196 : (Jvm.Cond.code ({ cls := "InASackToTheRope", name := "timeOf", desc := "(I)I" } : Jvm.MethodName) prog_1_method_32_code (2 : Nat) (Option.some Jvm.ClassFile.FieldType.int)) ∈ lw_all := lw_g (lw_at lw_m5 143 rfl) rfl
theorem q1197 : (Jvm.Cond.methodLink "InASackToTheRope" (308 : Nat) ({ cls := "InASackToTheRope$Runner", name := "comesIn", desc := "()I" } : Jvm.MethodName)) ∈ lw_all := lw_g (lw_at lw_m5 144 rfl) rfl
theorem q1207 : (Jvm.Cond.instanceMethod ({ cls := "InASackToTheRope", name := "wins", desc := "(I)I" } : Jvm.MethodName)) ∈ lw_all := lw_g (lw_at lw_m5 154 rfl) rfl
theorem q1208 : (Jvm.Cond.selects "InASackToTheRope" ({ cls := "InASackToTheRope", name := "wins", desc := "(I)I" } : Jvm.MethodName) ({ cls := "InASackToTheRope", name := "wins", desc := "(I)I" } : Jvm.MethodName)) ∈ lw_all := lw_g (lw_at lw_m5 155 rfl) rfl
theorem q1209 : (Jvm.Cond.codeWith ({ cls := "InASackToTheRope", name := "wins", desc := "(I)I" } : Jvm.MethodName) prog_1_method_36_code (4 : Nat) (Option.some Jvm.ClassFile.FieldType.int) [((0 : Nat), (68 : Nat), (69 : Nat), (21 : Nat))]) ∈ lw_all := lw_g (lw_at lw_m5 156 rfl) rfl
theorem q1210 : (Jvm.Cond.methodLink "InASackToTheRope" (314 : Nat) ({ cls := "InASackToTheRope", name := "someChildren", desc := "()V" } : Jvm.MethodName)) ∈ lw_all := lw_g (lw_at lw_m5 157 rfl) rfl
theorem q1211 : (Jvm.Cond.privateMethod ({ cls := "InASackToTheRope", name := "someChildren", desc := "()V" } : Jvm.MethodName)) ∈ lw_tbl := lw_at lw_m5 158 rfl
theorem q1212 : (Jvm.Cond.instanceMethod ({ cls := "InASackToTheRope", name := "someChildren", desc := "()V" } : Jvm.MethodName)) ∈ lw_all := lw_g (lw_at lw_m5 159 rfl) rfl
theorem q1213 : (Jvm.Cond.code ({ cls := "InASackToTheRope", name := "someChildren", desc := "()V" } : Jvm.MethodName) prog_1_method_10_code (1 : Nat) (Option.none : Option Jvm.ClassFile.FieldType)) ∈ lw_all := lw_g (lw_at lw_m5 160 rfl) rfl
theorem q1214 : (Jvm.Cond.methodLink "InASackToTheRope" (317 : Nat) ({ cls := "InASackToTheRope", name := "all", desc := "()I" } : Jvm.MethodName)) ∈ lw_all := lw_g (lw_at lw_m5 161 rfl) rfl
theorem q1215 : (Jvm.Cond.privateMethod ({ cls := "InASackToTheRope", name := "all", desc := "()I" } : Jvm.MethodName)) ∈ lw_tbl := lw_at lw_m5 162 rfl
theorem q1216 : (Jvm.Cond.instanceMethod ({ cls := "InASackToTheRope", name := "all", desc := "()I" } : Jvm.MethodName)) ∈ lw_all := lw_g (lw_at lw_m5 163 rfl) rfl
theorem q1217 : (Jvm.Cond.code ({ cls := "InASackToTheRope", name := "all", desc := "()I" } : Jvm.MethodName) prog_1_method_35_code (1 : Nat) (Option.some Jvm.ClassFile.FieldType.int)) ∈ lw_all := lw_g (lw_at lw_m5 164 rfl) rfl
theorem q1218 : (Jvm.Cond.methodLink "InASackToTheRope" (320 : Nat) ({ cls := "InASackToTheRope", name := "winnerOf", desc := "(I)I" } : Jvm.MethodName)) ∈ lw_all := lw_g (lw_at lw_m5 165 rfl) rfl
theorem q1219 : (Jvm.Cond.privateMethod ({ cls := "InASackToTheRope", name := "winnerOf", desc := "(I)I" } : Jvm.MethodName)) ∈ lw_tbl := lw_at lw_m5 166 rfl
theorem q1220 : (Jvm.Cond.instanceMethod ({ cls := "InASackToTheRope", name := "winnerOf", desc := "(I)I" } : Jvm.MethodName)) ∈ lw_all := lw_g (lw_at lw_m5 167 rfl) rfl
theorem q1221 : (Jvm.Cond.code ({ cls := "InASackToTheRope", name := "winnerOf", desc := "(I)I" } : Jvm.MethodName) prog_1_method_34_code (6 : Nat) (Option.some Jvm.ClassFile.FieldType.int)) ∈ lw_all := lw_g (lw_at lw_m5 168 rfl) rfl
theorem q1223 : (Jvm.Cond.instanceMethod ({ cls := "InASackToTheRope", name := "best", desc := "(II)I" } : Jvm.MethodName)) ∈ lw_all := lw_g (lw_at lw_m5 170 rfl) rfl
theorem q1224 : (Jvm.Cond.selects "InASackToTheRope" ({ cls := "InASackToTheRope", name := "best", desc := "(II)I" } : Jvm.MethodName) ({ cls := "InASackToTheRope", name := "best", desc := "(II)I" } : Jvm.MethodName)) ∈ lw_all := lw_g (lw_at lw_m5 171 rfl) rfl
theorem q1225 : (Jvm.Cond.codeWith ({ cls := "InASackToTheRope", name := "best", desc := "(II)I" } : Jvm.MethodName) prog_1_method_42_code (4 : Nat) (Option.some Jvm.ClassFile.FieldType.int) [((0 : Nat), (73 : Nat), (122 : Nat), (21 : Nat)), ((74 : Nat), (94 : Nat), (122 : Nat), (21 : Nat)), ((95 : Nat), (100 : Nat), (122 : Nat), (21 : Nat)), ((101 : Nat), (121 : Nat), (122 : Nat), (21 : Nat))]) ∈ lw_all := lw_g (lw_at lw_m5 172 rfl) rfl
theorem q1226 : (Jvm.Cond.methodLink "InASackToTheRope" (338 : Nat) ({ cls := "InASackToTheRope", name := "bestKind", desc := "(I)I" } : Jvm.MethodName)) ∈ lw_all := lw_g (lw_at lw_m5 173 rfl) rfl
theorem q1227 : (Jvm.Cond.privateMethod ({ cls := "InASackToTheRope", name := "bestKind", desc := "(I)I" } : Jvm.MethodName)) ∈ lw_tbl := lw_at lw_m5 174 rfl
theorem q1228 : (Jvm.Cond.instanceMethod ({ cls := "InASackToTheRope", name := "bestKind", desc := "(I)I" } : Jvm.MethodName)) ∈ lw_all := lw_g (lw_at lw_m5 175 rfl) rfl
theorem q1229 : (Jvm.Cond.code ({ cls := "InASackToTheRope", name := "bestKind", desc := "(I)I" } : Jvm.MethodName) prog_1_method_38_code (4 : Nat) (Option.some Jvm.ClassFile.FieldType.int)) ∈ lw_all := lw_g (lw_at lw_m5 176 rfl) rfl
theorem q1230 : (Jvm.Cond.methodLink "InASackToTheRope" (331 : Nat) ({ cls := "InASackToTheRope", name := "timeAs", desc := "(II)I" } : Jvm.MethodName)) ∈ lw_all := lw_g (lw_at lw_m5 177 rfl) rfl
theorem q1231 : (Jvm.Cond.privateMethod ({ cls := "InASackToTheRope", name := "timeAs", desc := "(II)I" } : Jvm.MethodName)) ∈ lw_tbl := lw_at lw_m5 178 rfl
theorem q1232 : (Jvm.Cond.instanceMethod ({ cls := "InASackToTheRope", name := "timeAs", desc := "(II)I" } : Jvm.MethodName)) ∈ lw_all := lw_g (lw_at lw_m5 179 rfl) rfl
theorem q1233 : (Jvm.Cond.code ({ cls := "InASackToTheRope", name := "timeAs", desc := "(II)I" } : Jvm.MethodName) prog_1_method_37_code (3 : Nat) (Option.some Jvm.ClassFile.FieldType.int)) ∈ lw_all := lw_g (lw_at lw_m5 180 rfl) rfl
theorem q1234 : (Jvm.Cond.methodLink "InASackToTheRope" (323 : Nat) ({ cls := "InASackToTheRope", name := "hopperOfKind", desc := "(III)LInASackToTheRope$Hopper;" } : Jvm.MethodName)) ∈ lw_all := lw_g (lw_at lw_m5 181 rfl) rfl
theorem q1235 : (Jvm.Cond.methodLink "InASackToTheRope" (327 : Nat) ({ cls := "InASackToTheRope$Runner", name := "ofKind", desc := "(LInASackToTheRope$Field;LInASackToTheRope$Hopper;II)LInASackToTheRope$Runner;" } : Jvm.MethodName)) ∈ lw_all := lw_g (lw_at lw_m5 182 rfl) rfl
theorem q1236 : (Jvm.Cond.methodLink "InASackToTheRope" (341 : Nat) ({ cls := "InASackToTheRope", name := "bestSack", desc := "(I)I" } : Jvm.MethodName)) ∈ lw_all := lw_g (lw_at lw_m5 183 rfl) rfl
theorem q1237 : (Jvm.Cond.privateMethod ({ cls := "InASackToTheRope", name := "bestSack", desc := "(I)I" } : Jvm.MethodName)) ∈ lw_tbl := lw_at lw_m5 184 rfl
theorem q1238 : (Jvm.Cond.instanceMethod ({ cls := "InASackToTheRope", name := "bestSack", desc := "(I)I" } : Jvm.MethodName)) ∈ lw_all := lw_g (lw_at lw_m5 185 rfl) rfl
theorem q1239 : (Jvm.Cond.code ({ cls := "InASackToTheRope", name := "bestSack", desc := "(I)I" } : Jvm.MethodName) prog_1_method_40_code (4 : Nat) (Option.some Jvm.ClassFile.FieldType.int)) ∈ lw_all := lw_g (lw_at lw_m5 186 rfl) rfl
theorem q1240 : (Jvm.Cond.methodLink "InASackToTheRope" (335 : Nat) ({ cls := "InASackToTheRope", name := "timeIn", desc := "(II)I" } : Jvm.MethodName)) ∈ lw_all := lw_g (lw_at lw_m5 187 rfl) rfl
theorem q1241 : (Jvm.Cond.privateMethod ({ cls := "InASackToTheRope", name := "timeIn", desc := "(II)I" } : Jvm.MethodName)) ∈ lw_tbl := lw_at lw_m5 188 rfl
theorem q1242 : (Jvm.Cond.instanceMethod ({ cls := "InASackToTheRope", name := "timeIn", desc := "(II)I" } : Jvm.MethodName)) ∈ lw_all := lw_g (lw_at lw_m5 189 rfl) rfl
theorem q1243 : (Jvm.Cond.code ({ cls := "InASackToTheRope", name := "timeIn", desc := "(II)I" } : Jvm.MethodName) prog_1_method_39_code (3 : Nat) (Option.some Jvm.ClassFile.FieldType.int)) ∈ lw_all := lw_g (lw_at lw_m5 190 rfl) rfl
theorem q1244 : (Jvm.Cond.methodLink "InASackToTheRope" (344 : Nat) ({ cls := "InASackToTheRope", name := "timeRolling", desc := "(IZ)I" } : Jvm.MethodName)) ∈ lw_all := lw_g (lw_at lw_m5 191 rfl) rfl
theorem q1245 : (Jvm.Cond.privateMethod ({ cls := "InASackToTheRope", name := "timeRolling", desc := "(IZ)I" } : Jvm.MethodName)) ∈ lw_tbl := lw_at lw_m5 192 rfl
theorem q1246 : (Jvm.Cond.instanceMethod ({ cls := "InASackToTheRope", name := "timeRolling", desc := "(IZ)I" } : Jvm.MethodName)) ∈ lw_all := lw_g (lw_at lw_m5 193 rfl) rfl
theorem q1247 : (Jvm.Cond.code ({ cls := "InASackToTheRope", name := "timeRolling", desc := "(IZ)I" } : Jvm.MethodName) prog_1_method_41_code (3 : Nat) (Option.some Jvm.ClassFile.FieldType.int)) ∈ lw_all := lw_g (lw_at lw_m5 194 rfl) rfl
theorem q1249 : (Jvm.Cond.instanceMethod ({ cls := "InASackToTheRope", name := "given", desc := "(III)I" } : Jvm.MethodName)) ∈ lw_all := lw_g (lw_at lw_m5 196 rfl) rfl
theorem q1250 : (Jvm.Cond.selects "InASackToTheRope" ({ cls := "InASackToTheRope", name := "given", desc := "(III)I" } : Jvm.MethodName) ({ cls := "InASackToTheRope", name := "given", desc := "(III)I" } : Jvm.MethodName)) ∈ lw_all := lw_g (lw_at lw_m5 197 rfl) rfl
theorem q1251 : (Jvm.Cond.codeWith ({ cls := "InASackToTheRope", name := "given", desc := "(III)I" } : Jvm.MethodName) prog_1_method_43_code (5 : Nat) (Option.some Jvm.ClassFile.FieldType.int) [((0 : Nat), (128 : Nat), (129 : Nat), (21 : Nat))]) ∈ lw_all := lw_g (lw_at lw_m5 198 rfl) rfl
theorem q1252 : (Jvm.Cond.constantLong "InASackToTheRope" (348 : Nat) (2 : Int64)) ∈ lw_all := lw_g (lw_at lw_m5 199 rfl) rfl
theorem q1253 : (Jvm.Cond.constantLong "InASackToTheRope" (350 : Nat) (5 : Int64)) ∈ lw_all := lw_g (lw_at lw_m5 200 rfl) rfl
theorem q1254 : (Jvm.Cond.constantLong "InASackToTheRope" (352 : Nat) (-1 : Int64)) ∈ lw_all := lw_g (lw_at lw_m5 201 rfl) rfl
theorem q1255 : (Jvm.Cond.methodLink "InASackToTheRope" (354 : Nat) ({ cls := "InASackToTheRope$Given", name := "of", desc := "(LInASackToTheRope$Field;II)LInASackToTheRope$Given;" } : Jvm.MethodName)) ∈ lw_all := lw_g (lw_at lw_m5 202 rfl) rfl
theorem q1273 : (Jvm.Cond.instanceMethod ({ cls := "InASackToTheRope", name := "two", desc := "(III)I" } : Jvm.MethodName)) ∈ lw_all := lw_g (lw_at lw_m5 220 rfl) rfl
theorem q1274 : (Jvm.Cond.selects "InASackToTheRope" ({ cls := "InASackToTheRope", name := "two", desc := "(III)I" } : Jvm.MethodName) ({ cls := "InASackToTheRope", name := "two", desc := "(III)I" } : Jvm.MethodName)) ∈ lw_all := lw_g (lw_at lw_m5 221 rfl) rfl
theorem q1275 : (Jvm.Cond.codeWith ({ cls := "InASackToTheRope", name := "two", desc := "(III)I" } : Jvm.MethodName) prog_1_method_44_code (5 : Nat) (Option.some Jvm.ClassFile.FieldType.int) [((0 : Nat), (74 : Nat), (75 : Nat), (21 : Nat))]) ∈ lw_all := lw_g (lw_at lw_m5 222 rfl) rfl
theorem q1276 : (Jvm.Cond.methodLink "InASackToTheRope" (363 : Nat) ({ cls := "InASackToTheRope$Runner", name := "ofTwo", desc := "(LInASackToTheRope$Field;III)LInASackToTheRope$Runner;" } : Jvm.MethodName)) ∈ lw_all := lw_g (lw_at lw_m5 223 rfl) rfl
theorem q1282 : (Jvm.Cond.instanceMethod ({ cls := "InASackToTheRope", name := "pair", desc := "()I" } : Jvm.MethodName)) ∈ lw_all := lw_g (lw_at lw_m5 229 rfl) rfl
theorem q1283 : (Jvm.Cond.selects "InASackToTheRope" ({ cls := "InASackToTheRope", name := "pair", desc := "()I" } : Jvm.MethodName) ({ cls := "InASackToTheRope", name := "pair", desc := "()I" } : Jvm.MethodName)) ∈ lw_all := lw_g (lw_at lw_m5 230 rfl) rfl
theorem q1284 : (Jvm.Cond.codeWith ({ cls := "InASackToTheRope", name := "pair", desc := "()I" } : Jvm.MethodName) prog_1_method_45_code (6 : Nat) (Option.some Jvm.ClassFile.FieldType.int) [((0 : Nat), (128 : Nat), (129 : Nat), (21 : Nat))]) ∈ lw_all := lw_g (lw_at lw_m5 231 rfl) rfl
theorem q1286 : (Jvm.Cond.instanceMethod ({ cls := "InASackToTheRope", name := "start", desc := "(II)I" } : Jvm.MethodName)) ∈ lw_all := lw_g (lw_at lw_m5 233 rfl) rfl
theorem q1287 : (Jvm.Cond.selects "InASackToTheRope" ({ cls := "InASackToTheRope", name := "start", desc := "(II)I" } : Jvm.MethodName) ({ cls := "InASackToTheRope", name := "start", desc := "(II)I" } : Jvm.MethodName)) ∈ lw_all := lw_g (lw_at lw_m5 234 rfl) rfl
theorem q1288 : (Jvm.Cond.codeWith ({ cls := "InASackToTheRope", name := "start", desc := "(II)I" } : Jvm.MethodName) prog_1_method_47_code (4 : Nat) (Option.some Jvm.ClassFile.FieldType.int) [((0 : Nat), (41 : Nat), (42 : Nat), (21 : Nat))]) ∈ lw_all := lw_g (lw_at lw_m5 235 rfl) rfl
theorem q1289 : (Jvm.Cond.methodLink "InASackToTheRope" (367 : Nat) ({ cls := "InASackToTheRope", name := "startOf", desc := "(II)I" } : Jvm.MethodName)) ∈ lw_all := lw_g (lw_at lw_m5 236 rfl) rfl
theorem q1290 : (Jvm.Cond.privateMethod ({ cls := "InASackToTheRope", name := "startOf", desc := "(II)I" } : Jvm.MethodName)) ∈ lw_tbl := lw_at lw_m5 237 rfl
theorem q1291 : (Jvm.Cond.instanceMethod ({ cls := "InASackToTheRope", name := "startOf", desc := "(II)I" } : Jvm.MethodName)) ∈ lw_all := lw_g (lw_at lw_m5 238 rfl) rfl
theorem q1292 : (Jvm.Cond.code ({ cls := "InASackToTheRope", name := "startOf", desc := "(II)I" } : Jvm.MethodName) prog_1_method_46_code (4 : Nat) (Option.some Jvm.ClassFile.FieldType.int)) ∈ lw_all := lw_g (lw_at lw_m5 239 rfl) rfl
theorem q1294 : (Jvm.Cond.instanceMethod ({ cls := "InASackToTheRope", name := "atOnce", desc := "()I" } : Jvm.MethodName)) ∈ lw_all := lw_g (lw_at lw_m6 1 rfl) rfl
theorem q1295 : (Jvm.Cond.selects "InASackToTheRope" ({ cls := "InASackToTheRope", name := "atOnce", desc := "()I" } : Jvm.MethodName) ({ cls := "InASackToTheRope", name := "atOnce", desc := "()I" } : Jvm.MethodName)) ∈ lw_all := lw_g (lw_at lw_m6 2 rfl) rfl
theorem q1296 : (Jvm.Cond.code ({ cls := "InASackToTheRope", name := "atOnce", desc := "()I" } : Jvm.MethodName) prog_1_method_48_code (5 : Nat) (Option.some Jvm.ClassFile.FieldType.int)) ∈ lw_all := lw_g (lw_at lw_m6 3 rfl) rfl
theorem q1298 : (Jvm.Cond.instanceMethod ({ cls := "InASackToTheRope", name := "heats", desc := "(II)I" } : Jvm.MethodName)) ∈ lw_all := lw_g (lw_at lw_m6 5 rfl) rfl
theorem q1299 : (Jvm.Cond.selects "InASackToTheRope" ({ cls := "InASackToTheRope", name := "heats", desc := "(II)I" } : Jvm.MethodName) ({ cls := "InASackToTheRope", name := "heats", desc := "(II)I" } : Jvm.MethodName)) ∈ lw_all := lw_g (lw_at lw_m6 6 rfl) rfl
theorem q1300 : (Jvm.Cond.codeWith ({ cls := "InASackToTheRope", name := "heats", desc := "(II)I" } : Jvm.MethodName) prog_1_method_50_code (5 : Nat) (Option.some Jvm.ClassFile.FieldType.int) [((0 : Nat), (93 : Nat), (94 : Nat), (21 : Nat))]) ∈ lw_all := lw_g (lw_at lw_m6 7 rfl) rfl
theorem q1301 : (Jvm.Cond.methodLink "InASackToTheRope" (370 : Nat) ({ cls := "java/lang/Integer", name := "bitCount", desc := "(I)I" } : Jvm.MethodName)) ∈ lw_all := lw_g (lw_at lw_m6 8 rfl) rfl
theorem q1307 : (Jvm.Cond.methodLink "InASackToTheRope" (375 : Nat) ({ cls := "InASackToTheRope", name := "heatsOf", desc := "(II[I)I" } : Jvm.MethodName)) ∈ lw_all := lw_g (lw_at lw_m6 14 rfl) rfl
theorem q1308 : (Jvm.Cond.privateMethod ({ cls := "InASackToTheRope", name := "heatsOf", desc := "(II[I)I" } : Jvm.MethodName)) ∈ lw_tbl := lw_at lw_m6 15 rfl
theorem q1309 : (Jvm.Cond.instanceMethod ({ cls := "InASackToTheRope", name := "heatsOf", desc := "(II[I)I" } : Jvm.MethodName)) ∈ lw_all := lw_g (lw_at lw_m6 16 rfl) rfl
theorem q1310 : (Jvm.Cond.code ({ cls := "InASackToTheRope", name := "heatsOf", desc := "(II[I)I" } : Jvm.MethodName) prog_1_method_49_code (8 : Nat) (Option.some Jvm.ClassFile.FieldType.int)) ∈ lw_all := lw_g (lw_at lw_m6 17 rfl) rfl
theorem q1311 : (Jvm.Cond.methodLink "InASackToTheRope" (379 : Nat) ({ cls := "java/lang/Integer", name := "numberOfTrailingZeros", desc := "(I)I" } : Jvm.MethodName)) ∈ lw_all := lw_g (lw_at lw_m6 18 rfl) rfl
theorem q1316 : (Jvm.Cond.instanceMethod ({ cls := "InASackToTheRope", name := "legs", desc := "(II)I" } : Jvm.MethodName)) ∈ lw_all := lw_g (lw_at lw_m6 23 rfl) rfl
theorem q1317 : (Jvm.Cond.selects "InASackToTheRope" ({ cls := "InASackToTheRope", name := "legs", desc := "(II)I" } : Jvm.MethodName) ({ cls := "InASackToTheRope", name := "legs", desc := "(II)I" } : Jvm.MethodName)) ∈ lw_all := lw_g (lw_at lw_m6 24 rfl) rfl
theorem q1318 : (Jvm.Cond.codeWith ({ cls := "InASackToTheRope", name := "legs", desc := "(II)I" } : Jvm.MethodName) prog_1_method_51_code (4 : Nat) (Option.some Jvm.ClassFile.FieldType.int) [((0 : Nat), (69 : Nat), (78 : Nat), (21 : Nat)), ((70 : Nat), (77 : Nat), (78 : Nat), (21 : Nat))]) ∈ lw_all := lw_g (lw_at lw_m6 25 rfl) rfl
theorem q1320 : (Jvm.Cond.instanceMethod ({ cls := "InASackToTheRope", name := "wall", desc := "(I)I" } : Jvm.MethodName)) ∈ lw_all := lw_g (lw_at lw_m6 27 rfl) rfl
theorem q1321 : (Jvm.Cond.selects "InASackToTheRope" ({ cls := "InASackToTheRope", name := "wall", desc := "(I)I" } : Jvm.MethodName) ({ cls := "InASackToTheRope", name := "wall", desc := "(I)I" } : Jvm.MethodName)) ∈ lw_all := lw_g (lw_at lw_m6 28 rfl) rfl
theorem q1322 : (Jvm.Cond.codeWith ({ cls := "InASackToTheRope", name := "wall", desc := "(I)I" } : Jvm.MethodName) prog_1_method_52_code (3 : Nat) (Option.some Jvm.ClassFile.FieldType.int) [((0 : Nat), (26 : Nat), (27 : Nat), (21 : Nat))]) ∈ lw_all := lw_g (lw_at lw_m6 29 rfl) rfl
theorem q1324 : (Jvm.Cond.instanceMethod ({ cls := "InASackToTheRope", name := "judge", desc := "(II)I" } : Jvm.MethodName)) ∈ lw_all := lw_g (lw_at lw_m6 31 rfl) rfl
theorem q1325 : (Jvm.Cond.selects "InASackToTheRope" ({ cls := "InASackToTheRope", name := "judge", desc := "(II)I" } : Jvm.MethodName) ({ cls := "InASackToTheRope", name := "judge", desc := "(II)I" } : Jvm.MethodName)) ∈ lw_all := lw_g (lw_at lw_m6 32 rfl) rfl
theorem q1326 : (Jvm.Cond.codeWith ({ cls := "InASackToTheRope", name := "judge", desc := "(II)I" } : Jvm.MethodName) prog_1_method_54_code (4 : Nat) (Option.some Jvm.ClassFile.FieldType.int) [((0 : Nat), (63 : Nat), (64 : Nat), (21 : Nat))]) ∈ lw_all := lw_g (lw_at lw_m6 33 rfl) rfl
theorem q1327 : (Jvm.Cond.methodLink "InASackToTheRope" (11 : Nat) ({ cls := "InASackToTheRope$Row", name := "length", desc := "()I" } : Jvm.MethodName)) ∈ lw_all := lw_g (lw_at lw_m6 34 rfl) rfl
theorem q1328 : (Jvm.Cond.methodLink "InASackToTheRope" (388 : Nat) ({ cls := "InASackToTheRope", name := "wrongIn", desc := "(LInASackToTheRope$Row;I)I" } : Jvm.MethodName)) ∈ lw_all := lw_g (lw_at lw_m6 35 rfl) rfl
theorem q1329 : (Jvm.Cond.privateMethod ({ cls := "InASackToTheRope", name := "wrongIn", desc := "(LInASackToTheRope$Row;I)I" } : Jvm.MethodName)) ∈ lw_tbl := lw_at lw_m6 36 rfl
theorem q1330 : (Jvm.Cond.instanceMethod ({ cls := "InASackToTheRope", name := "wrongIn", desc := "(LInASackToTheRope$Row;I)I" } : Jvm.MethodName)) ∈ lw_all := lw_g (lw_at lw_m6 37 rfl) rfl
theorem q1331 : (Jvm.Cond.code ({ cls := "InASackToTheRope", name := "wrongIn", desc := "(LInASackToTheRope$Row;I)I" } : Jvm.MethodName) prog_1_method_53_code (7 : Nat) (Option.some Jvm.ClassFile.FieldType.int)) ∈ lw_all := lw_g (lw_at lw_m6 38 rfl) rfl
theorem q1332 : (Jvm.Cond.methodLink "InASackToTheRope" (385 : Nat) ({ cls := "InASackToTheRope$Row", name := "asInt", desc := "(I)I" } : Jvm.MethodName)) ∈ lw_all := lw_g (lw_at lw_m6 39 rfl) rfl
theorem q1334 : (Jvm.Cond.instanceMethod ({ cls := "InASackToTheRope", name := "meant", desc := "(I)I" } : Jvm.MethodName)) ∈ lw_all := lw_g (lw_at lw_m6 41 rfl) rfl
theorem q1335 : (Jvm.Cond.selects "InASackToTheRope" ({ cls := "InASackToTheRope", name := "meant", desc := "(I)I" } : Jvm.MethodName) ({ cls := "InASackToTheRope", name := "meant", desc := "(I)I" } : Jvm.MethodName)) ∈ lw_all := lw_g (lw_at lw_m6 42 rfl) rfl
theorem q1336 : (Jvm.Cond.codeWith ({ cls := "InASackToTheRope", name := "meant", desc := "(I)I" } : Jvm.MethodName) prog_1_method_55_code (6 : Nat) (Option.some Jvm.ClassFile.FieldType.int) [((0 : Nat), (100 : Nat), (101 : Nat), (21 : Nat))]) ∈ lw_all := lw_g (lw_at lw_m6 43 rfl) rfl
theorem q1338 : (Jvm.Cond.instanceMethod ({ cls := "InASackToTheRope", name := "worn", desc := "(II)I" } : Jvm.MethodName)) ∈ lw_all := lw_g (lw_at lw_m6 45 rfl) rfl
theorem q1339 : (Jvm.Cond.selects "InASackToTheRope" ({ cls := "InASackToTheRope", name := "worn", desc := "(II)I" } : Jvm.MethodName) ({ cls := "InASackToTheRope", name := "worn", desc := "(II)I" } : Jvm.MethodName)) ∈ lw_all := lw_g (lw_at lw_m6 46 rfl) rfl
theorem q1340 : (Jvm.Cond.codeWith ({ cls := "InASackToTheRope", name := "worn", desc := "(II)I" } : Jvm.MethodName) prog_1_method_56_code (5 : Nat) (Option.some Jvm.ClassFile.FieldType.int) [((0 : Nat), (51 : Nat), (52 : Nat), (21 : Nat))]) ∈ lw_all := lw_g (lw_at lw_m6 47 rfl) rfl
theorem q1342 : (Jvm.Cond.instanceMethod ({ cls := "InASackToTheRope", name := "race", desc := "()I" } : Jvm.MethodName)) ∈ lw_all := lw_g (lw_at lw_m6 49 rfl) rfl
theorem q1343 : (Jvm.Cond.selects "InASackToTheRope" ({ cls := "InASackToTheRope", name := "race", desc := "()I" } : Jvm.MethodName) ({ cls := "InASackToTheRope", name := "race", desc := "()I" } : Jvm.MethodName)) ∈ lw_all := lw_g (lw_at lw_m6 50 rfl) rfl
theorem q1344 : (Jvm.Cond.codeWith ({ cls := "InASackToTheRope", name := "race", desc := "()I" } : Jvm.MethodName) prog_1_method_58_code (2 : Nat) (Option.some Jvm.ClassFile.FieldType.int) [((0 : Nat), (8 : Nat), (9 : Nat), (21 : Nat))]) ∈ lw_all := lw_g (lw_at lw_m6 51 rfl) rfl
theorem q1345 : (Jvm.Cond.methodLink "InASackToTheRope" (409 : Nat) ({ cls := "InASackToTheRope", name := "goesRace", desc := "()I" } : Jvm.MethodName)) ∈ lw_all := lw_g (lw_at lw_m6 52 rfl) rfl
theorem q1346 : (Jvm.Cond.privateMethod ({ cls := "InASackToTheRope", name := "goesRace", desc := "()I" } : Jvm.MethodName)) ∈ lw_tbl := lw_at lw_m6 53 rfl
theorem q1347 : (Jvm.Cond.instanceMethod ({ cls := "InASackToTheRope", name := "goesRace", desc := "()I" } : Jvm.MethodName)) ∈ lw_all := lw_g (lw_at lw_m6 54 rfl) rfl
theorem q1348 : (Jvm.Cond.code ({ cls := "InASackToTheRope", name := "goesRace", desc := "()I" } : Jvm.MethodName) prog_1_method_57_code (5 : Nat) (Option.some Jvm.ClassFile.FieldType.int)) ∈ lw_all := lw_g (lw_at lw_m6 55 rfl) rfl
theorem q1349 : (Jvm.Cond.methodLink "InASackToTheRope" (392 : Nat) ({ cls := "InASackToTheRope$Runner", name := "isThere", desc := "()Z" } : Jvm.MethodName)) ∈ lw_all := lw_g (lw_at lw_m6 56 rfl) rfl
theorem q1350 : (Jvm.Cond.methodLink "InASackToTheRope" (395 : Nat) ({ cls := "InASackToTheRope$Runner", name := "passesDrawn", desc := "()V" } : Jvm.MethodName)) ∈ lw_all := lw_g (lw_at lw_m6 57 rfl) rfl
theorem q1359 : (Jvm.Cond.methodLink "InASackToTheRope" (398 : Nat) ({ cls := "InASackToTheRope$Runner", name := "time", desc := "()I" } : Jvm.MethodName)) ∈ lw_all := lw_g (lw_at lw_m6 66 rfl) rfl
theorem q1360 : (Jvm.Cond.methodLink "InASackToTheRope" (401 : Nat) ({ cls := "java/lang/Math", name := "min", desc := "(II)I" } : Jvm.MethodName)) ∈ lw_all := lw_g (lw_at lw_m6 67 rfl) rfl
theorem q1362 : (Jvm.Cond.instanceMethod ({ cls := "InASackToTheRope", name := "summer", desc := "(II)I" } : Jvm.MethodName)) ∈ lw_all := lw_g (lw_at lw_m6 69 rfl) rfl
theorem q1363 : (Jvm.Cond.selects "InASackToTheRope" ({ cls := "InASackToTheRope", name := "summer", desc := "(II)I" } : Jvm.MethodName) ({ cls := "InASackToTheRope", name := "summer", desc := "(II)I" } : Jvm.MethodName)) ∈ lw_all := lw_g (lw_at lw_m6 70 rfl) rfl
theorem q1364 : (Jvm.Cond.codeWith ({ cls := "InASackToTheRope", name := "summer", desc := "(II)I" } : Jvm.MethodName) prog_1_method_59_code (5 : Nat) (Option.some Jvm.ClassFile.FieldType.int) [((0 : Nat), (60 : Nat), (61 : Nat), (21 : Nat))]) ∈ lw_all := lw_g (lw_at lw_m6 71 rfl) rfl
theorem q1365 : (Jvm.Cond.constantLong "InASackToTheRope" (412 : Nat) (30 : Int64)) ∈ lw_all := lw_g (lw_at lw_m6 72 rfl) rfl
theorem q1367 : (Jvm.Cond.instanceMethod ({ cls := "InASackToTheRope", name := "seed", desc := "(I)I" } : Jvm.MethodName)) ∈ lw_all := lw_g (lw_at lw_m6 74 rfl) rfl
theorem q1368 : (Jvm.Cond.selects "InASackToTheRope" ({ cls := "InASackToTheRope", name := "seed", desc := "(I)I" } : Jvm.MethodName) ({ cls := "InASackToTheRope", name := "seed", desc := "(I)I" } : Jvm.MethodName)) ∈ lw_all := lw_g (lw_at lw_m6 75 rfl) rfl
theorem q1369 : (Jvm.Cond.code ({ cls := "InASackToTheRope", name := "seed", desc := "(I)I" } : Jvm.MethodName) prog_1_method_60_code (3 : Nat) (Option.some Jvm.ClassFile.FieldType.int)) ∈ lw_all := lw_g (lw_at lw_m6 76 rfl) rfl
theorem q1371 : (Jvm.Cond.instanceMethod ({ cls := "InASackToTheRope", name := "act", desc := "(III)I" } : Jvm.MethodName)) ∈ lw_all := lw_g (lw_at lw_m6 78 rfl) rfl
theorem q1372 : (Jvm.Cond.selects "InASackToTheRope" ({ cls := "InASackToTheRope", name := "act", desc := "(III)I" } : Jvm.MethodName) ({ cls := "InASackToTheRope", name := "act", desc := "(III)I" } : Jvm.MethodName)) ∈ lw_all := lw_g (lw_at lw_m6 79 rfl) rfl
theorem q1373 : (Jvm.Cond.code ({ cls := "InASackToTheRope", name := "act", desc := "(III)I" } : Jvm.MethodName) prog_1_method_61_code (5 : Nat) (Option.some Jvm.ClassFile.FieldType.int)) ∈ lw_all := lw_g (lw_at lw_m6 80 rfl) rfl
theorem q1374 : (Jvm.Cond.methodLink "InASackToTheRope" (418 : Nat) ({ cls := "InASackToTheRope$Hopper", name := "hopping", desc := "(ILInASackToTheRope$Trace;)I" } : Jvm.MethodName)) ∈ lw_all := lw_g (lw_at lw_m6 81 rfl) rfl
theorem q1401 : (Jvm.Cond.methodLink "InASackToTheRope" (422 : Nat) ({ cls := "InASackToTheRope$Hopper", name := "falling", desc := "(ILInASackToTheRope$Trace;)I" } : Jvm.MethodName)) ∈ lw_all := lw_g (lw_at lw_m6 108 rfl) rfl
theorem q1427 : (Jvm.Cond.methodLink "InASackToTheRope" (425 : Nat) ({ cls := "InASackToTheRope$Hopper", name := "rising", desc := "(ILInASackToTheRope$Trace;)I" } : Jvm.MethodName)) ∈ lw_all := lw_g (lw_at lw_m6 134 rfl) rfl
theorem q1449 : (Jvm.Cond.instanceMethod ({ cls := "InASackToTheRope", name := "trace", desc := "(I)I" } : Jvm.MethodName)) ∈ lw_all := lw_g (lw_at lw_m6 156 rfl) rfl
theorem q1450 : (Jvm.Cond.selects "InASackToTheRope" ({ cls := "InASackToTheRope", name := "trace", desc := "(I)I" } : Jvm.MethodName) ({ cls := "InASackToTheRope", name := "trace", desc := "(I)I" } : Jvm.MethodName)) ∈ lw_all := lw_g (lw_at lw_m6 157 rfl) rfl
theorem q1451 : (Jvm.Cond.code ({ cls := "InASackToTheRope", name := "trace", desc := "(I)I" } : Jvm.MethodName) prog_1_method_62_code (2 : Nat) (Option.some Jvm.ClassFile.FieldType.int)) ∈ lw_all := lw_g (lw_at lw_m6 158 rfl) rfl
theorem q1453 : (Jvm.Cond.instanceMethod ({ cls := "InASackToTheRope", name := "image", desc := "()I" } : Jvm.MethodName)) ∈ lw_all := lw_g (lw_at lw_m6 160 rfl) rfl
theorem q1454 : (Jvm.Cond.selects "InASackToTheRope" ({ cls := "InASackToTheRope", name := "image", desc := "()I" } : Jvm.MethodName) ({ cls := "InASackToTheRope", name := "image", desc := "()I" } : Jvm.MethodName)) ∈ lw_all := lw_g (lw_at lw_m6 161 rfl) rfl
theorem q1455 : (Jvm.Cond.code ({ cls := "InASackToTheRope", name := "image", desc := "()I" } : Jvm.MethodName) prog_1_method_63_code (1 : Nat) (Option.some Jvm.ClassFile.FieldType.int)) ∈ lw_all := lw_g (lw_at lw_m6 162 rfl) rfl
theorem q1457 : (Jvm.Cond.instanceMethod ({ cls := "InASackToTheRope", name := "restore", desc := "()I" } : Jvm.MethodName)) ∈ lw_all := lw_g (lw_at lw_m6 164 rfl) rfl
theorem q1458 : (Jvm.Cond.selects "InASackToTheRope" ({ cls := "InASackToTheRope", name := "restore", desc := "()I" } : Jvm.MethodName) ({ cls := "InASackToTheRope", name := "restore", desc := "()I" } : Jvm.MethodName)) ∈ lw_all := lw_g (lw_at lw_m6 165 rfl) rfl
theorem q1459 : (Jvm.Cond.codeWith ({ cls := "InASackToTheRope", name := "restore", desc := "()I" } : Jvm.MethodName) prog_1_method_64_code (2 : Nat) (Option.some Jvm.ClassFile.FieldType.int) [((0 : Nat), (46 : Nat), (47 : Nat), (21 : Nat))]) ∈ lw_all := lw_g (lw_at lw_m6 166 rfl) rfl
theorem q1460 : (Jvm.Cond.methodLink "InASackToTheRope" (434 : Nat) ({ cls := "InASackToTheRope", name := "shelvesFollow", desc := "()V" } : Jvm.MethodName)) ∈ lw_all := lw_g (lw_at lw_m6 167 rfl) rfl
theorem q1461 : (Jvm.Cond.privateMethod ({ cls := "InASackToTheRope", name := "shelvesFollow", desc := "()V" } : Jvm.MethodName)) ∈ lw_tbl := lw_at lw_m6 168 rfl
theorem q1462 : (Jvm.Cond.instanceMethod ({ cls := "InASackToTheRope", name := "shelvesFollow", desc := "()V" } : Jvm.MethodName)) ∈ lw_all := lw_g (lw_at lw_m6 169 rfl) rfl
theorem q1463 : (Jvm.Cond.code ({ cls := "InASackToTheRope", name := "shelvesFollow", desc := "()V" } : Jvm.MethodName) prog_1_method_11_code (6 : Nat) (Option.none : Option Jvm.ClassFile.FieldType)) ∈ lw_all := lw_g (lw_at lw_m6 170 rfl) rfl
theorem q1465 : (Jvm.Cond.instanceMethod ({ cls := "InASackToTheRope", name := "status", desc := "(I)I" } : Jvm.MethodName)) ∈ lw_all := lw_g (lw_at lw_m6 172 rfl) rfl
theorem q1466 : (Jvm.Cond.selects "InASackToTheRope" ({ cls := "InASackToTheRope", name := "status", desc := "(I)I" } : Jvm.MethodName) ({ cls := "InASackToTheRope", name := "status", desc := "(I)I" } : Jvm.MethodName)) ∈ lw_all := lw_g (lw_at lw_m6 173 rfl) rfl
theorem q1467 : (Jvm.Cond.code ({ cls := "InASackToTheRope", name := "status", desc := "(I)I" } : Jvm.MethodName) prog_1_method_65_code (2 : Nat) (Option.some Jvm.ClassFile.FieldType.int)) ∈ lw_all := lw_g (lw_at lw_m6 174 rfl) rfl
theorem q1468 : (Jvm.Cond.constantLong "InASackToTheRope" (437 : Nat) (11 : Int64)) ∈ lw_all := lw_g (lw_at lw_m6 175 rfl) rfl
theorem q1469 : (Jvm.Cond.constantLong "InASackToTheRope" (439 : Nat) (17 : Int64)) ∈ lw_all := lw_g (lw_at lw_m6 176 rfl) rfl
theorem in_X0 : ∀ w ∈ wsX00, w ∈ lw_all := lw_in wsX00 [338, 340, 342, 344, 346, 348, 350, 352, 354, 356] (by decide +kernel) (by decide +kernel)
