/-! LeastFrames -/
set_option maxRecDepth 100000
def RX0 : String := "LeastFrames"
def TX0 : u_T := fun k => match k with
  | 0 => ("LeastFrames", "latest", "I", false)
  | 1 => ("LeastFrames", "points", "[LLeastFrames$Point;", true)
  | 2 => ("LeastFrames", "many", "I", false)
  | 3 => ("LeastFrames", "bars", "I", false)
  | 4 => ("LeastFrames", "program", "LLeastFrames$Program;", true)
  | 5 => ("LeastFrames", "fault", "I", false)
  | 6 => ("LeastFrames", "least", "LLeastFrames$Volume;", false)
  | 7 => ("LeastFrames", "frame", "I", false)
  | 8 => ("LeastFrames", "pulls", "[J", true)
  | 9 => ("LeastFrames", "pullsBelow", "J", false)
  | 10 => ("LeastFrames", "first", "I", false)
  | 11 => ("LeastFrames", "second", "I", false)
  | _ => ("LeastFrames", "sheets", "[LLeastFrames$Sheet;", true)
def tyX0 : Nat → FieldType := fun k => match k with
  | 0 => .int
  | 1 => .array (.object "LeastFrames$Point")
  | 2 => .int
  | 3 => .int
  | 4 => .object "LeastFrames$Program"
  | 5 => .int
  | 6 => .object "LeastFrames$Volume"
  | 7 => .int
  | 8 => .array .long
  | 9 => .long
  | 10 => .int
  | 11 => .int
  | _ => .array (.object "LeastFrames$Sheet")
abbrev wsX00 : List Cond := u_ws RX0 TX0 13
set_option maxRecDepth 100000 in
theorem nmX0 : ∀ a, a < 13 → ∀ b, b < 13 → a ≠ b → (TX0 a).2.1 ≠ (TX0 b).2.1 := by decide +kernel
set_option maxRecDepth 100000 in
theorem tyX0_ok : ∀ k, k < 13 → parseFieldDescriptor (TX0 k).2.2.1 = some (tyX0 k) := by decide +kernel
abbrev cX0_init : ByteArray := prog_1_method_1_code
def yX0_init : MethodName := ⟨RX0, "<init>", "()V"⟩
def dkwX0_init_5 : List UInt8 := [89, 6, 187, 0, 33, 89, 183, 0, 35, 83, 181, 0, 36, 177]
abbrev dktX0_init_5 : List UInt8 := dkwX0_init_5 ++ []
def dkwX0_init_4 : List UInt8 := [183, 0, 35, 83, 89, 4, 187, 0, 33, 89, 183, 0, 35, 83, 89, 5, 187, 0, 33, 89, 183, 0, 35, 83]
abbrev dktX0_init_4 : List UInt8 := dkwX0_init_4 ++ dktX0_init_5
def dkwX0_init_3 : List UInt8 := [181, 0, 25, 42, 16, 10, 188, 11, 181, 0, 29, 42, 7, 189, 0, 33, 89, 3, 187, 0, 33, 89]
abbrev dktX0_init_3 : List UInt8 := dkwX0_init_3 ++ dktX0_init_4
def dkwX0_init_2 : List UInt8 := [83, 89, 7, 187, 0, 11, 89, 183, 0, 13, 83, 181, 0, 14, 42, 187, 0, 20, 89, 42, 183, 0, 22]
abbrev dktX0_init_2 : List UInt8 := dkwX0_init_2 ++ dktX0_init_3
def dkwX0_init_1 : List UInt8 := [89, 183, 0, 13, 83, 89, 5, 187, 0, 11, 89, 183, 0, 13, 83, 89, 6, 187, 0, 11, 89, 183, 0, 13]
abbrev dktX0_init_1 : List UInt8 := dkwX0_init_1 ++ dktX0_init_2
def dkwX0_init_0 : List UInt8 := [42, 183, 0, 5, 42, 8, 189, 0, 11, 89, 3, 187, 0, 11, 89, 183, 0, 13, 83, 89, 4, 187, 0, 11]
abbrev dktX0_init_0 : List UInt8 := dkwX0_init_0 ++ dktX0_init_1
theorem dksX0_init_0 : cX0_init.data.toList.drop 0 = dktX0_init_0 := by decide +kernel
theorem dksX0_init_1 : cX0_init.data.toList.drop 24 = dktX0_init_1 := dk_seg dksX0_init_0 24 rfl rfl
theorem dksX0_init_2 : cX0_init.data.toList.drop 48 = dktX0_init_2 := dk_seg dksX0_init_1 24 rfl rfl
theorem dksX0_init_3 : cX0_init.data.toList.drop 71 = dktX0_init_3 := dk_seg dksX0_init_2 23 rfl rfl
theorem dksX0_init_4 : cX0_init.data.toList.drop 93 = dktX0_init_4 := dk_seg dksX0_init_3 22 rfl rfl
theorem dksX0_init_5 : cX0_init.data.toList.drop 117 = dktX0_init_5 := dk_seg dksX0_init_4 24 rfl rfl
theorem dX0_init_0 : decode cX0_init 0 = .ok (.aload_n 0, 1) := dk_42 (dk_at dksX0_init_0 0 rfl rfl)
theorem dX0_init_1 : decode cX0_init 1 = .ok (.invokespecial 5, 3) := dk_183 0 5 (dk_at dksX0_init_0 1 rfl rfl)
theorem dX0_init_4 : decode cX0_init 4 = .ok (.aload_n 0, 1) := dk_42 (dk_at dksX0_init_0 4 rfl rfl)
theorem dX0_init_5 : decode cX0_init 5 = .ok (.iconst 5, 1) := dk_8 (dk_at dksX0_init_0 5 rfl rfl)
theorem dX0_init_6 : decode cX0_init 6 = .ok (.anewarray 11, 3) := dk_189 0 11 (dk_at dksX0_init_0 6 rfl rfl)
theorem dX0_init_9 : decode cX0_init 9 = .ok (.dup, 1) := dk_89 (dk_at dksX0_init_0 9 rfl rfl)
theorem dX0_init_10 : decode cX0_init 10 = .ok (.iconst 0, 1) := dk_3 (dk_at dksX0_init_0 10 rfl rfl)
theorem dX0_init_11 : decode cX0_init 11 = .ok (.new 11, 3) := dk_187 0 11 (dk_at dksX0_init_0 11 rfl rfl)
theorem dX0_init_14 : decode cX0_init 14 = .ok (.dup, 1) := dk_89 (dk_at dksX0_init_0 14 rfl rfl)
theorem dX0_init_15 : decode cX0_init 15 = .ok (.invokespecial 13, 3) := dk_183 0 13 (dk_at dksX0_init_0 15 rfl rfl)
theorem dX0_init_18 : decode cX0_init 18 = .ok (.aastore, 1) := dk_83 (dk_at dksX0_init_0 18 rfl rfl)
theorem dX0_init_19 : decode cX0_init 19 = .ok (.dup, 1) := dk_89 (dk_at dksX0_init_0 19 rfl rfl)
theorem dX0_init_20 : decode cX0_init 20 = .ok (.iconst 1, 1) := dk_4 (dk_at dksX0_init_0 20 rfl rfl)
theorem dX0_init_21 : decode cX0_init 21 = .ok (.new 11, 3) := dk_187 0 11 (dk_at dksX0_init_0 21 rfl rfl)
theorem dX0_init_24 : decode cX0_init 24 = .ok (.dup, 1) := dk_89 (dk_at dksX0_init_1 0 rfl rfl)
theorem dX0_init_25 : decode cX0_init 25 = .ok (.invokespecial 13, 3) := dk_183 0 13 (dk_at dksX0_init_1 1 rfl rfl)
theorem dX0_init_28 : decode cX0_init 28 = .ok (.aastore, 1) := dk_83 (dk_at dksX0_init_1 4 rfl rfl)
theorem dX0_init_29 : decode cX0_init 29 = .ok (.dup, 1) := dk_89 (dk_at dksX0_init_1 5 rfl rfl)
theorem dX0_init_30 : decode cX0_init 30 = .ok (.iconst 2, 1) := dk_5 (dk_at dksX0_init_1 6 rfl rfl)
theorem dX0_init_31 : decode cX0_init 31 = .ok (.new 11, 3) := dk_187 0 11 (dk_at dksX0_init_1 7 rfl rfl)
theorem dX0_init_34 : decode cX0_init 34 = .ok (.dup, 1) := dk_89 (dk_at dksX0_init_1 10 rfl rfl)
theorem dX0_init_35 : decode cX0_init 35 = .ok (.invokespecial 13, 3) := dk_183 0 13 (dk_at dksX0_init_1 11 rfl rfl)
theorem dX0_init_38 : decode cX0_init 38 = .ok (.aastore, 1) := dk_83 (dk_at dksX0_init_1 14 rfl rfl)
theorem dX0_init_39 : decode cX0_init 39 = .ok (.dup, 1) := dk_89 (dk_at dksX0_init_1 15 rfl rfl)
theorem dX0_init_40 : decode cX0_init 40 = .ok (.iconst 3, 1) := dk_6 (dk_at dksX0_init_1 16 rfl rfl)
theorem dX0_init_41 : decode cX0_init 41 = .ok (.new 11, 3) := dk_187 0 11 (dk_at dksX0_init_1 17 rfl rfl)
theorem dX0_init_44 : decode cX0_init 44 = .ok (.dup, 1) := dk_89 (dk_at dksX0_init_1 20 rfl rfl)
theorem dX0_init_45 : decode cX0_init 45 = .ok (.invokespecial 13, 3) := dk_183 0 13 (dk_at dksX0_init_1 21 rfl rfl)
theorem dX0_init_48 : decode cX0_init 48 = .ok (.aastore, 1) := dk_83 (dk_at dksX0_init_2 0 rfl rfl)
theorem dX0_init_49 : decode cX0_init 49 = .ok (.dup, 1) := dk_89 (dk_at dksX0_init_2 1 rfl rfl)
theorem dX0_init_50 : decode cX0_init 50 = .ok (.iconst 4, 1) := dk_7 (dk_at dksX0_init_2 2 rfl rfl)
theorem dX0_init_51 : decode cX0_init 51 = .ok (.new 11, 3) := dk_187 0 11 (dk_at dksX0_init_2 3 rfl rfl)
theorem dX0_init_54 : decode cX0_init 54 = .ok (.dup, 1) := dk_89 (dk_at dksX0_init_2 6 rfl rfl)
theorem dX0_init_55 : decode cX0_init 55 = .ok (.invokespecial 13, 3) := dk_183 0 13 (dk_at dksX0_init_2 7 rfl rfl)
theorem dX0_init_58 : decode cX0_init 58 = .ok (.aastore, 1) := dk_83 (dk_at dksX0_init_2 10 rfl rfl)
theorem dX0_init_59 : decode cX0_init 59 = .ok (.putfield 14, 3) := dk_181 0 14 (dk_at dksX0_init_2 11 rfl rfl)
theorem dX0_init_62 : decode cX0_init 62 = .ok (.aload_n 0, 1) := dk_42 (dk_at dksX0_init_2 14 rfl rfl)
theorem dX0_init_63 : decode cX0_init 63 = .ok (.new 20, 3) := dk_187 0 20 (dk_at dksX0_init_2 15 rfl rfl)
theorem dX0_init_66 : decode cX0_init 66 = .ok (.dup, 1) := dk_89 (dk_at dksX0_init_2 18 rfl rfl)
theorem dX0_init_67 : decode cX0_init 67 = .ok (.aload_n 0, 1) := dk_42 (dk_at dksX0_init_2 19 rfl rfl)
theorem dX0_init_68 : decode cX0_init 68 = .ok (.invokespecial 22, 3) := dk_183 0 22 (dk_at dksX0_init_2 20 rfl rfl)
theorem dX0_init_71 : decode cX0_init 71 = .ok (.putfield 25, 3) := dk_181 0 25 (dk_at dksX0_init_3 0 rfl rfl)
theorem dX0_init_74 : decode cX0_init 74 = .ok (.aload_n 0, 1) := dk_42 (dk_at dksX0_init_3 3 rfl rfl)
theorem dX0_init_75 : decode cX0_init 75 = .ok (.bipush 10, 2) := dk_16 10 (dk_at dksX0_init_3 4 rfl rfl)
theorem dX0_init_77 : decode cX0_init 77 = .ok (.newarray .long, 2) := dk_188_11 (dk_at dksX0_init_3 6 rfl rfl)
theorem dX0_init_79 : decode cX0_init 79 = .ok (.putfield 29, 3) := dk_181 0 29 (dk_at dksX0_init_3 8 rfl rfl)
theorem dX0_init_82 : decode cX0_init 82 = .ok (.aload_n 0, 1) := dk_42 (dk_at dksX0_init_3 11 rfl rfl)
theorem dX0_init_83 : decode cX0_init 83 = .ok (.iconst 4, 1) := dk_7 (dk_at dksX0_init_3 12 rfl rfl)
theorem dX0_init_84 : decode cX0_init 84 = .ok (.anewarray 33, 3) := dk_189 0 33 (dk_at dksX0_init_3 13 rfl rfl)
theorem dX0_init_87 : decode cX0_init 87 = .ok (.dup, 1) := dk_89 (dk_at dksX0_init_3 16 rfl rfl)
theorem dX0_init_88 : decode cX0_init 88 = .ok (.iconst 0, 1) := dk_3 (dk_at dksX0_init_3 17 rfl rfl)
theorem dX0_init_89 : decode cX0_init 89 = .ok (.new 33, 3) := dk_187 0 33 (dk_at dksX0_init_3 18 rfl rfl)
theorem dX0_init_92 : decode cX0_init 92 = .ok (.dup, 1) := dk_89 (dk_at dksX0_init_3 21 rfl rfl)
theorem dX0_init_93 : decode cX0_init 93 = .ok (.invokespecial 35, 3) := dk_183 0 35 (dk_at dksX0_init_4 0 rfl rfl)
theorem dX0_init_96 : decode cX0_init 96 = .ok (.aastore, 1) := dk_83 (dk_at dksX0_init_4 3 rfl rfl)
theorem dX0_init_97 : decode cX0_init 97 = .ok (.dup, 1) := dk_89 (dk_at dksX0_init_4 4 rfl rfl)
theorem dX0_init_98 : decode cX0_init 98 = .ok (.iconst 1, 1) := dk_4 (dk_at dksX0_init_4 5 rfl rfl)
theorem dX0_init_99 : decode cX0_init 99 = .ok (.new 33, 3) := dk_187 0 33 (dk_at dksX0_init_4 6 rfl rfl)
theorem dX0_init_102 : decode cX0_init 102 = .ok (.dup, 1) := dk_89 (dk_at dksX0_init_4 9 rfl rfl)
theorem dX0_init_103 : decode cX0_init 103 = .ok (.invokespecial 35, 3) := dk_183 0 35 (dk_at dksX0_init_4 10 rfl rfl)
theorem dX0_init_106 : decode cX0_init 106 = .ok (.aastore, 1) := dk_83 (dk_at dksX0_init_4 13 rfl rfl)
theorem dX0_init_107 : decode cX0_init 107 = .ok (.dup, 1) := dk_89 (dk_at dksX0_init_4 14 rfl rfl)
theorem dX0_init_108 : decode cX0_init 108 = .ok (.iconst 2, 1) := dk_5 (dk_at dksX0_init_4 15 rfl rfl)
theorem dX0_init_109 : decode cX0_init 109 = .ok (.new 33, 3) := dk_187 0 33 (dk_at dksX0_init_4 16 rfl rfl)
theorem dX0_init_112 : decode cX0_init 112 = .ok (.dup, 1) := dk_89 (dk_at dksX0_init_4 19 rfl rfl)
theorem dX0_init_113 : decode cX0_init 113 = .ok (.invokespecial 35, 3) := dk_183 0 35 (dk_at dksX0_init_4 20 rfl rfl)
theorem dX0_init_116 : decode cX0_init 116 = .ok (.aastore, 1) := dk_83 (dk_at dksX0_init_4 23 rfl rfl)
theorem dX0_init_117 : decode cX0_init 117 = .ok (.dup, 1) := dk_89 (dk_at dksX0_init_5 0 rfl rfl)
theorem dX0_init_118 : decode cX0_init 118 = .ok (.iconst 3, 1) := dk_6 (dk_at dksX0_init_5 1 rfl rfl)
theorem dX0_init_119 : decode cX0_init 119 = .ok (.new 33, 3) := dk_187 0 33 (dk_at dksX0_init_5 2 rfl rfl)
theorem dX0_init_122 : decode cX0_init 122 = .ok (.dup, 1) := dk_89 (dk_at dksX0_init_5 5 rfl rfl)
theorem dX0_init_123 : decode cX0_init 123 = .ok (.invokespecial 35, 3) := dk_183 0 35 (dk_at dksX0_init_5 6 rfl rfl)
theorem dX0_init_126 : decode cX0_init 126 = .ok (.aastore, 1) := dk_83 (dk_at dksX0_init_5 9 rfl rfl)
theorem dX0_init_127 : decode cX0_init 127 = .ok (.putfield 36, 3) := dk_181 0 36 (dk_at dksX0_init_5 10 rfl rfl)
theorem dX0_init_130 : decode cX0_init 130 = .ok (.return_, 1) := dk_177 (dk_at dksX0_init_5 13 rfl rfl)
abbrev cX0_point : ByteArray := prog_1_method_18_code
def yX0_point : MethodName := ⟨RX0, "point", "(II)I"⟩
def dkwX0_point_4 : List UInt8 := [28, 182, 0, 149, 42, 89, 180, 0, 60, 4, 96, 181, 0, 60, 42, 180, 0, 60, 4, 100, 172]
abbrev dktX0_point_4 : List UInt8 := dkwX0_point_4 ++ []
def dkwX0_point_3 : List UInt8 := [167, 255, 216, 42, 180, 0, 60, 8, 160, 0, 6, 16, 252, 172, 42, 180, 0, 14, 42, 180, 0, 60, 50, 27]
abbrev dktX0_point_3 : List UInt8 := dkwX0_point_3 ++ dktX0_point_4
def dkwX0_point_2 : List UInt8 := [160, 0, 19, 42, 180, 0, 14, 29, 50, 180, 0, 146, 28, 160, 0, 6, 16, 253, 172, 132, 3, 1]
abbrev dktX0_point_2 : List UInt8 := dkwX0_point_2 ++ dktX0_point_3
def dkwX0_point_1 : List UInt8 := [16, 254, 172, 3, 62, 29, 42, 180, 0, 60, 162, 0, 38, 42, 180, 0, 14, 29, 50, 180, 0, 143, 27]
abbrev dktX0_point_1 : List UInt8 := dkwX0_point_1 ++ dktX0_point_2
def dkwX0_point_0 : List UInt8 := [27, 133, 9, 20, 0, 141, 184, 0, 40, 153, 0, 15, 28, 133, 9, 20, 0, 141, 184, 0, 40, 154, 0, 6]
abbrev dktX0_point_0 : List UInt8 := dkwX0_point_0 ++ dktX0_point_1
theorem dksX0_point_0 : cX0_point.data.toList.drop 0 = dktX0_point_0 := by decide +kernel
theorem dksX0_point_1 : cX0_point.data.toList.drop 24 = dktX0_point_1 := dk_seg dksX0_point_0 24 rfl rfl
theorem dksX0_point_2 : cX0_point.data.toList.drop 47 = dktX0_point_2 := dk_seg dksX0_point_1 23 rfl rfl
theorem dksX0_point_3 : cX0_point.data.toList.drop 69 = dktX0_point_3 := dk_seg dksX0_point_2 22 rfl rfl
theorem dksX0_point_4 : cX0_point.data.toList.drop 93 = dktX0_point_4 := dk_seg dksX0_point_3 24 rfl rfl
theorem dX0_point_0 : decode cX0_point 0 = .ok (.iload_n 1, 1) := dk_27 (dk_at dksX0_point_0 0 rfl rfl)
theorem dX0_point_1 : decode cX0_point 1 = .ok (.i2l, 1) := dk_133 (dk_at dksX0_point_0 1 rfl rfl)
theorem dX0_point_2 : decode cX0_point 2 = .ok (.lconst 0, 1) := dk_9 (dk_at dksX0_point_0 2 rfl rfl)
theorem dX0_point_3 : decode cX0_point 3 = .ok (.ldc2_w 141, 3) := dk_20 0 141 (dk_at dksX0_point_0 3 rfl rfl)
theorem dX0_point_6 : decode cX0_point 6 = .ok (.invokestatic 40, 3) := dk_184 0 40 (dk_at dksX0_point_0 6 rfl rfl)
theorem dX0_point_9 : decode cX0_point 9 = .ok (.ifCond .eq 15, 3) := dk_153 0 15 (dk_at dksX0_point_0 9 rfl rfl)
theorem dX0_point_12 : decode cX0_point 12 = .ok (.iload_n 2, 1) := dk_28 (dk_at dksX0_point_0 12 rfl rfl)
theorem dX0_point_13 : decode cX0_point 13 = .ok (.i2l, 1) := dk_133 (dk_at dksX0_point_0 13 rfl rfl)
theorem dX0_point_14 : decode cX0_point 14 = .ok (.lconst 0, 1) := dk_9 (dk_at dksX0_point_0 14 rfl rfl)
theorem dX0_point_15 : decode cX0_point 15 = .ok (.ldc2_w 141, 3) := dk_20 0 141 (dk_at dksX0_point_0 15 rfl rfl)
theorem dX0_point_18 : decode cX0_point 18 = .ok (.invokestatic 40, 3) := dk_184 0 40 (dk_at dksX0_point_0 18 rfl rfl)
theorem dX0_point_21 : decode cX0_point 21 = .ok (.ifCond .ne 6, 3) := dk_154 0 6 (dk_at dksX0_point_0 21 rfl rfl)
theorem dX0_point_24 : decode cX0_point 24 = .ok (.bipush (-2), 2) := dk_16 254 (dk_at dksX0_point_1 0 rfl rfl)
theorem dX0_point_26 : decode cX0_point 26 = .ok (.ireturn, 1) := dk_172 (dk_at dksX0_point_1 2 rfl rfl)
theorem dX0_point_27 : decode cX0_point 27 = .ok (.iconst 0, 1) := dk_3 (dk_at dksX0_point_1 3 rfl rfl)
theorem dX0_point_28 : decode cX0_point 28 = .ok (.istore_n 3, 1) := dk_62 (dk_at dksX0_point_1 4 rfl rfl)
theorem dX0_point_29 : decode cX0_point 29 = .ok (.iload_n 3, 1) := dk_29 (dk_at dksX0_point_1 5 rfl rfl)
theorem dX0_point_30 : decode cX0_point 30 = .ok (.aload_n 0, 1) := dk_42 (dk_at dksX0_point_1 6 rfl rfl)
theorem dX0_point_31 : decode cX0_point 31 = .ok (.getfield 60, 3) := dk_180 0 60 (dk_at dksX0_point_1 7 rfl rfl)
theorem dX0_point_34 : decode cX0_point 34 = .ok (.if_icmp .ge 38, 3) := dk_162 0 38 (dk_at dksX0_point_1 10 rfl rfl)
theorem dX0_point_37 : decode cX0_point 37 = .ok (.aload_n 0, 1) := dk_42 (dk_at dksX0_point_1 13 rfl rfl)
theorem dX0_point_38 : decode cX0_point 38 = .ok (.getfield 14, 3) := dk_180 0 14 (dk_at dksX0_point_1 14 rfl rfl)
theorem dX0_point_41 : decode cX0_point 41 = .ok (.iload_n 3, 1) := dk_29 (dk_at dksX0_point_1 17 rfl rfl)
theorem dX0_point_42 : decode cX0_point 42 = .ok (.aaload, 1) := dk_50 (dk_at dksX0_point_1 18 rfl rfl)
theorem dX0_point_43 : decode cX0_point 43 = .ok (.getfield 143, 3) := dk_180 0 143 (dk_at dksX0_point_1 19 rfl rfl)
theorem dX0_point_46 : decode cX0_point 46 = .ok (.iload_n 1, 1) := dk_27 (dk_at dksX0_point_1 22 rfl rfl)
theorem dX0_point_47 : decode cX0_point 47 = .ok (.if_icmp .ne 19, 3) := dk_160 0 19 (dk_at dksX0_point_2 0 rfl rfl)
theorem dX0_point_50 : decode cX0_point 50 = .ok (.aload_n 0, 1) := dk_42 (dk_at dksX0_point_2 3 rfl rfl)
theorem dX0_point_51 : decode cX0_point 51 = .ok (.getfield 14, 3) := dk_180 0 14 (dk_at dksX0_point_2 4 rfl rfl)
theorem dX0_point_54 : decode cX0_point 54 = .ok (.iload_n 3, 1) := dk_29 (dk_at dksX0_point_2 7 rfl rfl)
theorem dX0_point_55 : decode cX0_point 55 = .ok (.aaload, 1) := dk_50 (dk_at dksX0_point_2 8 rfl rfl)
theorem dX0_point_56 : decode cX0_point 56 = .ok (.getfield 146, 3) := dk_180 0 146 (dk_at dksX0_point_2 9 rfl rfl)
theorem dX0_point_59 : decode cX0_point 59 = .ok (.iload_n 2, 1) := dk_28 (dk_at dksX0_point_2 12 rfl rfl)
theorem dX0_point_60 : decode cX0_point 60 = .ok (.if_icmp .ne 6, 3) := dk_160 0 6 (dk_at dksX0_point_2 13 rfl rfl)
theorem dX0_point_63 : decode cX0_point 63 = .ok (.bipush (-3), 2) := dk_16 253 (dk_at dksX0_point_2 16 rfl rfl)
theorem dX0_point_65 : decode cX0_point 65 = .ok (.ireturn, 1) := dk_172 (dk_at dksX0_point_2 18 rfl rfl)
theorem dX0_point_66 : decode cX0_point 66 = .ok (.iinc 3 1, 3) := dk_132 3 1 (dk_at dksX0_point_2 19 rfl rfl)
theorem dX0_point_69 : decode cX0_point 69 = .ok (.goto (-40), 3) := dk_167 255 216 (dk_at dksX0_point_3 0 rfl rfl)
theorem dX0_point_72 : decode cX0_point 72 = .ok (.aload_n 0, 1) := dk_42 (dk_at dksX0_point_3 3 rfl rfl)
theorem dX0_point_73 : decode cX0_point 73 = .ok (.getfield 60, 3) := dk_180 0 60 (dk_at dksX0_point_3 4 rfl rfl)
theorem dX0_point_76 : decode cX0_point 76 = .ok (.iconst 5, 1) := dk_8 (dk_at dksX0_point_3 7 rfl rfl)
theorem dX0_point_77 : decode cX0_point 77 = .ok (.if_icmp .ne 6, 3) := dk_160 0 6 (dk_at dksX0_point_3 8 rfl rfl)
theorem dX0_point_80 : decode cX0_point 80 = .ok (.bipush (-4), 2) := dk_16 252 (dk_at dksX0_point_3 11 rfl rfl)
theorem dX0_point_82 : decode cX0_point 82 = .ok (.ireturn, 1) := dk_172 (dk_at dksX0_point_3 13 rfl rfl)
theorem dX0_point_83 : decode cX0_point 83 = .ok (.aload_n 0, 1) := dk_42 (dk_at dksX0_point_3 14 rfl rfl)
theorem dX0_point_84 : decode cX0_point 84 = .ok (.getfield 14, 3) := dk_180 0 14 (dk_at dksX0_point_3 15 rfl rfl)
theorem dX0_point_87 : decode cX0_point 87 = .ok (.aload_n 0, 1) := dk_42 (dk_at dksX0_point_3 18 rfl rfl)
theorem dX0_point_88 : decode cX0_point 88 = .ok (.getfield 60, 3) := dk_180 0 60 (dk_at dksX0_point_3 19 rfl rfl)
theorem dX0_point_91 : decode cX0_point 91 = .ok (.aaload, 1) := dk_50 (dk_at dksX0_point_3 22 rfl rfl)
theorem dX0_point_92 : decode cX0_point 92 = .ok (.iload_n 1, 1) := dk_27 (dk_at dksX0_point_3 23 rfl rfl)
theorem dX0_point_93 : decode cX0_point 93 = .ok (.iload_n 2, 1) := dk_28 (dk_at dksX0_point_4 0 rfl rfl)
theorem dX0_point_94 : decode cX0_point 94 = .ok (.invokevirtual 149, 3) := dk_182 0 149 (dk_at dksX0_point_4 1 rfl rfl)
theorem dX0_point_97 : decode cX0_point 97 = .ok (.aload_n 0, 1) := dk_42 (dk_at dksX0_point_4 4 rfl rfl)
theorem dX0_point_98 : decode cX0_point 98 = .ok (.dup, 1) := dk_89 (dk_at dksX0_point_4 5 rfl rfl)
theorem dX0_point_99 : decode cX0_point 99 = .ok (.getfield 60, 3) := dk_180 0 60 (dk_at dksX0_point_4 6 rfl rfl)
theorem dX0_point_102 : decode cX0_point 102 = .ok (.iconst 1, 1) := dk_4 (dk_at dksX0_point_4 9 rfl rfl)
theorem dX0_point_103 : decode cX0_point 103 = .ok (.iadd, 1) := dk_96 (dk_at dksX0_point_4 10 rfl rfl)
theorem dX0_point_104 : decode cX0_point 104 = .ok (.putfield 60, 3) := dk_181 0 60 (dk_at dksX0_point_4 11 rfl rfl)
theorem dX0_point_107 : decode cX0_point 107 = .ok (.aload_n 0, 1) := dk_42 (dk_at dksX0_point_4 14 rfl rfl)
theorem dX0_point_108 : decode cX0_point 108 = .ok (.getfield 60, 3) := dk_180 0 60 (dk_at dksX0_point_4 15 rfl rfl)
theorem dX0_point_111 : decode cX0_point 111 = .ok (.iconst 1, 1) := dk_4 (dk_at dksX0_point_4 18 rfl rfl)
theorem dX0_point_112 : decode cX0_point 112 = .ok (.isub, 1) := dk_100 (dk_at dksX0_point_4 19 rfl rfl)
theorem dX0_point_113 : decode cX0_point 113 = .ok (.ireturn, 1) := dk_172 (dk_at dksX0_point_4 20 rfl rfl)
abbrev cX0_in : ByteArray := prog_1_method_2_code
def yX0_in : MethodName := ⟨RX0, "in", "(JJJ)Z"⟩
def dkwX0_in_0 : List UInt8 := [30, 32, 148, 155, 0, 14, 30, 22, 4, 148, 157, 0, 7, 4, 167, 0, 4, 3, 172]
abbrev dktX0_in_0 : List UInt8 := dkwX0_in_0 ++ []
theorem dksX0_in_0 : cX0_in.data.toList.drop 0 = dktX0_in_0 := by decide +kernel
theorem dX0_in_0 : decode cX0_in 0 = .ok (.lload_n 0, 1) := dk_30 (dk_at dksX0_in_0 0 rfl rfl)
theorem dX0_in_1 : decode cX0_in 1 = .ok (.lload_n 2, 1) := dk_32 (dk_at dksX0_in_0 1 rfl rfl)
theorem dX0_in_2 : decode cX0_in 2 = .ok (.lcmp, 1) := dk_148 (dk_at dksX0_in_0 2 rfl rfl)
theorem dX0_in_3 : decode cX0_in 3 = .ok (.ifCond .lt 14, 3) := dk_155 0 14 (dk_at dksX0_in_0 3 rfl rfl)
theorem dX0_in_6 : decode cX0_in 6 = .ok (.lload_n 0, 1) := dk_30 (dk_at dksX0_in_0 6 rfl rfl)
theorem dX0_in_7 : decode cX0_in 7 = .ok (.lload 4, 2) := dk_22 4 (dk_at dksX0_in_0 7 rfl rfl)
theorem dX0_in_9 : decode cX0_in 9 = .ok (.lcmp, 1) := dk_148 (dk_at dksX0_in_0 9 rfl rfl)
theorem dX0_in_10 : decode cX0_in 10 = .ok (.ifCond .gt 7, 3) := dk_157 0 7 (dk_at dksX0_in_0 10 rfl rfl)
theorem dX0_in_13 : decode cX0_in 13 = .ok (.iconst 1, 1) := dk_4 (dk_at dksX0_in_0 13 rfl rfl)
theorem dX0_in_14 : decode cX0_in 14 = .ok (.goto 4, 3) := dk_167 0 4 (dk_at dksX0_in_0 14 rfl rfl)
theorem dX0_in_17 : decode cX0_in 17 = .ok (.iconst 0, 1) := dk_3 (dk_at dksX0_in_0 17 rfl rfl)
theorem dX0_in_18 : decode cX0_in 18 = .ok (.ireturn, 1) := dk_172 (dk_at dksX0_in_0 18 rfl rfl)
abbrev cX0_back : ByteArray := prog_1_method_19_code
def yX0_back : MethodName := ⟨RX0, "back", "()I"⟩
def dkwX0_back_1 : List UInt8 := [180, 0, 90, 4, 42, 182, 0, 153, 120, 4, 100, 126, 181, 0, 90, 42, 180, 0, 60, 172]
abbrev dktX0_back_1 : List UInt8 := dkwX0_back_1 ++ []
def dkwX0_back_0 : List UInt8 := [42, 180, 0, 60, 154, 0, 6, 16, 253, 172, 42, 89, 180, 0, 60, 4, 100, 181, 0, 60, 42, 89]
abbrev dktX0_back_0 : List UInt8 := dkwX0_back_0 ++ dktX0_back_1
theorem dksX0_back_0 : cX0_back.data.toList.drop 0 = dktX0_back_0 := by decide +kernel
theorem dksX0_back_1 : cX0_back.data.toList.drop 22 = dktX0_back_1 := dk_seg dksX0_back_0 22 rfl rfl
theorem dX0_back_0 : decode cX0_back 0 = .ok (.aload_n 0, 1) := dk_42 (dk_at dksX0_back_0 0 rfl rfl)
theorem dX0_back_1 : decode cX0_back 1 = .ok (.getfield 60, 3) := dk_180 0 60 (dk_at dksX0_back_0 1 rfl rfl)
theorem dX0_back_4 : decode cX0_back 4 = .ok (.ifCond .ne 6, 3) := dk_154 0 6 (dk_at dksX0_back_0 4 rfl rfl)
theorem dX0_back_7 : decode cX0_back 7 = .ok (.bipush (-3), 2) := dk_16 253 (dk_at dksX0_back_0 7 rfl rfl)
theorem dX0_back_9 : decode cX0_back 9 = .ok (.ireturn, 1) := dk_172 (dk_at dksX0_back_0 9 rfl rfl)
theorem dX0_back_10 : decode cX0_back 10 = .ok (.aload_n 0, 1) := dk_42 (dk_at dksX0_back_0 10 rfl rfl)
theorem dX0_back_11 : decode cX0_back 11 = .ok (.dup, 1) := dk_89 (dk_at dksX0_back_0 11 rfl rfl)
theorem dX0_back_12 : decode cX0_back 12 = .ok (.getfield 60, 3) := dk_180 0 60 (dk_at dksX0_back_0 12 rfl rfl)
theorem dX0_back_15 : decode cX0_back 15 = .ok (.iconst 1, 1) := dk_4 (dk_at dksX0_back_0 15 rfl rfl)
theorem dX0_back_16 : decode cX0_back 16 = .ok (.isub, 1) := dk_100 (dk_at dksX0_back_0 16 rfl rfl)
theorem dX0_back_17 : decode cX0_back 17 = .ok (.putfield 60, 3) := dk_181 0 60 (dk_at dksX0_back_0 17 rfl rfl)
theorem dX0_back_20 : decode cX0_back 20 = .ok (.aload_n 0, 1) := dk_42 (dk_at dksX0_back_0 20 rfl rfl)
theorem dX0_back_21 : decode cX0_back 21 = .ok (.dup, 1) := dk_89 (dk_at dksX0_back_0 21 rfl rfl)
theorem dX0_back_22 : decode cX0_back 22 = .ok (.getfield 90, 3) := dk_180 0 90 (dk_at dksX0_back_1 0 rfl rfl)
theorem dX0_back_25 : decode cX0_back 25 = .ok (.iconst 1, 1) := dk_4 (dk_at dksX0_back_1 3 rfl rfl)
theorem dX0_back_26 : decode cX0_back 26 = .ok (.aload_n 0, 1) := dk_42 (dk_at dksX0_back_1 4 rfl rfl)
theorem dX0_back_27 : decode cX0_back 27 = .ok (.invokevirtual 153, 3) := dk_182 0 153 (dk_at dksX0_back_1 5 rfl rfl)
theorem dX0_back_30 : decode cX0_back 30 = .ok (.ishl, 1) := dk_120 (dk_at dksX0_back_1 8 rfl rfl)
theorem dX0_back_31 : decode cX0_back 31 = .ok (.iconst 1, 1) := dk_4 (dk_at dksX0_back_1 9 rfl rfl)
theorem dX0_back_32 : decode cX0_back 32 = .ok (.isub, 1) := dk_100 (dk_at dksX0_back_1 10 rfl rfl)
theorem dX0_back_33 : decode cX0_back 33 = .ok (.iand, 1) := dk_126 (dk_at dksX0_back_1 11 rfl rfl)
theorem dX0_back_34 : decode cX0_back 34 = .ok (.putfield 90, 3) := dk_181 0 90 (dk_at dksX0_back_1 12 rfl rfl)
theorem dX0_back_37 : decode cX0_back 37 = .ok (.aload_n 0, 1) := dk_42 (dk_at dksX0_back_1 15 rfl rfl)
theorem dX0_back_38 : decode cX0_back 38 = .ok (.getfield 60, 3) := dk_180 0 60 (dk_at dksX0_back_1 16 rfl rfl)
theorem dX0_back_41 : decode cX0_back 41 = .ok (.ireturn, 1) := dk_172 (dk_at dksX0_back_1 19 rfl rfl)
abbrev cX0_pairs : ByteArray := prog_1_method_9_code
def yX0_pairs : MethodName := ⟨RX0, "pairs", "()I"⟩
def dkwX0_pairs_0 : List UInt8 := [42, 180, 0, 60, 42, 180, 0, 60, 4, 100, 104, 5, 108, 172]
abbrev dktX0_pairs_0 : List UInt8 := dkwX0_pairs_0 ++ []
theorem dksX0_pairs_0 : cX0_pairs.data.toList.drop 0 = dktX0_pairs_0 := by decide +kernel
theorem dX0_pairs_0 : decode cX0_pairs 0 = .ok (.aload_n 0, 1) := dk_42 (dk_at dksX0_pairs_0 0 rfl rfl)
theorem dX0_pairs_1 : decode cX0_pairs 1 = .ok (.getfield 60, 3) := dk_180 0 60 (dk_at dksX0_pairs_0 1 rfl rfl)
theorem dX0_pairs_4 : decode cX0_pairs 4 = .ok (.aload_n 0, 1) := dk_42 (dk_at dksX0_pairs_0 4 rfl rfl)
theorem dX0_pairs_5 : decode cX0_pairs 5 = .ok (.getfield 60, 3) := dk_180 0 60 (dk_at dksX0_pairs_0 5 rfl rfl)
theorem dX0_pairs_8 : decode cX0_pairs 8 = .ok (.iconst 1, 1) := dk_4 (dk_at dksX0_pairs_0 8 rfl rfl)
theorem dX0_pairs_9 : decode cX0_pairs 9 = .ok (.isub, 1) := dk_100 (dk_at dksX0_pairs_0 9 rfl rfl)
theorem dX0_pairs_10 : decode cX0_pairs 10 = .ok (.imul, 1) := dk_104 (dk_at dksX0_pairs_0 10 rfl rfl)
theorem dX0_pairs_11 : decode cX0_pairs 11 = .ok (.iconst 2, 1) := dk_5 (dk_at dksX0_pairs_0 11 rfl rfl)
theorem dX0_pairs_12 : decode cX0_pairs 12 = .ok (.idiv, 1) := dk_108 (dk_at dksX0_pairs_0 12 rfl rfl)
theorem dX0_pairs_13 : decode cX0_pairs 13 = .ok (.ireturn, 1) := dk_172 (dk_at dksX0_pairs_0 13 rfl rfl)
abbrev cX0_hold : ByteArray := prog_1_method_23_code
def yX0_hold : MethodName := ⟨RX0, "hold", "(II)I"⟩
def dkwX0_hold_1 : List UInt8 := [180, 0, 14, 27, 50, 180, 0, 165, 62, 42, 180, 0, 14, 27, 50, 28, 181, 0, 165, 29, 172]
abbrev dktX0_hold_1 : List UInt8 := dkwX0_hold_1 ++ []
def dkwX0_hold_0 : List UInt8 := [42, 27, 182, 0, 160, 153, 0, 15, 28, 133, 9, 20, 0, 163, 184, 0, 40, 154, 0, 6, 16, 254, 172, 42]
abbrev dktX0_hold_0 : List UInt8 := dkwX0_hold_0 ++ dktX0_hold_1
theorem dksX0_hold_0 : cX0_hold.data.toList.drop 0 = dktX0_hold_0 := by decide +kernel
theorem dksX0_hold_1 : cX0_hold.data.toList.drop 24 = dktX0_hold_1 := dk_seg dksX0_hold_0 24 rfl rfl
theorem dX0_hold_0 : decode cX0_hold 0 = .ok (.aload_n 0, 1) := dk_42 (dk_at dksX0_hold_0 0 rfl rfl)
theorem dX0_hold_1 : decode cX0_hold 1 = .ok (.iload_n 1, 1) := dk_27 (dk_at dksX0_hold_0 1 rfl rfl)
theorem dX0_hold_2 : decode cX0_hold 2 = .ok (.invokevirtual 160, 3) := dk_182 0 160 (dk_at dksX0_hold_0 2 rfl rfl)
theorem dX0_hold_5 : decode cX0_hold 5 = .ok (.ifCond .eq 15, 3) := dk_153 0 15 (dk_at dksX0_hold_0 5 rfl rfl)
theorem dX0_hold_8 : decode cX0_hold 8 = .ok (.iload_n 2, 1) := dk_28 (dk_at dksX0_hold_0 8 rfl rfl)
theorem dX0_hold_9 : decode cX0_hold 9 = .ok (.i2l, 1) := dk_133 (dk_at dksX0_hold_0 9 rfl rfl)
theorem dX0_hold_10 : decode cX0_hold 10 = .ok (.lconst 0, 1) := dk_9 (dk_at dksX0_hold_0 10 rfl rfl)
theorem dX0_hold_11 : decode cX0_hold 11 = .ok (.ldc2_w 163, 3) := dk_20 0 163 (dk_at dksX0_hold_0 11 rfl rfl)
theorem dX0_hold_14 : decode cX0_hold 14 = .ok (.invokestatic 40, 3) := dk_184 0 40 (dk_at dksX0_hold_0 14 rfl rfl)
theorem dX0_hold_17 : decode cX0_hold 17 = .ok (.ifCond .ne 6, 3) := dk_154 0 6 (dk_at dksX0_hold_0 17 rfl rfl)
theorem dX0_hold_20 : decode cX0_hold 20 = .ok (.bipush (-2), 2) := dk_16 254 (dk_at dksX0_hold_0 20 rfl rfl)
theorem dX0_hold_22 : decode cX0_hold 22 = .ok (.ireturn, 1) := dk_172 (dk_at dksX0_hold_0 22 rfl rfl)
theorem dX0_hold_23 : decode cX0_hold 23 = .ok (.aload_n 0, 1) := dk_42 (dk_at dksX0_hold_0 23 rfl rfl)
theorem dX0_hold_24 : decode cX0_hold 24 = .ok (.getfield 14, 3) := dk_180 0 14 (dk_at dksX0_hold_1 0 rfl rfl)
theorem dX0_hold_27 : decode cX0_hold 27 = .ok (.iload_n 1, 1) := dk_27 (dk_at dksX0_hold_1 3 rfl rfl)
theorem dX0_hold_28 : decode cX0_hold 28 = .ok (.aaload, 1) := dk_50 (dk_at dksX0_hold_1 4 rfl rfl)
theorem dX0_hold_29 : decode cX0_hold 29 = .ok (.getfield 165, 3) := dk_180 0 165 (dk_at dksX0_hold_1 5 rfl rfl)
theorem dX0_hold_32 : decode cX0_hold 32 = .ok (.istore_n 3, 1) := dk_62 (dk_at dksX0_hold_1 8 rfl rfl)
theorem dX0_hold_33 : decode cX0_hold 33 = .ok (.aload_n 0, 1) := dk_42 (dk_at dksX0_hold_1 9 rfl rfl)
theorem dX0_hold_34 : decode cX0_hold 34 = .ok (.getfield 14, 3) := dk_180 0 14 (dk_at dksX0_hold_1 10 rfl rfl)
theorem dX0_hold_37 : decode cX0_hold 37 = .ok (.iload_n 1, 1) := dk_27 (dk_at dksX0_hold_1 13 rfl rfl)
theorem dX0_hold_38 : decode cX0_hold 38 = .ok (.aaload, 1) := dk_50 (dk_at dksX0_hold_1 14 rfl rfl)
theorem dX0_hold_39 : decode cX0_hold 39 = .ok (.iload_n 2, 1) := dk_28 (dk_at dksX0_hold_1 15 rfl rfl)
theorem dX0_hold_40 : decode cX0_hold 40 = .ok (.putfield 165, 3) := dk_181 0 165 (dk_at dksX0_hold_1 16 rfl rfl)
theorem dX0_hold_43 : decode cX0_hold 43 = .ok (.iload_n 3, 1) := dk_29 (dk_at dksX0_hold_1 19 rfl rfl)
theorem dX0_hold_44 : decode cX0_hold 44 = .ok (.ireturn, 1) := dk_172 (dk_at dksX0_hold_1 20 rfl rfl)
abbrev cX0_isPoint : ByteArray := prog_1_method_20_code
def yX0_isPoint : MethodName := ⟨RX0, "isPoint", "(I)Z"⟩
def dkwX0_isPoint_0 : List UInt8 := [27, 133, 9, 42, 180, 0, 60, 4, 100, 133, 184, 0, 40, 172]
abbrev dktX0_isPoint_0 : List UInt8 := dkwX0_isPoint_0 ++ []
theorem dksX0_isPoint_0 : cX0_isPoint.data.toList.drop 0 = dktX0_isPoint_0 := by decide +kernel
theorem dX0_isPoint_0 : decode cX0_isPoint 0 = .ok (.iload_n 1, 1) := dk_27 (dk_at dksX0_isPoint_0 0 rfl rfl)
theorem dX0_isPoint_1 : decode cX0_isPoint 1 = .ok (.i2l, 1) := dk_133 (dk_at dksX0_isPoint_0 1 rfl rfl)
theorem dX0_isPoint_2 : decode cX0_isPoint 2 = .ok (.lconst 0, 1) := dk_9 (dk_at dksX0_isPoint_0 2 rfl rfl)
theorem dX0_isPoint_3 : decode cX0_isPoint 3 = .ok (.aload_n 0, 1) := dk_42 (dk_at dksX0_isPoint_0 3 rfl rfl)
theorem dX0_isPoint_4 : decode cX0_isPoint 4 = .ok (.getfield 60, 3) := dk_180 0 60 (dk_at dksX0_isPoint_0 4 rfl rfl)
theorem dX0_isPoint_7 : decode cX0_isPoint 7 = .ok (.iconst 1, 1) := dk_4 (dk_at dksX0_isPoint_0 7 rfl rfl)
theorem dX0_isPoint_8 : decode cX0_isPoint 8 = .ok (.isub, 1) := dk_100 (dk_at dksX0_isPoint_0 8 rfl rfl)
theorem dX0_isPoint_9 : decode cX0_isPoint 9 = .ok (.i2l, 1) := dk_133 (dk_at dksX0_isPoint_0 9 rfl rfl)
theorem dX0_isPoint_10 : decode cX0_isPoint 10 = .ok (.invokestatic 40, 3) := dk_184 0 40 (dk_at dksX0_isPoint_0 10 rfl rfl)
theorem dX0_isPoint_13 : decode cX0_isPoint 13 = .ok (.ireturn, 1) := dk_172 (dk_at dksX0_isPoint_0 13 rfl rfl)
abbrev cX0_load : ByteArray := prog_1_method_24_code
def yX0_load : MethodName := ⟨RX0, "load", "(III)I"⟩
def dkwX0_load_2 : List UInt8 := [180, 0, 14, 27, 50, 180, 0, 176, 28, 29, 79, 21, 4, 172]
abbrev dktX0_load_2 : List UInt8 := dkwX0_load_2 ++ []
def dkwX0_load_1 : List UInt8 := [184, 0, 40, 154, 0, 6, 18, 175, 172, 42, 180, 0, 14, 27, 50, 180, 0, 176, 28, 46, 54, 4, 42]
abbrev dktX0_load_1 : List UInt8 := dkwX0_load_1 ++ dktX0_load_2
def dkwX0_load_0 : List UInt8 := [42, 27, 182, 0, 160, 153, 0, 24, 28, 184, 0, 168, 153, 0, 17, 29, 133, 20, 0, 171, 20, 0, 173]
abbrev dktX0_load_0 : List UInt8 := dkwX0_load_0 ++ dktX0_load_1
theorem dksX0_load_0 : cX0_load.data.toList.drop 0 = dktX0_load_0 := by decide +kernel
theorem dksX0_load_1 : cX0_load.data.toList.drop 23 = dktX0_load_1 := dk_seg dksX0_load_0 23 rfl rfl
theorem dksX0_load_2 : cX0_load.data.toList.drop 46 = dktX0_load_2 := dk_seg dksX0_load_1 23 rfl rfl
theorem dX0_load_0 : decode cX0_load 0 = .ok (.aload_n 0, 1) := dk_42 (dk_at dksX0_load_0 0 rfl rfl)
theorem dX0_load_1 : decode cX0_load 1 = .ok (.iload_n 1, 1) := dk_27 (dk_at dksX0_load_0 1 rfl rfl)
theorem dX0_load_2 : decode cX0_load 2 = .ok (.invokevirtual 160, 3) := dk_182 0 160 (dk_at dksX0_load_0 2 rfl rfl)
theorem dX0_load_5 : decode cX0_load 5 = .ok (.ifCond .eq 24, 3) := dk_153 0 24 (dk_at dksX0_load_0 5 rfl rfl)
theorem dX0_load_8 : decode cX0_load 8 = .ok (.iload_n 2, 1) := dk_28 (dk_at dksX0_load_0 8 rfl rfl)
theorem dX0_load_9 : decode cX0_load 9 = .ok (.invokestatic 168, 3) := dk_184 0 168 (dk_at dksX0_load_0 9 rfl rfl)
theorem dX0_load_12 : decode cX0_load 12 = .ok (.ifCond .eq 17, 3) := dk_153 0 17 (dk_at dksX0_load_0 12 rfl rfl)
theorem dX0_load_15 : decode cX0_load 15 = .ok (.iload_n 3, 1) := dk_29 (dk_at dksX0_load_0 15 rfl rfl)
theorem dX0_load_16 : decode cX0_load 16 = .ok (.i2l, 1) := dk_133 (dk_at dksX0_load_0 16 rfl rfl)
theorem dX0_load_17 : decode cX0_load 17 = .ok (.ldc2_w 171, 3) := dk_20 0 171 (dk_at dksX0_load_0 17 rfl rfl)
theorem dX0_load_20 : decode cX0_load 20 = .ok (.ldc2_w 173, 3) := dk_20 0 173 (dk_at dksX0_load_0 20 rfl rfl)
theorem dX0_load_23 : decode cX0_load 23 = .ok (.invokestatic 40, 3) := dk_184 0 40 (dk_at dksX0_load_1 0 rfl rfl)
theorem dX0_load_26 : decode cX0_load 26 = .ok (.ifCond .ne 6, 3) := dk_154 0 6 (dk_at dksX0_load_1 3 rfl rfl)
theorem dX0_load_29 : decode cX0_load 29 = .ok (.ldc 175, 2) := dk_18 175 (dk_at dksX0_load_1 6 rfl rfl)
theorem dX0_load_31 : decode cX0_load 31 = .ok (.ireturn, 1) := dk_172 (dk_at dksX0_load_1 8 rfl rfl)
theorem dX0_load_32 : decode cX0_load 32 = .ok (.aload_n 0, 1) := dk_42 (dk_at dksX0_load_1 9 rfl rfl)
theorem dX0_load_33 : decode cX0_load 33 = .ok (.getfield 14, 3) := dk_180 0 14 (dk_at dksX0_load_1 10 rfl rfl)
theorem dX0_load_36 : decode cX0_load 36 = .ok (.iload_n 1, 1) := dk_27 (dk_at dksX0_load_1 13 rfl rfl)
theorem dX0_load_37 : decode cX0_load 37 = .ok (.aaload, 1) := dk_50 (dk_at dksX0_load_1 14 rfl rfl)
theorem dX0_load_38 : decode cX0_load 38 = .ok (.getfield 176, 3) := dk_180 0 176 (dk_at dksX0_load_1 15 rfl rfl)
theorem dX0_load_41 : decode cX0_load 41 = .ok (.iload_n 2, 1) := dk_28 (dk_at dksX0_load_1 18 rfl rfl)
theorem dX0_load_42 : decode cX0_load 42 = .ok (.iaload, 1) := dk_46 (dk_at dksX0_load_1 19 rfl rfl)
theorem dX0_load_43 : decode cX0_load 43 = .ok (.istore 4, 2) := dk_54 4 (dk_at dksX0_load_1 20 rfl rfl)
theorem dX0_load_45 : decode cX0_load 45 = .ok (.aload_n 0, 1) := dk_42 (dk_at dksX0_load_1 22 rfl rfl)
theorem dX0_load_46 : decode cX0_load 46 = .ok (.getfield 14, 3) := dk_180 0 14 (dk_at dksX0_load_2 0 rfl rfl)
theorem dX0_load_49 : decode cX0_load 49 = .ok (.iload_n 1, 1) := dk_27 (dk_at dksX0_load_2 3 rfl rfl)
theorem dX0_load_50 : decode cX0_load 50 = .ok (.aaload, 1) := dk_50 (dk_at dksX0_load_2 4 rfl rfl)
theorem dX0_load_51 : decode cX0_load 51 = .ok (.getfield 176, 3) := dk_180 0 176 (dk_at dksX0_load_2 5 rfl rfl)
theorem dX0_load_54 : decode cX0_load 54 = .ok (.iload_n 2, 1) := dk_28 (dk_at dksX0_load_2 8 rfl rfl)
theorem dX0_load_55 : decode cX0_load 55 = .ok (.iload_n 3, 1) := dk_29 (dk_at dksX0_load_2 9 rfl rfl)
theorem dX0_load_56 : decode cX0_load 56 = .ok (.iastore, 1) := dk_79 (dk_at dksX0_load_2 10 rfl rfl)
theorem dX0_load_57 : decode cX0_load 57 = .ok (.iload 4, 2) := dk_21 4 (dk_at dksX0_load_2 11 rfl rfl)
theorem dX0_load_59 : decode cX0_load 59 = .ok (.ireturn, 1) := dk_172 (dk_at dksX0_load_2 13 rfl rfl)
abbrev cX0_isTwo : ByteArray := prog_1_method_3_code
def yX0_isTwo : MethodName := ⟨RX0, "isTwo", "(I)Z"⟩
def dkwX0_isTwo_0 : List UInt8 := [26, 133, 9, 10, 184, 0, 40, 172]
abbrev dktX0_isTwo_0 : List UInt8 := dkwX0_isTwo_0 ++ []
theorem dksX0_isTwo_0 : cX0_isTwo.data.toList.drop 0 = dktX0_isTwo_0 := by decide +kernel
theorem dX0_isTwo_0 : decode cX0_isTwo 0 = .ok (.iload_n 0, 1) := dk_26 (dk_at dksX0_isTwo_0 0 rfl rfl)
theorem dX0_isTwo_1 : decode cX0_isTwo 1 = .ok (.i2l, 1) := dk_133 (dk_at dksX0_isTwo_0 1 rfl rfl)
theorem dX0_isTwo_2 : decode cX0_isTwo 2 = .ok (.lconst 0, 1) := dk_9 (dk_at dksX0_isTwo_0 2 rfl rfl)
theorem dX0_isTwo_3 : decode cX0_isTwo 3 = .ok (.lconst 1, 1) := dk_10 (dk_at dksX0_isTwo_0 3 rfl rfl)
theorem dX0_isTwo_4 : decode cX0_isTwo 4 = .ok (.invokestatic 40, 3) := dk_184 0 40 (dk_at dksX0_isTwo_0 4 rfl rfl)
theorem dX0_isTwo_7 : decode cX0_isTwo 7 = .ok (.ireturn, 1) := dk_172 (dk_at dksX0_isTwo_0 7 rfl rfl)
abbrev cX0_bar : ByteArray := prog_1_method_25_code
def yX0_bar : MethodName := ⟨RX0, "bar", "(I)I"⟩
def dkwX0_bar_1 : List UInt8 := [180, 0, 90, 172]
abbrev dktX0_bar_1 : List UInt8 := dkwX0_bar_1 ++ []
def dkwX0_bar_0 : List UInt8 := [42, 27, 182, 0, 156, 154, 0, 6, 16, 254, 172, 42, 89, 180, 0, 90, 4, 27, 120, 130, 181, 0, 90, 42]
abbrev dktX0_bar_0 : List UInt8 := dkwX0_bar_0 ++ dktX0_bar_1
theorem dksX0_bar_0 : cX0_bar.data.toList.drop 0 = dktX0_bar_0 := by decide +kernel
theorem dksX0_bar_1 : cX0_bar.data.toList.drop 24 = dktX0_bar_1 := dk_seg dksX0_bar_0 24 rfl rfl
theorem dX0_bar_0 : decode cX0_bar 0 = .ok (.aload_n 0, 1) := dk_42 (dk_at dksX0_bar_0 0 rfl rfl)
theorem dX0_bar_1 : decode cX0_bar 1 = .ok (.iload_n 1, 1) := dk_27 (dk_at dksX0_bar_0 1 rfl rfl)
theorem dX0_bar_2 : decode cX0_bar 2 = .ok (.invokevirtual 156, 3) := dk_182 0 156 (dk_at dksX0_bar_0 2 rfl rfl)
theorem dX0_bar_5 : decode cX0_bar 5 = .ok (.ifCond .ne 6, 3) := dk_154 0 6 (dk_at dksX0_bar_0 5 rfl rfl)
theorem dX0_bar_8 : decode cX0_bar 8 = .ok (.bipush (-2), 2) := dk_16 254 (dk_at dksX0_bar_0 8 rfl rfl)
theorem dX0_bar_10 : decode cX0_bar 10 = .ok (.ireturn, 1) := dk_172 (dk_at dksX0_bar_0 10 rfl rfl)
theorem dX0_bar_11 : decode cX0_bar 11 = .ok (.aload_n 0, 1) := dk_42 (dk_at dksX0_bar_0 11 rfl rfl)
theorem dX0_bar_12 : decode cX0_bar 12 = .ok (.dup, 1) := dk_89 (dk_at dksX0_bar_0 12 rfl rfl)
theorem dX0_bar_13 : decode cX0_bar 13 = .ok (.getfield 90, 3) := dk_180 0 90 (dk_at dksX0_bar_0 13 rfl rfl)
theorem dX0_bar_16 : decode cX0_bar 16 = .ok (.iconst 1, 1) := dk_4 (dk_at dksX0_bar_0 16 rfl rfl)
theorem dX0_bar_17 : decode cX0_bar 17 = .ok (.iload_n 1, 1) := dk_27 (dk_at dksX0_bar_0 17 rfl rfl)
theorem dX0_bar_18 : decode cX0_bar 18 = .ok (.ishl, 1) := dk_120 (dk_at dksX0_bar_0 18 rfl rfl)
theorem dX0_bar_19 : decode cX0_bar 19 = .ok (.ixor, 1) := dk_130 (dk_at dksX0_bar_0 19 rfl rfl)
theorem dX0_bar_20 : decode cX0_bar 20 = .ok (.putfield 90, 3) := dk_181 0 90 (dk_at dksX0_bar_0 20 rfl rfl)
theorem dX0_bar_23 : decode cX0_bar 23 = .ok (.aload_n 0, 1) := dk_42 (dk_at dksX0_bar_0 23 rfl rfl)
theorem dX0_bar_24 : decode cX0_bar 24 = .ok (.getfield 90, 3) := dk_180 0 90 (dk_at dksX0_bar_1 0 rfl rfl)
theorem dX0_bar_27 : decode cX0_bar 27 = .ok (.ireturn, 1) := dk_172 (dk_at dksX0_bar_1 3 rfl rfl)
abbrev cX0_isPair : ByteArray := prog_1_method_21_code
def yX0_isPair : MethodName := ⟨RX0, "isPair", "(I)Z"⟩
def dkwX0_isPair_0 : List UInt8 := [27, 133, 9, 42, 182, 0, 153, 4, 100, 133, 184, 0, 40, 172]
abbrev dktX0_isPair_0 : List UInt8 := dkwX0_isPair_0 ++ []
theorem dksX0_isPair_0 : cX0_isPair.data.toList.drop 0 = dktX0_isPair_0 := by decide +kernel
theorem dX0_isPair_0 : decode cX0_isPair 0 = .ok (.iload_n 1, 1) := dk_27 (dk_at dksX0_isPair_0 0 rfl rfl)
theorem dX0_isPair_1 : decode cX0_isPair 1 = .ok (.i2l, 1) := dk_133 (dk_at dksX0_isPair_0 1 rfl rfl)
theorem dX0_isPair_2 : decode cX0_isPair 2 = .ok (.lconst 0, 1) := dk_9 (dk_at dksX0_isPair_0 2 rfl rfl)
theorem dX0_isPair_3 : decode cX0_isPair 3 = .ok (.aload_n 0, 1) := dk_42 (dk_at dksX0_isPair_0 3 rfl rfl)
theorem dX0_isPair_4 : decode cX0_isPair 4 = .ok (.invokevirtual 153, 3) := dk_182 0 153 (dk_at dksX0_isPair_0 4 rfl rfl)
theorem dX0_isPair_7 : decode cX0_isPair 7 = .ok (.iconst 1, 1) := dk_4 (dk_at dksX0_isPair_0 7 rfl rfl)
theorem dX0_isPair_8 : decode cX0_isPair 8 = .ok (.isub, 1) := dk_100 (dk_at dksX0_isPair_0 8 rfl rfl)
theorem dX0_isPair_9 : decode cX0_isPair 9 = .ok (.i2l, 1) := dk_133 (dk_at dksX0_isPair_0 9 rfl rfl)
theorem dX0_isPair_10 : decode cX0_isPair 10 = .ok (.invokestatic 40, 3) := dk_184 0 40 (dk_at dksX0_isPair_0 10 rfl rfl)
theorem dX0_isPair_13 : decode cX0_isPair 13 = .ok (.ireturn, 1) := dk_172 (dk_at dksX0_isPair_0 13 rfl rfl)
abbrev cX0_all : ByteArray := prog_1_method_26_code
def yX0_all : MethodName := ⟨RX0, "all", "()I"⟩
def dkwX0_all_0 : List UInt8 := [42, 4, 42, 182, 0, 153, 120, 4, 100, 181, 0, 90, 42, 182, 0, 153, 172]
abbrev dktX0_all_0 : List UInt8 := dkwX0_all_0 ++ []
theorem dksX0_all_0 : cX0_all.data.toList.drop 0 = dktX0_all_0 := by decide +kernel
theorem dX0_all_0 : decode cX0_all 0 = .ok (.aload_n 0, 1) := dk_42 (dk_at dksX0_all_0 0 rfl rfl)
theorem dX0_all_1 : decode cX0_all 1 = .ok (.iconst 1, 1) := dk_4 (dk_at dksX0_all_0 1 rfl rfl)
theorem dX0_all_2 : decode cX0_all 2 = .ok (.aload_n 0, 1) := dk_42 (dk_at dksX0_all_0 2 rfl rfl)
theorem dX0_all_3 : decode cX0_all 3 = .ok (.invokevirtual 153, 3) := dk_182 0 153 (dk_at dksX0_all_0 3 rfl rfl)
theorem dX0_all_6 : decode cX0_all 6 = .ok (.ishl, 1) := dk_120 (dk_at dksX0_all_0 6 rfl rfl)
theorem dX0_all_7 : decode cX0_all 7 = .ok (.iconst 1, 1) := dk_4 (dk_at dksX0_all_0 7 rfl rfl)
theorem dX0_all_8 : decode cX0_all 8 = .ok (.isub, 1) := dk_100 (dk_at dksX0_all_0 8 rfl rfl)
theorem dX0_all_9 : decode cX0_all 9 = .ok (.putfield 90, 3) := dk_181 0 90 (dk_at dksX0_all_0 9 rfl rfl)
theorem dX0_all_12 : decode cX0_all 12 = .ok (.aload_n 0, 1) := dk_42 (dk_at dksX0_all_0 12 rfl rfl)
theorem dX0_all_13 : decode cX0_all 13 = .ok (.invokevirtual 153, 3) := dk_182 0 153 (dk_at dksX0_all_0 13 rfl rfl)
theorem dX0_all_16 : decode cX0_all 16 = .ok (.ireturn, 1) := dk_172 (dk_at dksX0_all_0 16 rfl rfl)
abbrev cX0_read : ByteArray := prog_1_method_27_code
def yX0_read : MethodName := ⟨RX0, "read", "(I)I"⟩
def dkwX0_read_4 : List UInt8 := [172]
abbrev dktX0_read_4 : List UInt8 := dkwX0_read_4 ++ []
def dkwX0_read_3 : List UInt8 := [29, 5, 108, 50, 180, 0, 176, 29, 5, 112, 44, 29, 182, 0, 192, 136, 79, 132, 3, 1, 167, 255, 197, 29]
abbrev dktX0_read_3 : List UInt8 := dkwX0_read_3 ++ dktX0_read_4
def dkwX0_read_2 : List UInt8 := [162, 0, 47, 44, 29, 182, 0, 192, 20, 0, 171, 20, 0, 173, 184, 0, 40, 153, 0, 30, 42, 180, 0, 14]
abbrev dktX0_read_2 : List UInt8 := dkwX0_read_2 ++ dktX0_read_3
def dkwX0_read_1 : List UInt8 := [42, 4, 182, 0, 186, 172, 3, 62, 29, 5, 42, 180, 0, 60, 104, 162, 0, 55, 29, 44, 182, 0, 189]
abbrev dktX0_read_1 : List UInt8 := dkwX0_read_1 ++ dktX0_read_2
def dkwX0_read_0 : List UInt8 := [27, 184, 0, 179, 154, 0, 6, 16, 254, 172, 42, 180, 0, 36, 27, 50, 77, 44, 180, 0, 182, 199, 0, 9]
abbrev dktX0_read_0 : List UInt8 := dkwX0_read_0 ++ dktX0_read_1
theorem dksX0_read_0 : cX0_read.data.toList.drop 0 = dktX0_read_0 := by decide +kernel
theorem dksX0_read_1 : cX0_read.data.toList.drop 24 = dktX0_read_1 := dk_seg dksX0_read_0 24 rfl rfl
theorem dksX0_read_2 : cX0_read.data.toList.drop 47 = dktX0_read_2 := dk_seg dksX0_read_1 23 rfl rfl
theorem dksX0_read_3 : cX0_read.data.toList.drop 71 = dktX0_read_3 := dk_seg dksX0_read_2 24 rfl rfl
theorem dksX0_read_4 : cX0_read.data.toList.drop 95 = dktX0_read_4 := dk_seg dksX0_read_3 24 rfl rfl
theorem dX0_read_0 : decode cX0_read 0 = .ok (.iload_n 1, 1) := dk_27 (dk_at dksX0_read_0 0 rfl rfl)
theorem dX0_read_1 : decode cX0_read 1 = .ok (.invokestatic 179, 3) := dk_184 0 179 (dk_at dksX0_read_0 1 rfl rfl)
theorem dX0_read_4 : decode cX0_read 4 = .ok (.ifCond .ne 6, 3) := dk_154 0 6 (dk_at dksX0_read_0 4 rfl rfl)
theorem dX0_read_7 : decode cX0_read 7 = .ok (.bipush (-2), 2) := dk_16 254 (dk_at dksX0_read_0 7 rfl rfl)
theorem dX0_read_9 : decode cX0_read 9 = .ok (.ireturn, 1) := dk_172 (dk_at dksX0_read_0 9 rfl rfl)
theorem dX0_read_10 : decode cX0_read 10 = .ok (.aload_n 0, 1) := dk_42 (dk_at dksX0_read_0 10 rfl rfl)
theorem dX0_read_11 : decode cX0_read 11 = .ok (.getfield 36, 3) := dk_180 0 36 (dk_at dksX0_read_0 11 rfl rfl)
theorem dX0_read_14 : decode cX0_read 14 = .ok (.iload_n 1, 1) := dk_27 (dk_at dksX0_read_0 14 rfl rfl)
theorem dX0_read_15 : decode cX0_read 15 = .ok (.aaload, 1) := dk_50 (dk_at dksX0_read_0 15 rfl rfl)
theorem dX0_read_16 : decode cX0_read 16 = .ok (.astore_n 2, 1) := dk_77 (dk_at dksX0_read_0 16 rfl rfl)
theorem dX0_read_17 : decode cX0_read 17 = .ok (.aload_n 2, 1) := dk_44 (dk_at dksX0_read_0 17 rfl rfl)
theorem dX0_read_18 : decode cX0_read 18 = .ok (.getfield 182, 3) := dk_180 0 182 (dk_at dksX0_read_0 18 rfl rfl)
theorem dX0_read_21 : decode cX0_read 21 = .ok (.ifnonnull 9, 3) := dk_199 0 9 (dk_at dksX0_read_0 21 rfl rfl)
theorem dX0_read_24 : decode cX0_read 24 = .ok (.aload_n 0, 1) := dk_42 (dk_at dksX0_read_1 0 rfl rfl)
theorem dX0_read_25 : decode cX0_read 25 = .ok (.iconst 1, 1) := dk_4 (dk_at dksX0_read_1 1 rfl rfl)
theorem dX0_read_26 : decode cX0_read 26 = .ok (.invokevirtual 186, 3) := dk_182 0 186 (dk_at dksX0_read_1 2 rfl rfl)
theorem dX0_read_29 : decode cX0_read 29 = .ok (.ireturn, 1) := dk_172 (dk_at dksX0_read_1 5 rfl rfl)
theorem dX0_read_30 : decode cX0_read 30 = .ok (.iconst 0, 1) := dk_3 (dk_at dksX0_read_1 6 rfl rfl)
theorem dX0_read_31 : decode cX0_read 31 = .ok (.istore_n 3, 1) := dk_62 (dk_at dksX0_read_1 7 rfl rfl)
theorem dX0_read_32 : decode cX0_read 32 = .ok (.iload_n 3, 1) := dk_29 (dk_at dksX0_read_1 8 rfl rfl)
theorem dX0_read_33 : decode cX0_read 33 = .ok (.iconst 2, 1) := dk_5 (dk_at dksX0_read_1 9 rfl rfl)
theorem dX0_read_34 : decode cX0_read 34 = .ok (.aload_n 0, 1) := dk_42 (dk_at dksX0_read_1 10 rfl rfl)
theorem dX0_read_35 : decode cX0_read 35 = .ok (.getfield 60, 3) := dk_180 0 60 (dk_at dksX0_read_1 11 rfl rfl)
theorem dX0_read_38 : decode cX0_read 38 = .ok (.imul, 1) := dk_104 (dk_at dksX0_read_1 14 rfl rfl)
theorem dX0_read_39 : decode cX0_read 39 = .ok (.if_icmp .ge 55, 3) := dk_162 0 55 (dk_at dksX0_read_1 15 rfl rfl)
theorem dX0_read_42 : decode cX0_read 42 = .ok (.iload_n 3, 1) := dk_29 (dk_at dksX0_read_1 18 rfl rfl)
theorem dX0_read_43 : decode cX0_read 43 = .ok (.aload_n 2, 1) := dk_44 (dk_at dksX0_read_1 19 rfl rfl)
theorem dX0_read_44 : decode cX0_read 44 = .ok (.invokevirtual 189, 3) := dk_182 0 189 (dk_at dksX0_read_1 20 rfl rfl)
theorem dX0_read_47 : decode cX0_read 47 = .ok (.if_icmp .ge 47, 3) := dk_162 0 47 (dk_at dksX0_read_2 0 rfl rfl)
theorem dX0_read_50 : decode cX0_read 50 = .ok (.aload_n 2, 1) := dk_44 (dk_at dksX0_read_2 3 rfl rfl)
theorem dX0_read_51 : decode cX0_read 51 = .ok (.iload_n 3, 1) := dk_29 (dk_at dksX0_read_2 4 rfl rfl)
theorem dX0_read_52 : decode cX0_read 52 = .ok (.invokevirtual 192, 3) := dk_182 0 192 (dk_at dksX0_read_2 5 rfl rfl)
theorem dX0_read_55 : decode cX0_read 55 = .ok (.ldc2_w 171, 3) := dk_20 0 171 (dk_at dksX0_read_2 8 rfl rfl)
theorem dX0_read_58 : decode cX0_read 58 = .ok (.ldc2_w 173, 3) := dk_20 0 173 (dk_at dksX0_read_2 11 rfl rfl)
theorem dX0_read_61 : decode cX0_read 61 = .ok (.invokestatic 40, 3) := dk_184 0 40 (dk_at dksX0_read_2 14 rfl rfl)
theorem dX0_read_64 : decode cX0_read 64 = .ok (.ifCond .eq 30, 3) := dk_153 0 30 (dk_at dksX0_read_2 17 rfl rfl)
theorem dX0_read_67 : decode cX0_read 67 = .ok (.aload_n 0, 1) := dk_42 (dk_at dksX0_read_2 20 rfl rfl)
theorem dX0_read_68 : decode cX0_read 68 = .ok (.getfield 14, 3) := dk_180 0 14 (dk_at dksX0_read_2 21 rfl rfl)
theorem dX0_read_71 : decode cX0_read 71 = .ok (.iload_n 3, 1) := dk_29 (dk_at dksX0_read_3 0 rfl rfl)
theorem dX0_read_72 : decode cX0_read 72 = .ok (.iconst 2, 1) := dk_5 (dk_at dksX0_read_3 1 rfl rfl)
theorem dX0_read_73 : decode cX0_read 73 = .ok (.idiv, 1) := dk_108 (dk_at dksX0_read_3 2 rfl rfl)
theorem dX0_read_74 : decode cX0_read 74 = .ok (.aaload, 1) := dk_50 (dk_at dksX0_read_3 3 rfl rfl)
theorem dX0_read_75 : decode cX0_read 75 = .ok (.getfield 176, 3) := dk_180 0 176 (dk_at dksX0_read_3 4 rfl rfl)
theorem dX0_read_78 : decode cX0_read 78 = .ok (.iload_n 3, 1) := dk_29 (dk_at dksX0_read_3 7 rfl rfl)
theorem dX0_read_79 : decode cX0_read 79 = .ok (.iconst 2, 1) := dk_5 (dk_at dksX0_read_3 8 rfl rfl)
theorem dX0_read_80 : decode cX0_read 80 = .ok (.irem, 1) := dk_112 (dk_at dksX0_read_3 9 rfl rfl)
theorem dX0_read_81 : decode cX0_read 81 = .ok (.aload_n 2, 1) := dk_44 (dk_at dksX0_read_3 10 rfl rfl)
theorem dX0_read_82 : decode cX0_read 82 = .ok (.iload_n 3, 1) := dk_29 (dk_at dksX0_read_3 11 rfl rfl)
theorem dX0_read_83 : decode cX0_read 83 = .ok (.invokevirtual 192, 3) := dk_182 0 192 (dk_at dksX0_read_3 12 rfl rfl)
theorem dX0_read_86 : decode cX0_read 86 = .ok (.l2i, 1) := dk_136 (dk_at dksX0_read_3 15 rfl rfl)
theorem dX0_read_87 : decode cX0_read 87 = .ok (.iastore, 1) := dk_79 (dk_at dksX0_read_3 16 rfl rfl)
theorem dX0_read_88 : decode cX0_read 88 = .ok (.iinc 3 1, 3) := dk_132 3 1 (dk_at dksX0_read_3 17 rfl rfl)
theorem dX0_read_91 : decode cX0_read 91 = .ok (.goto (-59), 3) := dk_167 255 197 (dk_at dksX0_read_3 20 rfl rfl)
theorem dX0_read_94 : decode cX0_read 94 = .ok (.iload_n 3, 1) := dk_29 (dk_at dksX0_read_3 23 rfl rfl)
theorem dX0_read_95 : decode cX0_read 95 = .ok (.ireturn, 1) := dk_172 (dk_at dksX0_read_4 0 rfl rfl)
abbrev cX0_isSheet : ByteArray := prog_1_method_68_code
def yX0_isSheet : MethodName := ⟨RX0, "isSheet", "(I)Z"⟩
def dkwX0_isSheet_0 : List UInt8 := [26, 133, 9, 20, 0, 163, 184, 0, 40, 172]
abbrev dktX0_isSheet_0 : List UInt8 := dkwX0_isSheet_0 ++ []
theorem dksX0_isSheet_0 : cX0_isSheet.data.toList.drop 0 = dktX0_isSheet_0 := by decide +kernel
theorem dX0_isSheet_0 : decode cX0_isSheet 0 = .ok (.iload_n 0, 1) := dk_26 (dk_at dksX0_isSheet_0 0 rfl rfl)
theorem dX0_isSheet_1 : decode cX0_isSheet 1 = .ok (.i2l, 1) := dk_133 (dk_at dksX0_isSheet_0 1 rfl rfl)
theorem dX0_isSheet_2 : decode cX0_isSheet 2 = .ok (.lconst 0, 1) := dk_9 (dk_at dksX0_isSheet_0 2 rfl rfl)
theorem dX0_isSheet_3 : decode cX0_isSheet 3 = .ok (.ldc2_w 163, 3) := dk_20 0 163 (dk_at dksX0_isSheet_0 3 rfl rfl)
theorem dX0_isSheet_6 : decode cX0_isSheet 6 = .ok (.invokestatic 40, 3) := dk_184 0 40 (dk_at dksX0_isSheet_0 6 rfl rfl)
theorem dX0_isSheet_9 : decode cX0_isSheet 9 = .ok (.ireturn, 1) := dk_172 (dk_at dksX0_isSheet_0 9 rfl rfl)
abbrev cX0_finds : ByteArray := prog_1_method_5_code
def yX0_finds : MethodName := ⟨RX0, "finds", "(I)I"⟩
def dkwX0_finds_0 : List UInt8 := [42, 27, 181, 0, 46, 16, 246, 27, 100, 172]
abbrev dktX0_finds_0 : List UInt8 := dkwX0_finds_0 ++ []
theorem dksX0_finds_0 : cX0_finds.data.toList.drop 0 = dktX0_finds_0 := by decide +kernel
theorem dX0_finds_0 : decode cX0_finds 0 = .ok (.aload_n 0, 1) := dk_42 (dk_at dksX0_finds_0 0 rfl rfl)
theorem dX0_finds_1 : decode cX0_finds 1 = .ok (.iload_n 1, 1) := dk_27 (dk_at dksX0_finds_0 1 rfl rfl)
theorem dX0_finds_2 : decode cX0_finds 2 = .ok (.putfield 46, 3) := dk_181 0 46 (dk_at dksX0_finds_0 2 rfl rfl)
theorem dX0_finds_5 : decode cX0_finds 5 = .ok (.bipush (-10), 2) := dk_16 246 (dk_at dksX0_finds_0 5 rfl rfl)
theorem dX0_finds_7 : decode cX0_finds 7 = .ok (.iload_n 1, 1) := dk_27 (dk_at dksX0_finds_0 7 rfl rfl)
theorem dX0_finds_8 : decode cX0_finds 8 = .ok (.isub, 1) := dk_100 (dk_at dksX0_finds_0 8 rfl rfl)
theorem dX0_finds_9 : decode cX0_finds 9 = .ok (.ireturn, 1) := dk_172 (dk_at dksX0_finds_0 9 rfl rfl)
abbrev cX0_info : ByteArray := prog_1_method_28_code
def yX0_info : MethodName := ⟨RX0, "info", "(II)I"⟩
def dkwX0_info_1 : List UInt8 := [27, 50, 28, 182, 0, 197, 167, 0, 5, 18, 175, 172]
abbrev dktX0_info_1 : List UInt8 := dkwX0_info_1 ++ []
def dkwX0_info_0 : List UInt8 := [42, 27, 182, 0, 160, 153, 0, 28, 28, 133, 9, 20, 0, 195, 184, 0, 40, 153, 0, 16, 42, 180, 0, 14]
abbrev dktX0_info_0 : List UInt8 := dkwX0_info_0 ++ dktX0_info_1
theorem dksX0_info_0 : cX0_info.data.toList.drop 0 = dktX0_info_0 := by decide +kernel
theorem dksX0_info_1 : cX0_info.data.toList.drop 24 = dktX0_info_1 := dk_seg dksX0_info_0 24 rfl rfl
theorem dX0_info_0 : decode cX0_info 0 = .ok (.aload_n 0, 1) := dk_42 (dk_at dksX0_info_0 0 rfl rfl)
theorem dX0_info_1 : decode cX0_info 1 = .ok (.iload_n 1, 1) := dk_27 (dk_at dksX0_info_0 1 rfl rfl)
theorem dX0_info_2 : decode cX0_info 2 = .ok (.invokevirtual 160, 3) := dk_182 0 160 (dk_at dksX0_info_0 2 rfl rfl)
theorem dX0_info_5 : decode cX0_info 5 = .ok (.ifCond .eq 28, 3) := dk_153 0 28 (dk_at dksX0_info_0 5 rfl rfl)
theorem dX0_info_8 : decode cX0_info 8 = .ok (.iload_n 2, 1) := dk_28 (dk_at dksX0_info_0 8 rfl rfl)
theorem dX0_info_9 : decode cX0_info 9 = .ok (.i2l, 1) := dk_133 (dk_at dksX0_info_0 9 rfl rfl)
theorem dX0_info_10 : decode cX0_info 10 = .ok (.lconst 0, 1) := dk_9 (dk_at dksX0_info_0 10 rfl rfl)
theorem dX0_info_11 : decode cX0_info 11 = .ok (.ldc2_w 195, 3) := dk_20 0 195 (dk_at dksX0_info_0 11 rfl rfl)
theorem dX0_info_14 : decode cX0_info 14 = .ok (.invokestatic 40, 3) := dk_184 0 40 (dk_at dksX0_info_0 14 rfl rfl)
theorem dX0_info_17 : decode cX0_info 17 = .ok (.ifCond .eq 16, 3) := dk_153 0 16 (dk_at dksX0_info_0 17 rfl rfl)
theorem dX0_info_20 : decode cX0_info 20 = .ok (.aload_n 0, 1) := dk_42 (dk_at dksX0_info_0 20 rfl rfl)
theorem dX0_info_21 : decode cX0_info 21 = .ok (.getfield 14, 3) := dk_180 0 14 (dk_at dksX0_info_0 21 rfl rfl)
theorem dX0_info_24 : decode cX0_info 24 = .ok (.iload_n 1, 1) := dk_27 (dk_at dksX0_info_1 0 rfl rfl)
theorem dX0_info_25 : decode cX0_info 25 = .ok (.aaload, 1) := dk_50 (dk_at dksX0_info_1 1 rfl rfl)
theorem dX0_info_26 : decode cX0_info 26 = .ok (.iload_n 2, 1) := dk_28 (dk_at dksX0_info_1 2 rfl rfl)
theorem dX0_info_27 : decode cX0_info 27 = .ok (.invokevirtual 197, 3) := dk_182 0 197 (dk_at dksX0_info_1 3 rfl rfl)
theorem dX0_info_30 : decode cX0_info 30 = .ok (.goto 5, 3) := dk_167 0 5 (dk_at dksX0_info_1 6 rfl rfl)
theorem dX0_info_33 : decode cX0_info 33 = .ok (.ldc 175, 2) := dk_18 175 (dk_at dksX0_info_1 9 rfl rfl)
theorem dX0_info_35 : decode cX0_info 35 = .ok (.ireturn, 1) := dk_172 (dk_at dksX0_info_1 11 rfl rfl)
abbrev cX0_pair : ByteArray := prog_1_method_30_code
def yX0_pair : MethodName := ⟨RX0, "pair", "(II)I"⟩
def dkwX0_pair_1 : List UInt8 := [182, 0, 203, 167, 0, 5, 16, 254, 172]
abbrev dktX0_pair_1 : List UInt8 := dkwX0_pair_1 ++ []
def dkwX0_pair_0 : List UInt8 := [42, 27, 182, 0, 156, 153, 0, 24, 28, 133, 9, 20, 0, 163, 184, 0, 40, 153, 0, 12, 42, 27, 28]
abbrev dktX0_pair_0 : List UInt8 := dkwX0_pair_0 ++ dktX0_pair_1
theorem dksX0_pair_0 : cX0_pair.data.toList.drop 0 = dktX0_pair_0 := by decide +kernel
theorem dksX0_pair_1 : cX0_pair.data.toList.drop 23 = dktX0_pair_1 := dk_seg dksX0_pair_0 23 rfl rfl
theorem dX0_pair_0 : decode cX0_pair 0 = .ok (.aload_n 0, 1) := dk_42 (dk_at dksX0_pair_0 0 rfl rfl)
theorem dX0_pair_1 : decode cX0_pair 1 = .ok (.iload_n 1, 1) := dk_27 (dk_at dksX0_pair_0 1 rfl rfl)
theorem dX0_pair_2 : decode cX0_pair 2 = .ok (.invokevirtual 156, 3) := dk_182 0 156 (dk_at dksX0_pair_0 2 rfl rfl)
theorem dX0_pair_5 : decode cX0_pair 5 = .ok (.ifCond .eq 24, 3) := dk_153 0 24 (dk_at dksX0_pair_0 5 rfl rfl)
theorem dX0_pair_8 : decode cX0_pair 8 = .ok (.iload_n 2, 1) := dk_28 (dk_at dksX0_pair_0 8 rfl rfl)
theorem dX0_pair_9 : decode cX0_pair 9 = .ok (.i2l, 1) := dk_133 (dk_at dksX0_pair_0 9 rfl rfl)
theorem dX0_pair_10 : decode cX0_pair 10 = .ok (.lconst 0, 1) := dk_9 (dk_at dksX0_pair_0 10 rfl rfl)
theorem dX0_pair_11 : decode cX0_pair 11 = .ok (.ldc2_w 163, 3) := dk_20 0 163 (dk_at dksX0_pair_0 11 rfl rfl)
theorem dX0_pair_14 : decode cX0_pair 14 = .ok (.invokestatic 40, 3) := dk_184 0 40 (dk_at dksX0_pair_0 14 rfl rfl)
theorem dX0_pair_17 : decode cX0_pair 17 = .ok (.ifCond .eq 12, 3) := dk_153 0 12 (dk_at dksX0_pair_0 17 rfl rfl)
theorem dX0_pair_20 : decode cX0_pair 20 = .ok (.aload_n 0, 1) := dk_42 (dk_at dksX0_pair_0 20 rfl rfl)
theorem dX0_pair_21 : decode cX0_pair 21 = .ok (.iload_n 1, 1) := dk_27 (dk_at dksX0_pair_0 21 rfl rfl)
theorem dX0_pair_22 : decode cX0_pair 22 = .ok (.iload_n 2, 1) := dk_28 (dk_at dksX0_pair_0 22 rfl rfl)
theorem dX0_pair_23 : decode cX0_pair 23 = .ok (.invokevirtual 203, 3) := dk_182 0 203 (dk_at dksX0_pair_1 0 rfl rfl)
theorem dX0_pair_26 : decode cX0_pair 26 = .ok (.goto 5, 3) := dk_167 0 5 (dk_at dksX0_pair_1 3 rfl rfl)
theorem dX0_pair_29 : decode cX0_pair 29 = .ok (.bipush (-2), 2) := dk_16 254 (dk_at dksX0_pair_1 6 rfl rfl)
theorem dX0_pair_31 : decode cX0_pair 31 = .ok (.ireturn, 1) := dk_172 (dk_at dksX0_pair_1 8 rfl rfl)
abbrev cX0_pairBy : ByteArray := prog_1_method_29_code
def yX0_pairBy : MethodName := ⟨RX0, "pairBy", "(II)I"⟩
def dkwX0_pairBy_3 : List UInt8 := [180, 0, 90, 27, 184, 0, 93, 153, 0, 7, 4, 167, 0, 4, 3, 172]
abbrev dktX0_pairBy_3 : List UInt8 := dkwX0_pairBy_3 ++ []
def dkwX0_pairBy_2 : List UInt8 := [27, 184, 0, 70, 167, 0, 34, 27, 184, 0, 63, 167, 0, 27, 42, 27, 182, 0, 200, 167, 0, 19, 42]
abbrev dktX0_pairBy_2 : List UInt8 := dkwX0_pairBy_2 ++ dktX0_pairBy_3
def dkwX0_pairBy_1 : List UInt8 := [170, 0, 0, 0, 0, 0, 49, 0, 0, 0, 0, 0, 0, 0, 2, 0, 0, 0, 27, 0, 0, 0, 34, 0, 0, 0, 41]
abbrev dktX0_pairBy_1 : List UInt8 := dkwX0_pairBy_1 ++ dktX0_pairBy_2
def dkwX0_pairBy_0 : List UInt8 := [28]
abbrev dktX0_pairBy_0 : List UInt8 := dkwX0_pairBy_0 ++ dktX0_pairBy_1
theorem dksX0_pairBy_0 : cX0_pairBy.data.toList.drop 0 = dktX0_pairBy_0 := by decide +kernel
theorem dksX0_pairBy_1 : cX0_pairBy.data.toList.drop 1 = dktX0_pairBy_1 := dk_seg dksX0_pairBy_0 1 rfl rfl
theorem dksX0_pairBy_2 : cX0_pairBy.data.toList.drop 28 = dktX0_pairBy_2 := dk_seg dksX0_pairBy_1 27 rfl rfl
theorem dksX0_pairBy_3 : cX0_pairBy.data.toList.drop 51 = dktX0_pairBy_3 := dk_seg dksX0_pairBy_2 23 rfl rfl
theorem dX0_pairBy_0 : decode cX0_pairBy 0 = .ok (.iload_n 2, 1) := dk_28 (dk_at dksX0_pairBy_0 0 rfl rfl)
theorem dX0_pairBy_1 : decode cX0_pairBy 1 = .ok (.tableswitch 49 0 2 #[27, 34, 41], 27) := by decide +kernel
theorem dX0_pairBy_28 : decode cX0_pairBy 28 = .ok (.iload_n 1, 1) := dk_27 (dk_at dksX0_pairBy_2 0 rfl rfl)
theorem dX0_pairBy_29 : decode cX0_pairBy 29 = .ok (.invokestatic 70, 3) := dk_184 0 70 (dk_at dksX0_pairBy_2 1 rfl rfl)
theorem dX0_pairBy_32 : decode cX0_pairBy 32 = .ok (.goto 34, 3) := dk_167 0 34 (dk_at dksX0_pairBy_2 4 rfl rfl)
theorem dX0_pairBy_35 : decode cX0_pairBy 35 = .ok (.iload_n 1, 1) := dk_27 (dk_at dksX0_pairBy_2 7 rfl rfl)
theorem dX0_pairBy_36 : decode cX0_pairBy 36 = .ok (.invokestatic 63, 3) := dk_184 0 63 (dk_at dksX0_pairBy_2 8 rfl rfl)
theorem dX0_pairBy_39 : decode cX0_pairBy 39 = .ok (.goto 27, 3) := dk_167 0 27 (dk_at dksX0_pairBy_2 11 rfl rfl)
theorem dX0_pairBy_42 : decode cX0_pairBy 42 = .ok (.aload_n 0, 1) := dk_42 (dk_at dksX0_pairBy_2 14 rfl rfl)
theorem dX0_pairBy_43 : decode cX0_pairBy 43 = .ok (.iload_n 1, 1) := dk_27 (dk_at dksX0_pairBy_2 15 rfl rfl)
theorem dX0_pairBy_44 : decode cX0_pairBy 44 = .ok (.invokevirtual 200, 3) := dk_182 0 200 (dk_at dksX0_pairBy_2 16 rfl rfl)
theorem dX0_pairBy_47 : decode cX0_pairBy 47 = .ok (.goto 19, 3) := dk_167 0 19 (dk_at dksX0_pairBy_2 19 rfl rfl)
theorem dX0_pairBy_50 : decode cX0_pairBy 50 = .ok (.aload_n 0, 1) := dk_42 (dk_at dksX0_pairBy_2 22 rfl rfl)
theorem dX0_pairBy_51 : decode cX0_pairBy 51 = .ok (.getfield 90, 3) := dk_180 0 90 (dk_at dksX0_pairBy_3 0 rfl rfl)
theorem dX0_pairBy_54 : decode cX0_pairBy 54 = .ok (.iload_n 1, 1) := dk_27 (dk_at dksX0_pairBy_3 3 rfl rfl)
theorem dX0_pairBy_55 : decode cX0_pairBy 55 = .ok (.invokestatic 93, 3) := dk_184 0 93 (dk_at dksX0_pairBy_3 4 rfl rfl)
theorem dX0_pairBy_58 : decode cX0_pairBy 58 = .ok (.ifCond .eq 7, 3) := dk_153 0 7 (dk_at dksX0_pairBy_3 7 rfl rfl)
theorem dX0_pairBy_61 : decode cX0_pairBy 61 = .ok (.iconst 1, 1) := dk_4 (dk_at dksX0_pairBy_3 10 rfl rfl)
theorem dX0_pairBy_62 : decode cX0_pairBy 62 = .ok (.goto 4, 3) := dk_167 0 4 (dk_at dksX0_pairBy_3 11 rfl rfl)
theorem dX0_pairBy_65 : decode cX0_pairBy 65 = .ok (.iconst 0, 1) := dk_3 (dk_at dksX0_pairBy_3 14 rfl rfl)
theorem dX0_pairBy_66 : decode cX0_pairBy 66 = .ok (.ireturn, 1) := dk_172 (dk_at dksX0_pairBy_3 15 rfl rfl)
abbrev cX0_lesser : ByteArray := prog_1_method_11_code
def yX0_lesser : MethodName := ⟨RX0, "lesser", "(I)I"⟩
def dkwX0_lesser_0 : List UInt8 := [26, 184, 0, 63, 60, 26, 27, 27, 4, 100, 104, 5, 108, 100, 172]
abbrev dktX0_lesser_0 : List UInt8 := dkwX0_lesser_0 ++ []
theorem dksX0_lesser_0 : cX0_lesser.data.toList.drop 0 = dktX0_lesser_0 := by decide +kernel
theorem dX0_lesser_0 : decode cX0_lesser 0 = .ok (.iload_n 0, 1) := dk_26 (dk_at dksX0_lesser_0 0 rfl rfl)
theorem dX0_lesser_1 : decode cX0_lesser 1 = .ok (.invokestatic 63, 3) := dk_184 0 63 (dk_at dksX0_lesser_0 1 rfl rfl)
theorem dX0_lesser_4 : decode cX0_lesser 4 = .ok (.istore_n 1, 1) := dk_60 (dk_at dksX0_lesser_0 4 rfl rfl)
theorem dX0_lesser_5 : decode cX0_lesser 5 = .ok (.iload_n 0, 1) := dk_26 (dk_at dksX0_lesser_0 5 rfl rfl)
theorem dX0_lesser_6 : decode cX0_lesser 6 = .ok (.iload_n 1, 1) := dk_27 (dk_at dksX0_lesser_0 6 rfl rfl)
theorem dX0_lesser_7 : decode cX0_lesser 7 = .ok (.iload_n 1, 1) := dk_27 (dk_at dksX0_lesser_0 7 rfl rfl)
theorem dX0_lesser_8 : decode cX0_lesser 8 = .ok (.iconst 1, 1) := dk_4 (dk_at dksX0_lesser_0 8 rfl rfl)
theorem dX0_lesser_9 : decode cX0_lesser 9 = .ok (.isub, 1) := dk_100 (dk_at dksX0_lesser_0 9 rfl rfl)
theorem dX0_lesser_10 : decode cX0_lesser 10 = .ok (.imul, 1) := dk_104 (dk_at dksX0_lesser_0 10 rfl rfl)
theorem dX0_lesser_11 : decode cX0_lesser 11 = .ok (.iconst 2, 1) := dk_5 (dk_at dksX0_lesser_0 11 rfl rfl)
theorem dX0_lesser_12 : decode cX0_lesser 12 = .ok (.idiv, 1) := dk_108 (dk_at dksX0_lesser_0 12 rfl rfl)
theorem dX0_lesser_13 : decode cX0_lesser 13 = .ok (.isub, 1) := dk_100 (dk_at dksX0_lesser_0 13 rfl rfl)
theorem dX0_lesser_14 : decode cX0_lesser 14 = .ok (.ireturn, 1) := dk_172 (dk_at dksX0_lesser_0 14 rfl rfl)
abbrev cX0_greater : ByteArray := prog_1_method_10_code
def yX0_greater : MethodName := ⟨RX0, "greater", "(I)I"⟩
def dkwX0_greater_0 : List UInt8 := [4, 60, 27, 27, 4, 96, 104, 5, 108, 26, 163, 0, 9, 132, 1, 1, 167, 255, 242, 27, 172]
abbrev dktX0_greater_0 : List UInt8 := dkwX0_greater_0 ++ []
theorem dksX0_greater_0 : cX0_greater.data.toList.drop 0 = dktX0_greater_0 := by decide +kernel
theorem dX0_greater_0 : decode cX0_greater 0 = .ok (.iconst 1, 1) := dk_4 (dk_at dksX0_greater_0 0 rfl rfl)
theorem dX0_greater_1 : decode cX0_greater 1 = .ok (.istore_n 1, 1) := dk_60 (dk_at dksX0_greater_0 1 rfl rfl)
theorem dX0_greater_2 : decode cX0_greater 2 = .ok (.iload_n 1, 1) := dk_27 (dk_at dksX0_greater_0 2 rfl rfl)
theorem dX0_greater_3 : decode cX0_greater 3 = .ok (.iload_n 1, 1) := dk_27 (dk_at dksX0_greater_0 3 rfl rfl)
theorem dX0_greater_4 : decode cX0_greater 4 = .ok (.iconst 1, 1) := dk_4 (dk_at dksX0_greater_0 4 rfl rfl)
theorem dX0_greater_5 : decode cX0_greater 5 = .ok (.iadd, 1) := dk_96 (dk_at dksX0_greater_0 5 rfl rfl)
theorem dX0_greater_6 : decode cX0_greater 6 = .ok (.imul, 1) := dk_104 (dk_at dksX0_greater_0 6 rfl rfl)
theorem dX0_greater_7 : decode cX0_greater 7 = .ok (.iconst 2, 1) := dk_5 (dk_at dksX0_greater_0 7 rfl rfl)
theorem dX0_greater_8 : decode cX0_greater 8 = .ok (.idiv, 1) := dk_108 (dk_at dksX0_greater_0 8 rfl rfl)
theorem dX0_greater_9 : decode cX0_greater 9 = .ok (.iload_n 0, 1) := dk_26 (dk_at dksX0_greater_0 9 rfl rfl)
theorem dX0_greater_10 : decode cX0_greater 10 = .ok (.if_icmp .gt 9, 3) := dk_163 0 9 (dk_at dksX0_greater_0 10 rfl rfl)
theorem dX0_greater_13 : decode cX0_greater 13 = .ok (.iinc 1 1, 3) := dk_132 1 1 (dk_at dksX0_greater_0 13 rfl rfl)
theorem dX0_greater_16 : decode cX0_greater 16 = .ok (.goto (-14), 3) := dk_167 255 242 (dk_at dksX0_greater_0 16 rfl rfl)
theorem dX0_greater_19 : decode cX0_greater 19 = .ok (.iload_n 1, 1) := dk_27 (dk_at dksX0_greater_0 19 rfl rfl)
theorem dX0_greater_20 : decode cX0_greater 20 = .ok (.ireturn, 1) := dk_172 (dk_at dksX0_greater_0 20 rfl rfl)
abbrev cX0_quad : ByteArray := prog_1_method_13_code
def yX0_quad : MethodName := ⟨RX0, "quad", "(I)I"⟩
def dkwX0_quad_1 : List UInt8 := [182, 0, 73, 104, 96, 172]
abbrev dktX0_quad_1 : List UInt8 := dkwX0_quad_1 ++ []
def dkwX0_quad_0 : List UInt8 := [42, 27, 3, 182, 0, 73, 42, 27, 3, 182, 0, 73, 104, 42, 27, 4, 182, 0, 73, 42, 27, 4]
abbrev dktX0_quad_0 : List UInt8 := dkwX0_quad_0 ++ dktX0_quad_1
theorem dksX0_quad_0 : cX0_quad.data.toList.drop 0 = dktX0_quad_0 := by decide +kernel
theorem dksX0_quad_1 : cX0_quad.data.toList.drop 22 = dktX0_quad_1 := dk_seg dksX0_quad_0 22 rfl rfl
theorem dX0_quad_0 : decode cX0_quad 0 = .ok (.aload_n 0, 1) := dk_42 (dk_at dksX0_quad_0 0 rfl rfl)
theorem dX0_quad_1 : decode cX0_quad 1 = .ok (.iload_n 1, 1) := dk_27 (dk_at dksX0_quad_0 1 rfl rfl)
theorem dX0_quad_2 : decode cX0_quad 2 = .ok (.iconst 0, 1) := dk_3 (dk_at dksX0_quad_0 2 rfl rfl)
theorem dX0_quad_3 : decode cX0_quad 3 = .ok (.invokevirtual 73, 3) := dk_182 0 73 (dk_at dksX0_quad_0 3 rfl rfl)
theorem dX0_quad_6 : decode cX0_quad 6 = .ok (.aload_n 0, 1) := dk_42 (dk_at dksX0_quad_0 6 rfl rfl)
theorem dX0_quad_7 : decode cX0_quad 7 = .ok (.iload_n 1, 1) := dk_27 (dk_at dksX0_quad_0 7 rfl rfl)
theorem dX0_quad_8 : decode cX0_quad 8 = .ok (.iconst 0, 1) := dk_3 (dk_at dksX0_quad_0 8 rfl rfl)
theorem dX0_quad_9 : decode cX0_quad 9 = .ok (.invokevirtual 73, 3) := dk_182 0 73 (dk_at dksX0_quad_0 9 rfl rfl)
theorem dX0_quad_12 : decode cX0_quad 12 = .ok (.imul, 1) := dk_104 (dk_at dksX0_quad_0 12 rfl rfl)
theorem dX0_quad_13 : decode cX0_quad 13 = .ok (.aload_n 0, 1) := dk_42 (dk_at dksX0_quad_0 13 rfl rfl)
theorem dX0_quad_14 : decode cX0_quad 14 = .ok (.iload_n 1, 1) := dk_27 (dk_at dksX0_quad_0 14 rfl rfl)
theorem dX0_quad_15 : decode cX0_quad 15 = .ok (.iconst 1, 1) := dk_4 (dk_at dksX0_quad_0 15 rfl rfl)
theorem dX0_quad_16 : decode cX0_quad 16 = .ok (.invokevirtual 73, 3) := dk_182 0 73 (dk_at dksX0_quad_0 16 rfl rfl)
theorem dX0_quad_19 : decode cX0_quad 19 = .ok (.aload_n 0, 1) := dk_42 (dk_at dksX0_quad_0 19 rfl rfl)
theorem dX0_quad_20 : decode cX0_quad 20 = .ok (.iload_n 1, 1) := dk_27 (dk_at dksX0_quad_0 20 rfl rfl)
theorem dX0_quad_21 : decode cX0_quad 21 = .ok (.iconst 1, 1) := dk_4 (dk_at dksX0_quad_0 21 rfl rfl)
theorem dX0_quad_22 : decode cX0_quad 22 = .ok (.invokevirtual 73, 3) := dk_182 0 73 (dk_at dksX0_quad_1 0 rfl rfl)
theorem dX0_quad_25 : decode cX0_quad 25 = .ok (.imul, 1) := dk_104 (dk_at dksX0_quad_1 3 rfl rfl)
theorem dX0_quad_26 : decode cX0_quad 26 = .ok (.iadd, 1) := dk_96 (dk_at dksX0_quad_1 4 rfl rfl)
theorem dX0_quad_27 : decode cX0_quad 27 = .ok (.ireturn, 1) := dk_172 (dk_at dksX0_quad_1 5 rfl rfl)
abbrev cX0_far : ByteArray := prog_1_method_12_code
def yX0_far : MethodName := ⟨RX0, "far", "(II)I"⟩
def dkwX0_far_1 : List UInt8 := [182, 0, 67, 100, 172]
abbrev dktX0_far_1 : List UInt8 := dkwX0_far_1 ++ []
def dkwX0_far_0 : List UInt8 := [42, 180, 0, 14, 27, 184, 0, 63, 50, 28, 182, 0, 67, 42, 180, 0, 14, 27, 184, 0, 70, 50, 28]
abbrev dktX0_far_0 : List UInt8 := dkwX0_far_0 ++ dktX0_far_1
theorem dksX0_far_0 : cX0_far.data.toList.drop 0 = dktX0_far_0 := by decide +kernel
theorem dksX0_far_1 : cX0_far.data.toList.drop 23 = dktX0_far_1 := dk_seg dksX0_far_0 23 rfl rfl
theorem dX0_far_0 : decode cX0_far 0 = .ok (.aload_n 0, 1) := dk_42 (dk_at dksX0_far_0 0 rfl rfl)
theorem dX0_far_1 : decode cX0_far 1 = .ok (.getfield 14, 3) := dk_180 0 14 (dk_at dksX0_far_0 1 rfl rfl)
theorem dX0_far_4 : decode cX0_far 4 = .ok (.iload_n 1, 1) := dk_27 (dk_at dksX0_far_0 4 rfl rfl)
theorem dX0_far_5 : decode cX0_far 5 = .ok (.invokestatic 63, 3) := dk_184 0 63 (dk_at dksX0_far_0 5 rfl rfl)
theorem dX0_far_8 : decode cX0_far 8 = .ok (.aaload, 1) := dk_50 (dk_at dksX0_far_0 8 rfl rfl)
theorem dX0_far_9 : decode cX0_far 9 = .ok (.iload_n 2, 1) := dk_28 (dk_at dksX0_far_0 9 rfl rfl)
theorem dX0_far_10 : decode cX0_far 10 = .ok (.invokevirtual 67, 3) := dk_182 0 67 (dk_at dksX0_far_0 10 rfl rfl)
theorem dX0_far_13 : decode cX0_far 13 = .ok (.aload_n 0, 1) := dk_42 (dk_at dksX0_far_0 13 rfl rfl)
theorem dX0_far_14 : decode cX0_far 14 = .ok (.getfield 14, 3) := dk_180 0 14 (dk_at dksX0_far_0 14 rfl rfl)
theorem dX0_far_17 : decode cX0_far 17 = .ok (.iload_n 1, 1) := dk_27 (dk_at dksX0_far_0 17 rfl rfl)
theorem dX0_far_18 : decode cX0_far 18 = .ok (.invokestatic 70, 3) := dk_184 0 70 (dk_at dksX0_far_0 18 rfl rfl)
theorem dX0_far_21 : decode cX0_far 21 = .ok (.aaload, 1) := dk_50 (dk_at dksX0_far_0 21 rfl rfl)
theorem dX0_far_22 : decode cX0_far 22 = .ok (.iload_n 2, 1) := dk_28 (dk_at dksX0_far_0 22 rfl rfl)
theorem dX0_far_23 : decode cX0_far 23 = .ok (.invokevirtual 67, 3) := dk_182 0 67 (dk_at dksX0_far_1 0 rfl rfl)
theorem dX0_far_26 : decode cX0_far 26 = .ok (.isub, 1) := dk_100 (dk_at dksX0_far_1 3 rfl rfl)
theorem dX0_far_27 : decode cX0_far 27 = .ok (.ireturn, 1) := dk_172 (dk_at dksX0_far_1 4 rfl rfl)
abbrev cX0_isIn : ByteArray := prog_1_method_8_code
def yX0_isIn : MethodName := ⟨RX0, "isIn", "(II)Z"⟩
def dkwX0_isIn_0 : List UInt8 := [26, 27, 122, 4, 126, 4, 160, 0, 7, 4, 167, 0, 4, 3, 172]
abbrev dktX0_isIn_0 : List UInt8 := dkwX0_isIn_0 ++ []
theorem dksX0_isIn_0 : cX0_isIn.data.toList.drop 0 = dktX0_isIn_0 := by decide +kernel
theorem dX0_isIn_0 : decode cX0_isIn 0 = .ok (.iload_n 0, 1) := dk_26 (dk_at dksX0_isIn_0 0 rfl rfl)
theorem dX0_isIn_1 : decode cX0_isIn 1 = .ok (.iload_n 1, 1) := dk_27 (dk_at dksX0_isIn_0 1 rfl rfl)
theorem dX0_isIn_2 : decode cX0_isIn 2 = .ok (.ishr, 1) := dk_122 (dk_at dksX0_isIn_0 2 rfl rfl)
theorem dX0_isIn_3 : decode cX0_isIn 3 = .ok (.iconst 1, 1) := dk_4 (dk_at dksX0_isIn_0 3 rfl rfl)
theorem dX0_isIn_4 : decode cX0_isIn 4 = .ok (.iand, 1) := dk_126 (dk_at dksX0_isIn_0 4 rfl rfl)
theorem dX0_isIn_5 : decode cX0_isIn 5 = .ok (.iconst 1, 1) := dk_4 (dk_at dksX0_isIn_0 5 rfl rfl)
theorem dX0_isIn_6 : decode cX0_isIn 6 = .ok (.if_icmp .ne 7, 3) := dk_160 0 7 (dk_at dksX0_isIn_0 6 rfl rfl)
theorem dX0_isIn_9 : decode cX0_isIn 9 = .ok (.iconst 1, 1) := dk_4 (dk_at dksX0_isIn_0 9 rfl rfl)
theorem dX0_isIn_10 : decode cX0_isIn 10 = .ok (.goto 4, 3) := dk_167 0 4 (dk_at dksX0_isIn_0 10 rfl rfl)
theorem dX0_isIn_13 : decode cX0_isIn 13 = .ok (.iconst 0, 1) := dk_3 (dk_at dksX0_isIn_0 13 rfl rfl)
theorem dX0_isIn_14 : decode cX0_isIn 14 = .ok (.ireturn, 1) := dk_172 (dk_at dksX0_isIn_0 14 rfl rfl)
abbrev cX0_least : ByteArray := prog_1_method_32_code
def yX0_least : MethodName := ⟨RX0, "least", "(I)J"⟩
def dkwX0_least_0 : List UInt8 := [27, 184, 0, 168, 154, 0, 9, 16, 254, 184, 0, 206, 173, 42, 182, 0, 211, 87, 42, 27, 182, 0, 215, 173]
abbrev dktX0_least_0 : List UInt8 := dkwX0_least_0 ++ []
theorem dksX0_least_0 : cX0_least.data.toList.drop 0 = dktX0_least_0 := by decide +kernel
theorem dX0_least_0 : decode cX0_least 0 = .ok (.iload_n 1, 1) := dk_27 (dk_at dksX0_least_0 0 rfl rfl)
theorem dX0_least_1 : decode cX0_least 1 = .ok (.invokestatic 168, 3) := dk_184 0 168 (dk_at dksX0_least_0 1 rfl rfl)
theorem dX0_least_4 : decode cX0_least 4 = .ok (.ifCond .ne 9, 3) := dk_154 0 9 (dk_at dksX0_least_0 4 rfl rfl)
theorem dX0_least_7 : decode cX0_least 7 = .ok (.bipush (-2), 2) := dk_16 254 (dk_at dksX0_least_0 7 rfl rfl)
theorem dX0_least_9 : decode cX0_least 9 = .ok (.invokestatic 206, 3) := dk_184 0 206 (dk_at dksX0_least_0 9 rfl rfl)
theorem dX0_least_12 : decode cX0_least 12 = .ok (.lreturn, 1) := dk_173 (dk_at dksX0_least_0 12 rfl rfl)
theorem dX0_least_13 : decode cX0_least 13 = .ok (.aload_n 0, 1) := dk_42 (dk_at dksX0_least_0 13 rfl rfl)
theorem dX0_least_14 : decode cX0_least 14 = .ok (.invokevirtual 211, 3) := dk_182 0 211 (dk_at dksX0_least_0 14 rfl rfl)
theorem dX0_least_17 : decode cX0_least 17 = .ok (.pop, 1) := dk_87 (dk_at dksX0_least_0 17 rfl rfl)
theorem dX0_least_18 : decode cX0_least 18 = .ok (.aload_n 0, 1) := dk_42 (dk_at dksX0_least_0 18 rfl rfl)
theorem dX0_least_19 : decode cX0_least 19 = .ok (.iload_n 1, 1) := dk_27 (dk_at dksX0_least_0 19 rfl rfl)
theorem dX0_least_20 : decode cX0_least 20 = .ok (.invokevirtual 215, 3) := dk_182 0 215 (dk_at dksX0_least_0 20 rfl rfl)
theorem dX0_least_23 : decode cX0_least 23 = .ok (.lreturn, 1) := dk_173 (dk_at dksX0_least_0 23 rfl rfl)
abbrev cX0_no : ByteArray := prog_1_method_4_code
def yX0_no : MethodName := ⟨RX0, "no", "(I)J"⟩
def dkwX0_no_0 : List UInt8 := [20, 0, 44, 26, 133, 101, 173]
abbrev dktX0_no_0 : List UInt8 := dkwX0_no_0 ++ []
theorem dksX0_no_0 : cX0_no.data.toList.drop 0 = dktX0_no_0 := by decide +kernel
theorem dX0_no_0 : decode cX0_no 0 = .ok (.ldc2_w 44, 3) := dk_20 0 44 (dk_at dksX0_no_0 0 rfl rfl)
theorem dX0_no_3 : decode cX0_no 3 = .ok (.iload_n 0, 1) := dk_26 (dk_at dksX0_no_0 3 rfl rfl)
theorem dX0_no_4 : decode cX0_no 4 = .ok (.i2l, 1) := dk_133 (dk_at dksX0_no_0 4 rfl rfl)
theorem dX0_no_5 : decode cX0_no 5 = .ok (.lsub, 1) := dk_101 (dk_at dksX0_no_0 5 rfl rfl)
theorem dX0_no_6 : decode cX0_no 6 = .ok (.lreturn, 1) := dk_173 (dk_at dksX0_no_0 6 rfl rfl)
abbrev cX0_looks : ByteArray := prog_1_method_17_code
def yX0_looks : MethodName := ⟨RX0, "looks", "()Z"⟩
def dkwX0_looks_0 : List UInt8 := [42, 182, 0, 138, 4, 172, 76, 3, 172]
abbrev dktX0_looks_0 : List UInt8 := dkwX0_looks_0 ++ []
theorem dksX0_looks_0 : cX0_looks.data.toList.drop 0 = dktX0_looks_0 := by decide +kernel
theorem dX0_looks_0 : decode cX0_looks 0 = .ok (.aload_n 0, 1) := dk_42 (dk_at dksX0_looks_0 0 rfl rfl)
theorem dX0_looks_1 : decode cX0_looks 1 = .ok (.invokevirtual 138, 3) := dk_182 0 138 (dk_at dksX0_looks_0 1 rfl rfl)
theorem dX0_looks_4 : decode cX0_looks 4 = .ok (.iconst 1, 1) := dk_4 (dk_at dksX0_looks_0 4 rfl rfl)
theorem dX0_looks_5 : decode cX0_looks 5 = .ok (.ireturn, 1) := dk_172 (dk_at dksX0_looks_0 5 rfl rfl)
theorem dX0_looks_6 : decode cX0_looks 6 = .ok (.astore_n 1, 1) := dk_76 (dk_at dksX0_looks_0 6 rfl rfl)
theorem dX0_looks_7 : decode cX0_looks 7 = .ok (.iconst 0, 1) := dk_3 (dk_at dksX0_looks_0 7 rfl rfl)
theorem dX0_looks_8 : decode cX0_looks 8 = .ok (.ireturn, 1) := dk_172 (dk_at dksX0_looks_0 8 rfl rfl)
abbrev cX0_borne : ByteArray := prog_1_method_16_code
def yX0_borne : MethodName := ⟨RX0, "borne", "()V"⟩
def dkwX0_borne_6 : List UInt8 := [180, 0, 83, 181, 0, 135, 177]
abbrev dktX0_borne_6 : List UInt8 := dkwX0_borne_6 ++ []
def dkwX0_borne_5 : List UInt8 := [180, 0, 25, 180, 0, 131, 27, 50, 16, 10, 47, 80, 132, 1, 1, 167, 255, 203, 42, 42, 180, 0, 25]
abbrev dktX0_borne_5 : List UInt8 := dkwX0_borne_5 ++ dktX0_borne_6
def dkwX0_borne_4 : List UInt8 := [180, 0, 127, 27, 46, 2, 159, 0, 29, 42, 180, 0, 29, 42, 180, 0, 25, 180, 0, 127, 27, 46, 42]
abbrev dktX0_borne_4 : List UInt8 := dkwX0_borne_4 ++ dktX0_borne_5
def dkwX0_borne_3 : List UInt8 := [132, 1, 1, 167, 255, 240, 3, 60, 27, 42, 180, 0, 25, 180, 0, 124, 162, 0, 48, 42, 180, 0, 25]
abbrev dktX0_borne_3 : List UInt8 := dkwX0_borne_3 ++ dktX0_borne_4
def dkwX0_borne_2 : List UInt8 := [180, 0, 121, 181, 0, 111, 43, 191, 3, 60, 27, 16, 10, 162, 0, 16, 42, 180, 0, 29, 27, 9, 80]
abbrev dktX0_borne_2 : List UInt8 := dkwX0_borne_2 ++ dktX0_borne_3
def dkwX0_borne_1 : List UInt8 := [182, 0, 114, 181, 0, 118, 42, 180, 0, 25, 42, 180, 0, 118, 182, 0, 77, 88, 167, 0, 14, 76, 42, 43]
abbrev dktX0_borne_1 : List UInt8 := dkwX0_borne_1 ++ dktX0_borne_2
def dkwX0_borne_0 : List UInt8 := [42, 2, 181, 0, 111, 42, 1, 181, 0, 97, 42, 42, 42, 180, 0, 90, 182, 0, 101, 181, 0, 97, 42, 42]
abbrev dktX0_borne_0 : List UInt8 := dkwX0_borne_0 ++ dktX0_borne_1
theorem dksX0_borne_0 : cX0_borne.data.toList.drop 0 = dktX0_borne_0 := by decide +kernel
theorem dksX0_borne_1 : cX0_borne.data.toList.drop 24 = dktX0_borne_1 := dk_seg dksX0_borne_0 24 rfl rfl
theorem dksX0_borne_2 : cX0_borne.data.toList.drop 48 = dktX0_borne_2 := dk_seg dksX0_borne_1 24 rfl rfl
theorem dksX0_borne_3 : cX0_borne.data.toList.drop 71 = dktX0_borne_3 := dk_seg dksX0_borne_2 23 rfl rfl
theorem dksX0_borne_4 : cX0_borne.data.toList.drop 94 = dktX0_borne_4 := dk_seg dksX0_borne_3 23 rfl rfl
theorem dksX0_borne_5 : cX0_borne.data.toList.drop 117 = dktX0_borne_5 := dk_seg dksX0_borne_4 23 rfl rfl
theorem dksX0_borne_6 : cX0_borne.data.toList.drop 140 = dktX0_borne_6 := dk_seg dksX0_borne_5 23 rfl rfl
theorem dX0_borne_0 : decode cX0_borne 0 = .ok (.aload_n 0, 1) := dk_42 (dk_at dksX0_borne_0 0 rfl rfl)
theorem dX0_borne_1 : decode cX0_borne 1 = .ok (.iconst (-1), 1) := dk_2 (dk_at dksX0_borne_0 1 rfl rfl)
theorem dX0_borne_2 : decode cX0_borne 2 = .ok (.putfield 111, 3) := dk_181 0 111 (dk_at dksX0_borne_0 2 rfl rfl)
theorem dX0_borne_5 : decode cX0_borne 5 = .ok (.aload_n 0, 1) := dk_42 (dk_at dksX0_borne_0 5 rfl rfl)
theorem dX0_borne_6 : decode cX0_borne 6 = .ok (.aconst_null, 1) := dk_1 (dk_at dksX0_borne_0 6 rfl rfl)
theorem dX0_borne_7 : decode cX0_borne 7 = .ok (.putfield 97, 3) := dk_181 0 97 (dk_at dksX0_borne_0 7 rfl rfl)
theorem dX0_borne_10 : decode cX0_borne 10 = .ok (.aload_n 0, 1) := dk_42 (dk_at dksX0_borne_0 10 rfl rfl)
theorem dX0_borne_11 : decode cX0_borne 11 = .ok (.aload_n 0, 1) := dk_42 (dk_at dksX0_borne_0 11 rfl rfl)
theorem dX0_borne_12 : decode cX0_borne 12 = .ok (.aload_n 0, 1) := dk_42 (dk_at dksX0_borne_0 12 rfl rfl)
theorem dX0_borne_13 : decode cX0_borne 13 = .ok (.getfield 90, 3) := dk_180 0 90 (dk_at dksX0_borne_0 13 rfl rfl)
theorem dX0_borne_16 : decode cX0_borne 16 = .ok (.invokevirtual 101, 3) := dk_182 0 101 (dk_at dksX0_borne_0 16 rfl rfl)
theorem dX0_borne_19 : decode cX0_borne 19 = .ok (.putfield 97, 3) := dk_181 0 97 (dk_at dksX0_borne_0 19 rfl rfl)
theorem dX0_borne_22 : decode cX0_borne 22 = .ok (.aload_n 0, 1) := dk_42 (dk_at dksX0_borne_0 22 rfl rfl)
theorem dX0_borne_23 : decode cX0_borne 23 = .ok (.aload_n 0, 1) := dk_42 (dk_at dksX0_borne_0 23 rfl rfl)
theorem dX0_borne_24 : decode cX0_borne 24 = .ok (.invokevirtual 114, 3) := dk_182 0 114 (dk_at dksX0_borne_1 0 rfl rfl)
theorem dX0_borne_27 : decode cX0_borne 27 = .ok (.putfield 118, 3) := dk_181 0 118 (dk_at dksX0_borne_1 3 rfl rfl)
theorem dX0_borne_30 : decode cX0_borne 30 = .ok (.aload_n 0, 1) := dk_42 (dk_at dksX0_borne_1 6 rfl rfl)
theorem dX0_borne_31 : decode cX0_borne 31 = .ok (.getfield 25, 3) := dk_180 0 25 (dk_at dksX0_borne_1 7 rfl rfl)
theorem dX0_borne_34 : decode cX0_borne 34 = .ok (.aload_n 0, 1) := dk_42 (dk_at dksX0_borne_1 10 rfl rfl)
theorem dX0_borne_35 : decode cX0_borne 35 = .ok (.getfield 118, 3) := dk_180 0 118 (dk_at dksX0_borne_1 11 rfl rfl)
theorem dX0_borne_38 : decode cX0_borne 38 = .ok (.invokevirtual 77, 3) := dk_182 0 77 (dk_at dksX0_borne_1 14 rfl rfl)
theorem dX0_borne_41 : decode cX0_borne 41 = .ok (.pop2, 1) := dk_88 (dk_at dksX0_borne_1 17 rfl rfl)
theorem dX0_borne_42 : decode cX0_borne 42 = .ok (.goto 14, 3) := dk_167 0 14 (dk_at dksX0_borne_1 18 rfl rfl)
theorem dX0_borne_45 : decode cX0_borne 45 = .ok (.astore_n 1, 1) := dk_76 (dk_at dksX0_borne_1 21 rfl rfl)
theorem dX0_borne_46 : decode cX0_borne 46 = .ok (.aload_n 0, 1) := dk_42 (dk_at dksX0_borne_1 22 rfl rfl)
theorem dX0_borne_47 : decode cX0_borne 47 = .ok (.aload_n 1, 1) := dk_43 (dk_at dksX0_borne_1 23 rfl rfl)
theorem dX0_borne_48 : decode cX0_borne 48 = .ok (.getfield 121, 3) := dk_180 0 121 (dk_at dksX0_borne_2 0 rfl rfl)
theorem dX0_borne_51 : decode cX0_borne 51 = .ok (.putfield 111, 3) := dk_181 0 111 (dk_at dksX0_borne_2 3 rfl rfl)
theorem dX0_borne_54 : decode cX0_borne 54 = .ok (.aload_n 1, 1) := dk_43 (dk_at dksX0_borne_2 6 rfl rfl)
theorem dX0_borne_55 : decode cX0_borne 55 = .ok (.athrow, 1) := dk_191 (dk_at dksX0_borne_2 7 rfl rfl)
theorem dX0_borne_56 : decode cX0_borne 56 = .ok (.iconst 0, 1) := dk_3 (dk_at dksX0_borne_2 8 rfl rfl)
theorem dX0_borne_57 : decode cX0_borne 57 = .ok (.istore_n 1, 1) := dk_60 (dk_at dksX0_borne_2 9 rfl rfl)
theorem dX0_borne_58 : decode cX0_borne 58 = .ok (.iload_n 1, 1) := dk_27 (dk_at dksX0_borne_2 10 rfl rfl)
theorem dX0_borne_59 : decode cX0_borne 59 = .ok (.bipush 10, 2) := dk_16 10 (dk_at dksX0_borne_2 11 rfl rfl)
theorem dX0_borne_61 : decode cX0_borne 61 = .ok (.if_icmp .ge 16, 3) := dk_162 0 16 (dk_at dksX0_borne_2 13 rfl rfl)
theorem dX0_borne_64 : decode cX0_borne 64 = .ok (.aload_n 0, 1) := dk_42 (dk_at dksX0_borne_2 16 rfl rfl)
theorem dX0_borne_65 : decode cX0_borne 65 = .ok (.getfield 29, 3) := dk_180 0 29 (dk_at dksX0_borne_2 17 rfl rfl)
theorem dX0_borne_68 : decode cX0_borne 68 = .ok (.iload_n 1, 1) := dk_27 (dk_at dksX0_borne_2 20 rfl rfl)
theorem dX0_borne_69 : decode cX0_borne 69 = .ok (.lconst 0, 1) := dk_9 (dk_at dksX0_borne_2 21 rfl rfl)
theorem dX0_borne_70 : decode cX0_borne 70 = .ok (.lastore, 1) := dk_80 (dk_at dksX0_borne_2 22 rfl rfl)
theorem dX0_borne_71 : decode cX0_borne 71 = .ok (.iinc 1 1, 3) := dk_132 1 1 (dk_at dksX0_borne_3 0 rfl rfl)
theorem dX0_borne_74 : decode cX0_borne 74 = .ok (.goto (-16), 3) := dk_167 255 240 (dk_at dksX0_borne_3 3 rfl rfl)
theorem dX0_borne_77 : decode cX0_borne 77 = .ok (.iconst 0, 1) := dk_3 (dk_at dksX0_borne_3 6 rfl rfl)
theorem dX0_borne_78 : decode cX0_borne 78 = .ok (.istore_n 1, 1) := dk_60 (dk_at dksX0_borne_3 7 rfl rfl)
theorem dX0_borne_79 : decode cX0_borne 79 = .ok (.iload_n 1, 1) := dk_27 (dk_at dksX0_borne_3 8 rfl rfl)
theorem dX0_borne_80 : decode cX0_borne 80 = .ok (.aload_n 0, 1) := dk_42 (dk_at dksX0_borne_3 9 rfl rfl)
theorem dX0_borne_81 : decode cX0_borne 81 = .ok (.getfield 25, 3) := dk_180 0 25 (dk_at dksX0_borne_3 10 rfl rfl)
theorem dX0_borne_84 : decode cX0_borne 84 = .ok (.getfield 124, 3) := dk_180 0 124 (dk_at dksX0_borne_3 13 rfl rfl)
theorem dX0_borne_87 : decode cX0_borne 87 = .ok (.if_icmp .ge 48, 3) := dk_162 0 48 (dk_at dksX0_borne_3 16 rfl rfl)
theorem dX0_borne_90 : decode cX0_borne 90 = .ok (.aload_n 0, 1) := dk_42 (dk_at dksX0_borne_3 19 rfl rfl)
theorem dX0_borne_91 : decode cX0_borne 91 = .ok (.getfield 25, 3) := dk_180 0 25 (dk_at dksX0_borne_3 20 rfl rfl)
theorem dX0_borne_94 : decode cX0_borne 94 = .ok (.getfield 127, 3) := dk_180 0 127 (dk_at dksX0_borne_4 0 rfl rfl)
theorem dX0_borne_97 : decode cX0_borne 97 = .ok (.iload_n 1, 1) := dk_27 (dk_at dksX0_borne_4 3 rfl rfl)
theorem dX0_borne_98 : decode cX0_borne 98 = .ok (.iaload, 1) := dk_46 (dk_at dksX0_borne_4 4 rfl rfl)
theorem dX0_borne_99 : decode cX0_borne 99 = .ok (.iconst (-1), 1) := dk_2 (dk_at dksX0_borne_4 5 rfl rfl)
theorem dX0_borne_100 : decode cX0_borne 100 = .ok (.if_icmp .eq 29, 3) := dk_159 0 29 (dk_at dksX0_borne_4 6 rfl rfl)
theorem dX0_borne_103 : decode cX0_borne 103 = .ok (.aload_n 0, 1) := dk_42 (dk_at dksX0_borne_4 9 rfl rfl)
theorem dX0_borne_104 : decode cX0_borne 104 = .ok (.getfield 29, 3) := dk_180 0 29 (dk_at dksX0_borne_4 10 rfl rfl)
theorem dX0_borne_107 : decode cX0_borne 107 = .ok (.aload_n 0, 1) := dk_42 (dk_at dksX0_borne_4 13 rfl rfl)
theorem dX0_borne_108 : decode cX0_borne 108 = .ok (.getfield 25, 3) := dk_180 0 25 (dk_at dksX0_borne_4 14 rfl rfl)
theorem dX0_borne_111 : decode cX0_borne 111 = .ok (.getfield 127, 3) := dk_180 0 127 (dk_at dksX0_borne_4 17 rfl rfl)
theorem dX0_borne_114 : decode cX0_borne 114 = .ok (.iload_n 1, 1) := dk_27 (dk_at dksX0_borne_4 20 rfl rfl)
theorem dX0_borne_115 : decode cX0_borne 115 = .ok (.iaload, 1) := dk_46 (dk_at dksX0_borne_4 21 rfl rfl)
theorem dX0_borne_116 : decode cX0_borne 116 = .ok (.aload_n 0, 1) := dk_42 (dk_at dksX0_borne_4 22 rfl rfl)
theorem dX0_borne_117 : decode cX0_borne 117 = .ok (.getfield 25, 3) := dk_180 0 25 (dk_at dksX0_borne_5 0 rfl rfl)
theorem dX0_borne_120 : decode cX0_borne 120 = .ok (.getfield 131, 3) := dk_180 0 131 (dk_at dksX0_borne_5 3 rfl rfl)
theorem dX0_borne_123 : decode cX0_borne 123 = .ok (.iload_n 1, 1) := dk_27 (dk_at dksX0_borne_5 6 rfl rfl)
theorem dX0_borne_124 : decode cX0_borne 124 = .ok (.aaload, 1) := dk_50 (dk_at dksX0_borne_5 7 rfl rfl)
theorem dX0_borne_125 : decode cX0_borne 125 = .ok (.bipush 10, 2) := dk_16 10 (dk_at dksX0_borne_5 8 rfl rfl)
theorem dX0_borne_127 : decode cX0_borne 127 = .ok (.laload, 1) := dk_47 (dk_at dksX0_borne_5 10 rfl rfl)
theorem dX0_borne_128 : decode cX0_borne 128 = .ok (.lastore, 1) := dk_80 (dk_at dksX0_borne_5 11 rfl rfl)
theorem dX0_borne_129 : decode cX0_borne 129 = .ok (.iinc 1 1, 3) := dk_132 1 1 (dk_at dksX0_borne_5 12 rfl rfl)
theorem dX0_borne_132 : decode cX0_borne 132 = .ok (.goto (-53), 3) := dk_167 255 203 (dk_at dksX0_borne_5 15 rfl rfl)
theorem dX0_borne_135 : decode cX0_borne 135 = .ok (.aload_n 0, 1) := dk_42 (dk_at dksX0_borne_5 18 rfl rfl)
theorem dX0_borne_136 : decode cX0_borne 136 = .ok (.aload_n 0, 1) := dk_42 (dk_at dksX0_borne_5 19 rfl rfl)
theorem dX0_borne_137 : decode cX0_borne 137 = .ok (.getfield 25, 3) := dk_180 0 25 (dk_at dksX0_borne_5 20 rfl rfl)
theorem dX0_borne_140 : decode cX0_borne 140 = .ok (.getfield 83, 3) := dk_180 0 83 (dk_at dksX0_borne_6 0 rfl rfl)
theorem dX0_borne_143 : decode cX0_borne 143 = .ok (.putfield 135, 3) := dk_181 0 135 (dk_at dksX0_borne_6 3 rfl rfl)
theorem dX0_borne_146 : decode cX0_borne 146 = .ok (.return_, 1) := dk_177 (dk_at dksX0_borne_6 6 rfl rfl)
abbrev cX0_volumeOf : ByteArray := prog_1_method_14_code
def yX0_volumeOf : MethodName := ⟨RX0, "volumeOf", "(I)LLeastFrames$Volume;"⟩
def dkwX0_volumeOf_1 : List UInt8 := [176]
abbrev dktX0_volumeOf_1 : List UInt8 := dkwX0_volumeOf_1 ++ []
def dkwX0_volumeOf_0 : List UInt8 := [42, 180, 0, 25, 27, 182, 0, 77, 65, 187, 0, 81, 89, 32, 42, 180, 0, 25, 180, 0, 83, 183, 0, 87]
abbrev dktX0_volumeOf_0 : List UInt8 := dkwX0_volumeOf_0 ++ dktX0_volumeOf_1
theorem dksX0_volumeOf_0 : cX0_volumeOf.data.toList.drop 0 = dktX0_volumeOf_0 := by decide +kernel
theorem dksX0_volumeOf_1 : cX0_volumeOf.data.toList.drop 24 = dktX0_volumeOf_1 := dk_seg dksX0_volumeOf_0 24 rfl rfl
theorem dX0_volumeOf_0 : decode cX0_volumeOf 0 = .ok (.aload_n 0, 1) := dk_42 (dk_at dksX0_volumeOf_0 0 rfl rfl)
theorem dX0_volumeOf_1 : decode cX0_volumeOf 1 = .ok (.getfield 25, 3) := dk_180 0 25 (dk_at dksX0_volumeOf_0 1 rfl rfl)
theorem dX0_volumeOf_4 : decode cX0_volumeOf 4 = .ok (.iload_n 1, 1) := dk_27 (dk_at dksX0_volumeOf_0 4 rfl rfl)
theorem dX0_volumeOf_5 : decode cX0_volumeOf 5 = .ok (.invokevirtual 77, 3) := dk_182 0 77 (dk_at dksX0_volumeOf_0 5 rfl rfl)
theorem dX0_volumeOf_8 : decode cX0_volumeOf 8 = .ok (.lstore_n 2, 1) := dk_65 (dk_at dksX0_volumeOf_0 8 rfl rfl)
theorem dX0_volumeOf_9 : decode cX0_volumeOf 9 = .ok (.new 81, 3) := dk_187 0 81 (dk_at dksX0_volumeOf_0 9 rfl rfl)
theorem dX0_volumeOf_12 : decode cX0_volumeOf 12 = .ok (.dup, 1) := dk_89 (dk_at dksX0_volumeOf_0 12 rfl rfl)
theorem dX0_volumeOf_13 : decode cX0_volumeOf 13 = .ok (.lload_n 2, 1) := dk_32 (dk_at dksX0_volumeOf_0 13 rfl rfl)
theorem dX0_volumeOf_14 : decode cX0_volumeOf 14 = .ok (.aload_n 0, 1) := dk_42 (dk_at dksX0_volumeOf_0 14 rfl rfl)
theorem dX0_volumeOf_15 : decode cX0_volumeOf 15 = .ok (.getfield 25, 3) := dk_180 0 25 (dk_at dksX0_volumeOf_0 15 rfl rfl)
theorem dX0_volumeOf_18 : decode cX0_volumeOf 18 = .ok (.getfield 83, 3) := dk_180 0 83 (dk_at dksX0_volumeOf_0 18 rfl rfl)
theorem dX0_volumeOf_21 : decode cX0_volumeOf 21 = .ok (.invokespecial 87, 3) := dk_183 0 87 (dk_at dksX0_volumeOf_0 21 rfl rfl)
theorem dX0_volumeOf_24 : decode cX0_volumeOf 24 = .ok (.areturn, 1) := dk_176 (dk_at dksX0_volumeOf_1 0 rfl rfl)
abbrev cX0_part : ByteArray := prog_1_method_7_code
def yX0_part : MethodName := ⟨RX0, "part", "(JJI)J"⟩
def dkwX0_part_0 : List UInt8 := [21, 4, 154, 0, 7, 30, 167, 0, 4, 32, 30, 32, 184, 0, 56, 109, 173]
abbrev dktX0_part_0 : List UInt8 := dkwX0_part_0 ++ []
theorem dksX0_part_0 : cX0_part.data.toList.drop 0 = dktX0_part_0 := by decide +kernel
theorem dX0_part_0 : decode cX0_part 0 = .ok (.iload 4, 2) := dk_21 4 (dk_at dksX0_part_0 0 rfl rfl)
theorem dX0_part_2 : decode cX0_part 2 = .ok (.ifCond .ne 7, 3) := dk_154 0 7 (dk_at dksX0_part_0 2 rfl rfl)
theorem dX0_part_5 : decode cX0_part 5 = .ok (.lload_n 0, 1) := dk_30 (dk_at dksX0_part_0 5 rfl rfl)
theorem dX0_part_6 : decode cX0_part 6 = .ok (.goto 4, 3) := dk_167 0 4 (dk_at dksX0_part_0 6 rfl rfl)
theorem dX0_part_9 : decode cX0_part 9 = .ok (.lload_n 2, 1) := dk_32 (dk_at dksX0_part_0 9 rfl rfl)
theorem dX0_part_10 : decode cX0_part 10 = .ok (.lload_n 0, 1) := dk_30 (dk_at dksX0_part_0 10 rfl rfl)
theorem dX0_part_11 : decode cX0_part 11 = .ok (.lload_n 2, 1) := dk_32 (dk_at dksX0_part_0 11 rfl rfl)
theorem dX0_part_12 : decode cX0_part 12 = .ok (.invokestatic 56, 3) := dk_184 0 56 (dk_at dksX0_part_0 12 rfl rfl)
theorem dX0_part_15 : decode cX0_part 15 = .ok (.ldiv, 1) := dk_109 (dk_at dksX0_part_0 15 rfl rfl)
theorem dX0_part_16 : decode cX0_part 16 = .ok (.lreturn, 1) := dk_173 (dk_at dksX0_part_0 16 rfl rfl)
abbrev cX0_divisor : ByteArray := prog_1_method_6_code
def yX0_divisor : MethodName := ⟨RX0, "divisor", "(JJ)J"⟩
def dkwX0_divisor_1 : List UInt8 := [55, 8, 22, 6, 55, 4, 22, 8, 55, 6, 167, 255, 234, 22, 4, 173]
abbrev dktX0_divisor_1 : List UInt8 := dkwX0_divisor_1 ++ []
def dkwX0_divisor_0 : List UInt8 := [30, 184, 0, 50, 55, 4, 32, 184, 0, 50, 55, 6, 22, 6, 9, 148, 153, 0, 21, 22, 4, 22, 6, 113]
abbrev dktX0_divisor_0 : List UInt8 := dkwX0_divisor_0 ++ dktX0_divisor_1
theorem dksX0_divisor_0 : cX0_divisor.data.toList.drop 0 = dktX0_divisor_0 := by decide +kernel
theorem dksX0_divisor_1 : cX0_divisor.data.toList.drop 24 = dktX0_divisor_1 := dk_seg dksX0_divisor_0 24 rfl rfl
theorem dX0_divisor_0 : decode cX0_divisor 0 = .ok (.lload_n 0, 1) := dk_30 (dk_at dksX0_divisor_0 0 rfl rfl)
theorem dX0_divisor_1 : decode cX0_divisor 1 = .ok (.invokestatic 50, 3) := dk_184 0 50 (dk_at dksX0_divisor_0 1 rfl rfl)
theorem dX0_divisor_4 : decode cX0_divisor 4 = .ok (.lstore 4, 2) := dk_55 4 (dk_at dksX0_divisor_0 4 rfl rfl)
theorem dX0_divisor_6 : decode cX0_divisor 6 = .ok (.lload_n 2, 1) := dk_32 (dk_at dksX0_divisor_0 6 rfl rfl)
theorem dX0_divisor_7 : decode cX0_divisor 7 = .ok (.invokestatic 50, 3) := dk_184 0 50 (dk_at dksX0_divisor_0 7 rfl rfl)
theorem dX0_divisor_10 : decode cX0_divisor 10 = .ok (.lstore 6, 2) := dk_55 6 (dk_at dksX0_divisor_0 10 rfl rfl)
theorem dX0_divisor_12 : decode cX0_divisor 12 = .ok (.lload 6, 2) := dk_22 6 (dk_at dksX0_divisor_0 12 rfl rfl)
theorem dX0_divisor_14 : decode cX0_divisor 14 = .ok (.lconst 0, 1) := dk_9 (dk_at dksX0_divisor_0 14 rfl rfl)
theorem dX0_divisor_15 : decode cX0_divisor 15 = .ok (.lcmp, 1) := dk_148 (dk_at dksX0_divisor_0 15 rfl rfl)
theorem dX0_divisor_16 : decode cX0_divisor 16 = .ok (.ifCond .eq 21, 3) := dk_153 0 21 (dk_at dksX0_divisor_0 16 rfl rfl)
theorem dX0_divisor_19 : decode cX0_divisor 19 = .ok (.lload 4, 2) := dk_22 4 (dk_at dksX0_divisor_0 19 rfl rfl)
theorem dX0_divisor_21 : decode cX0_divisor 21 = .ok (.lload 6, 2) := dk_22 6 (dk_at dksX0_divisor_0 21 rfl rfl)
theorem dX0_divisor_23 : decode cX0_divisor 23 = .ok (.lrem, 1) := dk_113 (dk_at dksX0_divisor_0 23 rfl rfl)
theorem dX0_divisor_24 : decode cX0_divisor 24 = .ok (.lstore 8, 2) := dk_55 8 (dk_at dksX0_divisor_1 0 rfl rfl)
theorem dX0_divisor_26 : decode cX0_divisor 26 = .ok (.lload 6, 2) := dk_22 6 (dk_at dksX0_divisor_1 2 rfl rfl)
theorem dX0_divisor_28 : decode cX0_divisor 28 = .ok (.lstore 4, 2) := dk_55 4 (dk_at dksX0_divisor_1 4 rfl rfl)
theorem dX0_divisor_30 : decode cX0_divisor 30 = .ok (.lload 8, 2) := dk_22 8 (dk_at dksX0_divisor_1 6 rfl rfl)
theorem dX0_divisor_32 : decode cX0_divisor 32 = .ok (.lstore 6, 2) := dk_55 6 (dk_at dksX0_divisor_1 8 rfl rfl)
theorem dX0_divisor_34 : decode cX0_divisor 34 = .ok (.goto (-22), 3) := dk_167 255 234 (dk_at dksX0_divisor_1 10 rfl rfl)
theorem dX0_divisor_37 : decode cX0_divisor 37 = .ok (.lload 4, 2) := dk_22 4 (dk_at dksX0_divisor_1 13 rfl rfl)
theorem dX0_divisor_39 : decode cX0_divisor 39 = .ok (.lreturn, 1) := dk_173 (dk_at dksX0_divisor_1 15 rfl rfl)
abbrev cX0_framed : ByteArray := prog_1_method_15_code
def yX0_framed : MethodName := ⟨RX0, "framed", "()I"⟩
def dkwX0_framed_2 : List UInt8 := [2, 130, 126, 60, 167, 0, 10, 78, 27, 4, 28, 120, 128, 60, 132, 2, 255, 167, 255, 199, 27, 172]
abbrev dktX0_framed_2 : List UInt8 := dkwX0_framed_2 ++ []
def dkwX0_framed_1 : List UInt8 := [180, 0, 97, 42, 27, 4, 28, 120, 2, 130, 126, 182, 0, 101, 182, 0, 105, 154, 0, 11, 27, 4, 28, 120]
abbrev dktX0_framed_1 : List UInt8 := dkwX0_framed_1 ++ dktX0_framed_2
def dkwX0_framed_0 : List UInt8 := [42, 180, 0, 90, 60, 16, 9, 61, 28, 155, 0, 59, 27, 28, 184, 0, 93, 154, 0, 6, 167, 0, 42, 42]
abbrev dktX0_framed_0 : List UInt8 := dkwX0_framed_0 ++ dktX0_framed_1
theorem dksX0_framed_0 : cX0_framed.data.toList.drop 0 = dktX0_framed_0 := by decide +kernel
theorem dksX0_framed_1 : cX0_framed.data.toList.drop 24 = dktX0_framed_1 := dk_seg dksX0_framed_0 24 rfl rfl
theorem dksX0_framed_2 : cX0_framed.data.toList.drop 48 = dktX0_framed_2 := dk_seg dksX0_framed_1 24 rfl rfl
theorem dX0_framed_0 : decode cX0_framed 0 = .ok (.aload_n 0, 1) := dk_42 (dk_at dksX0_framed_0 0 rfl rfl)
theorem dX0_framed_1 : decode cX0_framed 1 = .ok (.getfield 90, 3) := dk_180 0 90 (dk_at dksX0_framed_0 1 rfl rfl)
theorem dX0_framed_4 : decode cX0_framed 4 = .ok (.istore_n 1, 1) := dk_60 (dk_at dksX0_framed_0 4 rfl rfl)
theorem dX0_framed_5 : decode cX0_framed 5 = .ok (.bipush 9, 2) := dk_16 9 (dk_at dksX0_framed_0 5 rfl rfl)
theorem dX0_framed_7 : decode cX0_framed 7 = .ok (.istore_n 2, 1) := dk_61 (dk_at dksX0_framed_0 7 rfl rfl)
theorem dX0_framed_8 : decode cX0_framed 8 = .ok (.iload_n 2, 1) := dk_28 (dk_at dksX0_framed_0 8 rfl rfl)
theorem dX0_framed_9 : decode cX0_framed 9 = .ok (.ifCond .lt 59, 3) := dk_155 0 59 (dk_at dksX0_framed_0 9 rfl rfl)
theorem dX0_framed_12 : decode cX0_framed 12 = .ok (.iload_n 1, 1) := dk_27 (dk_at dksX0_framed_0 12 rfl rfl)
theorem dX0_framed_13 : decode cX0_framed 13 = .ok (.iload_n 2, 1) := dk_28 (dk_at dksX0_framed_0 13 rfl rfl)
theorem dX0_framed_14 : decode cX0_framed 14 = .ok (.invokestatic 93, 3) := dk_184 0 93 (dk_at dksX0_framed_0 14 rfl rfl)
theorem dX0_framed_17 : decode cX0_framed 17 = .ok (.ifCond .ne 6, 3) := dk_154 0 6 (dk_at dksX0_framed_0 17 rfl rfl)
theorem dX0_framed_20 : decode cX0_framed 20 = .ok (.goto 42, 3) := dk_167 0 42 (dk_at dksX0_framed_0 20 rfl rfl)
theorem dX0_framed_23 : decode cX0_framed 23 = .ok (.aload_n 0, 1) := dk_42 (dk_at dksX0_framed_0 23 rfl rfl)
theorem dX0_framed_24 : decode cX0_framed 24 = .ok (.getfield 97, 3) := dk_180 0 97 (dk_at dksX0_framed_1 0 rfl rfl)
theorem dX0_framed_27 : decode cX0_framed 27 = .ok (.aload_n 0, 1) := dk_42 (dk_at dksX0_framed_1 3 rfl rfl)
theorem dX0_framed_28 : decode cX0_framed 28 = .ok (.iload_n 1, 1) := dk_27 (dk_at dksX0_framed_1 4 rfl rfl)
theorem dX0_framed_29 : decode cX0_framed 29 = .ok (.iconst 1, 1) := dk_4 (dk_at dksX0_framed_1 5 rfl rfl)
theorem dX0_framed_30 : decode cX0_framed 30 = .ok (.iload_n 2, 1) := dk_28 (dk_at dksX0_framed_1 6 rfl rfl)
theorem dX0_framed_31 : decode cX0_framed 31 = .ok (.ishl, 1) := dk_120 (dk_at dksX0_framed_1 7 rfl rfl)
theorem dX0_framed_32 : decode cX0_framed 32 = .ok (.iconst (-1), 1) := dk_2 (dk_at dksX0_framed_1 8 rfl rfl)
theorem dX0_framed_33 : decode cX0_framed 33 = .ok (.ixor, 1) := dk_130 (dk_at dksX0_framed_1 9 rfl rfl)
theorem dX0_framed_34 : decode cX0_framed 34 = .ok (.iand, 1) := dk_126 (dk_at dksX0_framed_1 10 rfl rfl)
theorem dX0_framed_35 : decode cX0_framed 35 = .ok (.invokevirtual 101, 3) := dk_182 0 101 (dk_at dksX0_framed_1 11 rfl rfl)
theorem dX0_framed_38 : decode cX0_framed 38 = .ok (.invokevirtual 105, 3) := dk_182 0 105 (dk_at dksX0_framed_1 14 rfl rfl)
theorem dX0_framed_41 : decode cX0_framed 41 = .ok (.ifCond .ne 11, 3) := dk_154 0 11 (dk_at dksX0_framed_1 17 rfl rfl)
theorem dX0_framed_44 : decode cX0_framed 44 = .ok (.iload_n 1, 1) := dk_27 (dk_at dksX0_framed_1 20 rfl rfl)
theorem dX0_framed_45 : decode cX0_framed 45 = .ok (.iconst 1, 1) := dk_4 (dk_at dksX0_framed_1 21 rfl rfl)
theorem dX0_framed_46 : decode cX0_framed 46 = .ok (.iload_n 2, 1) := dk_28 (dk_at dksX0_framed_1 22 rfl rfl)
theorem dX0_framed_47 : decode cX0_framed 47 = .ok (.ishl, 1) := dk_120 (dk_at dksX0_framed_1 23 rfl rfl)
theorem dX0_framed_48 : decode cX0_framed 48 = .ok (.iconst (-1), 1) := dk_2 (dk_at dksX0_framed_2 0 rfl rfl)
theorem dX0_framed_49 : decode cX0_framed 49 = .ok (.ixor, 1) := dk_130 (dk_at dksX0_framed_2 1 rfl rfl)
theorem dX0_framed_50 : decode cX0_framed 50 = .ok (.iand, 1) := dk_126 (dk_at dksX0_framed_2 2 rfl rfl)
theorem dX0_framed_51 : decode cX0_framed 51 = .ok (.istore_n 1, 1) := dk_60 (dk_at dksX0_framed_2 3 rfl rfl)
theorem dX0_framed_52 : decode cX0_framed 52 = .ok (.goto 10, 3) := dk_167 0 10 (dk_at dksX0_framed_2 4 rfl rfl)
theorem dX0_framed_55 : decode cX0_framed 55 = .ok (.astore_n 3, 1) := dk_78 (dk_at dksX0_framed_2 7 rfl rfl)
theorem dX0_framed_56 : decode cX0_framed 56 = .ok (.iload_n 1, 1) := dk_27 (dk_at dksX0_framed_2 8 rfl rfl)
theorem dX0_framed_57 : decode cX0_framed 57 = .ok (.iconst 1, 1) := dk_4 (dk_at dksX0_framed_2 9 rfl rfl)
theorem dX0_framed_58 : decode cX0_framed 58 = .ok (.iload_n 2, 1) := dk_28 (dk_at dksX0_framed_2 10 rfl rfl)
theorem dX0_framed_59 : decode cX0_framed 59 = .ok (.ishl, 1) := dk_120 (dk_at dksX0_framed_2 11 rfl rfl)
theorem dX0_framed_60 : decode cX0_framed 60 = .ok (.ior, 1) := dk_128 (dk_at dksX0_framed_2 12 rfl rfl)
theorem dX0_framed_61 : decode cX0_framed 61 = .ok (.istore_n 1, 1) := dk_60 (dk_at dksX0_framed_2 13 rfl rfl)
theorem dX0_framed_62 : decode cX0_framed 62 = .ok (.iinc 2 (-1), 3) := dk_132 2 255 (dk_at dksX0_framed_2 14 rfl rfl)
theorem dX0_framed_65 : decode cX0_framed 65 = .ok (.goto (-57), 3) := dk_167 255 199 (dk_at dksX0_framed_2 17 rfl rfl)
theorem dX0_framed_68 : decode cX0_framed 68 = .ok (.iload_n 1, 1) := dk_27 (dk_at dksX0_framed_2 20 rfl rfl)
theorem dX0_framed_69 : decode cX0_framed 69 = .ok (.ireturn, 1) := dk_172 (dk_at dksX0_framed_2 21 rfl rfl)
abbrev cX0_leastBy : ByteArray := prog_1_method_31_code
def yX0_leastBy : MethodName := ⟨RX0, "leastBy", "(I)J"⟩
def dkwX0_leastBy_0 : List UInt8 := [42, 180, 0, 97, 199, 0, 11, 16, 253, 184, 0, 206, 167, 0, 11, 42, 180, 0, 97, 27, 182, 0, 209, 173]
abbrev dktX0_leastBy_0 : List UInt8 := dkwX0_leastBy_0 ++ []
theorem dksX0_leastBy_0 : cX0_leastBy.data.toList.drop 0 = dktX0_leastBy_0 := by decide +kernel
theorem dX0_leastBy_0 : decode cX0_leastBy 0 = .ok (.aload_n 0, 1) := dk_42 (dk_at dksX0_leastBy_0 0 rfl rfl)
theorem dX0_leastBy_1 : decode cX0_leastBy 1 = .ok (.getfield 97, 3) := dk_180 0 97 (dk_at dksX0_leastBy_0 1 rfl rfl)
theorem dX0_leastBy_4 : decode cX0_leastBy 4 = .ok (.ifnonnull 11, 3) := dk_199 0 11 (dk_at dksX0_leastBy_0 4 rfl rfl)
theorem dX0_leastBy_7 : decode cX0_leastBy 7 = .ok (.bipush (-3), 2) := dk_16 253 (dk_at dksX0_leastBy_0 7 rfl rfl)
theorem dX0_leastBy_9 : decode cX0_leastBy 9 = .ok (.invokestatic 206, 3) := dk_184 0 206 (dk_at dksX0_leastBy_0 9 rfl rfl)
theorem dX0_leastBy_12 : decode cX0_leastBy 12 = .ok (.goto 11, 3) := dk_167 0 11 (dk_at dksX0_leastBy_0 12 rfl rfl)
theorem dX0_leastBy_15 : decode cX0_leastBy 15 = .ok (.aload_n 0, 1) := dk_42 (dk_at dksX0_leastBy_0 15 rfl rfl)
theorem dX0_leastBy_16 : decode cX0_leastBy 16 = .ok (.getfield 97, 3) := dk_180 0 97 (dk_at dksX0_leastBy_0 16 rfl rfl)
theorem dX0_leastBy_19 : decode cX0_leastBy 19 = .ok (.iload_n 1, 1) := dk_27 (dk_at dksX0_leastBy_0 19 rfl rfl)
theorem dX0_leastBy_20 : decode cX0_leastBy 20 = .ok (.invokevirtual 209, 3) := dk_182 0 209 (dk_at dksX0_leastBy_0 20 rfl rfl)
theorem dX0_leastBy_23 : decode cX0_leastBy 23 = .ok (.lreturn, 1) := dk_173 (dk_at dksX0_leastBy_0 23 rfl rfl)
abbrev cX0_fault : ByteArray := prog_1_method_33_code
def yX0_fault : MethodName := ⟨RX0, "fault", "()I"⟩
def dkwX0_fault_0 : List UInt8 := [42, 182, 0, 211, 87, 42, 180, 0, 111, 172]
abbrev dktX0_fault_0 : List UInt8 := dkwX0_fault_0 ++ []
theorem dksX0_fault_0 : cX0_fault.data.toList.drop 0 = dktX0_fault_0 := by decide +kernel
theorem dX0_fault_0 : decode cX0_fault 0 = .ok (.aload_n 0, 1) := dk_42 (dk_at dksX0_fault_0 0 rfl rfl)
theorem dX0_fault_1 : decode cX0_fault 1 = .ok (.invokevirtual 211, 3) := dk_182 0 211 (dk_at dksX0_fault_0 1 rfl rfl)
theorem dX0_fault_4 : decode cX0_fault 4 = .ok (.pop, 1) := dk_87 (dk_at dksX0_fault_0 4 rfl rfl)
theorem dX0_fault_5 : decode cX0_fault 5 = .ok (.aload_n 0, 1) := dk_42 (dk_at dksX0_fault_0 5 rfl rfl)
theorem dX0_fault_6 : decode cX0_fault 6 = .ok (.getfield 111, 3) := dk_180 0 111 (dk_at dksX0_fault_0 6 rfl rfl)
theorem dX0_fault_9 : decode cX0_fault 9 = .ok (.ireturn, 1) := dk_172 (dk_at dksX0_fault_0 9 rfl rfl)
abbrev cX0_frame : ByteArray := prog_1_method_34_code
def yX0_frame : MethodName := ⟨RX0, "frame", "()I"⟩
def dkwX0_frame_0 : List UInt8 := [42, 182, 0, 211, 153, 0, 10, 42, 180, 0, 118, 167, 0, 5, 16, 253, 172]
abbrev dktX0_frame_0 : List UInt8 := dkwX0_frame_0 ++ []
theorem dksX0_frame_0 : cX0_frame.data.toList.drop 0 = dktX0_frame_0 := by decide +kernel
theorem dX0_frame_0 : decode cX0_frame 0 = .ok (.aload_n 0, 1) := dk_42 (dk_at dksX0_frame_0 0 rfl rfl)
theorem dX0_frame_1 : decode cX0_frame 1 = .ok (.invokevirtual 211, 3) := dk_182 0 211 (dk_at dksX0_frame_0 1 rfl rfl)
theorem dX0_frame_4 : decode cX0_frame 4 = .ok (.ifCond .eq 10, 3) := dk_153 0 10 (dk_at dksX0_frame_0 4 rfl rfl)
theorem dX0_frame_7 : decode cX0_frame 7 = .ok (.aload_n 0, 1) := dk_42 (dk_at dksX0_frame_0 7 rfl rfl)
theorem dX0_frame_8 : decode cX0_frame 8 = .ok (.getfield 118, 3) := dk_180 0 118 (dk_at dksX0_frame_0 8 rfl rfl)
theorem dX0_frame_11 : decode cX0_frame 11 = .ok (.goto 5, 3) := dk_167 0 5 (dk_at dksX0_frame_0 11 rfl rfl)
theorem dX0_frame_14 : decode cX0_frame 14 = .ok (.bipush (-3), 2) := dk_16 253 (dk_at dksX0_frame_0 14 rfl rfl)
theorem dX0_frame_16 : decode cX0_frame 16 = .ok (.ireturn, 1) := dk_172 (dk_at dksX0_frame_0 16 rfl rfl)
abbrev cX0_pull : ByteArray := prog_1_method_36_code
def yX0_pull : MethodName := ⟨RX0, "pull", "(II)J"⟩
def dkwX0_pull_1 : List UInt8 := [182, 0, 211, 87, 42, 27, 28, 182, 0, 222, 173]
abbrev dktX0_pull_1 : List UInt8 := dkwX0_pull_1 ++ []
def dkwX0_pull_0 : List UInt8 := [42, 27, 182, 0, 156, 153, 0, 10, 28, 184, 0, 168, 154, 0, 9, 16, 254, 184, 0, 206, 173, 42]
abbrev dktX0_pull_0 : List UInt8 := dkwX0_pull_0 ++ dktX0_pull_1
theorem dksX0_pull_0 : cX0_pull.data.toList.drop 0 = dktX0_pull_0 := by decide +kernel
theorem dksX0_pull_1 : cX0_pull.data.toList.drop 22 = dktX0_pull_1 := dk_seg dksX0_pull_0 22 rfl rfl
theorem dX0_pull_0 : decode cX0_pull 0 = .ok (.aload_n 0, 1) := dk_42 (dk_at dksX0_pull_0 0 rfl rfl)
theorem dX0_pull_1 : decode cX0_pull 1 = .ok (.iload_n 1, 1) := dk_27 (dk_at dksX0_pull_0 1 rfl rfl)
theorem dX0_pull_2 : decode cX0_pull 2 = .ok (.invokevirtual 156, 3) := dk_182 0 156 (dk_at dksX0_pull_0 2 rfl rfl)
theorem dX0_pull_5 : decode cX0_pull 5 = .ok (.ifCond .eq 10, 3) := dk_153 0 10 (dk_at dksX0_pull_0 5 rfl rfl)
theorem dX0_pull_8 : decode cX0_pull 8 = .ok (.iload_n 2, 1) := dk_28 (dk_at dksX0_pull_0 8 rfl rfl)
theorem dX0_pull_9 : decode cX0_pull 9 = .ok (.invokestatic 168, 3) := dk_184 0 168 (dk_at dksX0_pull_0 9 rfl rfl)
theorem dX0_pull_12 : decode cX0_pull 12 = .ok (.ifCond .ne 9, 3) := dk_154 0 9 (dk_at dksX0_pull_0 12 rfl rfl)
theorem dX0_pull_15 : decode cX0_pull 15 = .ok (.bipush (-2), 2) := dk_16 254 (dk_at dksX0_pull_0 15 rfl rfl)
theorem dX0_pull_17 : decode cX0_pull 17 = .ok (.invokestatic 206, 3) := dk_184 0 206 (dk_at dksX0_pull_0 17 rfl rfl)
theorem dX0_pull_20 : decode cX0_pull 20 = .ok (.lreturn, 1) := dk_173 (dk_at dksX0_pull_0 20 rfl rfl)
theorem dX0_pull_21 : decode cX0_pull 21 = .ok (.aload_n 0, 1) := dk_42 (dk_at dksX0_pull_0 21 rfl rfl)
theorem dX0_pull_22 : decode cX0_pull 22 = .ok (.invokevirtual 211, 3) := dk_182 0 211 (dk_at dksX0_pull_1 0 rfl rfl)
theorem dX0_pull_25 : decode cX0_pull 25 = .ok (.pop, 1) := dk_87 (dk_at dksX0_pull_1 3 rfl rfl)
theorem dX0_pull_26 : decode cX0_pull 26 = .ok (.aload_n 0, 1) := dk_42 (dk_at dksX0_pull_1 4 rfl rfl)
theorem dX0_pull_27 : decode cX0_pull 27 = .ok (.iload_n 1, 1) := dk_27 (dk_at dksX0_pull_1 5 rfl rfl)
theorem dX0_pull_28 : decode cX0_pull 28 = .ok (.iload_n 2, 1) := dk_28 (dk_at dksX0_pull_1 6 rfl rfl)
theorem dX0_pull_29 : decode cX0_pull 29 = .ok (.invokevirtual 222, 3) := dk_182 0 222 (dk_at dksX0_pull_1 7 rfl rfl)
theorem dX0_pull_32 : decode cX0_pull 32 = .ok (.lreturn, 1) := dk_173 (dk_at dksX0_pull_1 10 rfl rfl)
abbrev cX0_pullBy : ByteArray := prog_1_method_35_code
def yX0_pullBy : MethodName := ⟨RX0, "pullBy", "(II)J"⟩
def dkwX0_pullBy_1 : List UInt8 := [180, 0, 135, 28, 184, 0, 218, 173]
abbrev dktX0_pullBy_1 : List UInt8 := dkwX0_pullBy_1 ++ []
def dkwX0_pullBy_0 : List UInt8 := [42, 180, 0, 97, 199, 0, 11, 16, 253, 184, 0, 206, 167, 0, 17, 42, 180, 0, 29, 27, 47, 42]
abbrev dktX0_pullBy_0 : List UInt8 := dkwX0_pullBy_0 ++ dktX0_pullBy_1
theorem dksX0_pullBy_0 : cX0_pullBy.data.toList.drop 0 = dktX0_pullBy_0 := by decide +kernel
theorem dksX0_pullBy_1 : cX0_pullBy.data.toList.drop 22 = dktX0_pullBy_1 := dk_seg dksX0_pullBy_0 22 rfl rfl
theorem dX0_pullBy_0 : decode cX0_pullBy 0 = .ok (.aload_n 0, 1) := dk_42 (dk_at dksX0_pullBy_0 0 rfl rfl)
theorem dX0_pullBy_1 : decode cX0_pullBy 1 = .ok (.getfield 97, 3) := dk_180 0 97 (dk_at dksX0_pullBy_0 1 rfl rfl)
theorem dX0_pullBy_4 : decode cX0_pullBy 4 = .ok (.ifnonnull 11, 3) := dk_199 0 11 (dk_at dksX0_pullBy_0 4 rfl rfl)
theorem dX0_pullBy_7 : decode cX0_pullBy 7 = .ok (.bipush (-3), 2) := dk_16 253 (dk_at dksX0_pullBy_0 7 rfl rfl)
theorem dX0_pullBy_9 : decode cX0_pullBy 9 = .ok (.invokestatic 206, 3) := dk_184 0 206 (dk_at dksX0_pullBy_0 9 rfl rfl)
theorem dX0_pullBy_12 : decode cX0_pullBy 12 = .ok (.goto 17, 3) := dk_167 0 17 (dk_at dksX0_pullBy_0 12 rfl rfl)
theorem dX0_pullBy_15 : decode cX0_pullBy 15 = .ok (.aload_n 0, 1) := dk_42 (dk_at dksX0_pullBy_0 15 rfl rfl)
theorem dX0_pullBy_16 : decode cX0_pullBy 16 = .ok (.getfield 29, 3) := dk_180 0 29 (dk_at dksX0_pullBy_0 16 rfl rfl)
theorem dX0_pullBy_19 : decode cX0_pullBy 19 = .ok (.iload_n 1, 1) := dk_27 (dk_at dksX0_pullBy_0 19 rfl rfl)
theorem dX0_pullBy_20 : decode cX0_pullBy 20 = .ok (.laload, 1) := dk_47 (dk_at dksX0_pullBy_0 20 rfl rfl)
theorem dX0_pullBy_21 : decode cX0_pullBy 21 = .ok (.aload_n 0, 1) := dk_42 (dk_at dksX0_pullBy_0 21 rfl rfl)
theorem dX0_pullBy_22 : decode cX0_pullBy 22 = .ok (.getfield 135, 3) := dk_180 0 135 (dk_at dksX0_pullBy_1 0 rfl rfl)
theorem dX0_pullBy_25 : decode cX0_pullBy 25 = .ok (.iload_n 2, 1) := dk_28 (dk_at dksX0_pullBy_1 3 rfl rfl)
theorem dX0_pullBy_26 : decode cX0_pullBy 26 = .ok (.invokestatic 218, 3) := dk_184 0 218 (dk_at dksX0_pullBy_1 4 rfl rfl)
theorem dX0_pullBy_29 : decode cX0_pullBy 29 = .ok (.lreturn, 1) := dk_173 (dk_at dksX0_pullBy_1 7 rfl rfl)
abbrev cX0_without : ByteArray := prog_1_method_39_code
def yX0_without : MethodName := ⟨RX0, "without", "(II)J"⟩
def dkwX0_without_1 : List UInt8 := [16, 254, 184, 0, 206, 173]
abbrev dktX0_without_1 : List UInt8 := dkwX0_without_1 ++ []
def dkwX0_without_0 : List UInt8 := [42, 27, 182, 0, 234, 153, 0, 19, 28, 184, 0, 168, 153, 0, 12, 42, 27, 28, 182, 0, 237, 167, 0, 8]
abbrev dktX0_without_0 : List UInt8 := dkwX0_without_0 ++ dktX0_without_1
theorem dksX0_without_0 : cX0_without.data.toList.drop 0 = dktX0_without_0 := by decide +kernel
theorem dksX0_without_1 : cX0_without.data.toList.drop 24 = dktX0_without_1 := dk_seg dksX0_without_0 24 rfl rfl
theorem dX0_without_0 : decode cX0_without 0 = .ok (.aload_n 0, 1) := dk_42 (dk_at dksX0_without_0 0 rfl rfl)
theorem dX0_without_1 : decode cX0_without 1 = .ok (.iload_n 1, 1) := dk_27 (dk_at dksX0_without_0 1 rfl rfl)
theorem dX0_without_2 : decode cX0_without 2 = .ok (.invokevirtual 234, 3) := dk_182 0 234 (dk_at dksX0_without_0 2 rfl rfl)
theorem dX0_without_5 : decode cX0_without 5 = .ok (.ifCond .eq 19, 3) := dk_153 0 19 (dk_at dksX0_without_0 5 rfl rfl)
theorem dX0_without_8 : decode cX0_without 8 = .ok (.iload_n 2, 1) := dk_28 (dk_at dksX0_without_0 8 rfl rfl)
theorem dX0_without_9 : decode cX0_without 9 = .ok (.invokestatic 168, 3) := dk_184 0 168 (dk_at dksX0_without_0 9 rfl rfl)
theorem dX0_without_12 : decode cX0_without 12 = .ok (.ifCond .eq 12, 3) := dk_153 0 12 (dk_at dksX0_without_0 12 rfl rfl)
theorem dX0_without_15 : decode cX0_without 15 = .ok (.aload_n 0, 1) := dk_42 (dk_at dksX0_without_0 15 rfl rfl)
theorem dX0_without_16 : decode cX0_without 16 = .ok (.iload_n 1, 1) := dk_27 (dk_at dksX0_without_0 16 rfl rfl)
theorem dX0_without_17 : decode cX0_without 17 = .ok (.iload_n 2, 1) := dk_28 (dk_at dksX0_without_0 17 rfl rfl)
theorem dX0_without_18 : decode cX0_without 18 = .ok (.invokevirtual 237, 3) := dk_182 0 237 (dk_at dksX0_without_0 18 rfl rfl)
theorem dX0_without_21 : decode cX0_without 21 = .ok (.goto 8, 3) := dk_167 0 8 (dk_at dksX0_without_0 21 rfl rfl)
theorem dX0_without_24 : decode cX0_without 24 = .ok (.bipush (-2), 2) := dk_16 254 (dk_at dksX0_without_1 0 rfl rfl)
theorem dX0_without_26 : decode cX0_without 26 = .ok (.invokestatic 206, 3) := dk_184 0 206 (dk_at dksX0_without_1 2 rfl rfl)
theorem dX0_without_29 : decode cX0_without 29 = .ok (.lreturn, 1) := dk_173 (dk_at dksX0_without_1 5 rfl rfl)
abbrev cX0_isBar : ByteArray := prog_1_method_22_code
def yX0_isBar : MethodName := ⟨RX0, "isBar", "(I)Z"⟩
def dkwX0_isBar_1 : List UInt8 := [172]
abbrev dktX0_isBar_1 : List UInt8 := dkwX0_isBar_1 ++ []
def dkwX0_isBar_0 : List UInt8 := [42, 27, 182, 0, 156, 153, 0, 18, 42, 180, 0, 90, 27, 184, 0, 93, 153, 0, 7, 4, 167, 0, 4, 3]
abbrev dktX0_isBar_0 : List UInt8 := dkwX0_isBar_0 ++ dktX0_isBar_1
theorem dksX0_isBar_0 : cX0_isBar.data.toList.drop 0 = dktX0_isBar_0 := by decide +kernel
theorem dksX0_isBar_1 : cX0_isBar.data.toList.drop 24 = dktX0_isBar_1 := dk_seg dksX0_isBar_0 24 rfl rfl
theorem dX0_isBar_0 : decode cX0_isBar 0 = .ok (.aload_n 0, 1) := dk_42 (dk_at dksX0_isBar_0 0 rfl rfl)
theorem dX0_isBar_1 : decode cX0_isBar 1 = .ok (.iload_n 1, 1) := dk_27 (dk_at dksX0_isBar_0 1 rfl rfl)
theorem dX0_isBar_2 : decode cX0_isBar 2 = .ok (.invokevirtual 156, 3) := dk_182 0 156 (dk_at dksX0_isBar_0 2 rfl rfl)
theorem dX0_isBar_5 : decode cX0_isBar 5 = .ok (.ifCond .eq 18, 3) := dk_153 0 18 (dk_at dksX0_isBar_0 5 rfl rfl)
theorem dX0_isBar_8 : decode cX0_isBar 8 = .ok (.aload_n 0, 1) := dk_42 (dk_at dksX0_isBar_0 8 rfl rfl)
theorem dX0_isBar_9 : decode cX0_isBar 9 = .ok (.getfield 90, 3) := dk_180 0 90 (dk_at dksX0_isBar_0 9 rfl rfl)
theorem dX0_isBar_12 : decode cX0_isBar 12 = .ok (.iload_n 1, 1) := dk_27 (dk_at dksX0_isBar_0 12 rfl rfl)
theorem dX0_isBar_13 : decode cX0_isBar 13 = .ok (.invokestatic 93, 3) := dk_184 0 93 (dk_at dksX0_isBar_0 13 rfl rfl)
theorem dX0_isBar_16 : decode cX0_isBar 16 = .ok (.ifCond .eq 7, 3) := dk_153 0 7 (dk_at dksX0_isBar_0 16 rfl rfl)
theorem dX0_isBar_19 : decode cX0_isBar 19 = .ok (.iconst 1, 1) := dk_4 (dk_at dksX0_isBar_0 19 rfl rfl)
theorem dX0_isBar_20 : decode cX0_isBar 20 = .ok (.goto 4, 3) := dk_167 0 4 (dk_at dksX0_isBar_0 20 rfl rfl)
theorem dX0_isBar_23 : decode cX0_isBar 23 = .ok (.iconst 0, 1) := dk_3 (dk_at dksX0_isBar_0 23 rfl rfl)
theorem dX0_isBar_24 : decode cX0_isBar 24 = .ok (.ireturn, 1) := dk_172 (dk_at dksX0_isBar_1 0 rfl rfl)
abbrev cX0_withoutBy : ByteArray := prog_1_method_38_code
def yX0_withoutBy : MethodName := ⟨RX0, "withoutBy", "(II)J"⟩
def dkwX0_withoutBy_0 : List UInt8 := [42, 27, 182, 0, 231, 28, 182, 0, 209, 173, 78, 16, 253, 184, 0, 206, 173]
abbrev dktX0_withoutBy_0 : List UInt8 := dkwX0_withoutBy_0 ++ []
theorem dksX0_withoutBy_0 : cX0_withoutBy.data.toList.drop 0 = dktX0_withoutBy_0 := by decide +kernel
theorem dX0_withoutBy_0 : decode cX0_withoutBy 0 = .ok (.aload_n 0, 1) := dk_42 (dk_at dksX0_withoutBy_0 0 rfl rfl)
theorem dX0_withoutBy_1 : decode cX0_withoutBy 1 = .ok (.iload_n 1, 1) := dk_27 (dk_at dksX0_withoutBy_0 1 rfl rfl)
theorem dX0_withoutBy_2 : decode cX0_withoutBy 2 = .ok (.invokevirtual 231, 3) := dk_182 0 231 (dk_at dksX0_withoutBy_0 2 rfl rfl)
theorem dX0_withoutBy_5 : decode cX0_withoutBy 5 = .ok (.iload_n 2, 1) := dk_28 (dk_at dksX0_withoutBy_0 5 rfl rfl)
theorem dX0_withoutBy_6 : decode cX0_withoutBy 6 = .ok (.invokevirtual 209, 3) := dk_182 0 209 (dk_at dksX0_withoutBy_0 6 rfl rfl)
theorem dX0_withoutBy_9 : decode cX0_withoutBy 9 = .ok (.lreturn, 1) := dk_173 (dk_at dksX0_withoutBy_0 9 rfl rfl)
theorem dX0_withoutBy_10 : decode cX0_withoutBy 10 = .ok (.astore_n 3, 1) := dk_78 (dk_at dksX0_withoutBy_0 10 rfl rfl)
theorem dX0_withoutBy_11 : decode cX0_withoutBy 11 = .ok (.bipush (-3), 2) := dk_16 253 (dk_at dksX0_withoutBy_0 11 rfl rfl)
theorem dX0_withoutBy_13 : decode cX0_withoutBy 13 = .ok (.invokestatic 206, 3) := dk_184 0 206 (dk_at dksX0_withoutBy_0 13 rfl rfl)
theorem dX0_withoutBy_16 : decode cX0_withoutBy 16 = .ok (.lreturn, 1) := dk_173 (dk_at dksX0_withoutBy_0 16 rfl rfl)
abbrev cX0_lacking : ByteArray := prog_1_method_37_code
def yX0_lacking : MethodName := ⟨RX0, "lacking", "(I)LLeastFrames$Volume;"⟩
def dkwX0_lacking_1 : List UInt8 := [183, 0, 228, 191]
abbrev dktX0_lacking_1 : List UInt8 := dkwX0_lacking_1 ++ []
def dkwX0_lacking_0 : List UInt8 := [42, 42, 180, 0, 90, 4, 27, 120, 2, 130, 126, 182, 0, 101, 176, 77, 187, 0, 226, 89, 27, 44]
abbrev dktX0_lacking_0 : List UInt8 := dkwX0_lacking_0 ++ dktX0_lacking_1
theorem dksX0_lacking_0 : cX0_lacking.data.toList.drop 0 = dktX0_lacking_0 := by decide +kernel
theorem dksX0_lacking_1 : cX0_lacking.data.toList.drop 22 = dktX0_lacking_1 := dk_seg dksX0_lacking_0 22 rfl rfl
theorem dX0_lacking_0 : decode cX0_lacking 0 = .ok (.aload_n 0, 1) := dk_42 (dk_at dksX0_lacking_0 0 rfl rfl)
theorem dX0_lacking_1 : decode cX0_lacking 1 = .ok (.aload_n 0, 1) := dk_42 (dk_at dksX0_lacking_0 1 rfl rfl)
theorem dX0_lacking_2 : decode cX0_lacking 2 = .ok (.getfield 90, 3) := dk_180 0 90 (dk_at dksX0_lacking_0 2 rfl rfl)
theorem dX0_lacking_5 : decode cX0_lacking 5 = .ok (.iconst 1, 1) := dk_4 (dk_at dksX0_lacking_0 5 rfl rfl)
theorem dX0_lacking_6 : decode cX0_lacking 6 = .ok (.iload_n 1, 1) := dk_27 (dk_at dksX0_lacking_0 6 rfl rfl)
theorem dX0_lacking_7 : decode cX0_lacking 7 = .ok (.ishl, 1) := dk_120 (dk_at dksX0_lacking_0 7 rfl rfl)
theorem dX0_lacking_8 : decode cX0_lacking 8 = .ok (.iconst (-1), 1) := dk_2 (dk_at dksX0_lacking_0 8 rfl rfl)
theorem dX0_lacking_9 : decode cX0_lacking 9 = .ok (.ixor, 1) := dk_130 (dk_at dksX0_lacking_0 9 rfl rfl)
theorem dX0_lacking_10 : decode cX0_lacking 10 = .ok (.iand, 1) := dk_126 (dk_at dksX0_lacking_0 10 rfl rfl)
theorem dX0_lacking_11 : decode cX0_lacking 11 = .ok (.invokevirtual 101, 3) := dk_182 0 101 (dk_at dksX0_lacking_0 11 rfl rfl)
theorem dX0_lacking_14 : decode cX0_lacking 14 = .ok (.areturn, 1) := dk_176 (dk_at dksX0_lacking_0 14 rfl rfl)
theorem dX0_lacking_15 : decode cX0_lacking 15 = .ok (.astore_n 2, 1) := dk_77 (dk_at dksX0_lacking_0 15 rfl rfl)
theorem dX0_lacking_16 : decode cX0_lacking 16 = .ok (.new 226, 3) := dk_187 0 226 (dk_at dksX0_lacking_0 16 rfl rfl)
theorem dX0_lacking_19 : decode cX0_lacking 19 = .ok (.dup, 1) := dk_89 (dk_at dksX0_lacking_0 19 rfl rfl)
theorem dX0_lacking_20 : decode cX0_lacking 20 = .ok (.iload_n 1, 1) := dk_27 (dk_at dksX0_lacking_0 20 rfl rfl)
theorem dX0_lacking_21 : decode cX0_lacking 21 = .ok (.aload_n 2, 1) := dk_44 (dk_at dksX0_lacking_0 21 rfl rfl)
theorem dX0_lacking_22 : decode cX0_lacking 22 = .ok (.invokespecial 228, 3) := dk_183 0 228 (dk_at dksX0_lacking_1 0 rfl rfl)
theorem dX0_lacking_25 : decode cX0_lacking 25 = .ok (.athrow, 1) := dk_191 (dk_at dksX0_lacking_1 3 rfl rfl)
abbrev cX0_why : ByteArray := prog_1_method_41_code
def yX0_why : MethodName := ⟨RX0, "why", "(I)I"⟩
def dkwX0_why_0 : List UInt8 := [42, 27, 182, 0, 234, 153, 0, 11, 42, 27, 182, 0, 242, 167, 0, 5, 16, 254, 172]
abbrev dktX0_why_0 : List UInt8 := dkwX0_why_0 ++ []
theorem dksX0_why_0 : cX0_why.data.toList.drop 0 = dktX0_why_0 := by decide +kernel
theorem dX0_why_0 : decode cX0_why 0 = .ok (.aload_n 0, 1) := dk_42 (dk_at dksX0_why_0 0 rfl rfl)
theorem dX0_why_1 : decode cX0_why 1 = .ok (.iload_n 1, 1) := dk_27 (dk_at dksX0_why_0 1 rfl rfl)
theorem dX0_why_2 : decode cX0_why 2 = .ok (.invokevirtual 234, 3) := dk_182 0 234 (dk_at dksX0_why_0 2 rfl rfl)
theorem dX0_why_5 : decode cX0_why 5 = .ok (.ifCond .eq 11, 3) := dk_153 0 11 (dk_at dksX0_why_0 5 rfl rfl)
theorem dX0_why_8 : decode cX0_why 8 = .ok (.aload_n 0, 1) := dk_42 (dk_at dksX0_why_0 8 rfl rfl)
theorem dX0_why_9 : decode cX0_why 9 = .ok (.iload_n 1, 1) := dk_27 (dk_at dksX0_why_0 9 rfl rfl)
theorem dX0_why_10 : decode cX0_why 10 = .ok (.invokevirtual 242, 3) := dk_182 0 242 (dk_at dksX0_why_0 10 rfl rfl)
theorem dX0_why_13 : decode cX0_why 13 = .ok (.goto 5, 3) := dk_167 0 5 (dk_at dksX0_why_0 13 rfl rfl)
theorem dX0_why_16 : decode cX0_why 16 = .ok (.bipush (-2), 2) := dk_16 254 (dk_at dksX0_why_0 16 rfl rfl)
theorem dX0_why_18 : decode cX0_why 18 = .ok (.ireturn, 1) := dk_172 (dk_at dksX0_why_0 18 rfl rfl)
abbrev cX0_whyBy : ByteArray := prog_1_method_40_code
def yX0_whyBy : MethodName := ⟨RX0, "whyBy", "(I)I"⟩
def dkwX0_whyBy_0 : List UInt8 := [42, 27, 182, 0, 231, 87, 2, 172, 77, 44, 182, 0, 240, 172]
abbrev dktX0_whyBy_0 : List UInt8 := dkwX0_whyBy_0 ++ []
theorem dksX0_whyBy_0 : cX0_whyBy.data.toList.drop 0 = dktX0_whyBy_0 := by decide +kernel
theorem dX0_whyBy_0 : decode cX0_whyBy 0 = .ok (.aload_n 0, 1) := dk_42 (dk_at dksX0_whyBy_0 0 rfl rfl)
theorem dX0_whyBy_1 : decode cX0_whyBy 1 = .ok (.iload_n 1, 1) := dk_27 (dk_at dksX0_whyBy_0 1 rfl rfl)
theorem dX0_whyBy_2 : decode cX0_whyBy 2 = .ok (.invokevirtual 231, 3) := dk_182 0 231 (dk_at dksX0_whyBy_0 2 rfl rfl)
theorem dX0_whyBy_5 : decode cX0_whyBy 5 = .ok (.pop, 1) := dk_87 (dk_at dksX0_whyBy_0 5 rfl rfl)
theorem dX0_whyBy_6 : decode cX0_whyBy 6 = .ok (.iconst (-1), 1) := dk_2 (dk_at dksX0_whyBy_0 6 rfl rfl)
theorem dX0_whyBy_7 : decode cX0_whyBy 7 = .ok (.ireturn, 1) := dk_172 (dk_at dksX0_whyBy_0 7 rfl rfl)
theorem dX0_whyBy_8 : decode cX0_whyBy 8 = .ok (.astore_n 2, 1) := dk_77 (dk_at dksX0_whyBy_0 8 rfl rfl)
theorem dX0_whyBy_9 : decode cX0_whyBy 9 = .ok (.aload_n 2, 1) := dk_44 (dk_at dksX0_whyBy_0 9 rfl rfl)
theorem dX0_whyBy_10 : decode cX0_whyBy 10 = .ok (.invokevirtual 240, 3) := dk_182 0 240 (dk_at dksX0_whyBy_0 10 rfl rfl)
theorem dX0_whyBy_13 : decode cX0_whyBy 13 = .ok (.ireturn, 1) := dk_172 (dk_at dksX0_whyBy_0 13 rfl rfl)
abbrev cX0_needed : ByteArray := prog_1_method_43_code
def yX0_needed : MethodName := ⟨RX0, "needed", "()I"⟩
def dkwX0_needed_0 : List UInt8 := [42, 182, 0, 211, 153, 0, 10, 42, 182, 0, 248, 167, 0, 5, 16, 253, 172]
abbrev dktX0_needed_0 : List UInt8 := dkwX0_needed_0 ++ []
theorem dksX0_needed_0 : cX0_needed.data.toList.drop 0 = dktX0_needed_0 := by decide +kernel
theorem dX0_needed_0 : decode cX0_needed 0 = .ok (.aload_n 0, 1) := dk_42 (dk_at dksX0_needed_0 0 rfl rfl)
theorem dX0_needed_1 : decode cX0_needed 1 = .ok (.invokevirtual 211, 3) := dk_182 0 211 (dk_at dksX0_needed_0 1 rfl rfl)
theorem dX0_needed_4 : decode cX0_needed 4 = .ok (.ifCond .eq 10, 3) := dk_153 0 10 (dk_at dksX0_needed_0 4 rfl rfl)
theorem dX0_needed_7 : decode cX0_needed 7 = .ok (.aload_n 0, 1) := dk_42 (dk_at dksX0_needed_0 7 rfl rfl)
theorem dX0_needed_8 : decode cX0_needed 8 = .ok (.invokevirtual 248, 3) := dk_182 0 248 (dk_at dksX0_needed_0 8 rfl rfl)
theorem dX0_needed_11 : decode cX0_needed 11 = .ok (.goto 5, 3) := dk_167 0 5 (dk_at dksX0_needed_0 11 rfl rfl)
theorem dX0_needed_14 : decode cX0_needed 14 = .ok (.bipush (-3), 2) := dk_16 253 (dk_at dksX0_needed_0 14 rfl rfl)
theorem dX0_needed_16 : decode cX0_needed 16 = .ok (.ireturn, 1) := dk_172 (dk_at dksX0_needed_0 16 rfl rfl)
abbrev cX0_neededNow : ByteArray := prog_1_method_42_code
def yX0_neededNow : MethodName := ⟨RX0, "neededNow", "()I"⟩
def dkwX0_neededNow_3 : List UInt8 := [167, 255, 193, 27, 172]
abbrev dktX0_neededNow_3 : List UInt8 := dkwX0_neededNow_3 ++ []
def dkwX0_neededNow_2 : List UInt8 := [167, 0, 4, 3, 128, 60, 167, 0, 13, 78, 27, 4, 45, 180, 0, 245, 120, 128, 60, 132, 2, 1]
abbrev dktX0_neededNow_2 : List UInt8 := dkwX0_neededNow_2 ++ dktX0_neededNow_3
def dkwX0_neededNow_1 : List UInt8 := [167, 0, 41, 27, 42, 180, 0, 97, 42, 28, 182, 0, 231, 182, 0, 105, 153, 0, 9, 4, 28, 120]
abbrev dktX0_neededNow_1 : List UInt8 := dkwX0_neededNow_1 ++ dktX0_neededNow_2
def dkwX0_neededNow_0 : List UInt8 := [3, 60, 3, 61, 28, 42, 182, 0, 153, 162, 0, 61, 42, 180, 0, 90, 28, 184, 0, 93, 154, 0, 6]
abbrev dktX0_neededNow_0 : List UInt8 := dkwX0_neededNow_0 ++ dktX0_neededNow_1
theorem dksX0_neededNow_0 : cX0_neededNow.data.toList.drop 0 = dktX0_neededNow_0 := by decide +kernel
theorem dksX0_neededNow_1 : cX0_neededNow.data.toList.drop 23 = dktX0_neededNow_1 := dk_seg dksX0_neededNow_0 23 rfl rfl
theorem dksX0_neededNow_2 : cX0_neededNow.data.toList.drop 45 = dktX0_neededNow_2 := dk_seg dksX0_neededNow_1 22 rfl rfl
theorem dksX0_neededNow_3 : cX0_neededNow.data.toList.drop 67 = dktX0_neededNow_3 := dk_seg dksX0_neededNow_2 22 rfl rfl
theorem dX0_neededNow_0 : decode cX0_neededNow 0 = .ok (.iconst 0, 1) := dk_3 (dk_at dksX0_neededNow_0 0 rfl rfl)
theorem dX0_neededNow_1 : decode cX0_neededNow 1 = .ok (.istore_n 1, 1) := dk_60 (dk_at dksX0_neededNow_0 1 rfl rfl)
theorem dX0_neededNow_2 : decode cX0_neededNow 2 = .ok (.iconst 0, 1) := dk_3 (dk_at dksX0_neededNow_0 2 rfl rfl)
theorem dX0_neededNow_3 : decode cX0_neededNow 3 = .ok (.istore_n 2, 1) := dk_61 (dk_at dksX0_neededNow_0 3 rfl rfl)
theorem dX0_neededNow_4 : decode cX0_neededNow 4 = .ok (.iload_n 2, 1) := dk_28 (dk_at dksX0_neededNow_0 4 rfl rfl)
theorem dX0_neededNow_5 : decode cX0_neededNow 5 = .ok (.aload_n 0, 1) := dk_42 (dk_at dksX0_neededNow_0 5 rfl rfl)
theorem dX0_neededNow_6 : decode cX0_neededNow 6 = .ok (.invokevirtual 153, 3) := dk_182 0 153 (dk_at dksX0_neededNow_0 6 rfl rfl)
theorem dX0_neededNow_9 : decode cX0_neededNow 9 = .ok (.if_icmp .ge 61, 3) := dk_162 0 61 (dk_at dksX0_neededNow_0 9 rfl rfl)
theorem dX0_neededNow_12 : decode cX0_neededNow 12 = .ok (.aload_n 0, 1) := dk_42 (dk_at dksX0_neededNow_0 12 rfl rfl)
theorem dX0_neededNow_13 : decode cX0_neededNow 13 = .ok (.getfield 90, 3) := dk_180 0 90 (dk_at dksX0_neededNow_0 13 rfl rfl)
theorem dX0_neededNow_16 : decode cX0_neededNow 16 = .ok (.iload_n 2, 1) := dk_28 (dk_at dksX0_neededNow_0 16 rfl rfl)
theorem dX0_neededNow_17 : decode cX0_neededNow 17 = .ok (.invokestatic 93, 3) := dk_184 0 93 (dk_at dksX0_neededNow_0 17 rfl rfl)
theorem dX0_neededNow_20 : decode cX0_neededNow 20 = .ok (.ifCond .ne 6, 3) := dk_154 0 6 (dk_at dksX0_neededNow_0 20 rfl rfl)
theorem dX0_neededNow_23 : decode cX0_neededNow 23 = .ok (.goto 41, 3) := dk_167 0 41 (dk_at dksX0_neededNow_1 0 rfl rfl)
theorem dX0_neededNow_26 : decode cX0_neededNow 26 = .ok (.iload_n 1, 1) := dk_27 (dk_at dksX0_neededNow_1 3 rfl rfl)
theorem dX0_neededNow_27 : decode cX0_neededNow 27 = .ok (.aload_n 0, 1) := dk_42 (dk_at dksX0_neededNow_1 4 rfl rfl)
theorem dX0_neededNow_28 : decode cX0_neededNow 28 = .ok (.getfield 97, 3) := dk_180 0 97 (dk_at dksX0_neededNow_1 5 rfl rfl)
theorem dX0_neededNow_31 : decode cX0_neededNow 31 = .ok (.aload_n 0, 1) := dk_42 (dk_at dksX0_neededNow_1 8 rfl rfl)
theorem dX0_neededNow_32 : decode cX0_neededNow 32 = .ok (.iload_n 2, 1) := dk_28 (dk_at dksX0_neededNow_1 9 rfl rfl)
theorem dX0_neededNow_33 : decode cX0_neededNow 33 = .ok (.invokevirtual 231, 3) := dk_182 0 231 (dk_at dksX0_neededNow_1 10 rfl rfl)
theorem dX0_neededNow_36 : decode cX0_neededNow 36 = .ok (.invokevirtual 105, 3) := dk_182 0 105 (dk_at dksX0_neededNow_1 13 rfl rfl)
theorem dX0_neededNow_39 : decode cX0_neededNow 39 = .ok (.ifCond .eq 9, 3) := dk_153 0 9 (dk_at dksX0_neededNow_1 16 rfl rfl)
theorem dX0_neededNow_42 : decode cX0_neededNow 42 = .ok (.iconst 1, 1) := dk_4 (dk_at dksX0_neededNow_1 19 rfl rfl)
theorem dX0_neededNow_43 : decode cX0_neededNow 43 = .ok (.iload_n 2, 1) := dk_28 (dk_at dksX0_neededNow_1 20 rfl rfl)
theorem dX0_neededNow_44 : decode cX0_neededNow 44 = .ok (.ishl, 1) := dk_120 (dk_at dksX0_neededNow_1 21 rfl rfl)
theorem dX0_neededNow_45 : decode cX0_neededNow 45 = .ok (.goto 4, 3) := dk_167 0 4 (dk_at dksX0_neededNow_2 0 rfl rfl)
theorem dX0_neededNow_48 : decode cX0_neededNow 48 = .ok (.iconst 0, 1) := dk_3 (dk_at dksX0_neededNow_2 3 rfl rfl)
theorem dX0_neededNow_49 : decode cX0_neededNow 49 = .ok (.ior, 1) := dk_128 (dk_at dksX0_neededNow_2 4 rfl rfl)
theorem dX0_neededNow_50 : decode cX0_neededNow 50 = .ok (.istore_n 1, 1) := dk_60 (dk_at dksX0_neededNow_2 5 rfl rfl)
theorem dX0_neededNow_51 : decode cX0_neededNow 51 = .ok (.goto 13, 3) := dk_167 0 13 (dk_at dksX0_neededNow_2 6 rfl rfl)
theorem dX0_neededNow_54 : decode cX0_neededNow 54 = .ok (.astore_n 3, 1) := dk_78 (dk_at dksX0_neededNow_2 9 rfl rfl)
theorem dX0_neededNow_55 : decode cX0_neededNow 55 = .ok (.iload_n 1, 1) := dk_27 (dk_at dksX0_neededNow_2 10 rfl rfl)
theorem dX0_neededNow_56 : decode cX0_neededNow 56 = .ok (.iconst 1, 1) := dk_4 (dk_at dksX0_neededNow_2 11 rfl rfl)
theorem dX0_neededNow_57 : decode cX0_neededNow 57 = .ok (.aload_n 3, 1) := dk_45 (dk_at dksX0_neededNow_2 12 rfl rfl)
theorem dX0_neededNow_58 : decode cX0_neededNow 58 = .ok (.getfield 245, 3) := dk_180 0 245 (dk_at dksX0_neededNow_2 13 rfl rfl)
theorem dX0_neededNow_61 : decode cX0_neededNow 61 = .ok (.ishl, 1) := dk_120 (dk_at dksX0_neededNow_2 16 rfl rfl)
theorem dX0_neededNow_62 : decode cX0_neededNow 62 = .ok (.ior, 1) := dk_128 (dk_at dksX0_neededNow_2 17 rfl rfl)
theorem dX0_neededNow_63 : decode cX0_neededNow 63 = .ok (.istore_n 1, 1) := dk_60 (dk_at dksX0_neededNow_2 18 rfl rfl)
theorem dX0_neededNow_64 : decode cX0_neededNow 64 = .ok (.iinc 2 1, 3) := dk_132 2 1 (dk_at dksX0_neededNow_2 19 rfl rfl)
theorem dX0_neededNow_67 : decode cX0_neededNow 67 = .ok (.goto (-63), 3) := dk_167 255 193 (dk_at dksX0_neededNow_3 0 rfl rfl)
theorem dX0_neededNow_70 : decode cX0_neededNow 70 = .ok (.iload_n 1, 1) := dk_27 (dk_at dksX0_neededNow_3 3 rfl rfl)
theorem dX0_neededNow_71 : decode cX0_neededNow 71 = .ok (.ireturn, 1) := dk_172 (dk_at dksX0_neededNow_3 4 rfl rfl)
abbrev cX0_dearest : ByteArray := prog_1_method_45_code
def yX0_dearest : MethodName := ⟨RX0, "dearest", "()I"⟩
def dkwX0_dearest_0 : List UInt8 := [42, 182, 0, 211, 153, 0, 10, 42, 182, 0, 251, 167, 0, 5, 16, 253, 172]
abbrev dktX0_dearest_0 : List UInt8 := dkwX0_dearest_0 ++ []
theorem dksX0_dearest_0 : cX0_dearest.data.toList.drop 0 = dktX0_dearest_0 := by decide +kernel
theorem dX0_dearest_0 : decode cX0_dearest 0 = .ok (.aload_n 0, 1) := dk_42 (dk_at dksX0_dearest_0 0 rfl rfl)
theorem dX0_dearest_1 : decode cX0_dearest 1 = .ok (.invokevirtual 211, 3) := dk_182 0 211 (dk_at dksX0_dearest_0 1 rfl rfl)
theorem dX0_dearest_4 : decode cX0_dearest 4 = .ok (.ifCond .eq 10, 3) := dk_153 0 10 (dk_at dksX0_dearest_0 4 rfl rfl)
theorem dX0_dearest_7 : decode cX0_dearest 7 = .ok (.aload_n 0, 1) := dk_42 (dk_at dksX0_dearest_0 7 rfl rfl)
theorem dX0_dearest_8 : decode cX0_dearest 8 = .ok (.invokevirtual 251, 3) := dk_182 0 251 (dk_at dksX0_dearest_0 8 rfl rfl)
theorem dX0_dearest_11 : decode cX0_dearest 11 = .ok (.goto 5, 3) := dk_167 0 5 (dk_at dksX0_dearest_0 11 rfl rfl)
theorem dX0_dearest_14 : decode cX0_dearest 14 = .ok (.bipush (-3), 2) := dk_16 253 (dk_at dksX0_dearest_0 14 rfl rfl)
theorem dX0_dearest_16 : decode cX0_dearest 16 = .ok (.ireturn, 1) := dk_172 (dk_at dksX0_dearest_0 16 rfl rfl)
abbrev cX0_dearestNow : ByteArray := prog_1_method_44_code
def yX0_dearestNow : MethodName := ⟨RX0, "dearestNow", "()I"⟩
def dkwX0_dearestNow_3 : List UInt8 := [167, 255, 199, 27, 172]
abbrev dktX0_dearestNow_3 : List UInt8 := dkwX0_dearestNow_3 ++ []
def dkwX0_dearestNow_2 : List UInt8 := [153, 0, 8, 25, 4, 77, 29, 60, 167, 0, 11, 58, 4, 25, 4, 180, 0, 245, 172, 132, 3, 1]
abbrev dktX0_dearestNow_2 : List UInt8 := dkwX0_dearestNow_2 ++ dktX0_dearestNow_3
def dkwX0_dearestNow_1 : List UInt8 := [184, 0, 93, 154, 0, 6, 167, 0, 35, 42, 29, 182, 0, 231, 58, 4, 44, 25, 4, 182, 0, 105]
abbrev dktX0_dearestNow_1 : List UInt8 := dkwX0_dearestNow_1 ++ dktX0_dearestNow_2
def dkwX0_dearestNow_0 : List UInt8 := [2, 60, 42, 180, 0, 97, 77, 3, 62, 29, 42, 182, 0, 153, 162, 0, 55, 42, 180, 0, 90, 29]
abbrev dktX0_dearestNow_0 : List UInt8 := dkwX0_dearestNow_0 ++ dktX0_dearestNow_1
theorem dksX0_dearestNow_0 : cX0_dearestNow.data.toList.drop 0 = dktX0_dearestNow_0 := by decide +kernel
theorem dksX0_dearestNow_1 : cX0_dearestNow.data.toList.drop 22 = dktX0_dearestNow_1 := dk_seg dksX0_dearestNow_0 22 rfl rfl
theorem dksX0_dearestNow_2 : cX0_dearestNow.data.toList.drop 44 = dktX0_dearestNow_2 := dk_seg dksX0_dearestNow_1 22 rfl rfl
theorem dksX0_dearestNow_3 : cX0_dearestNow.data.toList.drop 66 = dktX0_dearestNow_3 := dk_seg dksX0_dearestNow_2 22 rfl rfl
theorem dX0_dearestNow_0 : decode cX0_dearestNow 0 = .ok (.iconst (-1), 1) := dk_2 (dk_at dksX0_dearestNow_0 0 rfl rfl)
theorem dX0_dearestNow_1 : decode cX0_dearestNow 1 = .ok (.istore_n 1, 1) := dk_60 (dk_at dksX0_dearestNow_0 1 rfl rfl)
theorem dX0_dearestNow_2 : decode cX0_dearestNow 2 = .ok (.aload_n 0, 1) := dk_42 (dk_at dksX0_dearestNow_0 2 rfl rfl)
theorem dX0_dearestNow_3 : decode cX0_dearestNow 3 = .ok (.getfield 97, 3) := dk_180 0 97 (dk_at dksX0_dearestNow_0 3 rfl rfl)
theorem dX0_dearestNow_6 : decode cX0_dearestNow 6 = .ok (.astore_n 2, 1) := dk_77 (dk_at dksX0_dearestNow_0 6 rfl rfl)
theorem dX0_dearestNow_7 : decode cX0_dearestNow 7 = .ok (.iconst 0, 1) := dk_3 (dk_at dksX0_dearestNow_0 7 rfl rfl)
theorem dX0_dearestNow_8 : decode cX0_dearestNow 8 = .ok (.istore_n 3, 1) := dk_62 (dk_at dksX0_dearestNow_0 8 rfl rfl)
theorem dX0_dearestNow_9 : decode cX0_dearestNow 9 = .ok (.iload_n 3, 1) := dk_29 (dk_at dksX0_dearestNow_0 9 rfl rfl)
theorem dX0_dearestNow_10 : decode cX0_dearestNow 10 = .ok (.aload_n 0, 1) := dk_42 (dk_at dksX0_dearestNow_0 10 rfl rfl)
theorem dX0_dearestNow_11 : decode cX0_dearestNow 11 = .ok (.invokevirtual 153, 3) := dk_182 0 153 (dk_at dksX0_dearestNow_0 11 rfl rfl)
theorem dX0_dearestNow_14 : decode cX0_dearestNow 14 = .ok (.if_icmp .ge 55, 3) := dk_162 0 55 (dk_at dksX0_dearestNow_0 14 rfl rfl)
theorem dX0_dearestNow_17 : decode cX0_dearestNow 17 = .ok (.aload_n 0, 1) := dk_42 (dk_at dksX0_dearestNow_0 17 rfl rfl)
theorem dX0_dearestNow_18 : decode cX0_dearestNow 18 = .ok (.getfield 90, 3) := dk_180 0 90 (dk_at dksX0_dearestNow_0 18 rfl rfl)
theorem dX0_dearestNow_21 : decode cX0_dearestNow 21 = .ok (.iload_n 3, 1) := dk_29 (dk_at dksX0_dearestNow_0 21 rfl rfl)
theorem dX0_dearestNow_22 : decode cX0_dearestNow 22 = .ok (.invokestatic 93, 3) := dk_184 0 93 (dk_at dksX0_dearestNow_1 0 rfl rfl)
theorem dX0_dearestNow_25 : decode cX0_dearestNow 25 = .ok (.ifCond .ne 6, 3) := dk_154 0 6 (dk_at dksX0_dearestNow_1 3 rfl rfl)
theorem dX0_dearestNow_28 : decode cX0_dearestNow 28 = .ok (.goto 35, 3) := dk_167 0 35 (dk_at dksX0_dearestNow_1 6 rfl rfl)
theorem dX0_dearestNow_31 : decode cX0_dearestNow 31 = .ok (.aload_n 0, 1) := dk_42 (dk_at dksX0_dearestNow_1 9 rfl rfl)
theorem dX0_dearestNow_32 : decode cX0_dearestNow 32 = .ok (.iload_n 3, 1) := dk_29 (dk_at dksX0_dearestNow_1 10 rfl rfl)
theorem dX0_dearestNow_33 : decode cX0_dearestNow 33 = .ok (.invokevirtual 231, 3) := dk_182 0 231 (dk_at dksX0_dearestNow_1 11 rfl rfl)
theorem dX0_dearestNow_36 : decode cX0_dearestNow 36 = .ok (.astore 4, 2) := dk_58 4 (dk_at dksX0_dearestNow_1 14 rfl rfl)
theorem dX0_dearestNow_38 : decode cX0_dearestNow 38 = .ok (.aload_n 2, 1) := dk_44 (dk_at dksX0_dearestNow_1 16 rfl rfl)
theorem dX0_dearestNow_39 : decode cX0_dearestNow 39 = .ok (.aload 4, 2) := dk_25 4 (dk_at dksX0_dearestNow_1 17 rfl rfl)
theorem dX0_dearestNow_41 : decode cX0_dearestNow 41 = .ok (.invokevirtual 105, 3) := dk_182 0 105 (dk_at dksX0_dearestNow_1 19 rfl rfl)
theorem dX0_dearestNow_44 : decode cX0_dearestNow 44 = .ok (.ifCond .eq 8, 3) := dk_153 0 8 (dk_at dksX0_dearestNow_2 0 rfl rfl)
theorem dX0_dearestNow_47 : decode cX0_dearestNow 47 = .ok (.aload 4, 2) := dk_25 4 (dk_at dksX0_dearestNow_2 3 rfl rfl)
theorem dX0_dearestNow_49 : decode cX0_dearestNow 49 = .ok (.astore_n 2, 1) := dk_77 (dk_at dksX0_dearestNow_2 5 rfl rfl)
theorem dX0_dearestNow_50 : decode cX0_dearestNow 50 = .ok (.iload_n 3, 1) := dk_29 (dk_at dksX0_dearestNow_2 6 rfl rfl)
theorem dX0_dearestNow_51 : decode cX0_dearestNow 51 = .ok (.istore_n 1, 1) := dk_60 (dk_at dksX0_dearestNow_2 7 rfl rfl)
theorem dX0_dearestNow_52 : decode cX0_dearestNow 52 = .ok (.goto 11, 3) := dk_167 0 11 (dk_at dksX0_dearestNow_2 8 rfl rfl)
theorem dX0_dearestNow_55 : decode cX0_dearestNow 55 = .ok (.astore 4, 2) := dk_58 4 (dk_at dksX0_dearestNow_2 11 rfl rfl)
theorem dX0_dearestNow_57 : decode cX0_dearestNow 57 = .ok (.aload 4, 2) := dk_25 4 (dk_at dksX0_dearestNow_2 13 rfl rfl)
theorem dX0_dearestNow_59 : decode cX0_dearestNow 59 = .ok (.getfield 245, 3) := dk_180 0 245 (dk_at dksX0_dearestNow_2 15 rfl rfl)
theorem dX0_dearestNow_62 : decode cX0_dearestNow 62 = .ok (.ireturn, 1) := dk_172 (dk_at dksX0_dearestNow_2 18 rfl rfl)
theorem dX0_dearestNow_63 : decode cX0_dearestNow 63 = .ok (.iinc 3 1, 3) := dk_132 3 1 (dk_at dksX0_dearestNow_2 19 rfl rfl)
theorem dX0_dearestNow_66 : decode cX0_dearestNow 66 = .ok (.goto (-57), 3) := dk_167 255 199 (dk_at dksX0_dearestNow_3 0 rfl rfl)
theorem dX0_dearestNow_69 : decode cX0_dearestNow 69 = .ok (.iload_n 1, 1) := dk_27 (dk_at dksX0_dearestNow_3 3 rfl rfl)
theorem dX0_dearestNow_70 : decode cX0_dearestNow 70 = .ok (.ireturn, 1) := dk_172 (dk_at dksX0_dearestNow_3 4 rfl rfl)
abbrev cX0_gain : ByteArray := prog_1_method_48_code
def yX0_gain : MethodName := ⟨RX0, "gain", "(II)J"⟩
def dkwX0_gain_1 : List UInt8 := [153, 0, 12, 42, 27, 28, 182, 1, 5, 167, 0, 8, 16, 254, 184, 0, 206, 173]
abbrev dktX0_gain_1 : List UInt8 := dkwX0_gain_1 ++ []
def dkwX0_gain_0 : List UInt8 := [42, 27, 182, 0, 156, 153, 0, 30, 42, 180, 0, 90, 27, 184, 0, 93, 154, 0, 19, 28, 184, 0, 168]
abbrev dktX0_gain_0 : List UInt8 := dkwX0_gain_0 ++ dktX0_gain_1
theorem dksX0_gain_0 : cX0_gain.data.toList.drop 0 = dktX0_gain_0 := by decide +kernel
theorem dksX0_gain_1 : cX0_gain.data.toList.drop 23 = dktX0_gain_1 := dk_seg dksX0_gain_0 23 rfl rfl
theorem dX0_gain_0 : decode cX0_gain 0 = .ok (.aload_n 0, 1) := dk_42 (dk_at dksX0_gain_0 0 rfl rfl)
theorem dX0_gain_1 : decode cX0_gain 1 = .ok (.iload_n 1, 1) := dk_27 (dk_at dksX0_gain_0 1 rfl rfl)
theorem dX0_gain_2 : decode cX0_gain 2 = .ok (.invokevirtual 156, 3) := dk_182 0 156 (dk_at dksX0_gain_0 2 rfl rfl)
theorem dX0_gain_5 : decode cX0_gain 5 = .ok (.ifCond .eq 30, 3) := dk_153 0 30 (dk_at dksX0_gain_0 5 rfl rfl)
theorem dX0_gain_8 : decode cX0_gain 8 = .ok (.aload_n 0, 1) := dk_42 (dk_at dksX0_gain_0 8 rfl rfl)
theorem dX0_gain_9 : decode cX0_gain 9 = .ok (.getfield 90, 3) := dk_180 0 90 (dk_at dksX0_gain_0 9 rfl rfl)
theorem dX0_gain_12 : decode cX0_gain 12 = .ok (.iload_n 1, 1) := dk_27 (dk_at dksX0_gain_0 12 rfl rfl)
theorem dX0_gain_13 : decode cX0_gain 13 = .ok (.invokestatic 93, 3) := dk_184 0 93 (dk_at dksX0_gain_0 13 rfl rfl)
theorem dX0_gain_16 : decode cX0_gain 16 = .ok (.ifCond .ne 19, 3) := dk_154 0 19 (dk_at dksX0_gain_0 16 rfl rfl)
theorem dX0_gain_19 : decode cX0_gain 19 = .ok (.iload_n 2, 1) := dk_28 (dk_at dksX0_gain_0 19 rfl rfl)
theorem dX0_gain_20 : decode cX0_gain 20 = .ok (.invokestatic 168, 3) := dk_184 0 168 (dk_at dksX0_gain_0 20 rfl rfl)
theorem dX0_gain_23 : decode cX0_gain 23 = .ok (.ifCond .eq 12, 3) := dk_153 0 12 (dk_at dksX0_gain_1 0 rfl rfl)
theorem dX0_gain_26 : decode cX0_gain 26 = .ok (.aload_n 0, 1) := dk_42 (dk_at dksX0_gain_1 3 rfl rfl)
theorem dX0_gain_27 : decode cX0_gain 27 = .ok (.iload_n 1, 1) := dk_27 (dk_at dksX0_gain_1 4 rfl rfl)
theorem dX0_gain_28 : decode cX0_gain 28 = .ok (.iload_n 2, 1) := dk_28 (dk_at dksX0_gain_1 5 rfl rfl)
theorem dX0_gain_29 : decode cX0_gain 29 = .ok (.invokevirtual 261, 3) := dk_182 1 5 (dk_at dksX0_gain_1 6 rfl rfl)
theorem dX0_gain_32 : decode cX0_gain 32 = .ok (.goto 8, 3) := dk_167 0 8 (dk_at dksX0_gain_1 9 rfl rfl)
theorem dX0_gain_35 : decode cX0_gain 35 = .ok (.bipush (-2), 2) := dk_16 254 (dk_at dksX0_gain_1 12 rfl rfl)
theorem dX0_gain_37 : decode cX0_gain 37 = .ok (.invokestatic 206, 3) := dk_184 0 206 (dk_at dksX0_gain_1 14 rfl rfl)
theorem dX0_gain_40 : decode cX0_gain 40 = .ok (.lreturn, 1) := dk_173 (dk_at dksX0_gain_1 17 rfl rfl)
abbrev cX0_gainBy : ByteArray := prog_1_method_46_code
def yX0_gainBy : MethodName := ⟨RX0, "gainBy", "(II)J"⟩
def dkwX0_gainBy_1 : List UInt8 := [16, 253, 184, 0, 206, 173]
abbrev dktX0_gainBy_1 : List UInt8 := dkwX0_gainBy_1 ++ []
def dkwX0_gainBy_0 : List UInt8 := [42, 42, 180, 0, 90, 182, 0, 101, 78, 45, 42, 27, 182, 0, 254, 182, 1, 1, 28, 182, 0, 209, 173, 78]
abbrev dktX0_gainBy_0 : List UInt8 := dkwX0_gainBy_0 ++ dktX0_gainBy_1
theorem dksX0_gainBy_0 : cX0_gainBy.data.toList.drop 0 = dktX0_gainBy_0 := by decide +kernel
theorem dksX0_gainBy_1 : cX0_gainBy.data.toList.drop 24 = dktX0_gainBy_1 := dk_seg dksX0_gainBy_0 24 rfl rfl
theorem dX0_gainBy_0 : decode cX0_gainBy 0 = .ok (.aload_n 0, 1) := dk_42 (dk_at dksX0_gainBy_0 0 rfl rfl)
theorem dX0_gainBy_1 : decode cX0_gainBy 1 = .ok (.aload_n 0, 1) := dk_42 (dk_at dksX0_gainBy_0 1 rfl rfl)
theorem dX0_gainBy_2 : decode cX0_gainBy 2 = .ok (.getfield 90, 3) := dk_180 0 90 (dk_at dksX0_gainBy_0 2 rfl rfl)
theorem dX0_gainBy_5 : decode cX0_gainBy 5 = .ok (.invokevirtual 101, 3) := dk_182 0 101 (dk_at dksX0_gainBy_0 5 rfl rfl)
theorem dX0_gainBy_8 : decode cX0_gainBy 8 = .ok (.astore_n 3, 1) := dk_78 (dk_at dksX0_gainBy_0 8 rfl rfl)
theorem dX0_gainBy_9 : decode cX0_gainBy 9 = .ok (.aload_n 3, 1) := dk_45 (dk_at dksX0_gainBy_0 9 rfl rfl)
theorem dX0_gainBy_10 : decode cX0_gainBy 10 = .ok (.aload_n 0, 1) := dk_42 (dk_at dksX0_gainBy_0 10 rfl rfl)
theorem dX0_gainBy_11 : decode cX0_gainBy 11 = .ok (.iload_n 1, 1) := dk_27 (dk_at dksX0_gainBy_0 11 rfl rfl)
theorem dX0_gainBy_12 : decode cX0_gainBy 12 = .ok (.invokevirtual 254, 3) := dk_182 0 254 (dk_at dksX0_gainBy_0 12 rfl rfl)
theorem dX0_gainBy_15 : decode cX0_gainBy 15 = .ok (.invokevirtual 257, 3) := dk_182 1 1 (dk_at dksX0_gainBy_0 15 rfl rfl)
theorem dX0_gainBy_18 : decode cX0_gainBy 18 = .ok (.iload_n 2, 1) := dk_28 (dk_at dksX0_gainBy_0 18 rfl rfl)
theorem dX0_gainBy_19 : decode cX0_gainBy 19 = .ok (.invokevirtual 209, 3) := dk_182 0 209 (dk_at dksX0_gainBy_0 19 rfl rfl)
theorem dX0_gainBy_22 : decode cX0_gainBy 22 = .ok (.lreturn, 1) := dk_173 (dk_at dksX0_gainBy_0 22 rfl rfl)
theorem dX0_gainBy_23 : decode cX0_gainBy 23 = .ok (.astore_n 3, 1) := dk_78 (dk_at dksX0_gainBy_0 23 rfl rfl)
theorem dX0_gainBy_24 : decode cX0_gainBy 24 = .ok (.bipush (-3), 2) := dk_16 253 (dk_at dksX0_gainBy_1 0 rfl rfl)
theorem dX0_gainBy_26 : decode cX0_gainBy 26 = .ok (.invokestatic 206, 3) := dk_184 0 206 (dk_at dksX0_gainBy_1 2 rfl rfl)
theorem dX0_gainBy_29 : decode cX0_gainBy 29 = .ok (.lreturn, 1) := dk_173 (dk_at dksX0_gainBy_1 5 rfl rfl)
abbrev cX0_gained : ByteArray := prog_1_method_47_code
def yX0_gained : MethodName := ⟨RX0, "gained", "(I)LLeastFrames$Volume;"⟩
def dkwX0_gained_0 : List UInt8 := [42, 42, 180, 0, 90, 4, 27, 120, 128, 182, 0, 101, 176, 77, 187, 0, 226, 89, 27, 44, 183, 0, 228, 191]
abbrev dktX0_gained_0 : List UInt8 := dkwX0_gained_0 ++ []
theorem dksX0_gained_0 : cX0_gained.data.toList.drop 0 = dktX0_gained_0 := by decide +kernel
theorem dX0_gained_0 : decode cX0_gained 0 = .ok (.aload_n 0, 1) := dk_42 (dk_at dksX0_gained_0 0 rfl rfl)
theorem dX0_gained_1 : decode cX0_gained 1 = .ok (.aload_n 0, 1) := dk_42 (dk_at dksX0_gained_0 1 rfl rfl)
theorem dX0_gained_2 : decode cX0_gained 2 = .ok (.getfield 90, 3) := dk_180 0 90 (dk_at dksX0_gained_0 2 rfl rfl)
theorem dX0_gained_5 : decode cX0_gained 5 = .ok (.iconst 1, 1) := dk_4 (dk_at dksX0_gained_0 5 rfl rfl)
theorem dX0_gained_6 : decode cX0_gained 6 = .ok (.iload_n 1, 1) := dk_27 (dk_at dksX0_gained_0 6 rfl rfl)
theorem dX0_gained_7 : decode cX0_gained 7 = .ok (.ishl, 1) := dk_120 (dk_at dksX0_gained_0 7 rfl rfl)
theorem dX0_gained_8 : decode cX0_gained 8 = .ok (.ior, 1) := dk_128 (dk_at dksX0_gained_0 8 rfl rfl)
theorem dX0_gained_9 : decode cX0_gained 9 = .ok (.invokevirtual 101, 3) := dk_182 0 101 (dk_at dksX0_gained_0 9 rfl rfl)
theorem dX0_gained_12 : decode cX0_gained 12 = .ok (.areturn, 1) := dk_176 (dk_at dksX0_gained_0 12 rfl rfl)
theorem dX0_gained_13 : decode cX0_gained 13 = .ok (.astore_n 2, 1) := dk_77 (dk_at dksX0_gained_0 13 rfl rfl)
theorem dX0_gained_14 : decode cX0_gained 14 = .ok (.new 226, 3) := dk_187 0 226 (dk_at dksX0_gained_0 14 rfl rfl)
theorem dX0_gained_17 : decode cX0_gained 17 = .ok (.dup, 1) := dk_89 (dk_at dksX0_gained_0 17 rfl rfl)
theorem dX0_gained_18 : decode cX0_gained 18 = .ok (.iload_n 1, 1) := dk_27 (dk_at dksX0_gained_0 18 rfl rfl)
theorem dX0_gained_19 : decode cX0_gained 19 = .ok (.aload_n 2, 1) := dk_44 (dk_at dksX0_gained_0 19 rfl rfl)
theorem dX0_gained_20 : decode cX0_gained 20 = .ok (.invokespecial 228, 3) := dk_183 0 228 (dk_at dksX0_gained_0 20 rfl rfl)
theorem dX0_gained_23 : decode cX0_gained 23 = .ok (.athrow, 1) := dk_191 (dk_at dksX0_gained_0 23 rfl rfl)
abbrev cX0_grow : ByteArray := prog_1_method_50_code
def yX0_grow : MethodName := ⟨RX0, "grow", "()I"⟩
def dkwX0_grow_1 : List UInt8 := [132, 1, 1, 42, 182, 1, 8, 61, 167, 255, 231, 27, 172, 77, 16, 253, 172]
abbrev dktX0_grow_1 : List UInt8 := dkwX0_grow_1 ++ []
def dkwX0_grow_0 : List UInt8 := [3, 60, 42, 182, 1, 8, 61, 28, 2, 159, 0, 26, 42, 89, 180, 0, 90, 4, 28, 120, 128, 181, 0, 90]
abbrev dktX0_grow_0 : List UInt8 := dkwX0_grow_0 ++ dktX0_grow_1
theorem dksX0_grow_0 : cX0_grow.data.toList.drop 0 = dktX0_grow_0 := by decide +kernel
theorem dksX0_grow_1 : cX0_grow.data.toList.drop 24 = dktX0_grow_1 := dk_seg dksX0_grow_0 24 rfl rfl
theorem dX0_grow_0 : decode cX0_grow 0 = .ok (.iconst 0, 1) := dk_3 (dk_at dksX0_grow_0 0 rfl rfl)
theorem dX0_grow_1 : decode cX0_grow 1 = .ok (.istore_n 1, 1) := dk_60 (dk_at dksX0_grow_0 1 rfl rfl)
theorem dX0_grow_2 : decode cX0_grow 2 = .ok (.aload_n 0, 1) := dk_42 (dk_at dksX0_grow_0 2 rfl rfl)
theorem dX0_grow_3 : decode cX0_grow 3 = .ok (.invokevirtual 264, 3) := dk_182 1 8 (dk_at dksX0_grow_0 3 rfl rfl)
theorem dX0_grow_6 : decode cX0_grow 6 = .ok (.istore_n 2, 1) := dk_61 (dk_at dksX0_grow_0 6 rfl rfl)
theorem dX0_grow_7 : decode cX0_grow 7 = .ok (.iload_n 2, 1) := dk_28 (dk_at dksX0_grow_0 7 rfl rfl)
theorem dX0_grow_8 : decode cX0_grow 8 = .ok (.iconst (-1), 1) := dk_2 (dk_at dksX0_grow_0 8 rfl rfl)
theorem dX0_grow_9 : decode cX0_grow 9 = .ok (.if_icmp .eq 26, 3) := dk_159 0 26 (dk_at dksX0_grow_0 9 rfl rfl)
theorem dX0_grow_12 : decode cX0_grow 12 = .ok (.aload_n 0, 1) := dk_42 (dk_at dksX0_grow_0 12 rfl rfl)
theorem dX0_grow_13 : decode cX0_grow 13 = .ok (.dup, 1) := dk_89 (dk_at dksX0_grow_0 13 rfl rfl)
theorem dX0_grow_14 : decode cX0_grow 14 = .ok (.getfield 90, 3) := dk_180 0 90 (dk_at dksX0_grow_0 14 rfl rfl)
theorem dX0_grow_17 : decode cX0_grow 17 = .ok (.iconst 1, 1) := dk_4 (dk_at dksX0_grow_0 17 rfl rfl)
theorem dX0_grow_18 : decode cX0_grow 18 = .ok (.iload_n 2, 1) := dk_28 (dk_at dksX0_grow_0 18 rfl rfl)
theorem dX0_grow_19 : decode cX0_grow 19 = .ok (.ishl, 1) := dk_120 (dk_at dksX0_grow_0 19 rfl rfl)
theorem dX0_grow_20 : decode cX0_grow 20 = .ok (.ior, 1) := dk_128 (dk_at dksX0_grow_0 20 rfl rfl)
theorem dX0_grow_21 : decode cX0_grow 21 = .ok (.putfield 90, 3) := dk_181 0 90 (dk_at dksX0_grow_0 21 rfl rfl)
theorem dX0_grow_24 : decode cX0_grow 24 = .ok (.iinc 1 1, 3) := dk_132 1 1 (dk_at dksX0_grow_1 0 rfl rfl)
theorem dX0_grow_27 : decode cX0_grow 27 = .ok (.aload_n 0, 1) := dk_42 (dk_at dksX0_grow_1 3 rfl rfl)
theorem dX0_grow_28 : decode cX0_grow 28 = .ok (.invokevirtual 264, 3) := dk_182 1 8 (dk_at dksX0_grow_1 4 rfl rfl)
theorem dX0_grow_31 : decode cX0_grow 31 = .ok (.istore_n 2, 1) := dk_61 (dk_at dksX0_grow_1 7 rfl rfl)
theorem dX0_grow_32 : decode cX0_grow 32 = .ok (.goto (-25), 3) := dk_167 255 231 (dk_at dksX0_grow_1 8 rfl rfl)
theorem dX0_grow_35 : decode cX0_grow 35 = .ok (.iload_n 1, 1) := dk_27 (dk_at dksX0_grow_1 11 rfl rfl)
theorem dX0_grow_36 : decode cX0_grow 36 = .ok (.ireturn, 1) := dk_172 (dk_at dksX0_grow_1 12 rfl rfl)
theorem dX0_grow_37 : decode cX0_grow 37 = .ok (.astore_n 2, 1) := dk_77 (dk_at dksX0_grow_1 13 rfl rfl)
theorem dX0_grow_38 : decode cX0_grow 38 = .ok (.bipush (-3), 2) := dk_16 253 (dk_at dksX0_grow_1 14 rfl rfl)
theorem dX0_grow_40 : decode cX0_grow 40 = .ok (.ireturn, 1) := dk_172 (dk_at dksX0_grow_1 16 rfl rfl)
abbrev cX0_gainer : ByteArray := prog_1_method_49_code
def yX0_gainer : MethodName := ⟨RX0, "gainer", "()I"⟩
def dkwX0_gainer_3 : List UInt8 := [167, 255, 203, 27, 172]
abbrev dktX0_gainer_3 : List UInt8 := dkwX0_gainer_3 ++ []
def dkwX0_gainer_2 : List UInt8 := [182, 0, 101, 58, 4, 25, 4, 44, 182, 0, 105, 153, 0, 8, 25, 4, 77, 29, 60, 132, 3, 1]
abbrev dktX0_gainer_2 : List UInt8 := dkwX0_gainer_2 ++ dktX0_gainer_3
def dkwX0_gainer_1 : List UInt8 := [180, 0, 90, 29, 184, 0, 93, 153, 0, 6, 167, 0, 31, 42, 42, 180, 0, 90, 4, 29, 120, 128]
abbrev dktX0_gainer_1 : List UInt8 := dkwX0_gainer_1 ++ dktX0_gainer_2
def dkwX0_gainer_0 : List UInt8 := [2, 60, 42, 42, 180, 0, 90, 182, 0, 101, 77, 3, 62, 29, 42, 182, 0, 153, 162, 0, 51, 42]
abbrev dktX0_gainer_0 : List UInt8 := dkwX0_gainer_0 ++ dktX0_gainer_1
theorem dksX0_gainer_0 : cX0_gainer.data.toList.drop 0 = dktX0_gainer_0 := by decide +kernel
theorem dksX0_gainer_1 : cX0_gainer.data.toList.drop 22 = dktX0_gainer_1 := dk_seg dksX0_gainer_0 22 rfl rfl
theorem dksX0_gainer_2 : cX0_gainer.data.toList.drop 44 = dktX0_gainer_2 := dk_seg dksX0_gainer_1 22 rfl rfl
theorem dksX0_gainer_3 : cX0_gainer.data.toList.drop 66 = dktX0_gainer_3 := dk_seg dksX0_gainer_2 22 rfl rfl
theorem dX0_gainer_0 : decode cX0_gainer 0 = .ok (.iconst (-1), 1) := dk_2 (dk_at dksX0_gainer_0 0 rfl rfl)
theorem dX0_gainer_1 : decode cX0_gainer 1 = .ok (.istore_n 1, 1) := dk_60 (dk_at dksX0_gainer_0 1 rfl rfl)
theorem dX0_gainer_2 : decode cX0_gainer 2 = .ok (.aload_n 0, 1) := dk_42 (dk_at dksX0_gainer_0 2 rfl rfl)
theorem dX0_gainer_3 : decode cX0_gainer 3 = .ok (.aload_n 0, 1) := dk_42 (dk_at dksX0_gainer_0 3 rfl rfl)
theorem dX0_gainer_4 : decode cX0_gainer 4 = .ok (.getfield 90, 3) := dk_180 0 90 (dk_at dksX0_gainer_0 4 rfl rfl)
theorem dX0_gainer_7 : decode cX0_gainer 7 = .ok (.invokevirtual 101, 3) := dk_182 0 101 (dk_at dksX0_gainer_0 7 rfl rfl)
theorem dX0_gainer_10 : decode cX0_gainer 10 = .ok (.astore_n 2, 1) := dk_77 (dk_at dksX0_gainer_0 10 rfl rfl)
theorem dX0_gainer_11 : decode cX0_gainer 11 = .ok (.iconst 0, 1) := dk_3 (dk_at dksX0_gainer_0 11 rfl rfl)
theorem dX0_gainer_12 : decode cX0_gainer 12 = .ok (.istore_n 3, 1) := dk_62 (dk_at dksX0_gainer_0 12 rfl rfl)
theorem dX0_gainer_13 : decode cX0_gainer 13 = .ok (.iload_n 3, 1) := dk_29 (dk_at dksX0_gainer_0 13 rfl rfl)
theorem dX0_gainer_14 : decode cX0_gainer 14 = .ok (.aload_n 0, 1) := dk_42 (dk_at dksX0_gainer_0 14 rfl rfl)
theorem dX0_gainer_15 : decode cX0_gainer 15 = .ok (.invokevirtual 153, 3) := dk_182 0 153 (dk_at dksX0_gainer_0 15 rfl rfl)
theorem dX0_gainer_18 : decode cX0_gainer 18 = .ok (.if_icmp .ge 51, 3) := dk_162 0 51 (dk_at dksX0_gainer_0 18 rfl rfl)
theorem dX0_gainer_21 : decode cX0_gainer 21 = .ok (.aload_n 0, 1) := dk_42 (dk_at dksX0_gainer_0 21 rfl rfl)
theorem dX0_gainer_22 : decode cX0_gainer 22 = .ok (.getfield 90, 3) := dk_180 0 90 (dk_at dksX0_gainer_1 0 rfl rfl)
theorem dX0_gainer_25 : decode cX0_gainer 25 = .ok (.iload_n 3, 1) := dk_29 (dk_at dksX0_gainer_1 3 rfl rfl)
theorem dX0_gainer_26 : decode cX0_gainer 26 = .ok (.invokestatic 93, 3) := dk_184 0 93 (dk_at dksX0_gainer_1 4 rfl rfl)
theorem dX0_gainer_29 : decode cX0_gainer 29 = .ok (.ifCond .eq 6, 3) := dk_153 0 6 (dk_at dksX0_gainer_1 7 rfl rfl)
theorem dX0_gainer_32 : decode cX0_gainer 32 = .ok (.goto 31, 3) := dk_167 0 31 (dk_at dksX0_gainer_1 10 rfl rfl)
theorem dX0_gainer_35 : decode cX0_gainer 35 = .ok (.aload_n 0, 1) := dk_42 (dk_at dksX0_gainer_1 13 rfl rfl)
theorem dX0_gainer_36 : decode cX0_gainer 36 = .ok (.aload_n 0, 1) := dk_42 (dk_at dksX0_gainer_1 14 rfl rfl)
theorem dX0_gainer_37 : decode cX0_gainer 37 = .ok (.getfield 90, 3) := dk_180 0 90 (dk_at dksX0_gainer_1 15 rfl rfl)
theorem dX0_gainer_40 : decode cX0_gainer 40 = .ok (.iconst 1, 1) := dk_4 (dk_at dksX0_gainer_1 18 rfl rfl)
theorem dX0_gainer_41 : decode cX0_gainer 41 = .ok (.iload_n 3, 1) := dk_29 (dk_at dksX0_gainer_1 19 rfl rfl)
theorem dX0_gainer_42 : decode cX0_gainer 42 = .ok (.ishl, 1) := dk_120 (dk_at dksX0_gainer_1 20 rfl rfl)
theorem dX0_gainer_43 : decode cX0_gainer 43 = .ok (.ior, 1) := dk_128 (dk_at dksX0_gainer_1 21 rfl rfl)
theorem dX0_gainer_44 : decode cX0_gainer 44 = .ok (.invokevirtual 101, 3) := dk_182 0 101 (dk_at dksX0_gainer_2 0 rfl rfl)
theorem dX0_gainer_47 : decode cX0_gainer 47 = .ok (.astore 4, 2) := dk_58 4 (dk_at dksX0_gainer_2 3 rfl rfl)
theorem dX0_gainer_49 : decode cX0_gainer 49 = .ok (.aload 4, 2) := dk_25 4 (dk_at dksX0_gainer_2 5 rfl rfl)
theorem dX0_gainer_51 : decode cX0_gainer 51 = .ok (.aload_n 2, 1) := dk_44 (dk_at dksX0_gainer_2 7 rfl rfl)
theorem dX0_gainer_52 : decode cX0_gainer 52 = .ok (.invokevirtual 105, 3) := dk_182 0 105 (dk_at dksX0_gainer_2 8 rfl rfl)
theorem dX0_gainer_55 : decode cX0_gainer 55 = .ok (.ifCond .eq 8, 3) := dk_153 0 8 (dk_at dksX0_gainer_2 11 rfl rfl)
theorem dX0_gainer_58 : decode cX0_gainer 58 = .ok (.aload 4, 2) := dk_25 4 (dk_at dksX0_gainer_2 14 rfl rfl)
theorem dX0_gainer_60 : decode cX0_gainer 60 = .ok (.astore_n 2, 1) := dk_77 (dk_at dksX0_gainer_2 16 rfl rfl)
theorem dX0_gainer_61 : decode cX0_gainer 61 = .ok (.iload_n 3, 1) := dk_29 (dk_at dksX0_gainer_2 17 rfl rfl)
theorem dX0_gainer_62 : decode cX0_gainer 62 = .ok (.istore_n 1, 1) := dk_60 (dk_at dksX0_gainer_2 18 rfl rfl)
theorem dX0_gainer_63 : decode cX0_gainer 63 = .ok (.iinc 3 1, 3) := dk_132 3 1 (dk_at dksX0_gainer_2 19 rfl rfl)
theorem dX0_gainer_66 : decode cX0_gainer 66 = .ok (.goto (-53), 3) := dk_167 255 203 (dk_at dksX0_gainer_3 0 rfl rfl)
theorem dX0_gainer_69 : decode cX0_gainer 69 = .ok (.iload_n 1, 1) := dk_27 (dk_at dksX0_gainer_3 3 rfl rfl)
theorem dX0_gainer_70 : decode cX0_gainer 70 = .ok (.ireturn, 1) := dk_172 (dk_at dksX0_gainer_3 4 rfl rfl)
abbrev cX0_prune : ByteArray := prog_1_method_51_code
def yX0_prune : MethodName := ⟨RX0, "prune", "()I"⟩
def dkwX0_prune_1 : List UInt8 := [60, 42, 42, 180, 0, 118, 181, 0, 90, 27, 172]
abbrev dktX0_prune_1 : List UInt8 := dkwX0_prune_1 ++ []
def dkwX0_prune_0 : List UInt8 := [42, 182, 0, 211, 154, 0, 6, 16, 253, 172, 42, 180, 0, 90, 42, 180, 0, 118, 2, 130, 126, 184, 1, 11]
abbrev dktX0_prune_0 : List UInt8 := dkwX0_prune_0 ++ dktX0_prune_1
theorem dksX0_prune_0 : cX0_prune.data.toList.drop 0 = dktX0_prune_0 := by decide +kernel
theorem dksX0_prune_1 : cX0_prune.data.toList.drop 24 = dktX0_prune_1 := dk_seg dksX0_prune_0 24 rfl rfl
theorem dX0_prune_0 : decode cX0_prune 0 = .ok (.aload_n 0, 1) := dk_42 (dk_at dksX0_prune_0 0 rfl rfl)
theorem dX0_prune_1 : decode cX0_prune 1 = .ok (.invokevirtual 211, 3) := dk_182 0 211 (dk_at dksX0_prune_0 1 rfl rfl)
theorem dX0_prune_4 : decode cX0_prune 4 = .ok (.ifCond .ne 6, 3) := dk_154 0 6 (dk_at dksX0_prune_0 4 rfl rfl)
theorem dX0_prune_7 : decode cX0_prune 7 = .ok (.bipush (-3), 2) := dk_16 253 (dk_at dksX0_prune_0 7 rfl rfl)
theorem dX0_prune_9 : decode cX0_prune 9 = .ok (.ireturn, 1) := dk_172 (dk_at dksX0_prune_0 9 rfl rfl)
theorem dX0_prune_10 : decode cX0_prune 10 = .ok (.aload_n 0, 1) := dk_42 (dk_at dksX0_prune_0 10 rfl rfl)
theorem dX0_prune_11 : decode cX0_prune 11 = .ok (.getfield 90, 3) := dk_180 0 90 (dk_at dksX0_prune_0 11 rfl rfl)
theorem dX0_prune_14 : decode cX0_prune 14 = .ok (.aload_n 0, 1) := dk_42 (dk_at dksX0_prune_0 14 rfl rfl)
theorem dX0_prune_15 : decode cX0_prune 15 = .ok (.getfield 118, 3) := dk_180 0 118 (dk_at dksX0_prune_0 15 rfl rfl)
theorem dX0_prune_18 : decode cX0_prune 18 = .ok (.iconst (-1), 1) := dk_2 (dk_at dksX0_prune_0 18 rfl rfl)
theorem dX0_prune_19 : decode cX0_prune 19 = .ok (.ixor, 1) := dk_130 (dk_at dksX0_prune_0 19 rfl rfl)
theorem dX0_prune_20 : decode cX0_prune 20 = .ok (.iand, 1) := dk_126 (dk_at dksX0_prune_0 20 rfl rfl)
theorem dX0_prune_21 : decode cX0_prune 21 = .ok (.invokestatic 267, 3) := dk_184 1 11 (dk_at dksX0_prune_0 21 rfl rfl)
theorem dX0_prune_24 : decode cX0_prune 24 = .ok (.istore_n 1, 1) := dk_60 (dk_at dksX0_prune_1 0 rfl rfl)
theorem dX0_prune_25 : decode cX0_prune 25 = .ok (.aload_n 0, 1) := dk_42 (dk_at dksX0_prune_1 1 rfl rfl)
theorem dX0_prune_26 : decode cX0_prune 26 = .ok (.aload_n 0, 1) := dk_42 (dk_at dksX0_prune_1 2 rfl rfl)
theorem dX0_prune_27 : decode cX0_prune 27 = .ok (.getfield 118, 3) := dk_180 0 118 (dk_at dksX0_prune_1 3 rfl rfl)
theorem dX0_prune_30 : decode cX0_prune 30 = .ok (.putfield 90, 3) := dk_181 0 90 (dk_at dksX0_prune_1 6 rfl rfl)
theorem dX0_prune_33 : decode cX0_prune 33 = .ok (.iload_n 1, 1) := dk_27 (dk_at dksX0_prune_1 9 rfl rfl)
theorem dX0_prune_34 : decode cX0_prune 34 = .ok (.ireturn, 1) := dk_172 (dk_at dksX0_prune_1 10 rfl rfl)
abbrev cX0_would : ByteArray := prog_1_method_53_code
def yX0_would : MethodName := ⟨RX0, "would", "(IIII)J"⟩
def dkwX0_would_2 : List UInt8 := [167, 0, 8, 16, 254, 184, 0, 206, 173]
abbrev dktX0_would_2 : List UInt8 := dkwX0_would_2 ++ []
def dkwX0_would_1 : List UInt8 := [184, 0, 40, 153, 0, 23, 21, 4, 184, 0, 168, 153, 0, 15, 42, 27, 28, 29, 21, 4, 182, 1, 14]
abbrev dktX0_would_1 : List UInt8 := dkwX0_would_1 ++ dktX0_would_2
def dkwX0_would_0 : List UInt8 := [42, 27, 182, 0, 160, 153, 0, 44, 28, 184, 0, 168, 153, 0, 37, 29, 133, 20, 0, 171, 20, 0, 173]
abbrev dktX0_would_0 : List UInt8 := dkwX0_would_0 ++ dktX0_would_1
theorem dksX0_would_0 : cX0_would.data.toList.drop 0 = dktX0_would_0 := by decide +kernel
theorem dksX0_would_1 : cX0_would.data.toList.drop 23 = dktX0_would_1 := dk_seg dksX0_would_0 23 rfl rfl
theorem dksX0_would_2 : cX0_would.data.toList.drop 46 = dktX0_would_2 := dk_seg dksX0_would_1 23 rfl rfl
theorem dX0_would_0 : decode cX0_would 0 = .ok (.aload_n 0, 1) := dk_42 (dk_at dksX0_would_0 0 rfl rfl)
theorem dX0_would_1 : decode cX0_would 1 = .ok (.iload_n 1, 1) := dk_27 (dk_at dksX0_would_0 1 rfl rfl)
theorem dX0_would_2 : decode cX0_would 2 = .ok (.invokevirtual 160, 3) := dk_182 0 160 (dk_at dksX0_would_0 2 rfl rfl)
theorem dX0_would_5 : decode cX0_would 5 = .ok (.ifCond .eq 44, 3) := dk_153 0 44 (dk_at dksX0_would_0 5 rfl rfl)
theorem dX0_would_8 : decode cX0_would 8 = .ok (.iload_n 2, 1) := dk_28 (dk_at dksX0_would_0 8 rfl rfl)
theorem dX0_would_9 : decode cX0_would 9 = .ok (.invokestatic 168, 3) := dk_184 0 168 (dk_at dksX0_would_0 9 rfl rfl)
theorem dX0_would_12 : decode cX0_would 12 = .ok (.ifCond .eq 37, 3) := dk_153 0 37 (dk_at dksX0_would_0 12 rfl rfl)
theorem dX0_would_15 : decode cX0_would 15 = .ok (.iload_n 3, 1) := dk_29 (dk_at dksX0_would_0 15 rfl rfl)
theorem dX0_would_16 : decode cX0_would 16 = .ok (.i2l, 1) := dk_133 (dk_at dksX0_would_0 16 rfl rfl)
theorem dX0_would_17 : decode cX0_would 17 = .ok (.ldc2_w 171, 3) := dk_20 0 171 (dk_at dksX0_would_0 17 rfl rfl)
theorem dX0_would_20 : decode cX0_would 20 = .ok (.ldc2_w 173, 3) := dk_20 0 173 (dk_at dksX0_would_0 20 rfl rfl)
theorem dX0_would_23 : decode cX0_would 23 = .ok (.invokestatic 40, 3) := dk_184 0 40 (dk_at dksX0_would_1 0 rfl rfl)
theorem dX0_would_26 : decode cX0_would 26 = .ok (.ifCond .eq 23, 3) := dk_153 0 23 (dk_at dksX0_would_1 3 rfl rfl)
theorem dX0_would_29 : decode cX0_would 29 = .ok (.iload 4, 2) := dk_21 4 (dk_at dksX0_would_1 6 rfl rfl)
theorem dX0_would_31 : decode cX0_would 31 = .ok (.invokestatic 168, 3) := dk_184 0 168 (dk_at dksX0_would_1 8 rfl rfl)
theorem dX0_would_34 : decode cX0_would 34 = .ok (.ifCond .eq 15, 3) := dk_153 0 15 (dk_at dksX0_would_1 11 rfl rfl)
theorem dX0_would_37 : decode cX0_would 37 = .ok (.aload_n 0, 1) := dk_42 (dk_at dksX0_would_1 14 rfl rfl)
theorem dX0_would_38 : decode cX0_would 38 = .ok (.iload_n 1, 1) := dk_27 (dk_at dksX0_would_1 15 rfl rfl)
theorem dX0_would_39 : decode cX0_would 39 = .ok (.iload_n 2, 1) := dk_28 (dk_at dksX0_would_1 16 rfl rfl)
theorem dX0_would_40 : decode cX0_would 40 = .ok (.iload_n 3, 1) := dk_29 (dk_at dksX0_would_1 17 rfl rfl)
theorem dX0_would_41 : decode cX0_would 41 = .ok (.iload 4, 2) := dk_21 4 (dk_at dksX0_would_1 18 rfl rfl)
theorem dX0_would_43 : decode cX0_would 43 = .ok (.invokevirtual 270, 3) := dk_182 1 14 (dk_at dksX0_would_1 20 rfl rfl)
theorem dX0_would_46 : decode cX0_would 46 = .ok (.goto 8, 3) := dk_167 0 8 (dk_at dksX0_would_2 0 rfl rfl)
theorem dX0_would_49 : decode cX0_would 49 = .ok (.bipush (-2), 2) := dk_16 254 (dk_at dksX0_would_2 3 rfl rfl)
theorem dX0_would_51 : decode cX0_would 51 = .ok (.invokestatic 206, 3) := dk_184 0 206 (dk_at dksX0_would_2 5 rfl rfl)
theorem dX0_would_54 : decode cX0_would 54 = .ok (.lreturn, 1) := dk_173 (dk_at dksX0_would_2 8 rfl rfl)
abbrev cX0_wouldBy : ByteArray := prog_1_method_52_code
def yX0_wouldBy : MethodName := ⟨RX0, "wouldBy", "(IIII)J"⟩
def dkwX0_wouldBy_4 : List UInt8 := [21, 5, 79, 25, 9, 191]
abbrev dktX0_wouldBy_4 : List UInt8 := dkwX0_wouldBy_4 ++ []
def dkwX0_wouldBy_3 : List UInt8 := [50, 180, 0, 176, 28, 21, 5, 79, 22, 7, 173, 58, 9, 42, 180, 0, 14, 27, 50, 180, 0, 176, 28]
abbrev dktX0_wouldBy_3 : List UInt8 := dkwX0_wouldBy_3 ++ dktX0_wouldBy_4
def dkwX0_wouldBy_2 : List UInt8 := [180, 0, 176, 28, 21, 5, 79, 22, 6, 173, 58, 6, 16, 253, 184, 0, 206, 55, 7, 42, 180, 0, 14, 27]
abbrev dktX0_wouldBy_2 : List UInt8 := dkwX0_wouldBy_2 ++ dktX0_wouldBy_3
def dkwX0_wouldBy_1 : List UInt8 := [79, 42, 42, 180, 0, 90, 182, 0, 101, 21, 4, 182, 0, 209, 55, 6, 42, 180, 0, 14, 27, 50]
abbrev dktX0_wouldBy_1 : List UInt8 := dkwX0_wouldBy_1 ++ dktX0_wouldBy_2
def dkwX0_wouldBy_0 : List UInt8 := [42, 180, 0, 14, 27, 50, 180, 0, 176, 28, 46, 54, 5, 42, 180, 0, 14, 27, 50, 180, 0, 176, 28, 29]
abbrev dktX0_wouldBy_0 : List UInt8 := dkwX0_wouldBy_0 ++ dktX0_wouldBy_1
theorem dksX0_wouldBy_0 : cX0_wouldBy.data.toList.drop 0 = dktX0_wouldBy_0 := by decide +kernel
theorem dksX0_wouldBy_1 : cX0_wouldBy.data.toList.drop 24 = dktX0_wouldBy_1 := dk_seg dksX0_wouldBy_0 24 rfl rfl
theorem dksX0_wouldBy_2 : cX0_wouldBy.data.toList.drop 46 = dktX0_wouldBy_2 := dk_seg dksX0_wouldBy_1 22 rfl rfl
theorem dksX0_wouldBy_3 : cX0_wouldBy.data.toList.drop 70 = dktX0_wouldBy_3 := dk_seg dksX0_wouldBy_2 24 rfl rfl
theorem dksX0_wouldBy_4 : cX0_wouldBy.data.toList.drop 93 = dktX0_wouldBy_4 := dk_seg dksX0_wouldBy_3 23 rfl rfl
theorem dX0_wouldBy_0 : decode cX0_wouldBy 0 = .ok (.aload_n 0, 1) := dk_42 (dk_at dksX0_wouldBy_0 0 rfl rfl)
theorem dX0_wouldBy_1 : decode cX0_wouldBy 1 = .ok (.getfield 14, 3) := dk_180 0 14 (dk_at dksX0_wouldBy_0 1 rfl rfl)
theorem dX0_wouldBy_4 : decode cX0_wouldBy 4 = .ok (.iload_n 1, 1) := dk_27 (dk_at dksX0_wouldBy_0 4 rfl rfl)
theorem dX0_wouldBy_5 : decode cX0_wouldBy 5 = .ok (.aaload, 1) := dk_50 (dk_at dksX0_wouldBy_0 5 rfl rfl)
theorem dX0_wouldBy_6 : decode cX0_wouldBy 6 = .ok (.getfield 176, 3) := dk_180 0 176 (dk_at dksX0_wouldBy_0 6 rfl rfl)
theorem dX0_wouldBy_9 : decode cX0_wouldBy 9 = .ok (.iload_n 2, 1) := dk_28 (dk_at dksX0_wouldBy_0 9 rfl rfl)
theorem dX0_wouldBy_10 : decode cX0_wouldBy 10 = .ok (.iaload, 1) := dk_46 (dk_at dksX0_wouldBy_0 10 rfl rfl)
theorem dX0_wouldBy_11 : decode cX0_wouldBy 11 = .ok (.istore 5, 2) := dk_54 5 (dk_at dksX0_wouldBy_0 11 rfl rfl)
theorem dX0_wouldBy_13 : decode cX0_wouldBy 13 = .ok (.aload_n 0, 1) := dk_42 (dk_at dksX0_wouldBy_0 13 rfl rfl)
theorem dX0_wouldBy_14 : decode cX0_wouldBy 14 = .ok (.getfield 14, 3) := dk_180 0 14 (dk_at dksX0_wouldBy_0 14 rfl rfl)
theorem dX0_wouldBy_17 : decode cX0_wouldBy 17 = .ok (.iload_n 1, 1) := dk_27 (dk_at dksX0_wouldBy_0 17 rfl rfl)
theorem dX0_wouldBy_18 : decode cX0_wouldBy 18 = .ok (.aaload, 1) := dk_50 (dk_at dksX0_wouldBy_0 18 rfl rfl)
theorem dX0_wouldBy_19 : decode cX0_wouldBy 19 = .ok (.getfield 176, 3) := dk_180 0 176 (dk_at dksX0_wouldBy_0 19 rfl rfl)
theorem dX0_wouldBy_22 : decode cX0_wouldBy 22 = .ok (.iload_n 2, 1) := dk_28 (dk_at dksX0_wouldBy_0 22 rfl rfl)
theorem dX0_wouldBy_23 : decode cX0_wouldBy 23 = .ok (.iload_n 3, 1) := dk_29 (dk_at dksX0_wouldBy_0 23 rfl rfl)
theorem dX0_wouldBy_24 : decode cX0_wouldBy 24 = .ok (.iastore, 1) := dk_79 (dk_at dksX0_wouldBy_1 0 rfl rfl)
theorem dX0_wouldBy_25 : decode cX0_wouldBy 25 = .ok (.aload_n 0, 1) := dk_42 (dk_at dksX0_wouldBy_1 1 rfl rfl)
theorem dX0_wouldBy_26 : decode cX0_wouldBy 26 = .ok (.aload_n 0, 1) := dk_42 (dk_at dksX0_wouldBy_1 2 rfl rfl)
theorem dX0_wouldBy_27 : decode cX0_wouldBy 27 = .ok (.getfield 90, 3) := dk_180 0 90 (dk_at dksX0_wouldBy_1 3 rfl rfl)
theorem dX0_wouldBy_30 : decode cX0_wouldBy 30 = .ok (.invokevirtual 101, 3) := dk_182 0 101 (dk_at dksX0_wouldBy_1 6 rfl rfl)
theorem dX0_wouldBy_33 : decode cX0_wouldBy 33 = .ok (.iload 4, 2) := dk_21 4 (dk_at dksX0_wouldBy_1 9 rfl rfl)
theorem dX0_wouldBy_35 : decode cX0_wouldBy 35 = .ok (.invokevirtual 209, 3) := dk_182 0 209 (dk_at dksX0_wouldBy_1 11 rfl rfl)
theorem dX0_wouldBy_38 : decode cX0_wouldBy 38 = .ok (.lstore 6, 2) := dk_55 6 (dk_at dksX0_wouldBy_1 14 rfl rfl)
theorem dX0_wouldBy_40 : decode cX0_wouldBy 40 = .ok (.aload_n 0, 1) := dk_42 (dk_at dksX0_wouldBy_1 16 rfl rfl)
theorem dX0_wouldBy_41 : decode cX0_wouldBy 41 = .ok (.getfield 14, 3) := dk_180 0 14 (dk_at dksX0_wouldBy_1 17 rfl rfl)
theorem dX0_wouldBy_44 : decode cX0_wouldBy 44 = .ok (.iload_n 1, 1) := dk_27 (dk_at dksX0_wouldBy_1 20 rfl rfl)
theorem dX0_wouldBy_45 : decode cX0_wouldBy 45 = .ok (.aaload, 1) := dk_50 (dk_at dksX0_wouldBy_1 21 rfl rfl)
theorem dX0_wouldBy_46 : decode cX0_wouldBy 46 = .ok (.getfield 176, 3) := dk_180 0 176 (dk_at dksX0_wouldBy_2 0 rfl rfl)
theorem dX0_wouldBy_49 : decode cX0_wouldBy 49 = .ok (.iload_n 2, 1) := dk_28 (dk_at dksX0_wouldBy_2 3 rfl rfl)
theorem dX0_wouldBy_50 : decode cX0_wouldBy 50 = .ok (.iload 5, 2) := dk_21 5 (dk_at dksX0_wouldBy_2 4 rfl rfl)
theorem dX0_wouldBy_52 : decode cX0_wouldBy 52 = .ok (.iastore, 1) := dk_79 (dk_at dksX0_wouldBy_2 6 rfl rfl)
theorem dX0_wouldBy_53 : decode cX0_wouldBy 53 = .ok (.lload 6, 2) := dk_22 6 (dk_at dksX0_wouldBy_2 7 rfl rfl)
theorem dX0_wouldBy_55 : decode cX0_wouldBy 55 = .ok (.lreturn, 1) := dk_173 (dk_at dksX0_wouldBy_2 9 rfl rfl)
theorem dX0_wouldBy_56 : decode cX0_wouldBy 56 = .ok (.astore 6, 2) := dk_58 6 (dk_at dksX0_wouldBy_2 10 rfl rfl)
theorem dX0_wouldBy_58 : decode cX0_wouldBy 58 = .ok (.bipush (-3), 2) := dk_16 253 (dk_at dksX0_wouldBy_2 12 rfl rfl)
theorem dX0_wouldBy_60 : decode cX0_wouldBy 60 = .ok (.invokestatic 206, 3) := dk_184 0 206 (dk_at dksX0_wouldBy_2 14 rfl rfl)
theorem dX0_wouldBy_63 : decode cX0_wouldBy 63 = .ok (.lstore 7, 2) := dk_55 7 (dk_at dksX0_wouldBy_2 17 rfl rfl)
theorem dX0_wouldBy_65 : decode cX0_wouldBy 65 = .ok (.aload_n 0, 1) := dk_42 (dk_at dksX0_wouldBy_2 19 rfl rfl)
theorem dX0_wouldBy_66 : decode cX0_wouldBy 66 = .ok (.getfield 14, 3) := dk_180 0 14 (dk_at dksX0_wouldBy_2 20 rfl rfl)
theorem dX0_wouldBy_69 : decode cX0_wouldBy 69 = .ok (.iload_n 1, 1) := dk_27 (dk_at dksX0_wouldBy_2 23 rfl rfl)
theorem dX0_wouldBy_70 : decode cX0_wouldBy 70 = .ok (.aaload, 1) := dk_50 (dk_at dksX0_wouldBy_3 0 rfl rfl)
theorem dX0_wouldBy_71 : decode cX0_wouldBy 71 = .ok (.getfield 176, 3) := dk_180 0 176 (dk_at dksX0_wouldBy_3 1 rfl rfl)
theorem dX0_wouldBy_74 : decode cX0_wouldBy 74 = .ok (.iload_n 2, 1) := dk_28 (dk_at dksX0_wouldBy_3 4 rfl rfl)
theorem dX0_wouldBy_75 : decode cX0_wouldBy 75 = .ok (.iload 5, 2) := dk_21 5 (dk_at dksX0_wouldBy_3 5 rfl rfl)
theorem dX0_wouldBy_77 : decode cX0_wouldBy 77 = .ok (.iastore, 1) := dk_79 (dk_at dksX0_wouldBy_3 7 rfl rfl)
theorem dX0_wouldBy_78 : decode cX0_wouldBy 78 = .ok (.lload 7, 2) := dk_22 7 (dk_at dksX0_wouldBy_3 8 rfl rfl)
theorem dX0_wouldBy_80 : decode cX0_wouldBy 80 = .ok (.lreturn, 1) := dk_173 (dk_at dksX0_wouldBy_3 10 rfl rfl)
theorem dX0_wouldBy_81 : decode cX0_wouldBy 81 = .ok (.astore 9, 2) := dk_58 9 (dk_at dksX0_wouldBy_3 11 rfl rfl)
theorem dX0_wouldBy_83 : decode cX0_wouldBy 83 = .ok (.aload_n 0, 1) := dk_42 (dk_at dksX0_wouldBy_3 13 rfl rfl)
theorem dX0_wouldBy_84 : decode cX0_wouldBy 84 = .ok (.getfield 14, 3) := dk_180 0 14 (dk_at dksX0_wouldBy_3 14 rfl rfl)
theorem dX0_wouldBy_87 : decode cX0_wouldBy 87 = .ok (.iload_n 1, 1) := dk_27 (dk_at dksX0_wouldBy_3 17 rfl rfl)
theorem dX0_wouldBy_88 : decode cX0_wouldBy 88 = .ok (.aaload, 1) := dk_50 (dk_at dksX0_wouldBy_3 18 rfl rfl)
theorem dX0_wouldBy_89 : decode cX0_wouldBy 89 = .ok (.getfield 176, 3) := dk_180 0 176 (dk_at dksX0_wouldBy_3 19 rfl rfl)
theorem dX0_wouldBy_92 : decode cX0_wouldBy 92 = .ok (.iload_n 2, 1) := dk_28 (dk_at dksX0_wouldBy_3 22 rfl rfl)
theorem dX0_wouldBy_93 : decode cX0_wouldBy 93 = .ok (.iload 5, 2) := dk_21 5 (dk_at dksX0_wouldBy_4 0 rfl rfl)
theorem dX0_wouldBy_95 : decode cX0_wouldBy 95 = .ok (.iastore, 1) := dk_79 (dk_at dksX0_wouldBy_4 2 rfl rfl)
theorem dX0_wouldBy_96 : decode cX0_wouldBy 96 = .ok (.aload 9, 2) := dk_25 9 (dk_at dksX0_wouldBy_4 3 rfl rfl)
theorem dX0_wouldBy_98 : decode cX0_wouldBy 98 = .ok (.athrow, 1) := dk_191 (dk_at dksX0_wouldBy_4 5 rfl rfl)
abbrev cX0_shift : ByteArray := prog_1_method_54_code
def yX0_shift : MethodName := ⟨RX0, "shift", "(III)I"⟩
def dkwX0_shift_2 : List UInt8 := [180, 0, 14, 27, 50, 180, 1, 22, 28, 29, 79, 21, 4, 172]
abbrev dktX0_shift_2 : List UInt8 := dkwX0_shift_2 ++ []
def dkwX0_shift_1 : List UInt8 := [184, 0, 40, 154, 0, 6, 18, 175, 172, 42, 180, 0, 14, 27, 50, 180, 1, 22, 28, 46, 54, 4, 42]
abbrev dktX0_shift_1 : List UInt8 := dkwX0_shift_1 ++ dktX0_shift_2
def dkwX0_shift_0 : List UInt8 := [42, 27, 182, 0, 160, 153, 0, 24, 28, 184, 0, 168, 153, 0, 17, 29, 133, 20, 1, 18, 20, 1, 20]
abbrev dktX0_shift_0 : List UInt8 := dkwX0_shift_0 ++ dktX0_shift_1
theorem dksX0_shift_0 : cX0_shift.data.toList.drop 0 = dktX0_shift_0 := by decide +kernel
theorem dksX0_shift_1 : cX0_shift.data.toList.drop 23 = dktX0_shift_1 := dk_seg dksX0_shift_0 23 rfl rfl
theorem dksX0_shift_2 : cX0_shift.data.toList.drop 46 = dktX0_shift_2 := dk_seg dksX0_shift_1 23 rfl rfl
theorem dX0_shift_0 : decode cX0_shift 0 = .ok (.aload_n 0, 1) := dk_42 (dk_at dksX0_shift_0 0 rfl rfl)
theorem dX0_shift_1 : decode cX0_shift 1 = .ok (.iload_n 1, 1) := dk_27 (dk_at dksX0_shift_0 1 rfl rfl)
theorem dX0_shift_2 : decode cX0_shift 2 = .ok (.invokevirtual 160, 3) := dk_182 0 160 (dk_at dksX0_shift_0 2 rfl rfl)
theorem dX0_shift_5 : decode cX0_shift 5 = .ok (.ifCond .eq 24, 3) := dk_153 0 24 (dk_at dksX0_shift_0 5 rfl rfl)
theorem dX0_shift_8 : decode cX0_shift 8 = .ok (.iload_n 2, 1) := dk_28 (dk_at dksX0_shift_0 8 rfl rfl)
theorem dX0_shift_9 : decode cX0_shift 9 = .ok (.invokestatic 168, 3) := dk_184 0 168 (dk_at dksX0_shift_0 9 rfl rfl)
theorem dX0_shift_12 : decode cX0_shift 12 = .ok (.ifCond .eq 17, 3) := dk_153 0 17 (dk_at dksX0_shift_0 12 rfl rfl)
theorem dX0_shift_15 : decode cX0_shift 15 = .ok (.iload_n 3, 1) := dk_29 (dk_at dksX0_shift_0 15 rfl rfl)
theorem dX0_shift_16 : decode cX0_shift 16 = .ok (.i2l, 1) := dk_133 (dk_at dksX0_shift_0 16 rfl rfl)
theorem dX0_shift_17 : decode cX0_shift 17 = .ok (.ldc2_w 274, 3) := dk_20 1 18 (dk_at dksX0_shift_0 17 rfl rfl)
theorem dX0_shift_20 : decode cX0_shift 20 = .ok (.ldc2_w 276, 3) := dk_20 1 20 (dk_at dksX0_shift_0 20 rfl rfl)
theorem dX0_shift_23 : decode cX0_shift 23 = .ok (.invokestatic 40, 3) := dk_184 0 40 (dk_at dksX0_shift_1 0 rfl rfl)
theorem dX0_shift_26 : decode cX0_shift 26 = .ok (.ifCond .ne 6, 3) := dk_154 0 6 (dk_at dksX0_shift_1 3 rfl rfl)
theorem dX0_shift_29 : decode cX0_shift 29 = .ok (.ldc 175, 2) := dk_18 175 (dk_at dksX0_shift_1 6 rfl rfl)
theorem dX0_shift_31 : decode cX0_shift 31 = .ok (.ireturn, 1) := dk_172 (dk_at dksX0_shift_1 8 rfl rfl)
theorem dX0_shift_32 : decode cX0_shift 32 = .ok (.aload_n 0, 1) := dk_42 (dk_at dksX0_shift_1 9 rfl rfl)
theorem dX0_shift_33 : decode cX0_shift 33 = .ok (.getfield 14, 3) := dk_180 0 14 (dk_at dksX0_shift_1 10 rfl rfl)
theorem dX0_shift_36 : decode cX0_shift 36 = .ok (.iload_n 1, 1) := dk_27 (dk_at dksX0_shift_1 13 rfl rfl)
theorem dX0_shift_37 : decode cX0_shift 37 = .ok (.aaload, 1) := dk_50 (dk_at dksX0_shift_1 14 rfl rfl)
theorem dX0_shift_38 : decode cX0_shift 38 = .ok (.getfield 278, 3) := dk_180 1 22 (dk_at dksX0_shift_1 15 rfl rfl)
theorem dX0_shift_41 : decode cX0_shift 41 = .ok (.iload_n 2, 1) := dk_28 (dk_at dksX0_shift_1 18 rfl rfl)
theorem dX0_shift_42 : decode cX0_shift 42 = .ok (.iaload, 1) := dk_46 (dk_at dksX0_shift_1 19 rfl rfl)
theorem dX0_shift_43 : decode cX0_shift 43 = .ok (.istore 4, 2) := dk_54 4 (dk_at dksX0_shift_1 20 rfl rfl)
theorem dX0_shift_45 : decode cX0_shift 45 = .ok (.aload_n 0, 1) := dk_42 (dk_at dksX0_shift_1 22 rfl rfl)
theorem dX0_shift_46 : decode cX0_shift 46 = .ok (.getfield 14, 3) := dk_180 0 14 (dk_at dksX0_shift_2 0 rfl rfl)
theorem dX0_shift_49 : decode cX0_shift 49 = .ok (.iload_n 1, 1) := dk_27 (dk_at dksX0_shift_2 3 rfl rfl)
theorem dX0_shift_50 : decode cX0_shift 50 = .ok (.aaload, 1) := dk_50 (dk_at dksX0_shift_2 4 rfl rfl)
theorem dX0_shift_51 : decode cX0_shift 51 = .ok (.getfield 278, 3) := dk_180 1 22 (dk_at dksX0_shift_2 5 rfl rfl)
theorem dX0_shift_54 : decode cX0_shift 54 = .ok (.iload_n 2, 1) := dk_28 (dk_at dksX0_shift_2 8 rfl rfl)
theorem dX0_shift_55 : decode cX0_shift 55 = .ok (.iload_n 3, 1) := dk_29 (dk_at dksX0_shift_2 9 rfl rfl)
theorem dX0_shift_56 : decode cX0_shift 56 = .ok (.iastore, 1) := dk_79 (dk_at dksX0_shift_2 10 rfl rfl)
theorem dX0_shift_57 : decode cX0_shift 57 = .ok (.iload 4, 2) := dk_21 4 (dk_at dksX0_shift_2 11 rfl rfl)
theorem dX0_shift_59 : decode cX0_shift 59 = .ok (.ireturn, 1) := dk_172 (dk_at dksX0_shift_2 13 rfl rfl)
abbrev cX0_stretch : ByteArray := prog_1_method_56_code
def yX0_stretch : MethodName := ⟨RX0, "stretch", "(II)J"⟩
def dkwX0_stretch_1 : List UInt8 := [28, 184, 0, 218, 167, 0, 8, 16, 254, 184, 0, 206, 173]
abbrev dktX0_stretch_1 : List UInt8 := dkwX0_stretch_1 ++ []
def dkwX0_stretch_0 : List UInt8 := [42, 27, 182, 0, 156, 153, 0, 26, 28, 184, 0, 168, 153, 0, 19, 42, 27, 182, 1, 28, 133, 20, 1, 31]
abbrev dktX0_stretch_0 : List UInt8 := dkwX0_stretch_0 ++ dktX0_stretch_1
theorem dksX0_stretch_0 : cX0_stretch.data.toList.drop 0 = dktX0_stretch_0 := by decide +kernel
theorem dksX0_stretch_1 : cX0_stretch.data.toList.drop 24 = dktX0_stretch_1 := dk_seg dksX0_stretch_0 24 rfl rfl
theorem dX0_stretch_0 : decode cX0_stretch 0 = .ok (.aload_n 0, 1) := dk_42 (dk_at dksX0_stretch_0 0 rfl rfl)
theorem dX0_stretch_1 : decode cX0_stretch 1 = .ok (.iload_n 1, 1) := dk_27 (dk_at dksX0_stretch_0 1 rfl rfl)
theorem dX0_stretch_2 : decode cX0_stretch 2 = .ok (.invokevirtual 156, 3) := dk_182 0 156 (dk_at dksX0_stretch_0 2 rfl rfl)
theorem dX0_stretch_5 : decode cX0_stretch 5 = .ok (.ifCond .eq 26, 3) := dk_153 0 26 (dk_at dksX0_stretch_0 5 rfl rfl)
theorem dX0_stretch_8 : decode cX0_stretch 8 = .ok (.iload_n 2, 1) := dk_28 (dk_at dksX0_stretch_0 8 rfl rfl)
theorem dX0_stretch_9 : decode cX0_stretch 9 = .ok (.invokestatic 168, 3) := dk_184 0 168 (dk_at dksX0_stretch_0 9 rfl rfl)
theorem dX0_stretch_12 : decode cX0_stretch 12 = .ok (.ifCond .eq 19, 3) := dk_153 0 19 (dk_at dksX0_stretch_0 12 rfl rfl)
theorem dX0_stretch_15 : decode cX0_stretch 15 = .ok (.aload_n 0, 1) := dk_42 (dk_at dksX0_stretch_0 15 rfl rfl)
theorem dX0_stretch_16 : decode cX0_stretch 16 = .ok (.iload_n 1, 1) := dk_27 (dk_at dksX0_stretch_0 16 rfl rfl)
theorem dX0_stretch_17 : decode cX0_stretch 17 = .ok (.invokevirtual 284, 3) := dk_182 1 28 (dk_at dksX0_stretch_0 17 rfl rfl)
theorem dX0_stretch_20 : decode cX0_stretch 20 = .ok (.i2l, 1) := dk_133 (dk_at dksX0_stretch_0 20 rfl rfl)
theorem dX0_stretch_21 : decode cX0_stretch 21 = .ok (.ldc2_w 287, 3) := dk_20 1 31 (dk_at dksX0_stretch_0 21 rfl rfl)
theorem dX0_stretch_24 : decode cX0_stretch 24 = .ok (.iload_n 2, 1) := dk_28 (dk_at dksX0_stretch_1 0 rfl rfl)
theorem dX0_stretch_25 : decode cX0_stretch 25 = .ok (.invokestatic 218, 3) := dk_184 0 218 (dk_at dksX0_stretch_1 1 rfl rfl)
theorem dX0_stretch_28 : decode cX0_stretch 28 = .ok (.goto 8, 3) := dk_167 0 8 (dk_at dksX0_stretch_1 4 rfl rfl)
theorem dX0_stretch_31 : decode cX0_stretch 31 = .ok (.bipush (-2), 2) := dk_16 254 (dk_at dksX0_stretch_1 7 rfl rfl)
theorem dX0_stretch_33 : decode cX0_stretch 33 = .ok (.invokestatic 206, 3) := dk_184 0 206 (dk_at dksX0_stretch_1 9 rfl rfl)
theorem dX0_stretch_36 : decode cX0_stretch 36 = .ok (.lreturn, 1) := dk_173 (dk_at dksX0_stretch_1 12 rfl rfl)
abbrev cX0_stretched : ByteArray := prog_1_method_55_code
def yX0_stretched : MethodName := ⟨RX0, "stretched", "(I)I"⟩
def dkwX0_stretched_2 : List UInt8 := [132, 3, 1, 167, 255, 211, 28, 172]
abbrev dktX0_stretched_2 : List UInt8 := dkwX0_stretched_2 ++ []
def dkwX0_stretched_1 : List UInt8 := [180, 0, 14, 27, 184, 0, 70, 50, 29, 182, 1, 25, 100, 42, 27, 29, 182, 0, 73, 104, 96, 61]
abbrev dktX0_stretched_1 : List UInt8 := dkwX0_stretched_1 ++ dktX0_stretched_2
def dkwX0_stretched_0 : List UInt8 := [3, 61, 3, 62, 29, 5, 162, 0, 46, 28, 42, 180, 0, 14, 27, 184, 0, 63, 50, 29, 182, 1, 25, 42]
abbrev dktX0_stretched_0 : List UInt8 := dkwX0_stretched_0 ++ dktX0_stretched_1
theorem dksX0_stretched_0 : cX0_stretched.data.toList.drop 0 = dktX0_stretched_0 := by decide +kernel
theorem dksX0_stretched_1 : cX0_stretched.data.toList.drop 24 = dktX0_stretched_1 := dk_seg dksX0_stretched_0 24 rfl rfl
theorem dksX0_stretched_2 : cX0_stretched.data.toList.drop 46 = dktX0_stretched_2 := dk_seg dksX0_stretched_1 22 rfl rfl
theorem dX0_stretched_0 : decode cX0_stretched 0 = .ok (.iconst 0, 1) := dk_3 (dk_at dksX0_stretched_0 0 rfl rfl)
theorem dX0_stretched_1 : decode cX0_stretched 1 = .ok (.istore_n 2, 1) := dk_61 (dk_at dksX0_stretched_0 1 rfl rfl)
theorem dX0_stretched_2 : decode cX0_stretched 2 = .ok (.iconst 0, 1) := dk_3 (dk_at dksX0_stretched_0 2 rfl rfl)
theorem dX0_stretched_3 : decode cX0_stretched 3 = .ok (.istore_n 3, 1) := dk_62 (dk_at dksX0_stretched_0 3 rfl rfl)
theorem dX0_stretched_4 : decode cX0_stretched 4 = .ok (.iload_n 3, 1) := dk_29 (dk_at dksX0_stretched_0 4 rfl rfl)
theorem dX0_stretched_5 : decode cX0_stretched 5 = .ok (.iconst 2, 1) := dk_5 (dk_at dksX0_stretched_0 5 rfl rfl)
theorem dX0_stretched_6 : decode cX0_stretched 6 = .ok (.if_icmp .ge 46, 3) := dk_162 0 46 (dk_at dksX0_stretched_0 6 rfl rfl)
theorem dX0_stretched_9 : decode cX0_stretched 9 = .ok (.iload_n 2, 1) := dk_28 (dk_at dksX0_stretched_0 9 rfl rfl)
theorem dX0_stretched_10 : decode cX0_stretched 10 = .ok (.aload_n 0, 1) := dk_42 (dk_at dksX0_stretched_0 10 rfl rfl)
theorem dX0_stretched_11 : decode cX0_stretched 11 = .ok (.getfield 14, 3) := dk_180 0 14 (dk_at dksX0_stretched_0 11 rfl rfl)
theorem dX0_stretched_14 : decode cX0_stretched 14 = .ok (.iload_n 1, 1) := dk_27 (dk_at dksX0_stretched_0 14 rfl rfl)
theorem dX0_stretched_15 : decode cX0_stretched 15 = .ok (.invokestatic 63, 3) := dk_184 0 63 (dk_at dksX0_stretched_0 15 rfl rfl)
theorem dX0_stretched_18 : decode cX0_stretched 18 = .ok (.aaload, 1) := dk_50 (dk_at dksX0_stretched_0 18 rfl rfl)
theorem dX0_stretched_19 : decode cX0_stretched 19 = .ok (.iload_n 3, 1) := dk_29 (dk_at dksX0_stretched_0 19 rfl rfl)
theorem dX0_stretched_20 : decode cX0_stretched 20 = .ok (.invokevirtual 281, 3) := dk_182 1 25 (dk_at dksX0_stretched_0 20 rfl rfl)
theorem dX0_stretched_23 : decode cX0_stretched 23 = .ok (.aload_n 0, 1) := dk_42 (dk_at dksX0_stretched_0 23 rfl rfl)
theorem dX0_stretched_24 : decode cX0_stretched 24 = .ok (.getfield 14, 3) := dk_180 0 14 (dk_at dksX0_stretched_1 0 rfl rfl)
theorem dX0_stretched_27 : decode cX0_stretched 27 = .ok (.iload_n 1, 1) := dk_27 (dk_at dksX0_stretched_1 3 rfl rfl)
theorem dX0_stretched_28 : decode cX0_stretched 28 = .ok (.invokestatic 70, 3) := dk_184 0 70 (dk_at dksX0_stretched_1 4 rfl rfl)
theorem dX0_stretched_31 : decode cX0_stretched 31 = .ok (.aaload, 1) := dk_50 (dk_at dksX0_stretched_1 7 rfl rfl)
theorem dX0_stretched_32 : decode cX0_stretched 32 = .ok (.iload_n 3, 1) := dk_29 (dk_at dksX0_stretched_1 8 rfl rfl)
theorem dX0_stretched_33 : decode cX0_stretched 33 = .ok (.invokevirtual 281, 3) := dk_182 1 25 (dk_at dksX0_stretched_1 9 rfl rfl)
theorem dX0_stretched_36 : decode cX0_stretched 36 = .ok (.isub, 1) := dk_100 (dk_at dksX0_stretched_1 12 rfl rfl)
theorem dX0_stretched_37 : decode cX0_stretched 37 = .ok (.aload_n 0, 1) := dk_42 (dk_at dksX0_stretched_1 13 rfl rfl)
theorem dX0_stretched_38 : decode cX0_stretched 38 = .ok (.iload_n 1, 1) := dk_27 (dk_at dksX0_stretched_1 14 rfl rfl)
theorem dX0_stretched_39 : decode cX0_stretched 39 = .ok (.iload_n 3, 1) := dk_29 (dk_at dksX0_stretched_1 15 rfl rfl)
theorem dX0_stretched_40 : decode cX0_stretched 40 = .ok (.invokevirtual 73, 3) := dk_182 0 73 (dk_at dksX0_stretched_1 16 rfl rfl)
theorem dX0_stretched_43 : decode cX0_stretched 43 = .ok (.imul, 1) := dk_104 (dk_at dksX0_stretched_1 19 rfl rfl)
theorem dX0_stretched_44 : decode cX0_stretched 44 = .ok (.iadd, 1) := dk_96 (dk_at dksX0_stretched_1 20 rfl rfl)
theorem dX0_stretched_45 : decode cX0_stretched 45 = .ok (.istore_n 2, 1) := dk_61 (dk_at dksX0_stretched_1 21 rfl rfl)
theorem dX0_stretched_46 : decode cX0_stretched 46 = .ok (.iinc 3 1, 3) := dk_132 3 1 (dk_at dksX0_stretched_2 0 rfl rfl)
theorem dX0_stretched_49 : decode cX0_stretched 49 = .ok (.goto (-45), 3) := dk_167 255 211 (dk_at dksX0_stretched_2 3 rfl rfl)
theorem dX0_stretched_52 : decode cX0_stretched 52 = .ok (.iload_n 2, 1) := dk_28 (dk_at dksX0_stretched_2 6 rfl rfl)
theorem dX0_stretched_53 : decode cX0_stretched 53 = .ok (.ireturn, 1) := dk_172 (dk_at dksX0_stretched_2 7 rfl rfl)
abbrev cX0_work : ByteArray := prog_1_method_58_code
def yX0_work : MethodName := ⟨RX0, "work", "(I)J"⟩
def dkwX0_work_1 : List UInt8 := [184, 0, 206, 173]
abbrev dktX0_work_1 : List UInt8 := dkwX0_work_1 ++ []
def dkwX0_work_0 : List UInt8 := [27, 184, 0, 168, 153, 0, 18, 42, 182, 1, 33, 133, 20, 1, 31, 27, 184, 0, 218, 167, 0, 8, 16, 254]
abbrev dktX0_work_0 : List UInt8 := dkwX0_work_0 ++ dktX0_work_1
theorem dksX0_work_0 : cX0_work.data.toList.drop 0 = dktX0_work_0 := by decide +kernel
theorem dksX0_work_1 : cX0_work.data.toList.drop 24 = dktX0_work_1 := dk_seg dksX0_work_0 24 rfl rfl
theorem dX0_work_0 : decode cX0_work 0 = .ok (.iload_n 1, 1) := dk_27 (dk_at dksX0_work_0 0 rfl rfl)
theorem dX0_work_1 : decode cX0_work 1 = .ok (.invokestatic 168, 3) := dk_184 0 168 (dk_at dksX0_work_0 1 rfl rfl)
theorem dX0_work_4 : decode cX0_work 4 = .ok (.ifCond .eq 18, 3) := dk_153 0 18 (dk_at dksX0_work_0 4 rfl rfl)
theorem dX0_work_7 : decode cX0_work 7 = .ok (.aload_n 0, 1) := dk_42 (dk_at dksX0_work_0 7 rfl rfl)
theorem dX0_work_8 : decode cX0_work 8 = .ok (.invokevirtual 289, 3) := dk_182 1 33 (dk_at dksX0_work_0 8 rfl rfl)
theorem dX0_work_11 : decode cX0_work 11 = .ok (.i2l, 1) := dk_133 (dk_at dksX0_work_0 11 rfl rfl)
theorem dX0_work_12 : decode cX0_work 12 = .ok (.ldc2_w 287, 3) := dk_20 1 31 (dk_at dksX0_work_0 12 rfl rfl)
theorem dX0_work_15 : decode cX0_work 15 = .ok (.iload_n 1, 1) := dk_27 (dk_at dksX0_work_0 15 rfl rfl)
theorem dX0_work_16 : decode cX0_work 16 = .ok (.invokestatic 218, 3) := dk_184 0 218 (dk_at dksX0_work_0 16 rfl rfl)
theorem dX0_work_19 : decode cX0_work 19 = .ok (.goto 8, 3) := dk_167 0 8 (dk_at dksX0_work_0 19 rfl rfl)
theorem dX0_work_22 : decode cX0_work 22 = .ok (.bipush (-2), 2) := dk_16 254 (dk_at dksX0_work_0 22 rfl rfl)
theorem dX0_work_24 : decode cX0_work 24 = .ok (.invokestatic 206, 3) := dk_184 0 206 (dk_at dksX0_work_1 0 rfl rfl)
theorem dX0_work_27 : decode cX0_work 27 = .ok (.lreturn, 1) := dk_173 (dk_at dksX0_work_1 3 rfl rfl)
abbrev cX0_worked : ByteArray := prog_1_method_57_code
def yX0_worked : MethodName := ⟨RX0, "worked", "()I"⟩
def dkwX0_worked_2 : List UInt8 := [167, 255, 223, 132, 2, 1, 167, 255, 207, 27, 172]
abbrev dktX0_worked_2 : List UInt8 := dkwX0_worked_2 ++ []
def dkwX0_worked_1 : List UInt8 := [28, 50, 180, 0, 176, 29, 46, 42, 180, 0, 14, 28, 50, 29, 182, 1, 25, 104, 96, 60, 132, 3, 1]
abbrev dktX0_worked_1 : List UInt8 := dkwX0_worked_1 ++ dktX0_worked_2
def dkwX0_worked_0 : List UInt8 := [3, 60, 3, 61, 28, 42, 180, 0, 60, 162, 0, 47, 3, 62, 29, 5, 162, 0, 34, 27, 42, 180, 0, 14]
abbrev dktX0_worked_0 : List UInt8 := dkwX0_worked_0 ++ dktX0_worked_1
theorem dksX0_worked_0 : cX0_worked.data.toList.drop 0 = dktX0_worked_0 := by decide +kernel
theorem dksX0_worked_1 : cX0_worked.data.toList.drop 24 = dktX0_worked_1 := dk_seg dksX0_worked_0 24 rfl rfl
theorem dksX0_worked_2 : cX0_worked.data.toList.drop 47 = dktX0_worked_2 := dk_seg dksX0_worked_1 23 rfl rfl
theorem dX0_worked_0 : decode cX0_worked 0 = .ok (.iconst 0, 1) := dk_3 (dk_at dksX0_worked_0 0 rfl rfl)
theorem dX0_worked_1 : decode cX0_worked 1 = .ok (.istore_n 1, 1) := dk_60 (dk_at dksX0_worked_0 1 rfl rfl)
theorem dX0_worked_2 : decode cX0_worked 2 = .ok (.iconst 0, 1) := dk_3 (dk_at dksX0_worked_0 2 rfl rfl)
theorem dX0_worked_3 : decode cX0_worked 3 = .ok (.istore_n 2, 1) := dk_61 (dk_at dksX0_worked_0 3 rfl rfl)
theorem dX0_worked_4 : decode cX0_worked 4 = .ok (.iload_n 2, 1) := dk_28 (dk_at dksX0_worked_0 4 rfl rfl)
theorem dX0_worked_5 : decode cX0_worked 5 = .ok (.aload_n 0, 1) := dk_42 (dk_at dksX0_worked_0 5 rfl rfl)
theorem dX0_worked_6 : decode cX0_worked 6 = .ok (.getfield 60, 3) := dk_180 0 60 (dk_at dksX0_worked_0 6 rfl rfl)
theorem dX0_worked_9 : decode cX0_worked 9 = .ok (.if_icmp .ge 47, 3) := dk_162 0 47 (dk_at dksX0_worked_0 9 rfl rfl)
theorem dX0_worked_12 : decode cX0_worked 12 = .ok (.iconst 0, 1) := dk_3 (dk_at dksX0_worked_0 12 rfl rfl)
theorem dX0_worked_13 : decode cX0_worked 13 = .ok (.istore_n 3, 1) := dk_62 (dk_at dksX0_worked_0 13 rfl rfl)
theorem dX0_worked_14 : decode cX0_worked 14 = .ok (.iload_n 3, 1) := dk_29 (dk_at dksX0_worked_0 14 rfl rfl)
theorem dX0_worked_15 : decode cX0_worked 15 = .ok (.iconst 2, 1) := dk_5 (dk_at dksX0_worked_0 15 rfl rfl)
theorem dX0_worked_16 : decode cX0_worked 16 = .ok (.if_icmp .ge 34, 3) := dk_162 0 34 (dk_at dksX0_worked_0 16 rfl rfl)
theorem dX0_worked_19 : decode cX0_worked 19 = .ok (.iload_n 1, 1) := dk_27 (dk_at dksX0_worked_0 19 rfl rfl)
theorem dX0_worked_20 : decode cX0_worked 20 = .ok (.aload_n 0, 1) := dk_42 (dk_at dksX0_worked_0 20 rfl rfl)
theorem dX0_worked_21 : decode cX0_worked 21 = .ok (.getfield 14, 3) := dk_180 0 14 (dk_at dksX0_worked_0 21 rfl rfl)
theorem dX0_worked_24 : decode cX0_worked 24 = .ok (.iload_n 2, 1) := dk_28 (dk_at dksX0_worked_1 0 rfl rfl)
theorem dX0_worked_25 : decode cX0_worked 25 = .ok (.aaload, 1) := dk_50 (dk_at dksX0_worked_1 1 rfl rfl)
theorem dX0_worked_26 : decode cX0_worked 26 = .ok (.getfield 176, 3) := dk_180 0 176 (dk_at dksX0_worked_1 2 rfl rfl)
theorem dX0_worked_29 : decode cX0_worked 29 = .ok (.iload_n 3, 1) := dk_29 (dk_at dksX0_worked_1 5 rfl rfl)
theorem dX0_worked_30 : decode cX0_worked 30 = .ok (.iaload, 1) := dk_46 (dk_at dksX0_worked_1 6 rfl rfl)
theorem dX0_worked_31 : decode cX0_worked 31 = .ok (.aload_n 0, 1) := dk_42 (dk_at dksX0_worked_1 7 rfl rfl)
theorem dX0_worked_32 : decode cX0_worked 32 = .ok (.getfield 14, 3) := dk_180 0 14 (dk_at dksX0_worked_1 8 rfl rfl)
theorem dX0_worked_35 : decode cX0_worked 35 = .ok (.iload_n 2, 1) := dk_28 (dk_at dksX0_worked_1 11 rfl rfl)
theorem dX0_worked_36 : decode cX0_worked 36 = .ok (.aaload, 1) := dk_50 (dk_at dksX0_worked_1 12 rfl rfl)
theorem dX0_worked_37 : decode cX0_worked 37 = .ok (.iload_n 3, 1) := dk_29 (dk_at dksX0_worked_1 13 rfl rfl)
theorem dX0_worked_38 : decode cX0_worked 38 = .ok (.invokevirtual 281, 3) := dk_182 1 25 (dk_at dksX0_worked_1 14 rfl rfl)
theorem dX0_worked_41 : decode cX0_worked 41 = .ok (.imul, 1) := dk_104 (dk_at dksX0_worked_1 17 rfl rfl)
theorem dX0_worked_42 : decode cX0_worked 42 = .ok (.iadd, 1) := dk_96 (dk_at dksX0_worked_1 18 rfl rfl)
theorem dX0_worked_43 : decode cX0_worked 43 = .ok (.istore_n 1, 1) := dk_60 (dk_at dksX0_worked_1 19 rfl rfl)
theorem dX0_worked_44 : decode cX0_worked 44 = .ok (.iinc 3 1, 3) := dk_132 3 1 (dk_at dksX0_worked_1 20 rfl rfl)
theorem dX0_worked_47 : decode cX0_worked 47 = .ok (.goto (-33), 3) := dk_167 255 223 (dk_at dksX0_worked_2 0 rfl rfl)
theorem dX0_worked_50 : decode cX0_worked 50 = .ok (.iinc 2 1, 3) := dk_132 2 1 (dk_at dksX0_worked_2 3 rfl rfl)
theorem dX0_worked_53 : decode cX0_worked 53 = .ok (.goto (-49), 3) := dk_167 255 207 (dk_at dksX0_worked_2 6 rfl rfl)
theorem dX0_worked_56 : decode cX0_worked 56 = .ok (.iload_n 1, 1) := dk_27 (dk_at dksX0_worked_2 9 rfl rfl)
theorem dX0_worked_57 : decode cX0_worked 57 = .ok (.ireturn, 1) := dk_172 (dk_at dksX0_worked_2 10 rfl rfl)
abbrev cX0_proves : ByteArray := prog_1_method_60_code
def yX0_proves : MethodName := ⟨RX0, "proves", "()I"⟩
def dkwX0_proves_0 : List UInt8 := [42, 182, 0, 211, 87, 42, 182, 1, 42, 172]
abbrev dktX0_proves_0 : List UInt8 := dkwX0_proves_0 ++ []
theorem dksX0_proves_0 : cX0_proves.data.toList.drop 0 = dktX0_proves_0 := by decide +kernel
theorem dX0_proves_0 : decode cX0_proves 0 = .ok (.aload_n 0, 1) := dk_42 (dk_at dksX0_proves_0 0 rfl rfl)
theorem dX0_proves_1 : decode cX0_proves 1 = .ok (.invokevirtual 211, 3) := dk_182 0 211 (dk_at dksX0_proves_0 1 rfl rfl)
theorem dX0_proves_4 : decode cX0_proves 4 = .ok (.pop, 1) := dk_87 (dk_at dksX0_proves_0 4 rfl rfl)
theorem dX0_proves_5 : decode cX0_proves 5 = .ok (.aload_n 0, 1) := dk_42 (dk_at dksX0_proves_0 5 rfl rfl)
theorem dX0_proves_6 : decode cX0_proves 6 = .ok (.invokevirtual 298, 3) := dk_182 1 42 (dk_at dksX0_proves_0 6 rfl rfl)
theorem dX0_proves_9 : decode cX0_proves 9 = .ok (.ireturn, 1) := dk_172 (dk_at dksX0_proves_0 9 rfl rfl)
abbrev cX0_provesNow : ByteArray := prog_1_method_59_code
def yX0_provesNow : MethodName := ⟨RX0, "provesNow", "()I"⟩
def dkwX0_provesNow_4 : List UInt8 := [20, 1, 31, 4, 184, 0, 218, 148, 154, 0, 7, 5, 167, 0, 4, 4, 172]
abbrev dktX0_provesNow_4 : List UInt8 := dkwX0_provesNow_4 ++ []
def dkwX0_provesNow_3 : List UInt8 := [20, 1, 31, 3, 184, 0, 218, 148, 154, 0, 30, 42, 180, 0, 97, 180, 1, 41, 42, 182, 1, 33, 133]
abbrev dktX0_provesNow_3 : List UInt8 := dkwX0_provesNow_3 ++ dktX0_provesNow_4
def dkwX0_provesNow_2 : List UInt8 := [167, 255, 213, 42, 180, 0, 97, 198, 0, 53, 42, 180, 0, 97, 180, 1, 38, 42, 182, 1, 33, 133]
abbrev dktX0_provesNow_2 : List UInt8 := dkwX0_provesNow_2 ++ dktX0_provesNow_3
def dkwX0_provesNow_1 : List UInt8 := [182, 1, 28, 184, 1, 36, 16, 12, 42, 27, 182, 0, 200, 104, 164, 0, 5, 3, 172, 132, 1, 1]
abbrev dktX0_provesNow_1 : List UInt8 := dkwX0_provesNow_1 ++ dktX0_provesNow_2
def dkwX0_provesNow_0 : List UInt8 := [3, 60, 27, 42, 182, 0, 153, 162, 0, 41, 42, 180, 0, 90, 27, 184, 0, 93, 153, 0, 24, 42, 27]
abbrev dktX0_provesNow_0 : List UInt8 := dkwX0_provesNow_0 ++ dktX0_provesNow_1
theorem dksX0_provesNow_0 : cX0_provesNow.data.toList.drop 0 = dktX0_provesNow_0 := by decide +kernel
theorem dksX0_provesNow_1 : cX0_provesNow.data.toList.drop 23 = dktX0_provesNow_1 := dk_seg dksX0_provesNow_0 23 rfl rfl
theorem dksX0_provesNow_2 : cX0_provesNow.data.toList.drop 45 = dktX0_provesNow_2 := dk_seg dksX0_provesNow_1 22 rfl rfl
theorem dksX0_provesNow_3 : cX0_provesNow.data.toList.drop 67 = dktX0_provesNow_3 := dk_seg dksX0_provesNow_2 22 rfl rfl
theorem dksX0_provesNow_4 : cX0_provesNow.data.toList.drop 90 = dktX0_provesNow_4 := dk_seg dksX0_provesNow_3 23 rfl rfl
theorem dX0_provesNow_0 : decode cX0_provesNow 0 = .ok (.iconst 0, 1) := dk_3 (dk_at dksX0_provesNow_0 0 rfl rfl)
theorem dX0_provesNow_1 : decode cX0_provesNow 1 = .ok (.istore_n 1, 1) := dk_60 (dk_at dksX0_provesNow_0 1 rfl rfl)
theorem dX0_provesNow_2 : decode cX0_provesNow 2 = .ok (.iload_n 1, 1) := dk_27 (dk_at dksX0_provesNow_0 2 rfl rfl)
theorem dX0_provesNow_3 : decode cX0_provesNow 3 = .ok (.aload_n 0, 1) := dk_42 (dk_at dksX0_provesNow_0 3 rfl rfl)
theorem dX0_provesNow_4 : decode cX0_provesNow 4 = .ok (.invokevirtual 153, 3) := dk_182 0 153 (dk_at dksX0_provesNow_0 4 rfl rfl)
theorem dX0_provesNow_7 : decode cX0_provesNow 7 = .ok (.if_icmp .ge 41, 3) := dk_162 0 41 (dk_at dksX0_provesNow_0 7 rfl rfl)
theorem dX0_provesNow_10 : decode cX0_provesNow 10 = .ok (.aload_n 0, 1) := dk_42 (dk_at dksX0_provesNow_0 10 rfl rfl)
theorem dX0_provesNow_11 : decode cX0_provesNow 11 = .ok (.getfield 90, 3) := dk_180 0 90 (dk_at dksX0_provesNow_0 11 rfl rfl)
theorem dX0_provesNow_14 : decode cX0_provesNow 14 = .ok (.iload_n 1, 1) := dk_27 (dk_at dksX0_provesNow_0 14 rfl rfl)
theorem dX0_provesNow_15 : decode cX0_provesNow 15 = .ok (.invokestatic 93, 3) := dk_184 0 93 (dk_at dksX0_provesNow_0 15 rfl rfl)
theorem dX0_provesNow_18 : decode cX0_provesNow 18 = .ok (.ifCond .eq 24, 3) := dk_153 0 24 (dk_at dksX0_provesNow_0 18 rfl rfl)
theorem dX0_provesNow_21 : decode cX0_provesNow 21 = .ok (.aload_n 0, 1) := dk_42 (dk_at dksX0_provesNow_0 21 rfl rfl)
theorem dX0_provesNow_22 : decode cX0_provesNow 22 = .ok (.iload_n 1, 1) := dk_27 (dk_at dksX0_provesNow_0 22 rfl rfl)
theorem dX0_provesNow_23 : decode cX0_provesNow 23 = .ok (.invokevirtual 284, 3) := dk_182 1 28 (dk_at dksX0_provesNow_1 0 rfl rfl)
theorem dX0_provesNow_26 : decode cX0_provesNow 26 = .ok (.invokestatic 292, 3) := dk_184 1 36 (dk_at dksX0_provesNow_1 3 rfl rfl)
theorem dX0_provesNow_29 : decode cX0_provesNow 29 = .ok (.bipush 12, 2) := dk_16 12 (dk_at dksX0_provesNow_1 6 rfl rfl)
theorem dX0_provesNow_31 : decode cX0_provesNow 31 = .ok (.aload_n 0, 1) := dk_42 (dk_at dksX0_provesNow_1 8 rfl rfl)
theorem dX0_provesNow_32 : decode cX0_provesNow 32 = .ok (.iload_n 1, 1) := dk_27 (dk_at dksX0_provesNow_1 9 rfl rfl)
theorem dX0_provesNow_33 : decode cX0_provesNow 33 = .ok (.invokevirtual 200, 3) := dk_182 0 200 (dk_at dksX0_provesNow_1 10 rfl rfl)
theorem dX0_provesNow_36 : decode cX0_provesNow 36 = .ok (.imul, 1) := dk_104 (dk_at dksX0_provesNow_1 13 rfl rfl)
theorem dX0_provesNow_37 : decode cX0_provesNow 37 = .ok (.if_icmp .le 5, 3) := dk_164 0 5 (dk_at dksX0_provesNow_1 14 rfl rfl)
theorem dX0_provesNow_40 : decode cX0_provesNow 40 = .ok (.iconst 0, 1) := dk_3 (dk_at dksX0_provesNow_1 17 rfl rfl)
theorem dX0_provesNow_41 : decode cX0_provesNow 41 = .ok (.ireturn, 1) := dk_172 (dk_at dksX0_provesNow_1 18 rfl rfl)
theorem dX0_provesNow_42 : decode cX0_provesNow 42 = .ok (.iinc 1 1, 3) := dk_132 1 1 (dk_at dksX0_provesNow_1 19 rfl rfl)
theorem dX0_provesNow_45 : decode cX0_provesNow 45 = .ok (.goto (-43), 3) := dk_167 255 213 (dk_at dksX0_provesNow_2 0 rfl rfl)
theorem dX0_provesNow_48 : decode cX0_provesNow 48 = .ok (.aload_n 0, 1) := dk_42 (dk_at dksX0_provesNow_2 3 rfl rfl)
theorem dX0_provesNow_49 : decode cX0_provesNow 49 = .ok (.getfield 97, 3) := dk_180 0 97 (dk_at dksX0_provesNow_2 4 rfl rfl)
theorem dX0_provesNow_52 : decode cX0_provesNow 52 = .ok (.ifnull 53, 3) := dk_198 0 53 (dk_at dksX0_provesNow_2 7 rfl rfl)
theorem dX0_provesNow_55 : decode cX0_provesNow 55 = .ok (.aload_n 0, 1) := dk_42 (dk_at dksX0_provesNow_2 10 rfl rfl)
theorem dX0_provesNow_56 : decode cX0_provesNow 56 = .ok (.getfield 97, 3) := dk_180 0 97 (dk_at dksX0_provesNow_2 11 rfl rfl)
theorem dX0_provesNow_59 : decode cX0_provesNow 59 = .ok (.getfield 294, 3) := dk_180 1 38 (dk_at dksX0_provesNow_2 14 rfl rfl)
theorem dX0_provesNow_62 : decode cX0_provesNow 62 = .ok (.aload_n 0, 1) := dk_42 (dk_at dksX0_provesNow_2 17 rfl rfl)
theorem dX0_provesNow_63 : decode cX0_provesNow 63 = .ok (.invokevirtual 289, 3) := dk_182 1 33 (dk_at dksX0_provesNow_2 18 rfl rfl)
theorem dX0_provesNow_66 : decode cX0_provesNow 66 = .ok (.i2l, 1) := dk_133 (dk_at dksX0_provesNow_2 21 rfl rfl)
theorem dX0_provesNow_67 : decode cX0_provesNow 67 = .ok (.ldc2_w 287, 3) := dk_20 1 31 (dk_at dksX0_provesNow_3 0 rfl rfl)
theorem dX0_provesNow_70 : decode cX0_provesNow 70 = .ok (.iconst 0, 1) := dk_3 (dk_at dksX0_provesNow_3 3 rfl rfl)
theorem dX0_provesNow_71 : decode cX0_provesNow 71 = .ok (.invokestatic 218, 3) := dk_184 0 218 (dk_at dksX0_provesNow_3 4 rfl rfl)
theorem dX0_provesNow_74 : decode cX0_provesNow 74 = .ok (.lcmp, 1) := dk_148 (dk_at dksX0_provesNow_3 7 rfl rfl)
theorem dX0_provesNow_75 : decode cX0_provesNow 75 = .ok (.ifCond .ne 30, 3) := dk_154 0 30 (dk_at dksX0_provesNow_3 8 rfl rfl)
theorem dX0_provesNow_78 : decode cX0_provesNow 78 = .ok (.aload_n 0, 1) := dk_42 (dk_at dksX0_provesNow_3 11 rfl rfl)
theorem dX0_provesNow_79 : decode cX0_provesNow 79 = .ok (.getfield 97, 3) := dk_180 0 97 (dk_at dksX0_provesNow_3 12 rfl rfl)
theorem dX0_provesNow_82 : decode cX0_provesNow 82 = .ok (.getfield 297, 3) := dk_180 1 41 (dk_at dksX0_provesNow_3 15 rfl rfl)
theorem dX0_provesNow_85 : decode cX0_provesNow 85 = .ok (.aload_n 0, 1) := dk_42 (dk_at dksX0_provesNow_3 18 rfl rfl)
theorem dX0_provesNow_86 : decode cX0_provesNow 86 = .ok (.invokevirtual 289, 3) := dk_182 1 33 (dk_at dksX0_provesNow_3 19 rfl rfl)
theorem dX0_provesNow_89 : decode cX0_provesNow 89 = .ok (.i2l, 1) := dk_133 (dk_at dksX0_provesNow_3 22 rfl rfl)
theorem dX0_provesNow_90 : decode cX0_provesNow 90 = .ok (.ldc2_w 287, 3) := dk_20 1 31 (dk_at dksX0_provesNow_4 0 rfl rfl)
theorem dX0_provesNow_93 : decode cX0_provesNow 93 = .ok (.iconst 1, 1) := dk_4 (dk_at dksX0_provesNow_4 3 rfl rfl)
theorem dX0_provesNow_94 : decode cX0_provesNow 94 = .ok (.invokestatic 218, 3) := dk_184 0 218 (dk_at dksX0_provesNow_4 4 rfl rfl)
theorem dX0_provesNow_97 : decode cX0_provesNow 97 = .ok (.lcmp, 1) := dk_148 (dk_at dksX0_provesNow_4 7 rfl rfl)
theorem dX0_provesNow_98 : decode cX0_provesNow 98 = .ok (.ifCond .ne 7, 3) := dk_154 0 7 (dk_at dksX0_provesNow_4 8 rfl rfl)
theorem dX0_provesNow_101 : decode cX0_provesNow 101 = .ok (.iconst 2, 1) := dk_5 (dk_at dksX0_provesNow_4 11 rfl rfl)
theorem dX0_provesNow_102 : decode cX0_provesNow 102 = .ok (.goto 4, 3) := dk_167 0 4 (dk_at dksX0_provesNow_4 12 rfl rfl)
theorem dX0_provesNow_105 : decode cX0_provesNow 105 = .ok (.iconst 1, 1) := dk_4 (dk_at dksX0_provesNow_4 15 rfl rfl)
theorem dX0_provesNow_106 : decode cX0_provesNow 106 = .ok (.ireturn, 1) := dk_172 (dk_at dksX0_provesNow_4 16 rfl rfl)
abbrev cX0_cross : ByteArray := prog_1_method_66_code
def yX0_cross : MethodName := ⟨RX0, "cross", "(II)I"⟩
def dkwX0_cross_2 : List UInt8 := [172]
abbrev dktX0_cross_2 : List UInt8 := dkwX0_cross_2 ++ []
def dkwX0_cross_1 : List UInt8 := [154, 0, 6, 16, 253, 172, 42, 27, 182, 1, 66, 153, 0, 11, 42, 28, 182, 1, 69, 167, 0, 5, 16, 254]
abbrev dktX0_cross_1 : List UInt8 := dkwX0_cross_1 ++ dktX0_cross_2
def dkwX0_cross_0 : List UInt8 := [27, 155, 0, 15, 28, 133, 9, 20, 1, 64, 184, 0, 40, 154, 0, 6, 16, 254, 172, 42, 182, 0, 211]
abbrev dktX0_cross_0 : List UInt8 := dkwX0_cross_0 ++ dktX0_cross_1
theorem dksX0_cross_0 : cX0_cross.data.toList.drop 0 = dktX0_cross_0 := by decide +kernel
theorem dksX0_cross_1 : cX0_cross.data.toList.drop 23 = dktX0_cross_1 := dk_seg dksX0_cross_0 23 rfl rfl
theorem dksX0_cross_2 : cX0_cross.data.toList.drop 47 = dktX0_cross_2 := dk_seg dksX0_cross_1 24 rfl rfl
theorem dX0_cross_0 : decode cX0_cross 0 = .ok (.iload_n 1, 1) := dk_27 (dk_at dksX0_cross_0 0 rfl rfl)
theorem dX0_cross_1 : decode cX0_cross 1 = .ok (.ifCond .lt 15, 3) := dk_155 0 15 (dk_at dksX0_cross_0 1 rfl rfl)
theorem dX0_cross_4 : decode cX0_cross 4 = .ok (.iload_n 2, 1) := dk_28 (dk_at dksX0_cross_0 4 rfl rfl)
theorem dX0_cross_5 : decode cX0_cross 5 = .ok (.i2l, 1) := dk_133 (dk_at dksX0_cross_0 5 rfl rfl)
theorem dX0_cross_6 : decode cX0_cross 6 = .ok (.lconst 0, 1) := dk_9 (dk_at dksX0_cross_0 6 rfl rfl)
theorem dX0_cross_7 : decode cX0_cross 7 = .ok (.ldc2_w 320, 3) := dk_20 1 64 (dk_at dksX0_cross_0 7 rfl rfl)
theorem dX0_cross_10 : decode cX0_cross 10 = .ok (.invokestatic 40, 3) := dk_184 0 40 (dk_at dksX0_cross_0 10 rfl rfl)
theorem dX0_cross_13 : decode cX0_cross 13 = .ok (.ifCond .ne 6, 3) := dk_154 0 6 (dk_at dksX0_cross_0 13 rfl rfl)
theorem dX0_cross_16 : decode cX0_cross 16 = .ok (.bipush (-2), 2) := dk_16 254 (dk_at dksX0_cross_0 16 rfl rfl)
theorem dX0_cross_18 : decode cX0_cross 18 = .ok (.ireturn, 1) := dk_172 (dk_at dksX0_cross_0 18 rfl rfl)
theorem dX0_cross_19 : decode cX0_cross 19 = .ok (.aload_n 0, 1) := dk_42 (dk_at dksX0_cross_0 19 rfl rfl)
theorem dX0_cross_20 : decode cX0_cross 20 = .ok (.invokevirtual 211, 3) := dk_182 0 211 (dk_at dksX0_cross_0 20 rfl rfl)
theorem dX0_cross_23 : decode cX0_cross 23 = .ok (.ifCond .ne 6, 3) := dk_154 0 6 (dk_at dksX0_cross_1 0 rfl rfl)
theorem dX0_cross_26 : decode cX0_cross 26 = .ok (.bipush (-3), 2) := dk_16 253 (dk_at dksX0_cross_1 3 rfl rfl)
theorem dX0_cross_28 : decode cX0_cross 28 = .ok (.ireturn, 1) := dk_172 (dk_at dksX0_cross_1 5 rfl rfl)
theorem dX0_cross_29 : decode cX0_cross 29 = .ok (.aload_n 0, 1) := dk_42 (dk_at dksX0_cross_1 6 rfl rfl)
theorem dX0_cross_30 : decode cX0_cross 30 = .ok (.iload_n 1, 1) := dk_27 (dk_at dksX0_cross_1 7 rfl rfl)
theorem dX0_cross_31 : decode cX0_cross 31 = .ok (.invokevirtual 322, 3) := dk_182 1 66 (dk_at dksX0_cross_1 8 rfl rfl)
theorem dX0_cross_34 : decode cX0_cross 34 = .ok (.ifCond .eq 11, 3) := dk_153 0 11 (dk_at dksX0_cross_1 11 rfl rfl)
theorem dX0_cross_37 : decode cX0_cross 37 = .ok (.aload_n 0, 1) := dk_42 (dk_at dksX0_cross_1 14 rfl rfl)
theorem dX0_cross_38 : decode cX0_cross 38 = .ok (.iload_n 2, 1) := dk_28 (dk_at dksX0_cross_1 15 rfl rfl)
theorem dX0_cross_39 : decode cX0_cross 39 = .ok (.invokevirtual 325, 3) := dk_182 1 69 (dk_at dksX0_cross_1 16 rfl rfl)
theorem dX0_cross_42 : decode cX0_cross 42 = .ok (.goto 5, 3) := dk_167 0 5 (dk_at dksX0_cross_1 19 rfl rfl)
theorem dX0_cross_45 : decode cX0_cross 45 = .ok (.bipush (-2), 2) := dk_16 254 (dk_at dksX0_cross_1 22 rfl rfl)
theorem dX0_cross_47 : decode cX0_cross 47 = .ok (.ireturn, 1) := dk_172 (dk_at dksX0_cross_2 0 rfl rfl)
abbrev cX0_crossed : ByteArray := prog_1_method_63_code
def yX0_crossed : MethodName := ⟨RX0, "crossed", "(I)Z"⟩
def dkwX0_crossed_3 : List UInt8 := [154, 0, 5, 4, 172, 132, 2, 255, 132, 4, 1, 167, 255, 190, 132, 3, 1, 167, 255, 173, 3, 172]
abbrev dktX0_crossed_3 : List UInt8 := dkwX0_crossed_3 ++ []
def dkwX0_crossed_2 : List UInt8 := [21, 4, 182, 1, 52, 154, 0, 6, 167, 0, 23, 42, 29, 181, 1, 55, 42, 21, 4, 181, 1, 58, 28]
abbrev dktX0_crossed_2 : List UInt8 := dkwX0_crossed_2 ++ dktX0_crossed_3
def dkwX0_crossed_1 : List UInt8 := [180, 0, 118, 29, 184, 0, 93, 153, 0, 48, 42, 180, 0, 118, 21, 4, 184, 0, 93, 153, 0, 36, 42, 29]
abbrev dktX0_crossed_1 : List UInt8 := dkwX0_crossed_1 ++ dktX0_crossed_2
def dkwX0_crossed_0 : List UInt8 := [27, 61, 3, 62, 29, 16, 10, 162, 0, 83, 29, 4, 96, 54, 4, 21, 4, 16, 10, 162, 0, 65, 42]
abbrev dktX0_crossed_0 : List UInt8 := dkwX0_crossed_0 ++ dktX0_crossed_1
theorem dksX0_crossed_0 : cX0_crossed.data.toList.drop 0 = dktX0_crossed_0 := by decide +kernel
theorem dksX0_crossed_1 : cX0_crossed.data.toList.drop 23 = dktX0_crossed_1 := dk_seg dksX0_crossed_0 23 rfl rfl
theorem dksX0_crossed_2 : cX0_crossed.data.toList.drop 47 = dktX0_crossed_2 := dk_seg dksX0_crossed_1 24 rfl rfl
theorem dksX0_crossed_3 : cX0_crossed.data.toList.drop 70 = dktX0_crossed_3 := dk_seg dksX0_crossed_2 23 rfl rfl
theorem dX0_crossed_0 : decode cX0_crossed 0 = .ok (.iload_n 1, 1) := dk_27 (dk_at dksX0_crossed_0 0 rfl rfl)
theorem dX0_crossed_1 : decode cX0_crossed 1 = .ok (.istore_n 2, 1) := dk_61 (dk_at dksX0_crossed_0 1 rfl rfl)
theorem dX0_crossed_2 : decode cX0_crossed 2 = .ok (.iconst 0, 1) := dk_3 (dk_at dksX0_crossed_0 2 rfl rfl)
theorem dX0_crossed_3 : decode cX0_crossed 3 = .ok (.istore_n 3, 1) := dk_62 (dk_at dksX0_crossed_0 3 rfl rfl)
theorem dX0_crossed_4 : decode cX0_crossed 4 = .ok (.iload_n 3, 1) := dk_29 (dk_at dksX0_crossed_0 4 rfl rfl)
theorem dX0_crossed_5 : decode cX0_crossed 5 = .ok (.bipush 10, 2) := dk_16 10 (dk_at dksX0_crossed_0 5 rfl rfl)
theorem dX0_crossed_7 : decode cX0_crossed 7 = .ok (.if_icmp .ge 83, 3) := dk_162 0 83 (dk_at dksX0_crossed_0 7 rfl rfl)
theorem dX0_crossed_10 : decode cX0_crossed 10 = .ok (.iload_n 3, 1) := dk_29 (dk_at dksX0_crossed_0 10 rfl rfl)
theorem dX0_crossed_11 : decode cX0_crossed 11 = .ok (.iconst 1, 1) := dk_4 (dk_at dksX0_crossed_0 11 rfl rfl)
theorem dX0_crossed_12 : decode cX0_crossed 12 = .ok (.iadd, 1) := dk_96 (dk_at dksX0_crossed_0 12 rfl rfl)
theorem dX0_crossed_13 : decode cX0_crossed 13 = .ok (.istore 4, 2) := dk_54 4 (dk_at dksX0_crossed_0 13 rfl rfl)
theorem dX0_crossed_15 : decode cX0_crossed 15 = .ok (.iload 4, 2) := dk_21 4 (dk_at dksX0_crossed_0 15 rfl rfl)
theorem dX0_crossed_17 : decode cX0_crossed 17 = .ok (.bipush 10, 2) := dk_16 10 (dk_at dksX0_crossed_0 17 rfl rfl)
theorem dX0_crossed_19 : decode cX0_crossed 19 = .ok (.if_icmp .ge 65, 3) := dk_162 0 65 (dk_at dksX0_crossed_0 19 rfl rfl)
theorem dX0_crossed_22 : decode cX0_crossed 22 = .ok (.aload_n 0, 1) := dk_42 (dk_at dksX0_crossed_0 22 rfl rfl)
theorem dX0_crossed_23 : decode cX0_crossed 23 = .ok (.getfield 118, 3) := dk_180 0 118 (dk_at dksX0_crossed_1 0 rfl rfl)
theorem dX0_crossed_26 : decode cX0_crossed 26 = .ok (.iload_n 3, 1) := dk_29 (dk_at dksX0_crossed_1 3 rfl rfl)
theorem dX0_crossed_27 : decode cX0_crossed 27 = .ok (.invokestatic 93, 3) := dk_184 0 93 (dk_at dksX0_crossed_1 4 rfl rfl)
theorem dX0_crossed_30 : decode cX0_crossed 30 = .ok (.ifCond .eq 48, 3) := dk_153 0 48 (dk_at dksX0_crossed_1 7 rfl rfl)
theorem dX0_crossed_33 : decode cX0_crossed 33 = .ok (.aload_n 0, 1) := dk_42 (dk_at dksX0_crossed_1 10 rfl rfl)
theorem dX0_crossed_34 : decode cX0_crossed 34 = .ok (.getfield 118, 3) := dk_180 0 118 (dk_at dksX0_crossed_1 11 rfl rfl)
theorem dX0_crossed_37 : decode cX0_crossed 37 = .ok (.iload 4, 2) := dk_21 4 (dk_at dksX0_crossed_1 14 rfl rfl)
theorem dX0_crossed_39 : decode cX0_crossed 39 = .ok (.invokestatic 93, 3) := dk_184 0 93 (dk_at dksX0_crossed_1 16 rfl rfl)
theorem dX0_crossed_42 : decode cX0_crossed 42 = .ok (.ifCond .eq 36, 3) := dk_153 0 36 (dk_at dksX0_crossed_1 19 rfl rfl)
theorem dX0_crossed_45 : decode cX0_crossed 45 = .ok (.aload_n 0, 1) := dk_42 (dk_at dksX0_crossed_1 22 rfl rfl)
theorem dX0_crossed_46 : decode cX0_crossed 46 = .ok (.iload_n 3, 1) := dk_29 (dk_at dksX0_crossed_1 23 rfl rfl)
theorem dX0_crossed_47 : decode cX0_crossed 47 = .ok (.iload 4, 2) := dk_21 4 (dk_at dksX0_crossed_2 0 rfl rfl)
theorem dX0_crossed_49 : decode cX0_crossed 49 = .ok (.invokevirtual 308, 3) := dk_182 1 52 (dk_at dksX0_crossed_2 2 rfl rfl)
theorem dX0_crossed_52 : decode cX0_crossed 52 = .ok (.ifCond .ne 6, 3) := dk_154 0 6 (dk_at dksX0_crossed_2 5 rfl rfl)
theorem dX0_crossed_55 : decode cX0_crossed 55 = .ok (.goto 23, 3) := dk_167 0 23 (dk_at dksX0_crossed_2 8 rfl rfl)
theorem dX0_crossed_58 : decode cX0_crossed 58 = .ok (.aload_n 0, 1) := dk_42 (dk_at dksX0_crossed_2 11 rfl rfl)
theorem dX0_crossed_59 : decode cX0_crossed 59 = .ok (.iload_n 3, 1) := dk_29 (dk_at dksX0_crossed_2 12 rfl rfl)
theorem dX0_crossed_60 : decode cX0_crossed 60 = .ok (.putfield 311, 3) := dk_181 1 55 (dk_at dksX0_crossed_2 13 rfl rfl)
theorem dX0_crossed_63 : decode cX0_crossed 63 = .ok (.aload_n 0, 1) := dk_42 (dk_at dksX0_crossed_2 16 rfl rfl)
theorem dX0_crossed_64 : decode cX0_crossed 64 = .ok (.iload 4, 2) := dk_21 4 (dk_at dksX0_crossed_2 17 rfl rfl)
theorem dX0_crossed_66 : decode cX0_crossed 66 = .ok (.putfield 314, 3) := dk_181 1 58 (dk_at dksX0_crossed_2 19 rfl rfl)
theorem dX0_crossed_69 : decode cX0_crossed 69 = .ok (.iload_n 2, 1) := dk_28 (dk_at dksX0_crossed_2 22 rfl rfl)
theorem dX0_crossed_70 : decode cX0_crossed 70 = .ok (.ifCond .ne 5, 3) := dk_154 0 5 (dk_at dksX0_crossed_3 0 rfl rfl)
theorem dX0_crossed_73 : decode cX0_crossed 73 = .ok (.iconst 1, 1) := dk_4 (dk_at dksX0_crossed_3 3 rfl rfl)
theorem dX0_crossed_74 : decode cX0_crossed 74 = .ok (.ireturn, 1) := dk_172 (dk_at dksX0_crossed_3 4 rfl rfl)
theorem dX0_crossed_75 : decode cX0_crossed 75 = .ok (.iinc 2 (-1), 3) := dk_132 2 255 (dk_at dksX0_crossed_3 5 rfl rfl)
theorem dX0_crossed_78 : decode cX0_crossed 78 = .ok (.iinc 4 1, 3) := dk_132 4 1 (dk_at dksX0_crossed_3 8 rfl rfl)
theorem dX0_crossed_81 : decode cX0_crossed 81 = .ok (.goto (-66), 3) := dk_167 255 190 (dk_at dksX0_crossed_3 11 rfl rfl)
theorem dX0_crossed_84 : decode cX0_crossed 84 = .ok (.iinc 3 1, 3) := dk_132 3 1 (dk_at dksX0_crossed_3 14 rfl rfl)
theorem dX0_crossed_87 : decode cX0_crossed 87 = .ok (.goto (-83), 3) := dk_167 255 173 (dk_at dksX0_crossed_3 17 rfl rfl)
theorem dX0_crossed_90 : decode cX0_crossed 90 = .ok (.iconst 0, 1) := dk_3 (dk_at dksX0_crossed_3 20 rfl rfl)
theorem dX0_crossed_91 : decode cX0_crossed 91 = .ok (.ireturn, 1) := dk_172 (dk_at dksX0_crossed_3 21 rfl rfl)
abbrev cX0_crosses : ByteArray := prog_1_method_62_code
def yX0_crosses : MethodName := ⟨RX0, "crosses", "(II)Z"⟩
def dkwX0_crosses_3 : List UInt8 := [3, 172]
abbrev dktX0_crosses_3 : List UInt8 := dkwX0_crosses_3 ++ []
def dkwX0_crosses_2 : List UInt8 := [21, 6, 29, 182, 1, 48, 42, 21, 5, 21, 6, 21, 4, 182, 1, 48, 104, 156, 0, 7, 4, 167, 0, 4]
abbrev dktX0_crosses_2 : List UInt8 := dkwX0_crosses_2 ++ dktX0_crosses_3
def dkwX0_crosses_1 : List UInt8 := [29, 21, 4, 21, 5, 182, 1, 48, 42, 29, 21, 4, 21, 6, 182, 1, 48, 104, 156, 0, 30, 42, 21, 5]
abbrev dktX0_crosses_1 : List UInt8 := dkwX0_crosses_1 ++ dktX0_crosses_2
def dkwX0_crosses_0 : List UInt8 := [27, 184, 0, 70, 62, 27, 184, 0, 63, 54, 4, 28, 184, 0, 70, 54, 5, 28, 184, 0, 63, 54, 6, 42]
abbrev dktX0_crosses_0 : List UInt8 := dkwX0_crosses_0 ++ dktX0_crosses_1
theorem dksX0_crosses_0 : cX0_crosses.data.toList.drop 0 = dktX0_crosses_0 := by decide +kernel
theorem dksX0_crosses_1 : cX0_crosses.data.toList.drop 24 = dktX0_crosses_1 := dk_seg dksX0_crosses_0 24 rfl rfl
theorem dksX0_crosses_2 : cX0_crosses.data.toList.drop 48 = dktX0_crosses_2 := dk_seg dksX0_crosses_1 24 rfl rfl
theorem dksX0_crosses_3 : cX0_crosses.data.toList.drop 72 = dktX0_crosses_3 := dk_seg dksX0_crosses_2 24 rfl rfl
theorem dX0_crosses_0 : decode cX0_crosses 0 = .ok (.iload_n 1, 1) := dk_27 (dk_at dksX0_crosses_0 0 rfl rfl)
theorem dX0_crosses_1 : decode cX0_crosses 1 = .ok (.invokestatic 70, 3) := dk_184 0 70 (dk_at dksX0_crosses_0 1 rfl rfl)
theorem dX0_crosses_4 : decode cX0_crosses 4 = .ok (.istore_n 3, 1) := dk_62 (dk_at dksX0_crosses_0 4 rfl rfl)
theorem dX0_crosses_5 : decode cX0_crosses 5 = .ok (.iload_n 1, 1) := dk_27 (dk_at dksX0_crosses_0 5 rfl rfl)
theorem dX0_crosses_6 : decode cX0_crosses 6 = .ok (.invokestatic 63, 3) := dk_184 0 63 (dk_at dksX0_crosses_0 6 rfl rfl)
theorem dX0_crosses_9 : decode cX0_crosses 9 = .ok (.istore 4, 2) := dk_54 4 (dk_at dksX0_crosses_0 9 rfl rfl)
theorem dX0_crosses_11 : decode cX0_crosses 11 = .ok (.iload_n 2, 1) := dk_28 (dk_at dksX0_crosses_0 11 rfl rfl)
theorem dX0_crosses_12 : decode cX0_crosses 12 = .ok (.invokestatic 70, 3) := dk_184 0 70 (dk_at dksX0_crosses_0 12 rfl rfl)
theorem dX0_crosses_15 : decode cX0_crosses 15 = .ok (.istore 5, 2) := dk_54 5 (dk_at dksX0_crosses_0 15 rfl rfl)
theorem dX0_crosses_17 : decode cX0_crosses 17 = .ok (.iload_n 2, 1) := dk_28 (dk_at dksX0_crosses_0 17 rfl rfl)
theorem dX0_crosses_18 : decode cX0_crosses 18 = .ok (.invokestatic 63, 3) := dk_184 0 63 (dk_at dksX0_crosses_0 18 rfl rfl)
theorem dX0_crosses_21 : decode cX0_crosses 21 = .ok (.istore 6, 2) := dk_54 6 (dk_at dksX0_crosses_0 21 rfl rfl)
theorem dX0_crosses_23 : decode cX0_crosses 23 = .ok (.aload_n 0, 1) := dk_42 (dk_at dksX0_crosses_0 23 rfl rfl)
theorem dX0_crosses_24 : decode cX0_crosses 24 = .ok (.iload_n 3, 1) := dk_29 (dk_at dksX0_crosses_1 0 rfl rfl)
theorem dX0_crosses_25 : decode cX0_crosses 25 = .ok (.iload 4, 2) := dk_21 4 (dk_at dksX0_crosses_1 1 rfl rfl)
theorem dX0_crosses_27 : decode cX0_crosses 27 = .ok (.iload 5, 2) := dk_21 5 (dk_at dksX0_crosses_1 3 rfl rfl)
theorem dX0_crosses_29 : decode cX0_crosses 29 = .ok (.invokevirtual 304, 3) := dk_182 1 48 (dk_at dksX0_crosses_1 5 rfl rfl)
theorem dX0_crosses_32 : decode cX0_crosses 32 = .ok (.aload_n 0, 1) := dk_42 (dk_at dksX0_crosses_1 8 rfl rfl)
theorem dX0_crosses_33 : decode cX0_crosses 33 = .ok (.iload_n 3, 1) := dk_29 (dk_at dksX0_crosses_1 9 rfl rfl)
theorem dX0_crosses_34 : decode cX0_crosses 34 = .ok (.iload 4, 2) := dk_21 4 (dk_at dksX0_crosses_1 10 rfl rfl)
theorem dX0_crosses_36 : decode cX0_crosses 36 = .ok (.iload 6, 2) := dk_21 6 (dk_at dksX0_crosses_1 12 rfl rfl)
theorem dX0_crosses_38 : decode cX0_crosses 38 = .ok (.invokevirtual 304, 3) := dk_182 1 48 (dk_at dksX0_crosses_1 14 rfl rfl)
theorem dX0_crosses_41 : decode cX0_crosses 41 = .ok (.imul, 1) := dk_104 (dk_at dksX0_crosses_1 17 rfl rfl)
theorem dX0_crosses_42 : decode cX0_crosses 42 = .ok (.ifCond .ge 30, 3) := dk_156 0 30 (dk_at dksX0_crosses_1 18 rfl rfl)
theorem dX0_crosses_45 : decode cX0_crosses 45 = .ok (.aload_n 0, 1) := dk_42 (dk_at dksX0_crosses_1 21 rfl rfl)
theorem dX0_crosses_46 : decode cX0_crosses 46 = .ok (.iload 5, 2) := dk_21 5 (dk_at dksX0_crosses_1 22 rfl rfl)
theorem dX0_crosses_48 : decode cX0_crosses 48 = .ok (.iload 6, 2) := dk_21 6 (dk_at dksX0_crosses_2 0 rfl rfl)
theorem dX0_crosses_50 : decode cX0_crosses 50 = .ok (.iload_n 3, 1) := dk_29 (dk_at dksX0_crosses_2 2 rfl rfl)
theorem dX0_crosses_51 : decode cX0_crosses 51 = .ok (.invokevirtual 304, 3) := dk_182 1 48 (dk_at dksX0_crosses_2 3 rfl rfl)
theorem dX0_crosses_54 : decode cX0_crosses 54 = .ok (.aload_n 0, 1) := dk_42 (dk_at dksX0_crosses_2 6 rfl rfl)
theorem dX0_crosses_55 : decode cX0_crosses 55 = .ok (.iload 5, 2) := dk_21 5 (dk_at dksX0_crosses_2 7 rfl rfl)
theorem dX0_crosses_57 : decode cX0_crosses 57 = .ok (.iload 6, 2) := dk_21 6 (dk_at dksX0_crosses_2 9 rfl rfl)
theorem dX0_crosses_59 : decode cX0_crosses 59 = .ok (.iload 4, 2) := dk_21 4 (dk_at dksX0_crosses_2 11 rfl rfl)
theorem dX0_crosses_61 : decode cX0_crosses 61 = .ok (.invokevirtual 304, 3) := dk_182 1 48 (dk_at dksX0_crosses_2 13 rfl rfl)
theorem dX0_crosses_64 : decode cX0_crosses 64 = .ok (.imul, 1) := dk_104 (dk_at dksX0_crosses_2 16 rfl rfl)
theorem dX0_crosses_65 : decode cX0_crosses 65 = .ok (.ifCond .ge 7, 3) := dk_156 0 7 (dk_at dksX0_crosses_2 17 rfl rfl)
theorem dX0_crosses_68 : decode cX0_crosses 68 = .ok (.iconst 1, 1) := dk_4 (dk_at dksX0_crosses_2 20 rfl rfl)
theorem dX0_crosses_69 : decode cX0_crosses 69 = .ok (.goto 4, 3) := dk_167 0 4 (dk_at dksX0_crosses_2 21 rfl rfl)
theorem dX0_crosses_72 : decode cX0_crosses 72 = .ok (.iconst 0, 1) := dk_3 (dk_at dksX0_crosses_3 0 rfl rfl)
theorem dX0_crosses_73 : decode cX0_crosses 73 = .ok (.ireturn, 1) := dk_172 (dk_at dksX0_crosses_3 1 rfl rfl)
abbrev cX0_turn : ByteArray := prog_1_method_61_code
def yX0_turn : MethodName := ⟨RX0, "turn", "(III)I"⟩
def dkwX0_turn_3 : List UInt8 := [184, 1, 45, 172]
abbrev dktX0_turn_3 : List UInt8 := dkwX0_turn_3 ++ []
def dkwX0_turn_2 : List UInt8 := [25, 5, 180, 0, 146, 25, 4, 180, 0, 146, 100, 25, 6, 180, 0, 143, 25, 4, 180, 0, 143, 100, 104, 100]
abbrev dktX0_turn_2 : List UInt8 := dkwX0_turn_2 ++ dktX0_turn_3
def dkwX0_turn_1 : List UInt8 := [25, 5, 180, 0, 143, 25, 4, 180, 0, 143, 100, 25, 6, 180, 0, 146, 25, 4, 180, 0, 146, 100, 104]
abbrev dktX0_turn_1 : List UInt8 := dkwX0_turn_1 ++ dktX0_turn_2
def dkwX0_turn_0 : List UInt8 := [42, 180, 0, 14, 27, 50, 58, 4, 42, 180, 0, 14, 28, 50, 58, 5, 42, 180, 0, 14, 29, 50, 58, 6]
abbrev dktX0_turn_0 : List UInt8 := dkwX0_turn_0 ++ dktX0_turn_1
theorem dksX0_turn_0 : cX0_turn.data.toList.drop 0 = dktX0_turn_0 := by decide +kernel
theorem dksX0_turn_1 : cX0_turn.data.toList.drop 24 = dktX0_turn_1 := dk_seg dksX0_turn_0 24 rfl rfl
theorem dksX0_turn_2 : cX0_turn.data.toList.drop 47 = dktX0_turn_2 := dk_seg dksX0_turn_1 23 rfl rfl
theorem dksX0_turn_3 : cX0_turn.data.toList.drop 71 = dktX0_turn_3 := dk_seg dksX0_turn_2 24 rfl rfl
theorem dX0_turn_0 : decode cX0_turn 0 = .ok (.aload_n 0, 1) := dk_42 (dk_at dksX0_turn_0 0 rfl rfl)
theorem dX0_turn_1 : decode cX0_turn 1 = .ok (.getfield 14, 3) := dk_180 0 14 (dk_at dksX0_turn_0 1 rfl rfl)
theorem dX0_turn_4 : decode cX0_turn 4 = .ok (.iload_n 1, 1) := dk_27 (dk_at dksX0_turn_0 4 rfl rfl)
theorem dX0_turn_5 : decode cX0_turn 5 = .ok (.aaload, 1) := dk_50 (dk_at dksX0_turn_0 5 rfl rfl)
theorem dX0_turn_6 : decode cX0_turn 6 = .ok (.astore 4, 2) := dk_58 4 (dk_at dksX0_turn_0 6 rfl rfl)
theorem dX0_turn_8 : decode cX0_turn 8 = .ok (.aload_n 0, 1) := dk_42 (dk_at dksX0_turn_0 8 rfl rfl)
theorem dX0_turn_9 : decode cX0_turn 9 = .ok (.getfield 14, 3) := dk_180 0 14 (dk_at dksX0_turn_0 9 rfl rfl)
theorem dX0_turn_12 : decode cX0_turn 12 = .ok (.iload_n 2, 1) := dk_28 (dk_at dksX0_turn_0 12 rfl rfl)
theorem dX0_turn_13 : decode cX0_turn 13 = .ok (.aaload, 1) := dk_50 (dk_at dksX0_turn_0 13 rfl rfl)
theorem dX0_turn_14 : decode cX0_turn 14 = .ok (.astore 5, 2) := dk_58 5 (dk_at dksX0_turn_0 14 rfl rfl)
theorem dX0_turn_16 : decode cX0_turn 16 = .ok (.aload_n 0, 1) := dk_42 (dk_at dksX0_turn_0 16 rfl rfl)
theorem dX0_turn_17 : decode cX0_turn 17 = .ok (.getfield 14, 3) := dk_180 0 14 (dk_at dksX0_turn_0 17 rfl rfl)
theorem dX0_turn_20 : decode cX0_turn 20 = .ok (.iload_n 3, 1) := dk_29 (dk_at dksX0_turn_0 20 rfl rfl)
theorem dX0_turn_21 : decode cX0_turn 21 = .ok (.aaload, 1) := dk_50 (dk_at dksX0_turn_0 21 rfl rfl)
theorem dX0_turn_22 : decode cX0_turn 22 = .ok (.astore 6, 2) := dk_58 6 (dk_at dksX0_turn_0 22 rfl rfl)
theorem dX0_turn_24 : decode cX0_turn 24 = .ok (.aload 5, 2) := dk_25 5 (dk_at dksX0_turn_1 0 rfl rfl)
theorem dX0_turn_26 : decode cX0_turn 26 = .ok (.getfield 143, 3) := dk_180 0 143 (dk_at dksX0_turn_1 2 rfl rfl)
theorem dX0_turn_29 : decode cX0_turn 29 = .ok (.aload 4, 2) := dk_25 4 (dk_at dksX0_turn_1 5 rfl rfl)
theorem dX0_turn_31 : decode cX0_turn 31 = .ok (.getfield 143, 3) := dk_180 0 143 (dk_at dksX0_turn_1 7 rfl rfl)
theorem dX0_turn_34 : decode cX0_turn 34 = .ok (.isub, 1) := dk_100 (dk_at dksX0_turn_1 10 rfl rfl)
theorem dX0_turn_35 : decode cX0_turn 35 = .ok (.aload 6, 2) := dk_25 6 (dk_at dksX0_turn_1 11 rfl rfl)
theorem dX0_turn_37 : decode cX0_turn 37 = .ok (.getfield 146, 3) := dk_180 0 146 (dk_at dksX0_turn_1 13 rfl rfl)
theorem dX0_turn_40 : decode cX0_turn 40 = .ok (.aload 4, 2) := dk_25 4 (dk_at dksX0_turn_1 16 rfl rfl)
theorem dX0_turn_42 : decode cX0_turn 42 = .ok (.getfield 146, 3) := dk_180 0 146 (dk_at dksX0_turn_1 18 rfl rfl)
theorem dX0_turn_45 : decode cX0_turn 45 = .ok (.isub, 1) := dk_100 (dk_at dksX0_turn_1 21 rfl rfl)
theorem dX0_turn_46 : decode cX0_turn 46 = .ok (.imul, 1) := dk_104 (dk_at dksX0_turn_1 22 rfl rfl)
theorem dX0_turn_47 : decode cX0_turn 47 = .ok (.aload 5, 2) := dk_25 5 (dk_at dksX0_turn_2 0 rfl rfl)
theorem dX0_turn_49 : decode cX0_turn 49 = .ok (.getfield 146, 3) := dk_180 0 146 (dk_at dksX0_turn_2 2 rfl rfl)
theorem dX0_turn_52 : decode cX0_turn 52 = .ok (.aload 4, 2) := dk_25 4 (dk_at dksX0_turn_2 5 rfl rfl)
theorem dX0_turn_54 : decode cX0_turn 54 = .ok (.getfield 146, 3) := dk_180 0 146 (dk_at dksX0_turn_2 7 rfl rfl)
theorem dX0_turn_57 : decode cX0_turn 57 = .ok (.isub, 1) := dk_100 (dk_at dksX0_turn_2 10 rfl rfl)
theorem dX0_turn_58 : decode cX0_turn 58 = .ok (.aload 6, 2) := dk_25 6 (dk_at dksX0_turn_2 11 rfl rfl)
theorem dX0_turn_60 : decode cX0_turn 60 = .ok (.getfield 143, 3) := dk_180 0 143 (dk_at dksX0_turn_2 13 rfl rfl)
theorem dX0_turn_63 : decode cX0_turn 63 = .ok (.aload 4, 2) := dk_25 4 (dk_at dksX0_turn_2 16 rfl rfl)
theorem dX0_turn_65 : decode cX0_turn 65 = .ok (.getfield 143, 3) := dk_180 0 143 (dk_at dksX0_turn_2 18 rfl rfl)
theorem dX0_turn_68 : decode cX0_turn 68 = .ok (.isub, 1) := dk_100 (dk_at dksX0_turn_2 21 rfl rfl)
theorem dX0_turn_69 : decode cX0_turn 69 = .ok (.imul, 1) := dk_104 (dk_at dksX0_turn_2 22 rfl rfl)
theorem dX0_turn_70 : decode cX0_turn 70 = .ok (.isub, 1) := dk_100 (dk_at dksX0_turn_2 23 rfl rfl)
theorem dX0_turn_71 : decode cX0_turn 71 = .ok (.invokestatic 301, 3) := dk_184 1 45 (dk_at dksX0_turn_3 0 rfl rfl)
theorem dX0_turn_74 : decode cX0_turn 74 = .ok (.ireturn, 1) := dk_172 (dk_at dksX0_turn_3 3 rfl rfl)
abbrev cX0_crossBy : ByteArray := prog_1_method_65_code
def yX0_crossBy : MethodName := ⟨RX0, "crossBy", "(I)I"⟩
def dkwX0_crossBy_3 : List UInt8 := [182, 1, 61, 136, 172]
abbrev dktX0_crossBy_3 : List UInt8 := dkwX0_crossBy_3 ++ []
def dkwX0_crossBy_2 : List UInt8 := [42, 180, 1, 55, 167, 0, 23, 42, 180, 1, 58, 167, 0, 16, 42, 27, 5, 108, 4, 100, 27, 5, 112]
abbrev dktX0_crossBy_2 : List UInt8 := dkwX0_crossBy_2 ++ dktX0_crossBy_3
def dkwX0_crossBy_1 : List UInt8 := [171, 0, 0, 0, 0, 0, 41, 0, 0, 0, 2, 0, 0, 0, 0, 0, 0, 0, 27, 0, 0, 0, 1, 0, 0, 0, 34]
abbrev dktX0_crossBy_1 : List UInt8 := dkwX0_crossBy_1 ++ dktX0_crossBy_2
def dkwX0_crossBy_0 : List UInt8 := [27]
abbrev dktX0_crossBy_0 : List UInt8 := dkwX0_crossBy_0 ++ dktX0_crossBy_1
theorem dksX0_crossBy_0 : cX0_crossBy.data.toList.drop 0 = dktX0_crossBy_0 := by decide +kernel
theorem dksX0_crossBy_1 : cX0_crossBy.data.toList.drop 1 = dktX0_crossBy_1 := dk_seg dksX0_crossBy_0 1 rfl rfl
theorem dksX0_crossBy_2 : cX0_crossBy.data.toList.drop 28 = dktX0_crossBy_2 := dk_seg dksX0_crossBy_1 27 rfl rfl
theorem dksX0_crossBy_3 : cX0_crossBy.data.toList.drop 51 = dktX0_crossBy_3 := dk_seg dksX0_crossBy_2 23 rfl rfl
theorem dX0_crossBy_0 : decode cX0_crossBy 0 = .ok (.iload_n 1, 1) := dk_27 (dk_at dksX0_crossBy_0 0 rfl rfl)
theorem dX0_crossBy_1 : decode cX0_crossBy 1 = .ok (.lookupswitch 41 #[(0, 27), (1, 34)], 27) := by decide +kernel
theorem dX0_crossBy_28 : decode cX0_crossBy 28 = .ok (.aload_n 0, 1) := dk_42 (dk_at dksX0_crossBy_2 0 rfl rfl)
theorem dX0_crossBy_29 : decode cX0_crossBy 29 = .ok (.getfield 311, 3) := dk_180 1 55 (dk_at dksX0_crossBy_2 1 rfl rfl)
theorem dX0_crossBy_32 : decode cX0_crossBy 32 = .ok (.goto 23, 3) := dk_167 0 23 (dk_at dksX0_crossBy_2 4 rfl rfl)
theorem dX0_crossBy_35 : decode cX0_crossBy 35 = .ok (.aload_n 0, 1) := dk_42 (dk_at dksX0_crossBy_2 7 rfl rfl)
theorem dX0_crossBy_36 : decode cX0_crossBy 36 = .ok (.getfield 314, 3) := dk_180 1 58 (dk_at dksX0_crossBy_2 8 rfl rfl)
theorem dX0_crossBy_39 : decode cX0_crossBy 39 = .ok (.goto 16, 3) := dk_167 0 16 (dk_at dksX0_crossBy_2 11 rfl rfl)
theorem dX0_crossBy_42 : decode cX0_crossBy 42 = .ok (.aload_n 0, 1) := dk_42 (dk_at dksX0_crossBy_2 14 rfl rfl)
theorem dX0_crossBy_43 : decode cX0_crossBy 43 = .ok (.iload_n 1, 1) := dk_27 (dk_at dksX0_crossBy_2 15 rfl rfl)
theorem dX0_crossBy_44 : decode cX0_crossBy 44 = .ok (.iconst 2, 1) := dk_5 (dk_at dksX0_crossBy_2 16 rfl rfl)
theorem dX0_crossBy_45 : decode cX0_crossBy 45 = .ok (.idiv, 1) := dk_108 (dk_at dksX0_crossBy_2 17 rfl rfl)
theorem dX0_crossBy_46 : decode cX0_crossBy 46 = .ok (.iconst 1, 1) := dk_4 (dk_at dksX0_crossBy_2 18 rfl rfl)
theorem dX0_crossBy_47 : decode cX0_crossBy 47 = .ok (.isub, 1) := dk_100 (dk_at dksX0_crossBy_2 19 rfl rfl)
theorem dX0_crossBy_48 : decode cX0_crossBy 48 = .ok (.iload_n 1, 1) := dk_27 (dk_at dksX0_crossBy_2 20 rfl rfl)
theorem dX0_crossBy_49 : decode cX0_crossBy 49 = .ok (.iconst 2, 1) := dk_5 (dk_at dksX0_crossBy_2 21 rfl rfl)
theorem dX0_crossBy_50 : decode cX0_crossBy 50 = .ok (.irem, 1) := dk_112 (dk_at dksX0_crossBy_2 22 rfl rfl)
theorem dX0_crossBy_51 : decode cX0_crossBy 51 = .ok (.invokevirtual 317, 3) := dk_182 1 61 (dk_at dksX0_crossBy_3 0 rfl rfl)
theorem dX0_crossBy_54 : decode cX0_crossBy 54 = .ok (.l2i, 1) := dk_136 (dk_at dksX0_crossBy_3 3 rfl rfl)
theorem dX0_crossBy_55 : decode cX0_crossBy 55 = .ok (.ireturn, 1) := dk_172 (dk_at dksX0_crossBy_3 4 rfl rfl)
abbrev cX0_placed : ByteArray := prog_1_method_64_code
def yX0_placed : MethodName := ⟨RX0, "placed", "(II)J"⟩
def dkwX0_placed_7 : List UInt8 := [28, 184, 0, 218, 173]
abbrev dktX0_placed_7 : List UInt8 := dkwX0_placed_7 ++ []
def dkwX0_placed_6 : List UInt8 := [22, 5, 9, 148, 156, 0, 16, 22, 9, 117, 22, 5, 117, 28, 184, 0, 218, 167, 0, 11, 22, 9, 22, 5]
abbrev dktX0_placed_6 : List UInt8 := dkwX0_placed_6 ++ dktX0_placed_7
def dkwX0_placed_5 : List UInt8 := [182, 0, 67, 133, 22, 5, 105, 22, 7, 42, 42, 180, 1, 55, 27, 182, 0, 73, 133, 105, 97, 55, 9]
abbrev dktX0_placed_5 : List UInt8 := dkwX0_placed_5 ++ dktX0_placed_6
def dkwX0_placed_4 : List UInt8 := [180, 0, 146, 45, 180, 0, 146, 100, 42, 42, 180, 1, 58, 3, 182, 0, 73, 104, 133, 101, 55, 7, 45, 27]
abbrev dktX0_placed_4 : List UInt8 := dkwX0_placed_4 ++ dktX0_placed_5
def dkwX0_placed_3 : List UInt8 := [25, 4, 180, 0, 143, 45, 180, 0, 143, 100, 133, 42, 42, 180, 1, 58, 4, 182, 0, 73, 133, 105, 25, 4]
abbrev dktX0_placed_3 : List UInt8 := dkwX0_placed_3 ++ dktX0_placed_4
def dkwX0_placed_2 : List UInt8 := [42, 42, 180, 1, 55, 4, 182, 0, 73, 42, 42, 180, 1, 58, 3, 182, 0, 73, 104, 133, 101, 55, 5]
abbrev dktX0_placed_2 : List UInt8 := dkwX0_placed_2 ++ dktX0_placed_3
def dkwX0_placed_1 : List UInt8 := [50, 58, 4, 42, 42, 180, 1, 55, 3, 182, 0, 73, 133, 42, 42, 180, 1, 58, 4, 182, 0, 73, 133, 105]
abbrev dktX0_placed_1 : List UInt8 := dkwX0_placed_1 ++ dktX0_placed_2
def dkwX0_placed_0 : List UInt8 := [42, 180, 0, 14, 42, 180, 1, 55, 184, 0, 70, 50, 78, 42, 180, 0, 14, 42, 180, 1, 58, 184, 0, 70]
abbrev dktX0_placed_0 : List UInt8 := dkwX0_placed_0 ++ dktX0_placed_1
theorem dksX0_placed_0 : cX0_placed.data.toList.drop 0 = dktX0_placed_0 := by decide +kernel
theorem dksX0_placed_1 : cX0_placed.data.toList.drop 24 = dktX0_placed_1 := dk_seg dksX0_placed_0 24 rfl rfl
theorem dksX0_placed_2 : cX0_placed.data.toList.drop 48 = dktX0_placed_2 := dk_seg dksX0_placed_1 24 rfl rfl
theorem dksX0_placed_3 : cX0_placed.data.toList.drop 71 = dktX0_placed_3 := dk_seg dksX0_placed_2 23 rfl rfl
theorem dksX0_placed_4 : cX0_placed.data.toList.drop 95 = dktX0_placed_4 := dk_seg dksX0_placed_3 24 rfl rfl
theorem dksX0_placed_5 : cX0_placed.data.toList.drop 119 = dktX0_placed_5 := dk_seg dksX0_placed_4 24 rfl rfl
theorem dksX0_placed_6 : cX0_placed.data.toList.drop 142 = dktX0_placed_6 := dk_seg dksX0_placed_5 23 rfl rfl
theorem dksX0_placed_7 : cX0_placed.data.toList.drop 166 = dktX0_placed_7 := dk_seg dksX0_placed_6 24 rfl rfl
theorem dX0_placed_0 : decode cX0_placed 0 = .ok (.aload_n 0, 1) := dk_42 (dk_at dksX0_placed_0 0 rfl rfl)
theorem dX0_placed_1 : decode cX0_placed 1 = .ok (.getfield 14, 3) := dk_180 0 14 (dk_at dksX0_placed_0 1 rfl rfl)
theorem dX0_placed_4 : decode cX0_placed 4 = .ok (.aload_n 0, 1) := dk_42 (dk_at dksX0_placed_0 4 rfl rfl)
theorem dX0_placed_5 : decode cX0_placed 5 = .ok (.getfield 311, 3) := dk_180 1 55 (dk_at dksX0_placed_0 5 rfl rfl)
theorem dX0_placed_8 : decode cX0_placed 8 = .ok (.invokestatic 70, 3) := dk_184 0 70 (dk_at dksX0_placed_0 8 rfl rfl)
theorem dX0_placed_11 : decode cX0_placed 11 = .ok (.aaload, 1) := dk_50 (dk_at dksX0_placed_0 11 rfl rfl)
theorem dX0_placed_12 : decode cX0_placed 12 = .ok (.astore_n 3, 1) := dk_78 (dk_at dksX0_placed_0 12 rfl rfl)
theorem dX0_placed_13 : decode cX0_placed 13 = .ok (.aload_n 0, 1) := dk_42 (dk_at dksX0_placed_0 13 rfl rfl)
theorem dX0_placed_14 : decode cX0_placed 14 = .ok (.getfield 14, 3) := dk_180 0 14 (dk_at dksX0_placed_0 14 rfl rfl)
theorem dX0_placed_17 : decode cX0_placed 17 = .ok (.aload_n 0, 1) := dk_42 (dk_at dksX0_placed_0 17 rfl rfl)
theorem dX0_placed_18 : decode cX0_placed 18 = .ok (.getfield 314, 3) := dk_180 1 58 (dk_at dksX0_placed_0 18 rfl rfl)
theorem dX0_placed_21 : decode cX0_placed 21 = .ok (.invokestatic 70, 3) := dk_184 0 70 (dk_at dksX0_placed_0 21 rfl rfl)
theorem dX0_placed_24 : decode cX0_placed 24 = .ok (.aaload, 1) := dk_50 (dk_at dksX0_placed_1 0 rfl rfl)
theorem dX0_placed_25 : decode cX0_placed 25 = .ok (.astore 4, 2) := dk_58 4 (dk_at dksX0_placed_1 1 rfl rfl)
theorem dX0_placed_27 : decode cX0_placed 27 = .ok (.aload_n 0, 1) := dk_42 (dk_at dksX0_placed_1 3 rfl rfl)
theorem dX0_placed_28 : decode cX0_placed 28 = .ok (.aload_n 0, 1) := dk_42 (dk_at dksX0_placed_1 4 rfl rfl)
theorem dX0_placed_29 : decode cX0_placed 29 = .ok (.getfield 311, 3) := dk_180 1 55 (dk_at dksX0_placed_1 5 rfl rfl)
theorem dX0_placed_32 : decode cX0_placed 32 = .ok (.iconst 0, 1) := dk_3 (dk_at dksX0_placed_1 8 rfl rfl)
theorem dX0_placed_33 : decode cX0_placed 33 = .ok (.invokevirtual 73, 3) := dk_182 0 73 (dk_at dksX0_placed_1 9 rfl rfl)
theorem dX0_placed_36 : decode cX0_placed 36 = .ok (.i2l, 1) := dk_133 (dk_at dksX0_placed_1 12 rfl rfl)
theorem dX0_placed_37 : decode cX0_placed 37 = .ok (.aload_n 0, 1) := dk_42 (dk_at dksX0_placed_1 13 rfl rfl)
theorem dX0_placed_38 : decode cX0_placed 38 = .ok (.aload_n 0, 1) := dk_42 (dk_at dksX0_placed_1 14 rfl rfl)
theorem dX0_placed_39 : decode cX0_placed 39 = .ok (.getfield 314, 3) := dk_180 1 58 (dk_at dksX0_placed_1 15 rfl rfl)
theorem dX0_placed_42 : decode cX0_placed 42 = .ok (.iconst 1, 1) := dk_4 (dk_at dksX0_placed_1 18 rfl rfl)
theorem dX0_placed_43 : decode cX0_placed 43 = .ok (.invokevirtual 73, 3) := dk_182 0 73 (dk_at dksX0_placed_1 19 rfl rfl)
theorem dX0_placed_46 : decode cX0_placed 46 = .ok (.i2l, 1) := dk_133 (dk_at dksX0_placed_1 22 rfl rfl)
theorem dX0_placed_47 : decode cX0_placed 47 = .ok (.lmul, 1) := dk_105 (dk_at dksX0_placed_1 23 rfl rfl)
theorem dX0_placed_48 : decode cX0_placed 48 = .ok (.aload_n 0, 1) := dk_42 (dk_at dksX0_placed_2 0 rfl rfl)
theorem dX0_placed_49 : decode cX0_placed 49 = .ok (.aload_n 0, 1) := dk_42 (dk_at dksX0_placed_2 1 rfl rfl)
theorem dX0_placed_50 : decode cX0_placed 50 = .ok (.getfield 311, 3) := dk_180 1 55 (dk_at dksX0_placed_2 2 rfl rfl)
theorem dX0_placed_53 : decode cX0_placed 53 = .ok (.iconst 1, 1) := dk_4 (dk_at dksX0_placed_2 5 rfl rfl)
theorem dX0_placed_54 : decode cX0_placed 54 = .ok (.invokevirtual 73, 3) := dk_182 0 73 (dk_at dksX0_placed_2 6 rfl rfl)
theorem dX0_placed_57 : decode cX0_placed 57 = .ok (.aload_n 0, 1) := dk_42 (dk_at dksX0_placed_2 9 rfl rfl)
theorem dX0_placed_58 : decode cX0_placed 58 = .ok (.aload_n 0, 1) := dk_42 (dk_at dksX0_placed_2 10 rfl rfl)
theorem dX0_placed_59 : decode cX0_placed 59 = .ok (.getfield 314, 3) := dk_180 1 58 (dk_at dksX0_placed_2 11 rfl rfl)
theorem dX0_placed_62 : decode cX0_placed 62 = .ok (.iconst 0, 1) := dk_3 (dk_at dksX0_placed_2 14 rfl rfl)
theorem dX0_placed_63 : decode cX0_placed 63 = .ok (.invokevirtual 73, 3) := dk_182 0 73 (dk_at dksX0_placed_2 15 rfl rfl)
theorem dX0_placed_66 : decode cX0_placed 66 = .ok (.imul, 1) := dk_104 (dk_at dksX0_placed_2 18 rfl rfl)
theorem dX0_placed_67 : decode cX0_placed 67 = .ok (.i2l, 1) := dk_133 (dk_at dksX0_placed_2 19 rfl rfl)
theorem dX0_placed_68 : decode cX0_placed 68 = .ok (.lsub, 1) := dk_101 (dk_at dksX0_placed_2 20 rfl rfl)
theorem dX0_placed_69 : decode cX0_placed 69 = .ok (.lstore 5, 2) := dk_55 5 (dk_at dksX0_placed_2 21 rfl rfl)
theorem dX0_placed_71 : decode cX0_placed 71 = .ok (.aload 4, 2) := dk_25 4 (dk_at dksX0_placed_3 0 rfl rfl)
theorem dX0_placed_73 : decode cX0_placed 73 = .ok (.getfield 143, 3) := dk_180 0 143 (dk_at dksX0_placed_3 2 rfl rfl)
theorem dX0_placed_76 : decode cX0_placed 76 = .ok (.aload_n 3, 1) := dk_45 (dk_at dksX0_placed_3 5 rfl rfl)
theorem dX0_placed_77 : decode cX0_placed 77 = .ok (.getfield 143, 3) := dk_180 0 143 (dk_at dksX0_placed_3 6 rfl rfl)
theorem dX0_placed_80 : decode cX0_placed 80 = .ok (.isub, 1) := dk_100 (dk_at dksX0_placed_3 9 rfl rfl)
theorem dX0_placed_81 : decode cX0_placed 81 = .ok (.i2l, 1) := dk_133 (dk_at dksX0_placed_3 10 rfl rfl)
theorem dX0_placed_82 : decode cX0_placed 82 = .ok (.aload_n 0, 1) := dk_42 (dk_at dksX0_placed_3 11 rfl rfl)
theorem dX0_placed_83 : decode cX0_placed 83 = .ok (.aload_n 0, 1) := dk_42 (dk_at dksX0_placed_3 12 rfl rfl)
theorem dX0_placed_84 : decode cX0_placed 84 = .ok (.getfield 314, 3) := dk_180 1 58 (dk_at dksX0_placed_3 13 rfl rfl)
theorem dX0_placed_87 : decode cX0_placed 87 = .ok (.iconst 1, 1) := dk_4 (dk_at dksX0_placed_3 16 rfl rfl)
theorem dX0_placed_88 : decode cX0_placed 88 = .ok (.invokevirtual 73, 3) := dk_182 0 73 (dk_at dksX0_placed_3 17 rfl rfl)
theorem dX0_placed_91 : decode cX0_placed 91 = .ok (.i2l, 1) := dk_133 (dk_at dksX0_placed_3 20 rfl rfl)
theorem dX0_placed_92 : decode cX0_placed 92 = .ok (.lmul, 1) := dk_105 (dk_at dksX0_placed_3 21 rfl rfl)
theorem dX0_placed_93 : decode cX0_placed 93 = .ok (.aload 4, 2) := dk_25 4 (dk_at dksX0_placed_3 22 rfl rfl)
theorem dX0_placed_95 : decode cX0_placed 95 = .ok (.getfield 146, 3) := dk_180 0 146 (dk_at dksX0_placed_4 0 rfl rfl)
theorem dX0_placed_98 : decode cX0_placed 98 = .ok (.aload_n 3, 1) := dk_45 (dk_at dksX0_placed_4 3 rfl rfl)
theorem dX0_placed_99 : decode cX0_placed 99 = .ok (.getfield 146, 3) := dk_180 0 146 (dk_at dksX0_placed_4 4 rfl rfl)
theorem dX0_placed_102 : decode cX0_placed 102 = .ok (.isub, 1) := dk_100 (dk_at dksX0_placed_4 7 rfl rfl)
theorem dX0_placed_103 : decode cX0_placed 103 = .ok (.aload_n 0, 1) := dk_42 (dk_at dksX0_placed_4 8 rfl rfl)
theorem dX0_placed_104 : decode cX0_placed 104 = .ok (.aload_n 0, 1) := dk_42 (dk_at dksX0_placed_4 9 rfl rfl)
theorem dX0_placed_105 : decode cX0_placed 105 = .ok (.getfield 314, 3) := dk_180 1 58 (dk_at dksX0_placed_4 10 rfl rfl)
theorem dX0_placed_108 : decode cX0_placed 108 = .ok (.iconst 0, 1) := dk_3 (dk_at dksX0_placed_4 13 rfl rfl)
theorem dX0_placed_109 : decode cX0_placed 109 = .ok (.invokevirtual 73, 3) := dk_182 0 73 (dk_at dksX0_placed_4 14 rfl rfl)
theorem dX0_placed_112 : decode cX0_placed 112 = .ok (.imul, 1) := dk_104 (dk_at dksX0_placed_4 17 rfl rfl)
theorem dX0_placed_113 : decode cX0_placed 113 = .ok (.i2l, 1) := dk_133 (dk_at dksX0_placed_4 18 rfl rfl)
theorem dX0_placed_114 : decode cX0_placed 114 = .ok (.lsub, 1) := dk_101 (dk_at dksX0_placed_4 19 rfl rfl)
theorem dX0_placed_115 : decode cX0_placed 115 = .ok (.lstore 7, 2) := dk_55 7 (dk_at dksX0_placed_4 20 rfl rfl)
theorem dX0_placed_117 : decode cX0_placed 117 = .ok (.aload_n 3, 1) := dk_45 (dk_at dksX0_placed_4 22 rfl rfl)
theorem dX0_placed_118 : decode cX0_placed 118 = .ok (.iload_n 1, 1) := dk_27 (dk_at dksX0_placed_4 23 rfl rfl)
theorem dX0_placed_119 : decode cX0_placed 119 = .ok (.invokevirtual 67, 3) := dk_182 0 67 (dk_at dksX0_placed_5 0 rfl rfl)
theorem dX0_placed_122 : decode cX0_placed 122 = .ok (.i2l, 1) := dk_133 (dk_at dksX0_placed_5 3 rfl rfl)
theorem dX0_placed_123 : decode cX0_placed 123 = .ok (.lload 5, 2) := dk_22 5 (dk_at dksX0_placed_5 4 rfl rfl)
theorem dX0_placed_125 : decode cX0_placed 125 = .ok (.lmul, 1) := dk_105 (dk_at dksX0_placed_5 6 rfl rfl)
theorem dX0_placed_126 : decode cX0_placed 126 = .ok (.lload 7, 2) := dk_22 7 (dk_at dksX0_placed_5 7 rfl rfl)
theorem dX0_placed_128 : decode cX0_placed 128 = .ok (.aload_n 0, 1) := dk_42 (dk_at dksX0_placed_5 9 rfl rfl)
theorem dX0_placed_129 : decode cX0_placed 129 = .ok (.aload_n 0, 1) := dk_42 (dk_at dksX0_placed_5 10 rfl rfl)
theorem dX0_placed_130 : decode cX0_placed 130 = .ok (.getfield 311, 3) := dk_180 1 55 (dk_at dksX0_placed_5 11 rfl rfl)
theorem dX0_placed_133 : decode cX0_placed 133 = .ok (.iload_n 1, 1) := dk_27 (dk_at dksX0_placed_5 14 rfl rfl)
theorem dX0_placed_134 : decode cX0_placed 134 = .ok (.invokevirtual 73, 3) := dk_182 0 73 (dk_at dksX0_placed_5 15 rfl rfl)
theorem dX0_placed_137 : decode cX0_placed 137 = .ok (.i2l, 1) := dk_133 (dk_at dksX0_placed_5 18 rfl rfl)
theorem dX0_placed_138 : decode cX0_placed 138 = .ok (.lmul, 1) := dk_105 (dk_at dksX0_placed_5 19 rfl rfl)
theorem dX0_placed_139 : decode cX0_placed 139 = .ok (.ladd, 1) := dk_97 (dk_at dksX0_placed_5 20 rfl rfl)
theorem dX0_placed_140 : decode cX0_placed 140 = .ok (.lstore 9, 2) := dk_55 9 (dk_at dksX0_placed_5 21 rfl rfl)
theorem dX0_placed_142 : decode cX0_placed 142 = .ok (.lload 5, 2) := dk_22 5 (dk_at dksX0_placed_6 0 rfl rfl)
theorem dX0_placed_144 : decode cX0_placed 144 = .ok (.lconst 0, 1) := dk_9 (dk_at dksX0_placed_6 2 rfl rfl)
theorem dX0_placed_145 : decode cX0_placed 145 = .ok (.lcmp, 1) := dk_148 (dk_at dksX0_placed_6 3 rfl rfl)
theorem dX0_placed_146 : decode cX0_placed 146 = .ok (.ifCond .ge 16, 3) := dk_156 0 16 (dk_at dksX0_placed_6 4 rfl rfl)
theorem dX0_placed_149 : decode cX0_placed 149 = .ok (.lload 9, 2) := dk_22 9 (dk_at dksX0_placed_6 7 rfl rfl)
theorem dX0_placed_151 : decode cX0_placed 151 = .ok (.lneg, 1) := dk_117 (dk_at dksX0_placed_6 9 rfl rfl)
theorem dX0_placed_152 : decode cX0_placed 152 = .ok (.lload 5, 2) := dk_22 5 (dk_at dksX0_placed_6 10 rfl rfl)
theorem dX0_placed_154 : decode cX0_placed 154 = .ok (.lneg, 1) := dk_117 (dk_at dksX0_placed_6 12 rfl rfl)
theorem dX0_placed_155 : decode cX0_placed 155 = .ok (.iload_n 2, 1) := dk_28 (dk_at dksX0_placed_6 13 rfl rfl)
theorem dX0_placed_156 : decode cX0_placed 156 = .ok (.invokestatic 218, 3) := dk_184 0 218 (dk_at dksX0_placed_6 14 rfl rfl)
theorem dX0_placed_159 : decode cX0_placed 159 = .ok (.goto 11, 3) := dk_167 0 11 (dk_at dksX0_placed_6 17 rfl rfl)
theorem dX0_placed_162 : decode cX0_placed 162 = .ok (.lload 9, 2) := dk_22 9 (dk_at dksX0_placed_6 20 rfl rfl)
theorem dX0_placed_164 : decode cX0_placed 164 = .ok (.lload 5, 2) := dk_22 5 (dk_at dksX0_placed_6 22 rfl rfl)
theorem dX0_placed_166 : decode cX0_placed 166 = .ok (.iload_n 2, 1) := dk_28 (dk_at dksX0_placed_7 0 rfl rfl)
theorem dX0_placed_167 : decode cX0_placed 167 = .ok (.invokestatic 218, 3) := dk_184 0 218 (dk_at dksX0_placed_7 1 rfl rfl)
theorem dX0_placed_170 : decode cX0_placed 170 = .ok (.lreturn, 1) := dk_173 (dk_at dksX0_placed_7 4 rfl rfl)
abbrev cX0_sheet : ByteArray := prog_1_method_69_code
def yX0_sheet : MethodName := ⟨RX0, "sheet", "(III)I"⟩
def dkwX0_sheet_2 : List UInt8 := [58, 4, 42, 8, 182, 0, 186, 172]
abbrev dktX0_sheet_2 : List UInt8 := dkwX0_sheet_2 ++ []
def dkwX0_sheet_1 : List UInt8 := [180, 0, 36, 27, 50, 28, 154, 0, 9, 29, 188, 10, 167, 0, 6, 29, 188, 11, 181, 0, 182, 29, 172]
abbrev dktX0_sheet_1 : List UInt8 := dkwX0_sheet_1 ++ dktX0_sheet_2
def dkwX0_sheet_0 : List UInt8 := [27, 184, 0, 179, 153, 0, 16, 28, 184, 0, 168, 153, 0, 9, 29, 16, 40, 164, 0, 6, 16, 254, 172, 42]
abbrev dktX0_sheet_0 : List UInt8 := dkwX0_sheet_0 ++ dktX0_sheet_1
theorem dksX0_sheet_0 : cX0_sheet.data.toList.drop 0 = dktX0_sheet_0 := by decide +kernel
theorem dksX0_sheet_1 : cX0_sheet.data.toList.drop 24 = dktX0_sheet_1 := dk_seg dksX0_sheet_0 24 rfl rfl
theorem dksX0_sheet_2 : cX0_sheet.data.toList.drop 47 = dktX0_sheet_2 := dk_seg dksX0_sheet_1 23 rfl rfl
theorem dX0_sheet_0 : decode cX0_sheet 0 = .ok (.iload_n 1, 1) := dk_27 (dk_at dksX0_sheet_0 0 rfl rfl)
theorem dX0_sheet_1 : decode cX0_sheet 1 = .ok (.invokestatic 179, 3) := dk_184 0 179 (dk_at dksX0_sheet_0 1 rfl rfl)
theorem dX0_sheet_4 : decode cX0_sheet 4 = .ok (.ifCond .eq 16, 3) := dk_153 0 16 (dk_at dksX0_sheet_0 4 rfl rfl)
theorem dX0_sheet_7 : decode cX0_sheet 7 = .ok (.iload_n 2, 1) := dk_28 (dk_at dksX0_sheet_0 7 rfl rfl)
theorem dX0_sheet_8 : decode cX0_sheet 8 = .ok (.invokestatic 168, 3) := dk_184 0 168 (dk_at dksX0_sheet_0 8 rfl rfl)
theorem dX0_sheet_11 : decode cX0_sheet 11 = .ok (.ifCond .eq 9, 3) := dk_153 0 9 (dk_at dksX0_sheet_0 11 rfl rfl)
theorem dX0_sheet_14 : decode cX0_sheet 14 = .ok (.iload_n 3, 1) := dk_29 (dk_at dksX0_sheet_0 14 rfl rfl)
theorem dX0_sheet_15 : decode cX0_sheet 15 = .ok (.bipush 40, 2) := dk_16 40 (dk_at dksX0_sheet_0 15 rfl rfl)
theorem dX0_sheet_17 : decode cX0_sheet 17 = .ok (.if_icmp .le 6, 3) := dk_164 0 6 (dk_at dksX0_sheet_0 17 rfl rfl)
theorem dX0_sheet_20 : decode cX0_sheet 20 = .ok (.bipush (-2), 2) := dk_16 254 (dk_at dksX0_sheet_0 20 rfl rfl)
theorem dX0_sheet_22 : decode cX0_sheet 22 = .ok (.ireturn, 1) := dk_172 (dk_at dksX0_sheet_0 22 rfl rfl)
theorem dX0_sheet_23 : decode cX0_sheet 23 = .ok (.aload_n 0, 1) := dk_42 (dk_at dksX0_sheet_0 23 rfl rfl)
theorem dX0_sheet_24 : decode cX0_sheet 24 = .ok (.getfield 36, 3) := dk_180 0 36 (dk_at dksX0_sheet_1 0 rfl rfl)
theorem dX0_sheet_27 : decode cX0_sheet 27 = .ok (.iload_n 1, 1) := dk_27 (dk_at dksX0_sheet_1 3 rfl rfl)
theorem dX0_sheet_28 : decode cX0_sheet 28 = .ok (.aaload, 1) := dk_50 (dk_at dksX0_sheet_1 4 rfl rfl)
theorem dX0_sheet_29 : decode cX0_sheet 29 = .ok (.iload_n 2, 1) := dk_28 (dk_at dksX0_sheet_1 5 rfl rfl)
theorem dX0_sheet_30 : decode cX0_sheet 30 = .ok (.ifCond .ne 9, 3) := dk_154 0 9 (dk_at dksX0_sheet_1 6 rfl rfl)
theorem dX0_sheet_33 : decode cX0_sheet 33 = .ok (.iload_n 3, 1) := dk_29 (dk_at dksX0_sheet_1 9 rfl rfl)
theorem dX0_sheet_34 : decode cX0_sheet 34 = .ok (.newarray .int, 2) := dk_188_10 (dk_at dksX0_sheet_1 10 rfl rfl)
theorem dX0_sheet_36 : decode cX0_sheet 36 = .ok (.goto 6, 3) := dk_167 0 6 (dk_at dksX0_sheet_1 12 rfl rfl)
theorem dX0_sheet_39 : decode cX0_sheet 39 = .ok (.iload_n 3, 1) := dk_29 (dk_at dksX0_sheet_1 15 rfl rfl)
theorem dX0_sheet_40 : decode cX0_sheet 40 = .ok (.newarray .long, 2) := dk_188_11 (dk_at dksX0_sheet_1 16 rfl rfl)
theorem dX0_sheet_42 : decode cX0_sheet 42 = .ok (.putfield 182, 3) := dk_181 0 182 (dk_at dksX0_sheet_1 18 rfl rfl)
theorem dX0_sheet_45 : decode cX0_sheet 45 = .ok (.iload_n 3, 1) := dk_29 (dk_at dksX0_sheet_1 21 rfl rfl)
theorem dX0_sheet_46 : decode cX0_sheet 46 = .ok (.ireturn, 1) := dk_172 (dk_at dksX0_sheet_1 22 rfl rfl)
theorem dX0_sheet_47 : decode cX0_sheet 47 = .ok (.astore 4, 2) := dk_58 4 (dk_at dksX0_sheet_2 0 rfl rfl)
theorem dX0_sheet_49 : decode cX0_sheet 49 = .ok (.aload_n 0, 1) := dk_42 (dk_at dksX0_sheet_2 2 rfl rfl)
theorem dX0_sheet_50 : decode cX0_sheet 50 = .ok (.iconst 5, 1) := dk_8 (dk_at dksX0_sheet_2 3 rfl rfl)
theorem dX0_sheet_51 : decode cX0_sheet 51 = .ok (.invokevirtual 186, 3) := dk_182 0 186 (dk_at dksX0_sheet_2 4 rfl rfl)
theorem dX0_sheet_54 : decode cX0_sheet 54 = .ok (.ireturn, 1) := dk_172 (dk_at dksX0_sheet_2 7 rfl rfl)
abbrev cX0_lose : ByteArray := prog_1_method_70_code
def yX0_lose : MethodName := ⟨RX0, "lose", "(I)I"⟩
def dkwX0_lose_2 : List UInt8 := [28, 172]
abbrev dktX0_lose_2 : List UInt8 := dkwX0_lose_2 ++ []
def dkwX0_lose_1 : List UInt8 := [182, 0, 186, 172, 42, 180, 0, 36, 27, 50, 182, 0, 189, 61, 42, 180, 0, 36, 27, 50, 1, 181, 0, 182]
abbrev dktX0_lose_1 : List UInt8 := dkwX0_lose_1 ++ dktX0_lose_2
def dkwX0_lose_0 : List UInt8 := [27, 184, 0, 179, 154, 0, 6, 16, 254, 172, 42, 180, 0, 36, 27, 50, 180, 0, 182, 199, 0, 9, 42, 4]
abbrev dktX0_lose_0 : List UInt8 := dkwX0_lose_0 ++ dktX0_lose_1
theorem dksX0_lose_0 : cX0_lose.data.toList.drop 0 = dktX0_lose_0 := by decide +kernel
theorem dksX0_lose_1 : cX0_lose.data.toList.drop 24 = dktX0_lose_1 := dk_seg dksX0_lose_0 24 rfl rfl
theorem dksX0_lose_2 : cX0_lose.data.toList.drop 48 = dktX0_lose_2 := dk_seg dksX0_lose_1 24 rfl rfl
theorem dX0_lose_0 : decode cX0_lose 0 = .ok (.iload_n 1, 1) := dk_27 (dk_at dksX0_lose_0 0 rfl rfl)
theorem dX0_lose_1 : decode cX0_lose 1 = .ok (.invokestatic 179, 3) := dk_184 0 179 (dk_at dksX0_lose_0 1 rfl rfl)
theorem dX0_lose_4 : decode cX0_lose 4 = .ok (.ifCond .ne 6, 3) := dk_154 0 6 (dk_at dksX0_lose_0 4 rfl rfl)
theorem dX0_lose_7 : decode cX0_lose 7 = .ok (.bipush (-2), 2) := dk_16 254 (dk_at dksX0_lose_0 7 rfl rfl)
theorem dX0_lose_9 : decode cX0_lose 9 = .ok (.ireturn, 1) := dk_172 (dk_at dksX0_lose_0 9 rfl rfl)
theorem dX0_lose_10 : decode cX0_lose 10 = .ok (.aload_n 0, 1) := dk_42 (dk_at dksX0_lose_0 10 rfl rfl)
theorem dX0_lose_11 : decode cX0_lose 11 = .ok (.getfield 36, 3) := dk_180 0 36 (dk_at dksX0_lose_0 11 rfl rfl)
theorem dX0_lose_14 : decode cX0_lose 14 = .ok (.iload_n 1, 1) := dk_27 (dk_at dksX0_lose_0 14 rfl rfl)
theorem dX0_lose_15 : decode cX0_lose 15 = .ok (.aaload, 1) := dk_50 (dk_at dksX0_lose_0 15 rfl rfl)
theorem dX0_lose_16 : decode cX0_lose 16 = .ok (.getfield 182, 3) := dk_180 0 182 (dk_at dksX0_lose_0 16 rfl rfl)
theorem dX0_lose_19 : decode cX0_lose 19 = .ok (.ifnonnull 9, 3) := dk_199 0 9 (dk_at dksX0_lose_0 19 rfl rfl)
theorem dX0_lose_22 : decode cX0_lose 22 = .ok (.aload_n 0, 1) := dk_42 (dk_at dksX0_lose_0 22 rfl rfl)
theorem dX0_lose_23 : decode cX0_lose 23 = .ok (.iconst 1, 1) := dk_4 (dk_at dksX0_lose_0 23 rfl rfl)
theorem dX0_lose_24 : decode cX0_lose 24 = .ok (.invokevirtual 186, 3) := dk_182 0 186 (dk_at dksX0_lose_1 0 rfl rfl)
theorem dX0_lose_27 : decode cX0_lose 27 = .ok (.ireturn, 1) := dk_172 (dk_at dksX0_lose_1 3 rfl rfl)
theorem dX0_lose_28 : decode cX0_lose 28 = .ok (.aload_n 0, 1) := dk_42 (dk_at dksX0_lose_1 4 rfl rfl)
theorem dX0_lose_29 : decode cX0_lose 29 = .ok (.getfield 36, 3) := dk_180 0 36 (dk_at dksX0_lose_1 5 rfl rfl)
theorem dX0_lose_32 : decode cX0_lose 32 = .ok (.iload_n 1, 1) := dk_27 (dk_at dksX0_lose_1 8 rfl rfl)
theorem dX0_lose_33 : decode cX0_lose 33 = .ok (.aaload, 1) := dk_50 (dk_at dksX0_lose_1 9 rfl rfl)
theorem dX0_lose_34 : decode cX0_lose 34 = .ok (.invokevirtual 189, 3) := dk_182 0 189 (dk_at dksX0_lose_1 10 rfl rfl)
theorem dX0_lose_37 : decode cX0_lose 37 = .ok (.istore_n 2, 1) := dk_61 (dk_at dksX0_lose_1 13 rfl rfl)
theorem dX0_lose_38 : decode cX0_lose 38 = .ok (.aload_n 0, 1) := dk_42 (dk_at dksX0_lose_1 14 rfl rfl)
theorem dX0_lose_39 : decode cX0_lose 39 = .ok (.getfield 36, 3) := dk_180 0 36 (dk_at dksX0_lose_1 15 rfl rfl)
theorem dX0_lose_42 : decode cX0_lose 42 = .ok (.iload_n 1, 1) := dk_27 (dk_at dksX0_lose_1 18 rfl rfl)
theorem dX0_lose_43 : decode cX0_lose 43 = .ok (.aaload, 1) := dk_50 (dk_at dksX0_lose_1 19 rfl rfl)
theorem dX0_lose_44 : decode cX0_lose 44 = .ok (.aconst_null, 1) := dk_1 (dk_at dksX0_lose_1 20 rfl rfl)
theorem dX0_lose_45 : decode cX0_lose 45 = .ok (.putfield 182, 3) := dk_181 0 182 (dk_at dksX0_lose_1 21 rfl rfl)
theorem dX0_lose_48 : decode cX0_lose 48 = .ok (.iload_n 2, 1) := dk_28 (dk_at dksX0_lose_2 0 rfl rfl)
theorem dX0_lose_49 : decode cX0_lose 49 = .ok (.ireturn, 1) := dk_172 (dk_at dksX0_lose_2 1 rfl rfl)
abbrev cX0_put : ByteArray := prog_1_method_71_code
def yX0_put : MethodName := ⟨RX0, "put", "(IIII)I"⟩
def dkwX0_put_3 : List UInt8 := [16, 6, 182, 0, 186, 172]
abbrev dktX0_put_3 : List UInt8 := dkwX0_put_3 ++ []
def dkwX0_put_2 : List UInt8 := [182, 1, 74, 4, 172, 58, 5, 42, 6, 182, 0, 186, 172, 58, 5, 42, 5, 182, 0, 186, 172, 58, 5, 42]
abbrev dktX0_put_2 : List UInt8 := dkwX0_put_2 ++ dktX0_put_3
def dkwX0_put_1 : List UInt8 := [180, 0, 182, 199, 0, 9, 42, 4, 182, 0, 186, 172, 42, 180, 0, 36, 27, 50, 28, 29, 21, 4]
abbrev dktX0_put_1 : List UInt8 := dkwX0_put_1 ++ dktX0_put_2
def dkwX0_put_0 : List UInt8 := [27, 184, 0, 179, 153, 0, 10, 28, 184, 0, 168, 154, 0, 6, 16, 254, 172, 42, 180, 0, 36, 27, 50]
abbrev dktX0_put_0 : List UInt8 := dkwX0_put_0 ++ dktX0_put_1
theorem dksX0_put_0 : cX0_put.data.toList.drop 0 = dktX0_put_0 := by decide +kernel
theorem dksX0_put_1 : cX0_put.data.toList.drop 23 = dktX0_put_1 := dk_seg dksX0_put_0 23 rfl rfl
theorem dksX0_put_2 : cX0_put.data.toList.drop 45 = dktX0_put_2 := dk_seg dksX0_put_1 22 rfl rfl
theorem dksX0_put_3 : cX0_put.data.toList.drop 69 = dktX0_put_3 := dk_seg dksX0_put_2 24 rfl rfl
theorem dX0_put_0 : decode cX0_put 0 = .ok (.iload_n 1, 1) := dk_27 (dk_at dksX0_put_0 0 rfl rfl)
theorem dX0_put_1 : decode cX0_put 1 = .ok (.invokestatic 179, 3) := dk_184 0 179 (dk_at dksX0_put_0 1 rfl rfl)
theorem dX0_put_4 : decode cX0_put 4 = .ok (.ifCond .eq 10, 3) := dk_153 0 10 (dk_at dksX0_put_0 4 rfl rfl)
theorem dX0_put_7 : decode cX0_put 7 = .ok (.iload_n 2, 1) := dk_28 (dk_at dksX0_put_0 7 rfl rfl)
theorem dX0_put_8 : decode cX0_put 8 = .ok (.invokestatic 168, 3) := dk_184 0 168 (dk_at dksX0_put_0 8 rfl rfl)
theorem dX0_put_11 : decode cX0_put 11 = .ok (.ifCond .ne 6, 3) := dk_154 0 6 (dk_at dksX0_put_0 11 rfl rfl)
theorem dX0_put_14 : decode cX0_put 14 = .ok (.bipush (-2), 2) := dk_16 254 (dk_at dksX0_put_0 14 rfl rfl)
theorem dX0_put_16 : decode cX0_put 16 = .ok (.ireturn, 1) := dk_172 (dk_at dksX0_put_0 16 rfl rfl)
theorem dX0_put_17 : decode cX0_put 17 = .ok (.aload_n 0, 1) := dk_42 (dk_at dksX0_put_0 17 rfl rfl)
theorem dX0_put_18 : decode cX0_put 18 = .ok (.getfield 36, 3) := dk_180 0 36 (dk_at dksX0_put_0 18 rfl rfl)
theorem dX0_put_21 : decode cX0_put 21 = .ok (.iload_n 1, 1) := dk_27 (dk_at dksX0_put_0 21 rfl rfl)
theorem dX0_put_22 : decode cX0_put 22 = .ok (.aaload, 1) := dk_50 (dk_at dksX0_put_0 22 rfl rfl)
theorem dX0_put_23 : decode cX0_put 23 = .ok (.getfield 182, 3) := dk_180 0 182 (dk_at dksX0_put_1 0 rfl rfl)
theorem dX0_put_26 : decode cX0_put 26 = .ok (.ifnonnull 9, 3) := dk_199 0 9 (dk_at dksX0_put_1 3 rfl rfl)
theorem dX0_put_29 : decode cX0_put 29 = .ok (.aload_n 0, 1) := dk_42 (dk_at dksX0_put_1 6 rfl rfl)
theorem dX0_put_30 : decode cX0_put 30 = .ok (.iconst 1, 1) := dk_4 (dk_at dksX0_put_1 7 rfl rfl)
theorem dX0_put_31 : decode cX0_put 31 = .ok (.invokevirtual 186, 3) := dk_182 0 186 (dk_at dksX0_put_1 8 rfl rfl)
theorem dX0_put_34 : decode cX0_put 34 = .ok (.ireturn, 1) := dk_172 (dk_at dksX0_put_1 11 rfl rfl)
theorem dX0_put_35 : decode cX0_put 35 = .ok (.aload_n 0, 1) := dk_42 (dk_at dksX0_put_1 12 rfl rfl)
theorem dX0_put_36 : decode cX0_put 36 = .ok (.getfield 36, 3) := dk_180 0 36 (dk_at dksX0_put_1 13 rfl rfl)
theorem dX0_put_39 : decode cX0_put 39 = .ok (.iload_n 1, 1) := dk_27 (dk_at dksX0_put_1 16 rfl rfl)
theorem dX0_put_40 : decode cX0_put 40 = .ok (.aaload, 1) := dk_50 (dk_at dksX0_put_1 17 rfl rfl)
theorem dX0_put_41 : decode cX0_put 41 = .ok (.iload_n 2, 1) := dk_28 (dk_at dksX0_put_1 18 rfl rfl)
theorem dX0_put_42 : decode cX0_put 42 = .ok (.iload_n 3, 1) := dk_29 (dk_at dksX0_put_1 19 rfl rfl)
theorem dX0_put_43 : decode cX0_put 43 = .ok (.iload 4, 2) := dk_21 4 (dk_at dksX0_put_1 20 rfl rfl)
theorem dX0_put_45 : decode cX0_put 45 = .ok (.invokevirtual 330, 3) := dk_182 1 74 (dk_at dksX0_put_2 0 rfl rfl)
theorem dX0_put_48 : decode cX0_put 48 = .ok (.iconst 1, 1) := dk_4 (dk_at dksX0_put_2 3 rfl rfl)
theorem dX0_put_49 : decode cX0_put 49 = .ok (.ireturn, 1) := dk_172 (dk_at dksX0_put_2 4 rfl rfl)
theorem dX0_put_50 : decode cX0_put 50 = .ok (.astore 5, 2) := dk_58 5 (dk_at dksX0_put_2 5 rfl rfl)
theorem dX0_put_52 : decode cX0_put 52 = .ok (.aload_n 0, 1) := dk_42 (dk_at dksX0_put_2 7 rfl rfl)
theorem dX0_put_53 : decode cX0_put 53 = .ok (.iconst 3, 1) := dk_6 (dk_at dksX0_put_2 8 rfl rfl)
theorem dX0_put_54 : decode cX0_put 54 = .ok (.invokevirtual 186, 3) := dk_182 0 186 (dk_at dksX0_put_2 9 rfl rfl)
theorem dX0_put_57 : decode cX0_put 57 = .ok (.ireturn, 1) := dk_172 (dk_at dksX0_put_2 12 rfl rfl)
theorem dX0_put_58 : decode cX0_put 58 = .ok (.astore 5, 2) := dk_58 5 (dk_at dksX0_put_2 13 rfl rfl)
theorem dX0_put_60 : decode cX0_put 60 = .ok (.aload_n 0, 1) := dk_42 (dk_at dksX0_put_2 15 rfl rfl)
theorem dX0_put_61 : decode cX0_put 61 = .ok (.iconst 2, 1) := dk_5 (dk_at dksX0_put_2 16 rfl rfl)
theorem dX0_put_62 : decode cX0_put 62 = .ok (.invokevirtual 186, 3) := dk_182 0 186 (dk_at dksX0_put_2 17 rfl rfl)
theorem dX0_put_65 : decode cX0_put 65 = .ok (.ireturn, 1) := dk_172 (dk_at dksX0_put_2 20 rfl rfl)
theorem dX0_put_66 : decode cX0_put 66 = .ok (.astore 5, 2) := dk_58 5 (dk_at dksX0_put_2 21 rfl rfl)
theorem dX0_put_68 : decode cX0_put 68 = .ok (.aload_n 0, 1) := dk_42 (dk_at dksX0_put_2 23 rfl rfl)
theorem dX0_put_69 : decode cX0_put 69 = .ok (.bipush 6, 2) := dk_16 6 (dk_at dksX0_put_3 0 rfl rfl)
theorem dX0_put_71 : decode cX0_put 71 = .ok (.invokevirtual 186, 3) := dk_182 0 186 (dk_at dksX0_put_3 2 rfl rfl)
theorem dX0_put_74 : decode cX0_put 74 = .ok (.ireturn, 1) := dk_172 (dk_at dksX0_put_3 5 rfl rfl)
abbrev cX0_get : ByteArray := prog_1_method_72_code
def yX0_get : MethodName := ⟨RX0, "get", "(II)J"⟩
def dkwX0_get_2 : List UInt8 := [42, 5, 182, 0, 186, 184, 0, 206, 173]
abbrev dktX0_get_2 : List UInt8 := dkwX0_get_2 ++ []
def dkwX0_get_1 : List UInt8 := [199, 0, 12, 42, 4, 182, 0, 186, 184, 0, 206, 173, 42, 180, 0, 36, 27, 50, 28, 182, 0, 192, 173, 78]
abbrev dktX0_get_1 : List UInt8 := dkwX0_get_1 ++ dktX0_get_2
def dkwX0_get_0 : List UInt8 := [27, 184, 0, 179, 154, 0, 9, 16, 254, 184, 0, 206, 173, 42, 180, 0, 36, 27, 50, 180, 0, 182]
abbrev dktX0_get_0 : List UInt8 := dkwX0_get_0 ++ dktX0_get_1
theorem dksX0_get_0 : cX0_get.data.toList.drop 0 = dktX0_get_0 := by decide +kernel
theorem dksX0_get_1 : cX0_get.data.toList.drop 22 = dktX0_get_1 := dk_seg dksX0_get_0 22 rfl rfl
theorem dksX0_get_2 : cX0_get.data.toList.drop 46 = dktX0_get_2 := dk_seg dksX0_get_1 24 rfl rfl
theorem dX0_get_0 : decode cX0_get 0 = .ok (.iload_n 1, 1) := dk_27 (dk_at dksX0_get_0 0 rfl rfl)
theorem dX0_get_1 : decode cX0_get 1 = .ok (.invokestatic 179, 3) := dk_184 0 179 (dk_at dksX0_get_0 1 rfl rfl)
theorem dX0_get_4 : decode cX0_get 4 = .ok (.ifCond .ne 9, 3) := dk_154 0 9 (dk_at dksX0_get_0 4 rfl rfl)
theorem dX0_get_7 : decode cX0_get 7 = .ok (.bipush (-2), 2) := dk_16 254 (dk_at dksX0_get_0 7 rfl rfl)
theorem dX0_get_9 : decode cX0_get 9 = .ok (.invokestatic 206, 3) := dk_184 0 206 (dk_at dksX0_get_0 9 rfl rfl)
theorem dX0_get_12 : decode cX0_get 12 = .ok (.lreturn, 1) := dk_173 (dk_at dksX0_get_0 12 rfl rfl)
theorem dX0_get_13 : decode cX0_get 13 = .ok (.aload_n 0, 1) := dk_42 (dk_at dksX0_get_0 13 rfl rfl)
theorem dX0_get_14 : decode cX0_get 14 = .ok (.getfield 36, 3) := dk_180 0 36 (dk_at dksX0_get_0 14 rfl rfl)
theorem dX0_get_17 : decode cX0_get 17 = .ok (.iload_n 1, 1) := dk_27 (dk_at dksX0_get_0 17 rfl rfl)
theorem dX0_get_18 : decode cX0_get 18 = .ok (.aaload, 1) := dk_50 (dk_at dksX0_get_0 18 rfl rfl)
theorem dX0_get_19 : decode cX0_get 19 = .ok (.getfield 182, 3) := dk_180 0 182 (dk_at dksX0_get_0 19 rfl rfl)
theorem dX0_get_22 : decode cX0_get 22 = .ok (.ifnonnull 12, 3) := dk_199 0 12 (dk_at dksX0_get_1 0 rfl rfl)
theorem dX0_get_25 : decode cX0_get 25 = .ok (.aload_n 0, 1) := dk_42 (dk_at dksX0_get_1 3 rfl rfl)
theorem dX0_get_26 : decode cX0_get 26 = .ok (.iconst 1, 1) := dk_4 (dk_at dksX0_get_1 4 rfl rfl)
theorem dX0_get_27 : decode cX0_get 27 = .ok (.invokevirtual 186, 3) := dk_182 0 186 (dk_at dksX0_get_1 5 rfl rfl)
theorem dX0_get_30 : decode cX0_get 30 = .ok (.invokestatic 206, 3) := dk_184 0 206 (dk_at dksX0_get_1 8 rfl rfl)
theorem dX0_get_33 : decode cX0_get 33 = .ok (.lreturn, 1) := dk_173 (dk_at dksX0_get_1 11 rfl rfl)
theorem dX0_get_34 : decode cX0_get 34 = .ok (.aload_n 0, 1) := dk_42 (dk_at dksX0_get_1 12 rfl rfl)
theorem dX0_get_35 : decode cX0_get 35 = .ok (.getfield 36, 3) := dk_180 0 36 (dk_at dksX0_get_1 13 rfl rfl)
theorem dX0_get_38 : decode cX0_get 38 = .ok (.iload_n 1, 1) := dk_27 (dk_at dksX0_get_1 16 rfl rfl)
theorem dX0_get_39 : decode cX0_get 39 = .ok (.aaload, 1) := dk_50 (dk_at dksX0_get_1 17 rfl rfl)
theorem dX0_get_40 : decode cX0_get 40 = .ok (.iload_n 2, 1) := dk_28 (dk_at dksX0_get_1 18 rfl rfl)
theorem dX0_get_41 : decode cX0_get 41 = .ok (.invokevirtual 192, 3) := dk_182 0 192 (dk_at dksX0_get_1 19 rfl rfl)
theorem dX0_get_44 : decode cX0_get 44 = .ok (.lreturn, 1) := dk_173 (dk_at dksX0_get_1 22 rfl rfl)
theorem dX0_get_45 : decode cX0_get 45 = .ok (.astore_n 3, 1) := dk_78 (dk_at dksX0_get_1 23 rfl rfl)
theorem dX0_get_46 : decode cX0_get 46 = .ok (.aload_n 0, 1) := dk_42 (dk_at dksX0_get_2 0 rfl rfl)
theorem dX0_get_47 : decode cX0_get 47 = .ok (.iconst 2, 1) := dk_5 (dk_at dksX0_get_2 1 rfl rfl)
theorem dX0_get_48 : decode cX0_get 48 = .ok (.invokevirtual 186, 3) := dk_182 0 186 (dk_at dksX0_get_2 2 rfl rfl)
theorem dX0_get_51 : decode cX0_get 51 = .ok (.invokestatic 206, 3) := dk_184 0 206 (dk_at dksX0_get_2 5 rfl rfl)
theorem dX0_get_54 : decode cX0_get 54 = .ok (.lreturn, 1) := dk_173 (dk_at dksX0_get_2 8 rfl rfl)
abbrev cX0_copy : ByteArray := prog_1_method_73_code
def yX0_copy : MethodName := ⟨RX0, "copy", "(IIIII)I"⟩
def dkwX0_copy_2 : List UInt8 := [42, 4, 182, 0, 186, 172, 58, 6, 42, 7, 182, 0, 186, 172, 58, 6, 42, 5, 182, 0, 186, 172]
abbrev dktX0_copy_2 : List UInt8 := dkwX0_copy_2 ++ []
def dkwX0_copy_1 : List UInt8 := [180, 0, 182, 28, 42, 180, 0, 36, 29, 50, 180, 0, 182, 21, 4, 21, 5, 184, 1, 84, 4, 172, 58, 6]
abbrev dktX0_copy_1 : List UInt8 := dkwX0_copy_1 ++ dktX0_copy_2
def dkwX0_copy_0 : List UInt8 := [27, 184, 0, 179, 153, 0, 10, 29, 184, 0, 179, 154, 0, 6, 16, 254, 172, 42, 180, 0, 36, 27, 50]
abbrev dktX0_copy_0 : List UInt8 := dkwX0_copy_0 ++ dktX0_copy_1
theorem dksX0_copy_0 : cX0_copy.data.toList.drop 0 = dktX0_copy_0 := by decide +kernel
theorem dksX0_copy_1 : cX0_copy.data.toList.drop 23 = dktX0_copy_1 := dk_seg dksX0_copy_0 23 rfl rfl
theorem dksX0_copy_2 : cX0_copy.data.toList.drop 47 = dktX0_copy_2 := dk_seg dksX0_copy_1 24 rfl rfl
theorem dX0_copy_0 : decode cX0_copy 0 = .ok (.iload_n 1, 1) := dk_27 (dk_at dksX0_copy_0 0 rfl rfl)
theorem dX0_copy_1 : decode cX0_copy 1 = .ok (.invokestatic 179, 3) := dk_184 0 179 (dk_at dksX0_copy_0 1 rfl rfl)
theorem dX0_copy_4 : decode cX0_copy 4 = .ok (.ifCond .eq 10, 3) := dk_153 0 10 (dk_at dksX0_copy_0 4 rfl rfl)
theorem dX0_copy_7 : decode cX0_copy 7 = .ok (.iload_n 3, 1) := dk_29 (dk_at dksX0_copy_0 7 rfl rfl)
theorem dX0_copy_8 : decode cX0_copy 8 = .ok (.invokestatic 179, 3) := dk_184 0 179 (dk_at dksX0_copy_0 8 rfl rfl)
theorem dX0_copy_11 : decode cX0_copy 11 = .ok (.ifCond .ne 6, 3) := dk_154 0 6 (dk_at dksX0_copy_0 11 rfl rfl)
theorem dX0_copy_14 : decode cX0_copy 14 = .ok (.bipush (-2), 2) := dk_16 254 (dk_at dksX0_copy_0 14 rfl rfl)
theorem dX0_copy_16 : decode cX0_copy 16 = .ok (.ireturn, 1) := dk_172 (dk_at dksX0_copy_0 16 rfl rfl)
theorem dX0_copy_17 : decode cX0_copy 17 = .ok (.aload_n 0, 1) := dk_42 (dk_at dksX0_copy_0 17 rfl rfl)
theorem dX0_copy_18 : decode cX0_copy 18 = .ok (.getfield 36, 3) := dk_180 0 36 (dk_at dksX0_copy_0 18 rfl rfl)
theorem dX0_copy_21 : decode cX0_copy 21 = .ok (.iload_n 1, 1) := dk_27 (dk_at dksX0_copy_0 21 rfl rfl)
theorem dX0_copy_22 : decode cX0_copy 22 = .ok (.aaload, 1) := dk_50 (dk_at dksX0_copy_0 22 rfl rfl)
theorem dX0_copy_23 : decode cX0_copy 23 = .ok (.getfield 182, 3) := dk_180 0 182 (dk_at dksX0_copy_1 0 rfl rfl)
theorem dX0_copy_26 : decode cX0_copy 26 = .ok (.iload_n 2, 1) := dk_28 (dk_at dksX0_copy_1 3 rfl rfl)
theorem dX0_copy_27 : decode cX0_copy 27 = .ok (.aload_n 0, 1) := dk_42 (dk_at dksX0_copy_1 4 rfl rfl)
theorem dX0_copy_28 : decode cX0_copy 28 = .ok (.getfield 36, 3) := dk_180 0 36 (dk_at dksX0_copy_1 5 rfl rfl)
theorem dX0_copy_31 : decode cX0_copy 31 = .ok (.iload_n 3, 1) := dk_29 (dk_at dksX0_copy_1 8 rfl rfl)
theorem dX0_copy_32 : decode cX0_copy 32 = .ok (.aaload, 1) := dk_50 (dk_at dksX0_copy_1 9 rfl rfl)
theorem dX0_copy_33 : decode cX0_copy 33 = .ok (.getfield 182, 3) := dk_180 0 182 (dk_at dksX0_copy_1 10 rfl rfl)
theorem dX0_copy_36 : decode cX0_copy 36 = .ok (.iload 4, 2) := dk_21 4 (dk_at dksX0_copy_1 13 rfl rfl)
theorem dX0_copy_38 : decode cX0_copy 38 = .ok (.iload 5, 2) := dk_21 5 (dk_at dksX0_copy_1 15 rfl rfl)
theorem dX0_copy_40 : decode cX0_copy 40 = .ok (.invokestatic 340, 3) := dk_184 1 84 (dk_at dksX0_copy_1 17 rfl rfl)
theorem dX0_copy_43 : decode cX0_copy 43 = .ok (.iconst 1, 1) := dk_4 (dk_at dksX0_copy_1 20 rfl rfl)
theorem dX0_copy_44 : decode cX0_copy 44 = .ok (.ireturn, 1) := dk_172 (dk_at dksX0_copy_1 21 rfl rfl)
theorem dX0_copy_45 : decode cX0_copy 45 = .ok (.astore 6, 2) := dk_58 6 (dk_at dksX0_copy_1 22 rfl rfl)
theorem dX0_copy_47 : decode cX0_copy 47 = .ok (.aload_n 0, 1) := dk_42 (dk_at dksX0_copy_2 0 rfl rfl)
theorem dX0_copy_48 : decode cX0_copy 48 = .ok (.iconst 1, 1) := dk_4 (dk_at dksX0_copy_2 1 rfl rfl)
theorem dX0_copy_49 : decode cX0_copy 49 = .ok (.invokevirtual 186, 3) := dk_182 0 186 (dk_at dksX0_copy_2 2 rfl rfl)
theorem dX0_copy_52 : decode cX0_copy 52 = .ok (.ireturn, 1) := dk_172 (dk_at dksX0_copy_2 5 rfl rfl)
theorem dX0_copy_53 : decode cX0_copy 53 = .ok (.astore 6, 2) := dk_58 6 (dk_at dksX0_copy_2 6 rfl rfl)
theorem dX0_copy_55 : decode cX0_copy 55 = .ok (.aload_n 0, 1) := dk_42 (dk_at dksX0_copy_2 8 rfl rfl)
theorem dX0_copy_56 : decode cX0_copy 56 = .ok (.iconst 4, 1) := dk_7 (dk_at dksX0_copy_2 9 rfl rfl)
theorem dX0_copy_57 : decode cX0_copy 57 = .ok (.invokevirtual 186, 3) := dk_182 0 186 (dk_at dksX0_copy_2 10 rfl rfl)
theorem dX0_copy_60 : decode cX0_copy 60 = .ok (.ireturn, 1) := dk_172 (dk_at dksX0_copy_2 13 rfl rfl)
theorem dX0_copy_61 : decode cX0_copy 61 = .ok (.astore 6, 2) := dk_58 6 (dk_at dksX0_copy_2 14 rfl rfl)
theorem dX0_copy_63 : decode cX0_copy 63 = .ok (.aload_n 0, 1) := dk_42 (dk_at dksX0_copy_2 16 rfl rfl)
theorem dX0_copy_64 : decode cX0_copy 64 = .ok (.iconst 2, 1) := dk_5 (dk_at dksX0_copy_2 17 rfl rfl)
theorem dX0_copy_65 : decode cX0_copy 65 = .ok (.invokevirtual 186, 3) := dk_182 0 186 (dk_at dksX0_copy_2 18 rfl rfl)
theorem dX0_copy_68 : decode cX0_copy 68 = .ok (.ireturn, 1) := dk_172 (dk_at dksX0_copy_2 21 rfl rfl)
abbrev cX0_write : ByteArray := prog_1_method_74_code
def yX0_write : MethodName := ⟨RX0, "write", "(I)I"⟩
def dkwX0_write_3 : List UInt8 := [108, 21, 4, 5, 112, 182, 0, 222, 182, 1, 99, 132, 4, 1, 167, 255, 229, 29, 172]
abbrev dktX0_write_3 : List UInt8 := dkwX0_write_3 ++ []
def dkwX0_write_2 : List UInt8 := [182, 0, 153, 104, 184, 1, 96, 62, 3, 54, 4, 21, 4, 29, 162, 0, 27, 44, 21, 4, 42, 21, 4, 5]
abbrev dktX0_write_2 : List UInt8 := dkwX0_write_2 ++ dktX0_write_3
def dkwX0_write_1 : List UInt8 := [42, 4, 182, 0, 186, 172, 42, 182, 0, 211, 154, 0, 6, 16, 253, 172, 44, 182, 0, 189, 5, 42]
abbrev dktX0_write_1 : List UInt8 := dkwX0_write_1 ++ dktX0_write_2
def dkwX0_write_0 : List UInt8 := [27, 184, 0, 179, 154, 0, 6, 16, 254, 172, 42, 180, 0, 36, 27, 50, 77, 44, 180, 0, 182, 199, 0, 9]
abbrev dktX0_write_0 : List UInt8 := dkwX0_write_0 ++ dktX0_write_1
theorem dksX0_write_0 : cX0_write.data.toList.drop 0 = dktX0_write_0 := by decide +kernel
theorem dksX0_write_1 : cX0_write.data.toList.drop 24 = dktX0_write_1 := dk_seg dksX0_write_0 24 rfl rfl
theorem dksX0_write_2 : cX0_write.data.toList.drop 46 = dktX0_write_2 := dk_seg dksX0_write_1 22 rfl rfl
theorem dksX0_write_3 : cX0_write.data.toList.drop 70 = dktX0_write_3 := dk_seg dksX0_write_2 24 rfl rfl
theorem dX0_write_0 : decode cX0_write 0 = .ok (.iload_n 1, 1) := dk_27 (dk_at dksX0_write_0 0 rfl rfl)
theorem dX0_write_1 : decode cX0_write 1 = .ok (.invokestatic 179, 3) := dk_184 0 179 (dk_at dksX0_write_0 1 rfl rfl)
theorem dX0_write_4 : decode cX0_write 4 = .ok (.ifCond .ne 6, 3) := dk_154 0 6 (dk_at dksX0_write_0 4 rfl rfl)
theorem dX0_write_7 : decode cX0_write 7 = .ok (.bipush (-2), 2) := dk_16 254 (dk_at dksX0_write_0 7 rfl rfl)
theorem dX0_write_9 : decode cX0_write 9 = .ok (.ireturn, 1) := dk_172 (dk_at dksX0_write_0 9 rfl rfl)
theorem dX0_write_10 : decode cX0_write 10 = .ok (.aload_n 0, 1) := dk_42 (dk_at dksX0_write_0 10 rfl rfl)
theorem dX0_write_11 : decode cX0_write 11 = .ok (.getfield 36, 3) := dk_180 0 36 (dk_at dksX0_write_0 11 rfl rfl)
theorem dX0_write_14 : decode cX0_write 14 = .ok (.iload_n 1, 1) := dk_27 (dk_at dksX0_write_0 14 rfl rfl)
theorem dX0_write_15 : decode cX0_write 15 = .ok (.aaload, 1) := dk_50 (dk_at dksX0_write_0 15 rfl rfl)
theorem dX0_write_16 : decode cX0_write 16 = .ok (.astore_n 2, 1) := dk_77 (dk_at dksX0_write_0 16 rfl rfl)
theorem dX0_write_17 : decode cX0_write 17 = .ok (.aload_n 2, 1) := dk_44 (dk_at dksX0_write_0 17 rfl rfl)
theorem dX0_write_18 : decode cX0_write 18 = .ok (.getfield 182, 3) := dk_180 0 182 (dk_at dksX0_write_0 18 rfl rfl)
theorem dX0_write_21 : decode cX0_write 21 = .ok (.ifnonnull 9, 3) := dk_199 0 9 (dk_at dksX0_write_0 21 rfl rfl)
theorem dX0_write_24 : decode cX0_write 24 = .ok (.aload_n 0, 1) := dk_42 (dk_at dksX0_write_1 0 rfl rfl)
theorem dX0_write_25 : decode cX0_write 25 = .ok (.iconst 1, 1) := dk_4 (dk_at dksX0_write_1 1 rfl rfl)
theorem dX0_write_26 : decode cX0_write 26 = .ok (.invokevirtual 186, 3) := dk_182 0 186 (dk_at dksX0_write_1 2 rfl rfl)
theorem dX0_write_29 : decode cX0_write 29 = .ok (.ireturn, 1) := dk_172 (dk_at dksX0_write_1 5 rfl rfl)
theorem dX0_write_30 : decode cX0_write 30 = .ok (.aload_n 0, 1) := dk_42 (dk_at dksX0_write_1 6 rfl rfl)
theorem dX0_write_31 : decode cX0_write 31 = .ok (.invokevirtual 211, 3) := dk_182 0 211 (dk_at dksX0_write_1 7 rfl rfl)
theorem dX0_write_34 : decode cX0_write 34 = .ok (.ifCond .ne 6, 3) := dk_154 0 6 (dk_at dksX0_write_1 10 rfl rfl)
theorem dX0_write_37 : decode cX0_write 37 = .ok (.bipush (-3), 2) := dk_16 253 (dk_at dksX0_write_1 13 rfl rfl)
theorem dX0_write_39 : decode cX0_write 39 = .ok (.ireturn, 1) := dk_172 (dk_at dksX0_write_1 15 rfl rfl)
theorem dX0_write_40 : decode cX0_write 40 = .ok (.aload_n 2, 1) := dk_44 (dk_at dksX0_write_1 16 rfl rfl)
theorem dX0_write_41 : decode cX0_write 41 = .ok (.invokevirtual 189, 3) := dk_182 0 189 (dk_at dksX0_write_1 17 rfl rfl)
theorem dX0_write_44 : decode cX0_write 44 = .ok (.iconst 2, 1) := dk_5 (dk_at dksX0_write_1 20 rfl rfl)
theorem dX0_write_45 : decode cX0_write 45 = .ok (.aload_n 0, 1) := dk_42 (dk_at dksX0_write_1 21 rfl rfl)
theorem dX0_write_46 : decode cX0_write 46 = .ok (.invokevirtual 153, 3) := dk_182 0 153 (dk_at dksX0_write_2 0 rfl rfl)
theorem dX0_write_49 : decode cX0_write 49 = .ok (.imul, 1) := dk_104 (dk_at dksX0_write_2 3 rfl rfl)
theorem dX0_write_50 : decode cX0_write 50 = .ok (.invokestatic 352, 3) := dk_184 1 96 (dk_at dksX0_write_2 4 rfl rfl)
theorem dX0_write_53 : decode cX0_write 53 = .ok (.istore_n 3, 1) := dk_62 (dk_at dksX0_write_2 7 rfl rfl)
theorem dX0_write_54 : decode cX0_write 54 = .ok (.iconst 0, 1) := dk_3 (dk_at dksX0_write_2 8 rfl rfl)
theorem dX0_write_55 : decode cX0_write 55 = .ok (.istore 4, 2) := dk_54 4 (dk_at dksX0_write_2 9 rfl rfl)
theorem dX0_write_57 : decode cX0_write 57 = .ok (.iload 4, 2) := dk_21 4 (dk_at dksX0_write_2 11 rfl rfl)
theorem dX0_write_59 : decode cX0_write 59 = .ok (.iload_n 3, 1) := dk_29 (dk_at dksX0_write_2 13 rfl rfl)
theorem dX0_write_60 : decode cX0_write 60 = .ok (.if_icmp .ge 27, 3) := dk_162 0 27 (dk_at dksX0_write_2 14 rfl rfl)
theorem dX0_write_63 : decode cX0_write 63 = .ok (.aload_n 2, 1) := dk_44 (dk_at dksX0_write_2 17 rfl rfl)
theorem dX0_write_64 : decode cX0_write 64 = .ok (.iload 4, 2) := dk_21 4 (dk_at dksX0_write_2 18 rfl rfl)
theorem dX0_write_66 : decode cX0_write 66 = .ok (.aload_n 0, 1) := dk_42 (dk_at dksX0_write_2 20 rfl rfl)
theorem dX0_write_67 : decode cX0_write 67 = .ok (.iload 4, 2) := dk_21 4 (dk_at dksX0_write_2 21 rfl rfl)
theorem dX0_write_69 : decode cX0_write 69 = .ok (.iconst 2, 1) := dk_5 (dk_at dksX0_write_2 23 rfl rfl)
theorem dX0_write_70 : decode cX0_write 70 = .ok (.idiv, 1) := dk_108 (dk_at dksX0_write_3 0 rfl rfl)
theorem dX0_write_71 : decode cX0_write 71 = .ok (.iload 4, 2) := dk_21 4 (dk_at dksX0_write_3 1 rfl rfl)
theorem dX0_write_73 : decode cX0_write 73 = .ok (.iconst 2, 1) := dk_5 (dk_at dksX0_write_3 3 rfl rfl)
theorem dX0_write_74 : decode cX0_write 74 = .ok (.irem, 1) := dk_112 (dk_at dksX0_write_3 4 rfl rfl)
theorem dX0_write_75 : decode cX0_write 75 = .ok (.invokevirtual 222, 3) := dk_182 0 222 (dk_at dksX0_write_3 5 rfl rfl)
theorem dX0_write_78 : decode cX0_write 78 = .ok (.invokevirtual 355, 3) := dk_182 1 99 (dk_at dksX0_write_3 8 rfl rfl)
theorem dX0_write_81 : decode cX0_write 81 = .ok (.iinc 4 1, 3) := dk_132 4 1 (dk_at dksX0_write_3 11 rfl rfl)
theorem dX0_write_84 : decode cX0_write 84 = .ok (.goto (-27), 3) := dk_167 255 229 (dk_at dksX0_write_3 14 rfl rfl)
theorem dX0_write_87 : decode cX0_write 87 = .ok (.iload_n 3, 1) := dk_29 (dk_at dksX0_write_3 17 rfl rfl)
theorem dX0_write_88 : decode cX0_write 88 = .ok (.ireturn, 1) := dk_172 (dk_at dksX0_write_3 18 rfl rfl)
abbrev cX0_count : ByteArray := prog_1_method_77_code
def yX0_count : MethodName := ⟨RX0, "count", "(I)I"⟩
def dkwX0_count_0 : List UInt8 := [42, 182, 0, 211, 87, 42, 27, 182, 1, 109, 172]
abbrev dktX0_count_0 : List UInt8 := dkwX0_count_0 ++ []
theorem dksX0_count_0 : cX0_count.data.toList.drop 0 = dktX0_count_0 := by decide +kernel
theorem dX0_count_0 : decode cX0_count 0 = .ok (.aload_n 0, 1) := dk_42 (dk_at dksX0_count_0 0 rfl rfl)
theorem dX0_count_1 : decode cX0_count 1 = .ok (.invokevirtual 211, 3) := dk_182 0 211 (dk_at dksX0_count_0 1 rfl rfl)
theorem dX0_count_4 : decode cX0_count 4 = .ok (.pop, 1) := dk_87 (dk_at dksX0_count_0 4 rfl rfl)
theorem dX0_count_5 : decode cX0_count 5 = .ok (.aload_n 0, 1) := dk_42 (dk_at dksX0_count_0 5 rfl rfl)
theorem dX0_count_6 : decode cX0_count 6 = .ok (.iload_n 1, 1) := dk_27 (dk_at dksX0_count_0 6 rfl rfl)
theorem dX0_count_7 : decode cX0_count 7 = .ok (.invokevirtual 365, 3) := dk_182 1 109 (dk_at dksX0_count_0 7 rfl rfl)
theorem dX0_count_10 : decode cX0_count 10 = .ok (.ireturn, 1) := dk_172 (dk_at dksX0_count_0 10 rfl rfl)
abbrev cX0_countBy : ByteArray := prog_1_method_76_code
def yX0_countBy : MethodName := ⟨RX0, "countBy", "(I)I"⟩
def dkwX0_countBy_5 : List UInt8 := [167, 0, 4, 2, 172, 42, 182, 1, 42, 172, 42, 180, 0, 46, 172, 16, 254, 172]
abbrev dktX0_countBy_5 : List UInt8 := dkwX0_countBy_5 ++ []
def dkwX0_countBy_4 : List UInt8 := [167, 0, 4, 2, 172, 28, 153, 0, 7, 4, 167, 0, 4, 3, 172, 28, 153, 0, 10, 42, 182, 1, 106]
abbrev dktX0_countBy_4 : List UInt8 := dkwX0_countBy_4 ++ dktX0_countBy_5
def dkwX0_countBy_3 : List UInt8 := [180, 0, 118, 184, 1, 11, 167, 0, 4, 2, 172, 28, 153, 0, 13, 42, 182, 0, 248, 184, 1, 11]
abbrev dktX0_countBy_3 : List UInt8 := dkwX0_countBy_3 ++ dktX0_countBy_4
def dkwX0_countBy_2 : List UInt8 := [42, 180, 0, 60, 172, 42, 180, 0, 90, 184, 1, 11, 172, 42, 182, 1, 103, 172, 28, 153, 0, 13, 42]
abbrev dktX0_countBy_2 : List UInt8 := dkwX0_countBy_2 ++ dktX0_countBy_3
def dkwX0_countBy_1 : List UInt8 := [170, 0, 0, 0, 0, 133, 0, 0, 0, 0, 0, 0, 0, 8, 0, 0, 0, 50, 0, 0, 0, 55, 0, 0, 0, 63, 0, 0, 0, 68, 0, 0, 0, 84, 0, 0, 0, 100, 0, 0, 0, 110, 0, 0, 0, 123, 0, 0, 0, 128]
abbrev dktX0_countBy_1 : List UInt8 := dkwX0_countBy_1 ++ dktX0_countBy_2
def dkwX0_countBy_0 : List UInt8 := [42, 180, 0, 97, 198, 0, 7, 4, 167, 0, 4, 3, 61, 27]
abbrev dktX0_countBy_0 : List UInt8 := dkwX0_countBy_0 ++ dktX0_countBy_1
theorem dksX0_countBy_0 : cX0_countBy.data.toList.drop 0 = dktX0_countBy_0 := by decide +kernel
theorem dksX0_countBy_1 : cX0_countBy.data.toList.drop 14 = dktX0_countBy_1 := dk_seg dksX0_countBy_0 14 rfl rfl
theorem dksX0_countBy_2 : cX0_countBy.data.toList.drop 64 = dktX0_countBy_2 := dk_seg dksX0_countBy_1 50 rfl rfl
theorem dksX0_countBy_3 : cX0_countBy.data.toList.drop 87 = dktX0_countBy_3 := dk_seg dksX0_countBy_2 23 rfl rfl
theorem dksX0_countBy_4 : cX0_countBy.data.toList.drop 109 = dktX0_countBy_4 := dk_seg dksX0_countBy_3 22 rfl rfl
theorem dksX0_countBy_5 : cX0_countBy.data.toList.drop 132 = dktX0_countBy_5 := dk_seg dksX0_countBy_4 23 rfl rfl
theorem dX0_countBy_0 : decode cX0_countBy 0 = .ok (.aload_n 0, 1) := dk_42 (dk_at dksX0_countBy_0 0 rfl rfl)
theorem dX0_countBy_1 : decode cX0_countBy 1 = .ok (.getfield 97, 3) := dk_180 0 97 (dk_at dksX0_countBy_0 1 rfl rfl)
theorem dX0_countBy_4 : decode cX0_countBy 4 = .ok (.ifnull 7, 3) := dk_198 0 7 (dk_at dksX0_countBy_0 4 rfl rfl)
theorem dX0_countBy_7 : decode cX0_countBy 7 = .ok (.iconst 1, 1) := dk_4 (dk_at dksX0_countBy_0 7 rfl rfl)
theorem dX0_countBy_8 : decode cX0_countBy 8 = .ok (.goto 4, 3) := dk_167 0 4 (dk_at dksX0_countBy_0 8 rfl rfl)
theorem dX0_countBy_11 : decode cX0_countBy 11 = .ok (.iconst 0, 1) := dk_3 (dk_at dksX0_countBy_0 11 rfl rfl)
theorem dX0_countBy_12 : decode cX0_countBy 12 = .ok (.istore_n 2, 1) := dk_61 (dk_at dksX0_countBy_0 12 rfl rfl)
theorem dX0_countBy_13 : decode cX0_countBy 13 = .ok (.iload_n 1, 1) := dk_27 (dk_at dksX0_countBy_0 13 rfl rfl)
theorem dX0_countBy_14 : decode cX0_countBy 14 = .ok (.tableswitch 133 0 8 #[50, 55, 63, 68, 84, 100, 110, 123, 128], 50) := by decide +kernel
theorem dX0_countBy_64 : decode cX0_countBy 64 = .ok (.aload_n 0, 1) := dk_42 (dk_at dksX0_countBy_2 0 rfl rfl)
theorem dX0_countBy_65 : decode cX0_countBy 65 = .ok (.getfield 60, 3) := dk_180 0 60 (dk_at dksX0_countBy_2 1 rfl rfl)
theorem dX0_countBy_68 : decode cX0_countBy 68 = .ok (.ireturn, 1) := dk_172 (dk_at dksX0_countBy_2 4 rfl rfl)
theorem dX0_countBy_69 : decode cX0_countBy 69 = .ok (.aload_n 0, 1) := dk_42 (dk_at dksX0_countBy_2 5 rfl rfl)
theorem dX0_countBy_70 : decode cX0_countBy 70 = .ok (.getfield 90, 3) := dk_180 0 90 (dk_at dksX0_countBy_2 6 rfl rfl)
theorem dX0_countBy_73 : decode cX0_countBy 73 = .ok (.invokestatic 267, 3) := dk_184 1 11 (dk_at dksX0_countBy_2 9 rfl rfl)
theorem dX0_countBy_76 : decode cX0_countBy 76 = .ok (.ireturn, 1) := dk_172 (dk_at dksX0_countBy_2 12 rfl rfl)
theorem dX0_countBy_77 : decode cX0_countBy 77 = .ok (.aload_n 0, 1) := dk_42 (dk_at dksX0_countBy_2 13 rfl rfl)
theorem dX0_countBy_78 : decode cX0_countBy 78 = .ok (.invokevirtual 359, 3) := dk_182 1 103 (dk_at dksX0_countBy_2 14 rfl rfl)
theorem dX0_countBy_81 : decode cX0_countBy 81 = .ok (.ireturn, 1) := dk_172 (dk_at dksX0_countBy_2 17 rfl rfl)
theorem dX0_countBy_82 : decode cX0_countBy 82 = .ok (.iload_n 2, 1) := dk_28 (dk_at dksX0_countBy_2 18 rfl rfl)
theorem dX0_countBy_83 : decode cX0_countBy 83 = .ok (.ifCond .eq 13, 3) := dk_153 0 13 (dk_at dksX0_countBy_2 19 rfl rfl)
theorem dX0_countBy_86 : decode cX0_countBy 86 = .ok (.aload_n 0, 1) := dk_42 (dk_at dksX0_countBy_2 22 rfl rfl)
theorem dX0_countBy_87 : decode cX0_countBy 87 = .ok (.getfield 118, 3) := dk_180 0 118 (dk_at dksX0_countBy_3 0 rfl rfl)
theorem dX0_countBy_90 : decode cX0_countBy 90 = .ok (.invokestatic 267, 3) := dk_184 1 11 (dk_at dksX0_countBy_3 3 rfl rfl)
theorem dX0_countBy_93 : decode cX0_countBy 93 = .ok (.goto 4, 3) := dk_167 0 4 (dk_at dksX0_countBy_3 6 rfl rfl)
theorem dX0_countBy_96 : decode cX0_countBy 96 = .ok (.iconst (-1), 1) := dk_2 (dk_at dksX0_countBy_3 9 rfl rfl)
theorem dX0_countBy_97 : decode cX0_countBy 97 = .ok (.ireturn, 1) := dk_172 (dk_at dksX0_countBy_3 10 rfl rfl)
theorem dX0_countBy_98 : decode cX0_countBy 98 = .ok (.iload_n 2, 1) := dk_28 (dk_at dksX0_countBy_3 11 rfl rfl)
theorem dX0_countBy_99 : decode cX0_countBy 99 = .ok (.ifCond .eq 13, 3) := dk_153 0 13 (dk_at dksX0_countBy_3 12 rfl rfl)
theorem dX0_countBy_102 : decode cX0_countBy 102 = .ok (.aload_n 0, 1) := dk_42 (dk_at dksX0_countBy_3 15 rfl rfl)
theorem dX0_countBy_103 : decode cX0_countBy 103 = .ok (.invokevirtual 248, 3) := dk_182 0 248 (dk_at dksX0_countBy_3 16 rfl rfl)
theorem dX0_countBy_106 : decode cX0_countBy 106 = .ok (.invokestatic 267, 3) := dk_184 1 11 (dk_at dksX0_countBy_3 19 rfl rfl)
theorem dX0_countBy_109 : decode cX0_countBy 109 = .ok (.goto 4, 3) := dk_167 0 4 (dk_at dksX0_countBy_4 0 rfl rfl)
theorem dX0_countBy_112 : decode cX0_countBy 112 = .ok (.iconst (-1), 1) := dk_2 (dk_at dksX0_countBy_4 3 rfl rfl)
theorem dX0_countBy_113 : decode cX0_countBy 113 = .ok (.ireturn, 1) := dk_172 (dk_at dksX0_countBy_4 4 rfl rfl)
theorem dX0_countBy_114 : decode cX0_countBy 114 = .ok (.iload_n 2, 1) := dk_28 (dk_at dksX0_countBy_4 5 rfl rfl)
theorem dX0_countBy_115 : decode cX0_countBy 115 = .ok (.ifCond .eq 7, 3) := dk_153 0 7 (dk_at dksX0_countBy_4 6 rfl rfl)
theorem dX0_countBy_118 : decode cX0_countBy 118 = .ok (.iconst 1, 1) := dk_4 (dk_at dksX0_countBy_4 9 rfl rfl)
theorem dX0_countBy_119 : decode cX0_countBy 119 = .ok (.goto 4, 3) := dk_167 0 4 (dk_at dksX0_countBy_4 10 rfl rfl)
theorem dX0_countBy_122 : decode cX0_countBy 122 = .ok (.iconst 0, 1) := dk_3 (dk_at dksX0_countBy_4 13 rfl rfl)
theorem dX0_countBy_123 : decode cX0_countBy 123 = .ok (.ireturn, 1) := dk_172 (dk_at dksX0_countBy_4 14 rfl rfl)
theorem dX0_countBy_124 : decode cX0_countBy 124 = .ok (.iload_n 2, 1) := dk_28 (dk_at dksX0_countBy_4 15 rfl rfl)
theorem dX0_countBy_125 : decode cX0_countBy 125 = .ok (.ifCond .eq 10, 3) := dk_153 0 10 (dk_at dksX0_countBy_4 16 rfl rfl)
theorem dX0_countBy_128 : decode cX0_countBy 128 = .ok (.aload_n 0, 1) := dk_42 (dk_at dksX0_countBy_4 19 rfl rfl)
theorem dX0_countBy_129 : decode cX0_countBy 129 = .ok (.invokevirtual 362, 3) := dk_182 1 106 (dk_at dksX0_countBy_4 20 rfl rfl)
theorem dX0_countBy_132 : decode cX0_countBy 132 = .ok (.goto 4, 3) := dk_167 0 4 (dk_at dksX0_countBy_5 0 rfl rfl)
theorem dX0_countBy_135 : decode cX0_countBy 135 = .ok (.iconst (-1), 1) := dk_2 (dk_at dksX0_countBy_5 3 rfl rfl)
theorem dX0_countBy_136 : decode cX0_countBy 136 = .ok (.ireturn, 1) := dk_172 (dk_at dksX0_countBy_5 4 rfl rfl)
theorem dX0_countBy_137 : decode cX0_countBy 137 = .ok (.aload_n 0, 1) := dk_42 (dk_at dksX0_countBy_5 5 rfl rfl)
theorem dX0_countBy_138 : decode cX0_countBy 138 = .ok (.invokevirtual 298, 3) := dk_182 1 42 (dk_at dksX0_countBy_5 6 rfl rfl)
theorem dX0_countBy_141 : decode cX0_countBy 141 = .ok (.ireturn, 1) := dk_172 (dk_at dksX0_countBy_5 9 rfl rfl)
theorem dX0_countBy_142 : decode cX0_countBy 142 = .ok (.aload_n 0, 1) := dk_42 (dk_at dksX0_countBy_5 10 rfl rfl)
theorem dX0_countBy_143 : decode cX0_countBy 143 = .ok (.getfield 46, 3) := dk_180 0 46 (dk_at dksX0_countBy_5 11 rfl rfl)
theorem dX0_countBy_146 : decode cX0_countBy 146 = .ok (.ireturn, 1) := dk_172 (dk_at dksX0_countBy_5 14 rfl rfl)
theorem dX0_countBy_147 : decode cX0_countBy 147 = .ok (.bipush (-2), 2) := dk_16 254 (dk_at dksX0_countBy_5 15 rfl rfl)
theorem dX0_countBy_149 : decode cX0_countBy 149 = .ok (.ireturn, 1) := dk_172 (dk_at dksX0_countBy_5 17 rfl rfl)
abbrev cX0_waysNow : ByteArray := prog_1_method_75_code
def yX0_waysNow : MethodName := ⟨RX0, "waysNow", "()I"⟩
def dkwX0_waysNow_1 : List UInt8 := [184, 1, 11, 100, 96, 60, 132, 2, 1, 167, 255, 228, 27, 172]
abbrev dktX0_waysNow_1 : List UInt8 := dkwX0_waysNow_1 ++ []
def dkwX0_waysNow_0 : List UInt8 := [3, 60, 3, 61, 28, 42, 180, 0, 60, 162, 0, 26, 27, 5, 42, 180, 0, 14, 28, 50, 180, 0, 165]
abbrev dktX0_waysNow_0 : List UInt8 := dkwX0_waysNow_0 ++ dktX0_waysNow_1
theorem dksX0_waysNow_0 : cX0_waysNow.data.toList.drop 0 = dktX0_waysNow_0 := by decide +kernel
theorem dksX0_waysNow_1 : cX0_waysNow.data.toList.drop 23 = dktX0_waysNow_1 := dk_seg dksX0_waysNow_0 23 rfl rfl
theorem dX0_waysNow_0 : decode cX0_waysNow 0 = .ok (.iconst 0, 1) := dk_3 (dk_at dksX0_waysNow_0 0 rfl rfl)
theorem dX0_waysNow_1 : decode cX0_waysNow 1 = .ok (.istore_n 1, 1) := dk_60 (dk_at dksX0_waysNow_0 1 rfl rfl)
theorem dX0_waysNow_2 : decode cX0_waysNow 2 = .ok (.iconst 0, 1) := dk_3 (dk_at dksX0_waysNow_0 2 rfl rfl)
theorem dX0_waysNow_3 : decode cX0_waysNow 3 = .ok (.istore_n 2, 1) := dk_61 (dk_at dksX0_waysNow_0 3 rfl rfl)
theorem dX0_waysNow_4 : decode cX0_waysNow 4 = .ok (.iload_n 2, 1) := dk_28 (dk_at dksX0_waysNow_0 4 rfl rfl)
theorem dX0_waysNow_5 : decode cX0_waysNow 5 = .ok (.aload_n 0, 1) := dk_42 (dk_at dksX0_waysNow_0 5 rfl rfl)
theorem dX0_waysNow_6 : decode cX0_waysNow 6 = .ok (.getfield 60, 3) := dk_180 0 60 (dk_at dksX0_waysNow_0 6 rfl rfl)
theorem dX0_waysNow_9 : decode cX0_waysNow 9 = .ok (.if_icmp .ge 26, 3) := dk_162 0 26 (dk_at dksX0_waysNow_0 9 rfl rfl)
theorem dX0_waysNow_12 : decode cX0_waysNow 12 = .ok (.iload_n 1, 1) := dk_27 (dk_at dksX0_waysNow_0 12 rfl rfl)
theorem dX0_waysNow_13 : decode cX0_waysNow 13 = .ok (.iconst 2, 1) := dk_5 (dk_at dksX0_waysNow_0 13 rfl rfl)
theorem dX0_waysNow_14 : decode cX0_waysNow 14 = .ok (.aload_n 0, 1) := dk_42 (dk_at dksX0_waysNow_0 14 rfl rfl)
theorem dX0_waysNow_15 : decode cX0_waysNow 15 = .ok (.getfield 14, 3) := dk_180 0 14 (dk_at dksX0_waysNow_0 15 rfl rfl)
theorem dX0_waysNow_18 : decode cX0_waysNow 18 = .ok (.iload_n 2, 1) := dk_28 (dk_at dksX0_waysNow_0 18 rfl rfl)
theorem dX0_waysNow_19 : decode cX0_waysNow 19 = .ok (.aaload, 1) := dk_50 (dk_at dksX0_waysNow_0 19 rfl rfl)
theorem dX0_waysNow_20 : decode cX0_waysNow 20 = .ok (.getfield 165, 3) := dk_180 0 165 (dk_at dksX0_waysNow_0 20 rfl rfl)
theorem dX0_waysNow_23 : decode cX0_waysNow 23 = .ok (.invokestatic 267, 3) := dk_184 1 11 (dk_at dksX0_waysNow_1 0 rfl rfl)
theorem dX0_waysNow_26 : decode cX0_waysNow 26 = .ok (.isub, 1) := dk_100 (dk_at dksX0_waysNow_1 3 rfl rfl)
theorem dX0_waysNow_27 : decode cX0_waysNow 27 = .ok (.iadd, 1) := dk_96 (dk_at dksX0_waysNow_1 4 rfl rfl)
theorem dX0_waysNow_28 : decode cX0_waysNow 28 = .ok (.istore_n 1, 1) := dk_60 (dk_at dksX0_waysNow_1 5 rfl rfl)
theorem dX0_waysNow_29 : decode cX0_waysNow 29 = .ok (.iinc 2 1, 3) := dk_132 2 1 (dk_at dksX0_waysNow_1 6 rfl rfl)
theorem dX0_waysNow_32 : decode cX0_waysNow 32 = .ok (.goto (-28), 3) := dk_167 255 228 (dk_at dksX0_waysNow_1 9 rfl rfl)
theorem dX0_waysNow_35 : decode cX0_waysNow 35 = .ok (.iload_n 1, 1) := dk_27 (dk_at dksX0_waysNow_1 12 rfl rfl)
theorem dX0_waysNow_36 : decode cX0_waysNow 36 = .ok (.ireturn, 1) := dk_172 (dk_at dksX0_waysNow_1 13 rfl rfl)
abbrev cX0_crossings : ByteArray := prog_1_method_67_code
def yX0_crossings : MethodName := ⟨RX0, "crossings", "()I"⟩
def dkwX0_crossings_0 : List UInt8 := [3, 60, 42, 27, 182, 1, 66, 153, 0, 9, 132, 1, 1, 167, 255, 245, 27, 172]
abbrev dktX0_crossings_0 : List UInt8 := dkwX0_crossings_0 ++ []
theorem dksX0_crossings_0 : cX0_crossings.data.toList.drop 0 = dktX0_crossings_0 := by decide +kernel
theorem dX0_crossings_0 : decode cX0_crossings 0 = .ok (.iconst 0, 1) := dk_3 (dk_at dksX0_crossings_0 0 rfl rfl)
theorem dX0_crossings_1 : decode cX0_crossings 1 = .ok (.istore_n 1, 1) := dk_60 (dk_at dksX0_crossings_0 1 rfl rfl)
theorem dX0_crossings_2 : decode cX0_crossings 2 = .ok (.aload_n 0, 1) := dk_42 (dk_at dksX0_crossings_0 2 rfl rfl)
theorem dX0_crossings_3 : decode cX0_crossings 3 = .ok (.iload_n 1, 1) := dk_27 (dk_at dksX0_crossings_0 3 rfl rfl)
theorem dX0_crossings_4 : decode cX0_crossings 4 = .ok (.invokevirtual 322, 3) := dk_182 1 66 (dk_at dksX0_crossings_0 4 rfl rfl)
theorem dX0_crossings_7 : decode cX0_crossings 7 = .ok (.ifCond .eq 9, 3) := dk_153 0 9 (dk_at dksX0_crossings_0 7 rfl rfl)
theorem dX0_crossings_10 : decode cX0_crossings 10 = .ok (.iinc 1 1, 3) := dk_132 1 1 (dk_at dksX0_crossings_0 10 rfl rfl)
theorem dX0_crossings_13 : decode cX0_crossings 13 = .ok (.goto (-11), 3) := dk_167 255 245 (dk_at dksX0_crossings_0 13 rfl rfl)
theorem dX0_crossings_16 : decode cX0_crossings 16 = .ok (.iload_n 1, 1) := dk_27 (dk_at dksX0_crossings_0 16 rfl rfl)
theorem dX0_crossings_17 : decode cX0_crossings 17 = .ok (.ireturn, 1) := dk_172 (dk_at dksX0_crossings_0 17 rfl rfl)
abbrev cX0_digest : ByteArray := prog_1_method_79_code
def yX0_digest : MethodName := ⟨RX0, "digest", "()J"⟩
def dkwX0_digest_13 : List UInt8 := [167, 255, 210, 31, 173]
abbrev dktX0_digest_13 : List UInt8 := dkwX0_digest_13 ++ []
def dkwX0_digest_12 : List UInt8 := [20, 1, 112, 31, 105, 42, 21, 5, 182, 1, 69, 133, 97, 64, 132, 5, 1, 167, 255, 232, 132, 4, 1]
abbrev dktX0_digest_12 : List UInt8 := dkwX0_digest_12 ++ dktX0_digest_13
def dkwX0_digest_11 : List UInt8 := [29, 153, 0, 48, 42, 21, 4, 182, 1, 66, 153, 0, 39, 3, 54, 5, 21, 5, 16, 6, 162, 0, 23]
abbrev dktX0_digest_11 : List UInt8 := dkwX0_digest_11 ++ dktX0_digest_12
def dkwX0_digest_10 : List UInt8 := [42, 182, 1, 33, 133, 20, 1, 31, 21, 4, 184, 0, 218, 97, 64, 132, 4, 1, 167, 255, 227, 3, 54, 4]
abbrev dktX0_digest_10 : List UInt8 := dkwX0_digest_10 ++ dktX0_digest_11
def dkwX0_digest_9 : List UInt8 := [182, 1, 116, 64, 132, 4, 1, 167, 255, 236, 3, 54, 4, 21, 4, 5, 162, 0, 29, 20, 1, 112, 31, 105]
abbrev dktX0_digest_9 : List UInt8 := dkwX0_digest_9 ++ dktX0_digest_10
def dkwX0_digest_8 : List UInt8 := [132, 4, 1, 167, 255, 208, 3, 54, 4, 21, 4, 42, 182, 0, 153, 162, 0, 17, 42, 31, 21, 4]
abbrev dktX0_digest_8 : List UInt8 := dkwX0_digest_8 ++ dktX0_digest_9
def dkwX0_digest_7 : List UInt8 := [31, 105, 42, 180, 0, 14, 21, 4, 50, 21, 5, 182, 0, 197, 133, 97, 64, 132, 5, 1, 167, 255, 226]
abbrev dktX0_digest_7 : List UInt8 := dkwX0_digest_7 ++ dktX0_digest_8
def dkwX0_digest_6 : List UInt8 := [54, 4, 21, 4, 42, 180, 0, 60, 162, 0, 45, 3, 54, 5, 21, 5, 16, 7, 162, 0, 29, 20, 1, 112]
abbrev dktX0_digest_6 : List UInt8 := dkwX0_digest_6 ++ dktX0_digest_7
def dkwX0_digest_5 : List UInt8 := [97, 64, 20, 1, 112, 31, 105, 29, 153, 0, 10, 42, 182, 0, 251, 167, 0, 5, 16, 253, 133, 97, 64, 3]
abbrev dktX0_digest_5 : List UInt8 := dkwX0_digest_5 ++ dktX0_digest_6
def dkwX0_digest_4 : List UInt8 := [16, 253, 133, 97, 64, 20, 1, 112, 31, 105, 29, 153, 0, 10, 42, 182, 0, 248, 167, 0, 5, 16, 253, 133]
abbrev dktX0_digest_4 : List UInt8 := dkwX0_digest_4 ++ dktX0_digest_5
def dkwX0_digest_3 : List UInt8 := [42, 180, 0, 111, 133, 97, 64, 20, 1, 112, 31, 105, 29, 153, 0, 10, 42, 180, 0, 118, 167, 0, 5]
abbrev dktX0_digest_3 : List UInt8 := dkwX0_digest_3 ++ dktX0_digest_4
def dkwX0_digest_2 : List UInt8 := [20, 1, 112, 31, 105, 42, 21, 4, 182, 0, 215, 97, 64, 132, 4, 1, 167, 255, 234, 20, 1, 112, 31, 105]
abbrev dktX0_digest_2 : List UInt8 := dkwX0_digest_2 ++ dktX0_digest_3
def dkwX0_digest_1 : List UInt8 := [42, 21, 4, 182, 1, 109, 133, 97, 64, 132, 4, 1, 167, 255, 232, 3, 54, 4, 21, 4, 5, 162, 0, 22]
abbrev dktX0_digest_1 : List UInt8 := dkwX0_digest_1 ++ dktX0_digest_2
def dkwX0_digest_0 : List UInt8 := [20, 1, 114, 64, 42, 182, 0, 211, 62, 3, 54, 4, 21, 4, 16, 8, 162, 0, 23, 20, 1, 112, 31, 105]
abbrev dktX0_digest_0 : List UInt8 := dkwX0_digest_0 ++ dktX0_digest_1
theorem dksX0_digest_0 : cX0_digest.data.toList.drop 0 = dktX0_digest_0 := by decide +kernel
theorem dksX0_digest_1 : cX0_digest.data.toList.drop 24 = dktX0_digest_1 := dk_seg dksX0_digest_0 24 rfl rfl
theorem dksX0_digest_2 : cX0_digest.data.toList.drop 48 = dktX0_digest_2 := dk_seg dksX0_digest_1 24 rfl rfl
theorem dksX0_digest_3 : cX0_digest.data.toList.drop 72 = dktX0_digest_3 := dk_seg dksX0_digest_2 24 rfl rfl
theorem dksX0_digest_4 : cX0_digest.data.toList.drop 95 = dktX0_digest_4 := dk_seg dksX0_digest_3 23 rfl rfl
theorem dksX0_digest_5 : cX0_digest.data.toList.drop 119 = dktX0_digest_5 := dk_seg dksX0_digest_4 24 rfl rfl
theorem dksX0_digest_6 : cX0_digest.data.toList.drop 143 = dktX0_digest_6 := dk_seg dksX0_digest_5 24 rfl rfl
theorem dksX0_digest_7 : cX0_digest.data.toList.drop 167 = dktX0_digest_7 := dk_seg dksX0_digest_6 24 rfl rfl
theorem dksX0_digest_8 : cX0_digest.data.toList.drop 190 = dktX0_digest_8 := dk_seg dksX0_digest_7 23 rfl rfl
theorem dksX0_digest_9 : cX0_digest.data.toList.drop 212 = dktX0_digest_9 := dk_seg dksX0_digest_8 22 rfl rfl
theorem dksX0_digest_10 : cX0_digest.data.toList.drop 236 = dktX0_digest_10 := dk_seg dksX0_digest_9 24 rfl rfl
theorem dksX0_digest_11 : cX0_digest.data.toList.drop 260 = dktX0_digest_11 := dk_seg dksX0_digest_10 24 rfl rfl
theorem dksX0_digest_12 : cX0_digest.data.toList.drop 283 = dktX0_digest_12 := dk_seg dksX0_digest_11 23 rfl rfl
theorem dksX0_digest_13 : cX0_digest.data.toList.drop 306 = dktX0_digest_13 := dk_seg dksX0_digest_12 23 rfl rfl
theorem dX0_digest_0 : decode cX0_digest 0 = .ok (.ldc2_w 370, 3) := dk_20 1 114 (dk_at dksX0_digest_0 0 rfl rfl)
theorem dX0_digest_3 : decode cX0_digest 3 = .ok (.lstore_n 1, 1) := dk_64 (dk_at dksX0_digest_0 3 rfl rfl)
theorem dX0_digest_4 : decode cX0_digest 4 = .ok (.aload_n 0, 1) := dk_42 (dk_at dksX0_digest_0 4 rfl rfl)
theorem dX0_digest_5 : decode cX0_digest 5 = .ok (.invokevirtual 211, 3) := dk_182 0 211 (dk_at dksX0_digest_0 5 rfl rfl)
theorem dX0_digest_8 : decode cX0_digest 8 = .ok (.istore_n 3, 1) := dk_62 (dk_at dksX0_digest_0 8 rfl rfl)
theorem dX0_digest_9 : decode cX0_digest 9 = .ok (.iconst 0, 1) := dk_3 (dk_at dksX0_digest_0 9 rfl rfl)
theorem dX0_digest_10 : decode cX0_digest 10 = .ok (.istore 4, 2) := dk_54 4 (dk_at dksX0_digest_0 10 rfl rfl)
theorem dX0_digest_12 : decode cX0_digest 12 = .ok (.iload 4, 2) := dk_21 4 (dk_at dksX0_digest_0 12 rfl rfl)
theorem dX0_digest_14 : decode cX0_digest 14 = .ok (.bipush 8, 2) := dk_16 8 (dk_at dksX0_digest_0 14 rfl rfl)
theorem dX0_digest_16 : decode cX0_digest 16 = .ok (.if_icmp .ge 23, 3) := dk_162 0 23 (dk_at dksX0_digest_0 16 rfl rfl)
theorem dX0_digest_19 : decode cX0_digest 19 = .ok (.ldc2_w 368, 3) := dk_20 1 112 (dk_at dksX0_digest_0 19 rfl rfl)
theorem dX0_digest_22 : decode cX0_digest 22 = .ok (.lload_n 1, 1) := dk_31 (dk_at dksX0_digest_0 22 rfl rfl)
theorem dX0_digest_23 : decode cX0_digest 23 = .ok (.lmul, 1) := dk_105 (dk_at dksX0_digest_0 23 rfl rfl)
theorem dX0_digest_24 : decode cX0_digest 24 = .ok (.aload_n 0, 1) := dk_42 (dk_at dksX0_digest_1 0 rfl rfl)
theorem dX0_digest_25 : decode cX0_digest 25 = .ok (.iload 4, 2) := dk_21 4 (dk_at dksX0_digest_1 1 rfl rfl)
theorem dX0_digest_27 : decode cX0_digest 27 = .ok (.invokevirtual 365, 3) := dk_182 1 109 (dk_at dksX0_digest_1 3 rfl rfl)
theorem dX0_digest_30 : decode cX0_digest 30 = .ok (.i2l, 1) := dk_133 (dk_at dksX0_digest_1 6 rfl rfl)
theorem dX0_digest_31 : decode cX0_digest 31 = .ok (.ladd, 1) := dk_97 (dk_at dksX0_digest_1 7 rfl rfl)
theorem dX0_digest_32 : decode cX0_digest 32 = .ok (.lstore_n 1, 1) := dk_64 (dk_at dksX0_digest_1 8 rfl rfl)
theorem dX0_digest_33 : decode cX0_digest 33 = .ok (.iinc 4 1, 3) := dk_132 4 1 (dk_at dksX0_digest_1 9 rfl rfl)
theorem dX0_digest_36 : decode cX0_digest 36 = .ok (.goto (-24), 3) := dk_167 255 232 (dk_at dksX0_digest_1 12 rfl rfl)
theorem dX0_digest_39 : decode cX0_digest 39 = .ok (.iconst 0, 1) := dk_3 (dk_at dksX0_digest_1 15 rfl rfl)
theorem dX0_digest_40 : decode cX0_digest 40 = .ok (.istore 4, 2) := dk_54 4 (dk_at dksX0_digest_1 16 rfl rfl)
theorem dX0_digest_42 : decode cX0_digest 42 = .ok (.iload 4, 2) := dk_21 4 (dk_at dksX0_digest_1 18 rfl rfl)
theorem dX0_digest_44 : decode cX0_digest 44 = .ok (.iconst 2, 1) := dk_5 (dk_at dksX0_digest_1 20 rfl rfl)
theorem dX0_digest_45 : decode cX0_digest 45 = .ok (.if_icmp .ge 22, 3) := dk_162 0 22 (dk_at dksX0_digest_1 21 rfl rfl)
theorem dX0_digest_48 : decode cX0_digest 48 = .ok (.ldc2_w 368, 3) := dk_20 1 112 (dk_at dksX0_digest_2 0 rfl rfl)
theorem dX0_digest_51 : decode cX0_digest 51 = .ok (.lload_n 1, 1) := dk_31 (dk_at dksX0_digest_2 3 rfl rfl)
theorem dX0_digest_52 : decode cX0_digest 52 = .ok (.lmul, 1) := dk_105 (dk_at dksX0_digest_2 4 rfl rfl)
theorem dX0_digest_53 : decode cX0_digest 53 = .ok (.aload_n 0, 1) := dk_42 (dk_at dksX0_digest_2 5 rfl rfl)
theorem dX0_digest_54 : decode cX0_digest 54 = .ok (.iload 4, 2) := dk_21 4 (dk_at dksX0_digest_2 6 rfl rfl)
theorem dX0_digest_56 : decode cX0_digest 56 = .ok (.invokevirtual 215, 3) := dk_182 0 215 (dk_at dksX0_digest_2 8 rfl rfl)
theorem dX0_digest_59 : decode cX0_digest 59 = .ok (.ladd, 1) := dk_97 (dk_at dksX0_digest_2 11 rfl rfl)
theorem dX0_digest_60 : decode cX0_digest 60 = .ok (.lstore_n 1, 1) := dk_64 (dk_at dksX0_digest_2 12 rfl rfl)
theorem dX0_digest_61 : decode cX0_digest 61 = .ok (.iinc 4 1, 3) := dk_132 4 1 (dk_at dksX0_digest_2 13 rfl rfl)
theorem dX0_digest_64 : decode cX0_digest 64 = .ok (.goto (-22), 3) := dk_167 255 234 (dk_at dksX0_digest_2 16 rfl rfl)
theorem dX0_digest_67 : decode cX0_digest 67 = .ok (.ldc2_w 368, 3) := dk_20 1 112 (dk_at dksX0_digest_2 19 rfl rfl)
theorem dX0_digest_70 : decode cX0_digest 70 = .ok (.lload_n 1, 1) := dk_31 (dk_at dksX0_digest_2 22 rfl rfl)
theorem dX0_digest_71 : decode cX0_digest 71 = .ok (.lmul, 1) := dk_105 (dk_at dksX0_digest_2 23 rfl rfl)
theorem dX0_digest_72 : decode cX0_digest 72 = .ok (.aload_n 0, 1) := dk_42 (dk_at dksX0_digest_3 0 rfl rfl)
theorem dX0_digest_73 : decode cX0_digest 73 = .ok (.getfield 111, 3) := dk_180 0 111 (dk_at dksX0_digest_3 1 rfl rfl)
theorem dX0_digest_76 : decode cX0_digest 76 = .ok (.i2l, 1) := dk_133 (dk_at dksX0_digest_3 4 rfl rfl)
theorem dX0_digest_77 : decode cX0_digest 77 = .ok (.ladd, 1) := dk_97 (dk_at dksX0_digest_3 5 rfl rfl)
theorem dX0_digest_78 : decode cX0_digest 78 = .ok (.lstore_n 1, 1) := dk_64 (dk_at dksX0_digest_3 6 rfl rfl)
theorem dX0_digest_79 : decode cX0_digest 79 = .ok (.ldc2_w 368, 3) := dk_20 1 112 (dk_at dksX0_digest_3 7 rfl rfl)
theorem dX0_digest_82 : decode cX0_digest 82 = .ok (.lload_n 1, 1) := dk_31 (dk_at dksX0_digest_3 10 rfl rfl)
theorem dX0_digest_83 : decode cX0_digest 83 = .ok (.lmul, 1) := dk_105 (dk_at dksX0_digest_3 11 rfl rfl)
theorem dX0_digest_84 : decode cX0_digest 84 = .ok (.iload_n 3, 1) := dk_29 (dk_at dksX0_digest_3 12 rfl rfl)
theorem dX0_digest_85 : decode cX0_digest 85 = .ok (.ifCond .eq 10, 3) := dk_153 0 10 (dk_at dksX0_digest_3 13 rfl rfl)
theorem dX0_digest_88 : decode cX0_digest 88 = .ok (.aload_n 0, 1) := dk_42 (dk_at dksX0_digest_3 16 rfl rfl)
theorem dX0_digest_89 : decode cX0_digest 89 = .ok (.getfield 118, 3) := dk_180 0 118 (dk_at dksX0_digest_3 17 rfl rfl)
theorem dX0_digest_92 : decode cX0_digest 92 = .ok (.goto 5, 3) := dk_167 0 5 (dk_at dksX0_digest_3 20 rfl rfl)
theorem dX0_digest_95 : decode cX0_digest 95 = .ok (.bipush (-3), 2) := dk_16 253 (dk_at dksX0_digest_4 0 rfl rfl)
theorem dX0_digest_97 : decode cX0_digest 97 = .ok (.i2l, 1) := dk_133 (dk_at dksX0_digest_4 2 rfl rfl)
theorem dX0_digest_98 : decode cX0_digest 98 = .ok (.ladd, 1) := dk_97 (dk_at dksX0_digest_4 3 rfl rfl)
theorem dX0_digest_99 : decode cX0_digest 99 = .ok (.lstore_n 1, 1) := dk_64 (dk_at dksX0_digest_4 4 rfl rfl)
theorem dX0_digest_100 : decode cX0_digest 100 = .ok (.ldc2_w 368, 3) := dk_20 1 112 (dk_at dksX0_digest_4 5 rfl rfl)
theorem dX0_digest_103 : decode cX0_digest 103 = .ok (.lload_n 1, 1) := dk_31 (dk_at dksX0_digest_4 8 rfl rfl)
theorem dX0_digest_104 : decode cX0_digest 104 = .ok (.lmul, 1) := dk_105 (dk_at dksX0_digest_4 9 rfl rfl)
theorem dX0_digest_105 : decode cX0_digest 105 = .ok (.iload_n 3, 1) := dk_29 (dk_at dksX0_digest_4 10 rfl rfl)
theorem dX0_digest_106 : decode cX0_digest 106 = .ok (.ifCond .eq 10, 3) := dk_153 0 10 (dk_at dksX0_digest_4 11 rfl rfl)
theorem dX0_digest_109 : decode cX0_digest 109 = .ok (.aload_n 0, 1) := dk_42 (dk_at dksX0_digest_4 14 rfl rfl)
theorem dX0_digest_110 : decode cX0_digest 110 = .ok (.invokevirtual 248, 3) := dk_182 0 248 (dk_at dksX0_digest_4 15 rfl rfl)
theorem dX0_digest_113 : decode cX0_digest 113 = .ok (.goto 5, 3) := dk_167 0 5 (dk_at dksX0_digest_4 18 rfl rfl)
theorem dX0_digest_116 : decode cX0_digest 116 = .ok (.bipush (-3), 2) := dk_16 253 (dk_at dksX0_digest_4 21 rfl rfl)
theorem dX0_digest_118 : decode cX0_digest 118 = .ok (.i2l, 1) := dk_133 (dk_at dksX0_digest_4 23 rfl rfl)
theorem dX0_digest_119 : decode cX0_digest 119 = .ok (.ladd, 1) := dk_97 (dk_at dksX0_digest_5 0 rfl rfl)
theorem dX0_digest_120 : decode cX0_digest 120 = .ok (.lstore_n 1, 1) := dk_64 (dk_at dksX0_digest_5 1 rfl rfl)
theorem dX0_digest_121 : decode cX0_digest 121 = .ok (.ldc2_w 368, 3) := dk_20 1 112 (dk_at dksX0_digest_5 2 rfl rfl)
theorem dX0_digest_124 : decode cX0_digest 124 = .ok (.lload_n 1, 1) := dk_31 (dk_at dksX0_digest_5 5 rfl rfl)
theorem dX0_digest_125 : decode cX0_digest 125 = .ok (.lmul, 1) := dk_105 (dk_at dksX0_digest_5 6 rfl rfl)
theorem dX0_digest_126 : decode cX0_digest 126 = .ok (.iload_n 3, 1) := dk_29 (dk_at dksX0_digest_5 7 rfl rfl)
theorem dX0_digest_127 : decode cX0_digest 127 = .ok (.ifCond .eq 10, 3) := dk_153 0 10 (dk_at dksX0_digest_5 8 rfl rfl)
theorem dX0_digest_130 : decode cX0_digest 130 = .ok (.aload_n 0, 1) := dk_42 (dk_at dksX0_digest_5 11 rfl rfl)
theorem dX0_digest_131 : decode cX0_digest 131 = .ok (.invokevirtual 251, 3) := dk_182 0 251 (dk_at dksX0_digest_5 12 rfl rfl)
theorem dX0_digest_134 : decode cX0_digest 134 = .ok (.goto 5, 3) := dk_167 0 5 (dk_at dksX0_digest_5 15 rfl rfl)
theorem dX0_digest_137 : decode cX0_digest 137 = .ok (.bipush (-3), 2) := dk_16 253 (dk_at dksX0_digest_5 18 rfl rfl)
theorem dX0_digest_139 : decode cX0_digest 139 = .ok (.i2l, 1) := dk_133 (dk_at dksX0_digest_5 20 rfl rfl)
theorem dX0_digest_140 : decode cX0_digest 140 = .ok (.ladd, 1) := dk_97 (dk_at dksX0_digest_5 21 rfl rfl)
theorem dX0_digest_141 : decode cX0_digest 141 = .ok (.lstore_n 1, 1) := dk_64 (dk_at dksX0_digest_5 22 rfl rfl)
theorem dX0_digest_142 : decode cX0_digest 142 = .ok (.iconst 0, 1) := dk_3 (dk_at dksX0_digest_5 23 rfl rfl)
theorem dX0_digest_143 : decode cX0_digest 143 = .ok (.istore 4, 2) := dk_54 4 (dk_at dksX0_digest_6 0 rfl rfl)
theorem dX0_digest_145 : decode cX0_digest 145 = .ok (.iload 4, 2) := dk_21 4 (dk_at dksX0_digest_6 2 rfl rfl)
theorem dX0_digest_147 : decode cX0_digest 147 = .ok (.aload_n 0, 1) := dk_42 (dk_at dksX0_digest_6 4 rfl rfl)
theorem dX0_digest_148 : decode cX0_digest 148 = .ok (.getfield 60, 3) := dk_180 0 60 (dk_at dksX0_digest_6 5 rfl rfl)
theorem dX0_digest_151 : decode cX0_digest 151 = .ok (.if_icmp .ge 45, 3) := dk_162 0 45 (dk_at dksX0_digest_6 8 rfl rfl)
theorem dX0_digest_154 : decode cX0_digest 154 = .ok (.iconst 0, 1) := dk_3 (dk_at dksX0_digest_6 11 rfl rfl)
theorem dX0_digest_155 : decode cX0_digest 155 = .ok (.istore 5, 2) := dk_54 5 (dk_at dksX0_digest_6 12 rfl rfl)
theorem dX0_digest_157 : decode cX0_digest 157 = .ok (.iload 5, 2) := dk_21 5 (dk_at dksX0_digest_6 14 rfl rfl)
theorem dX0_digest_159 : decode cX0_digest 159 = .ok (.bipush 7, 2) := dk_16 7 (dk_at dksX0_digest_6 16 rfl rfl)
theorem dX0_digest_161 : decode cX0_digest 161 = .ok (.if_icmp .ge 29, 3) := dk_162 0 29 (dk_at dksX0_digest_6 18 rfl rfl)
theorem dX0_digest_164 : decode cX0_digest 164 = .ok (.ldc2_w 368, 3) := dk_20 1 112 (dk_at dksX0_digest_6 21 rfl rfl)
theorem dX0_digest_167 : decode cX0_digest 167 = .ok (.lload_n 1, 1) := dk_31 (dk_at dksX0_digest_7 0 rfl rfl)
theorem dX0_digest_168 : decode cX0_digest 168 = .ok (.lmul, 1) := dk_105 (dk_at dksX0_digest_7 1 rfl rfl)
theorem dX0_digest_169 : decode cX0_digest 169 = .ok (.aload_n 0, 1) := dk_42 (dk_at dksX0_digest_7 2 rfl rfl)
theorem dX0_digest_170 : decode cX0_digest 170 = .ok (.getfield 14, 3) := dk_180 0 14 (dk_at dksX0_digest_7 3 rfl rfl)
theorem dX0_digest_173 : decode cX0_digest 173 = .ok (.iload 4, 2) := dk_21 4 (dk_at dksX0_digest_7 6 rfl rfl)
theorem dX0_digest_175 : decode cX0_digest 175 = .ok (.aaload, 1) := dk_50 (dk_at dksX0_digest_7 8 rfl rfl)
theorem dX0_digest_176 : decode cX0_digest 176 = .ok (.iload 5, 2) := dk_21 5 (dk_at dksX0_digest_7 9 rfl rfl)
theorem dX0_digest_178 : decode cX0_digest 178 = .ok (.invokevirtual 197, 3) := dk_182 0 197 (dk_at dksX0_digest_7 11 rfl rfl)
theorem dX0_digest_181 : decode cX0_digest 181 = .ok (.i2l, 1) := dk_133 (dk_at dksX0_digest_7 14 rfl rfl)
theorem dX0_digest_182 : decode cX0_digest 182 = .ok (.ladd, 1) := dk_97 (dk_at dksX0_digest_7 15 rfl rfl)
theorem dX0_digest_183 : decode cX0_digest 183 = .ok (.lstore_n 1, 1) := dk_64 (dk_at dksX0_digest_7 16 rfl rfl)
theorem dX0_digest_184 : decode cX0_digest 184 = .ok (.iinc 5 1, 3) := dk_132 5 1 (dk_at dksX0_digest_7 17 rfl rfl)
theorem dX0_digest_187 : decode cX0_digest 187 = .ok (.goto (-30), 3) := dk_167 255 226 (dk_at dksX0_digest_7 20 rfl rfl)
theorem dX0_digest_190 : decode cX0_digest 190 = .ok (.iinc 4 1, 3) := dk_132 4 1 (dk_at dksX0_digest_8 0 rfl rfl)
theorem dX0_digest_193 : decode cX0_digest 193 = .ok (.goto (-48), 3) := dk_167 255 208 (dk_at dksX0_digest_8 3 rfl rfl)
theorem dX0_digest_196 : decode cX0_digest 196 = .ok (.iconst 0, 1) := dk_3 (dk_at dksX0_digest_8 6 rfl rfl)
theorem dX0_digest_197 : decode cX0_digest 197 = .ok (.istore 4, 2) := dk_54 4 (dk_at dksX0_digest_8 7 rfl rfl)
theorem dX0_digest_199 : decode cX0_digest 199 = .ok (.iload 4, 2) := dk_21 4 (dk_at dksX0_digest_8 9 rfl rfl)
theorem dX0_digest_201 : decode cX0_digest 201 = .ok (.aload_n 0, 1) := dk_42 (dk_at dksX0_digest_8 11 rfl rfl)
theorem dX0_digest_202 : decode cX0_digest 202 = .ok (.invokevirtual 153, 3) := dk_182 0 153 (dk_at dksX0_digest_8 12 rfl rfl)
theorem dX0_digest_205 : decode cX0_digest 205 = .ok (.if_icmp .ge 17, 3) := dk_162 0 17 (dk_at dksX0_digest_8 15 rfl rfl)
theorem dX0_digest_208 : decode cX0_digest 208 = .ok (.aload_n 0, 1) := dk_42 (dk_at dksX0_digest_8 18 rfl rfl)
theorem dX0_digest_209 : decode cX0_digest 209 = .ok (.lload_n 1, 1) := dk_31 (dk_at dksX0_digest_8 19 rfl rfl)
theorem dX0_digest_210 : decode cX0_digest 210 = .ok (.iload 4, 2) := dk_21 4 (dk_at dksX0_digest_8 20 rfl rfl)
theorem dX0_digest_212 : decode cX0_digest 212 = .ok (.invokevirtual 372, 3) := dk_182 1 116 (dk_at dksX0_digest_9 0 rfl rfl)
theorem dX0_digest_215 : decode cX0_digest 215 = .ok (.lstore_n 1, 1) := dk_64 (dk_at dksX0_digest_9 3 rfl rfl)
theorem dX0_digest_216 : decode cX0_digest 216 = .ok (.iinc 4 1, 3) := dk_132 4 1 (dk_at dksX0_digest_9 4 rfl rfl)
theorem dX0_digest_219 : decode cX0_digest 219 = .ok (.goto (-20), 3) := dk_167 255 236 (dk_at dksX0_digest_9 7 rfl rfl)
theorem dX0_digest_222 : decode cX0_digest 222 = .ok (.iconst 0, 1) := dk_3 (dk_at dksX0_digest_9 10 rfl rfl)
theorem dX0_digest_223 : decode cX0_digest 223 = .ok (.istore 4, 2) := dk_54 4 (dk_at dksX0_digest_9 11 rfl rfl)
theorem dX0_digest_225 : decode cX0_digest 225 = .ok (.iload 4, 2) := dk_21 4 (dk_at dksX0_digest_9 13 rfl rfl)
theorem dX0_digest_227 : decode cX0_digest 227 = .ok (.iconst 2, 1) := dk_5 (dk_at dksX0_digest_9 15 rfl rfl)
theorem dX0_digest_228 : decode cX0_digest 228 = .ok (.if_icmp .ge 29, 3) := dk_162 0 29 (dk_at dksX0_digest_9 16 rfl rfl)
theorem dX0_digest_231 : decode cX0_digest 231 = .ok (.ldc2_w 368, 3) := dk_20 1 112 (dk_at dksX0_digest_9 19 rfl rfl)
theorem dX0_digest_234 : decode cX0_digest 234 = .ok (.lload_n 1, 1) := dk_31 (dk_at dksX0_digest_9 22 rfl rfl)
theorem dX0_digest_235 : decode cX0_digest 235 = .ok (.lmul, 1) := dk_105 (dk_at dksX0_digest_9 23 rfl rfl)
theorem dX0_digest_236 : decode cX0_digest 236 = .ok (.aload_n 0, 1) := dk_42 (dk_at dksX0_digest_10 0 rfl rfl)
theorem dX0_digest_237 : decode cX0_digest 237 = .ok (.invokevirtual 289, 3) := dk_182 1 33 (dk_at dksX0_digest_10 1 rfl rfl)
theorem dX0_digest_240 : decode cX0_digest 240 = .ok (.i2l, 1) := dk_133 (dk_at dksX0_digest_10 4 rfl rfl)
theorem dX0_digest_241 : decode cX0_digest 241 = .ok (.ldc2_w 287, 3) := dk_20 1 31 (dk_at dksX0_digest_10 5 rfl rfl)
theorem dX0_digest_244 : decode cX0_digest 244 = .ok (.iload 4, 2) := dk_21 4 (dk_at dksX0_digest_10 8 rfl rfl)
theorem dX0_digest_246 : decode cX0_digest 246 = .ok (.invokestatic 218, 3) := dk_184 0 218 (dk_at dksX0_digest_10 10 rfl rfl)
theorem dX0_digest_249 : decode cX0_digest 249 = .ok (.ladd, 1) := dk_97 (dk_at dksX0_digest_10 13 rfl rfl)
theorem dX0_digest_250 : decode cX0_digest 250 = .ok (.lstore_n 1, 1) := dk_64 (dk_at dksX0_digest_10 14 rfl rfl)
theorem dX0_digest_251 : decode cX0_digest 251 = .ok (.iinc 4 1, 3) := dk_132 4 1 (dk_at dksX0_digest_10 15 rfl rfl)
theorem dX0_digest_254 : decode cX0_digest 254 = .ok (.goto (-29), 3) := dk_167 255 227 (dk_at dksX0_digest_10 18 rfl rfl)
theorem dX0_digest_257 : decode cX0_digest 257 = .ok (.iconst 0, 1) := dk_3 (dk_at dksX0_digest_10 21 rfl rfl)
theorem dX0_digest_258 : decode cX0_digest 258 = .ok (.istore 4, 2) := dk_54 4 (dk_at dksX0_digest_10 22 rfl rfl)
theorem dX0_digest_260 : decode cX0_digest 260 = .ok (.iload_n 3, 1) := dk_29 (dk_at dksX0_digest_11 0 rfl rfl)
theorem dX0_digest_261 : decode cX0_digest 261 = .ok (.ifCond .eq 48, 3) := dk_153 0 48 (dk_at dksX0_digest_11 1 rfl rfl)
theorem dX0_digest_264 : decode cX0_digest 264 = .ok (.aload_n 0, 1) := dk_42 (dk_at dksX0_digest_11 4 rfl rfl)
theorem dX0_digest_265 : decode cX0_digest 265 = .ok (.iload 4, 2) := dk_21 4 (dk_at dksX0_digest_11 5 rfl rfl)
theorem dX0_digest_267 : decode cX0_digest 267 = .ok (.invokevirtual 322, 3) := dk_182 1 66 (dk_at dksX0_digest_11 7 rfl rfl)
theorem dX0_digest_270 : decode cX0_digest 270 = .ok (.ifCond .eq 39, 3) := dk_153 0 39 (dk_at dksX0_digest_11 10 rfl rfl)
theorem dX0_digest_273 : decode cX0_digest 273 = .ok (.iconst 0, 1) := dk_3 (dk_at dksX0_digest_11 13 rfl rfl)
theorem dX0_digest_274 : decode cX0_digest 274 = .ok (.istore 5, 2) := dk_54 5 (dk_at dksX0_digest_11 14 rfl rfl)
theorem dX0_digest_276 : decode cX0_digest 276 = .ok (.iload 5, 2) := dk_21 5 (dk_at dksX0_digest_11 16 rfl rfl)
theorem dX0_digest_278 : decode cX0_digest 278 = .ok (.bipush 6, 2) := dk_16 6 (dk_at dksX0_digest_11 18 rfl rfl)
theorem dX0_digest_280 : decode cX0_digest 280 = .ok (.if_icmp .ge 23, 3) := dk_162 0 23 (dk_at dksX0_digest_11 20 rfl rfl)
theorem dX0_digest_283 : decode cX0_digest 283 = .ok (.ldc2_w 368, 3) := dk_20 1 112 (dk_at dksX0_digest_12 0 rfl rfl)
theorem dX0_digest_286 : decode cX0_digest 286 = .ok (.lload_n 1, 1) := dk_31 (dk_at dksX0_digest_12 3 rfl rfl)
theorem dX0_digest_287 : decode cX0_digest 287 = .ok (.lmul, 1) := dk_105 (dk_at dksX0_digest_12 4 rfl rfl)
theorem dX0_digest_288 : decode cX0_digest 288 = .ok (.aload_n 0, 1) := dk_42 (dk_at dksX0_digest_12 5 rfl rfl)
theorem dX0_digest_289 : decode cX0_digest 289 = .ok (.iload 5, 2) := dk_21 5 (dk_at dksX0_digest_12 6 rfl rfl)
theorem dX0_digest_291 : decode cX0_digest 291 = .ok (.invokevirtual 325, 3) := dk_182 1 69 (dk_at dksX0_digest_12 8 rfl rfl)
theorem dX0_digest_294 : decode cX0_digest 294 = .ok (.i2l, 1) := dk_133 (dk_at dksX0_digest_12 11 rfl rfl)
theorem dX0_digest_295 : decode cX0_digest 295 = .ok (.ladd, 1) := dk_97 (dk_at dksX0_digest_12 12 rfl rfl)
theorem dX0_digest_296 : decode cX0_digest 296 = .ok (.lstore_n 1, 1) := dk_64 (dk_at dksX0_digest_12 13 rfl rfl)
theorem dX0_digest_297 : decode cX0_digest 297 = .ok (.iinc 5 1, 3) := dk_132 5 1 (dk_at dksX0_digest_12 14 rfl rfl)
theorem dX0_digest_300 : decode cX0_digest 300 = .ok (.goto (-24), 3) := dk_167 255 232 (dk_at dksX0_digest_12 17 rfl rfl)
theorem dX0_digest_303 : decode cX0_digest 303 = .ok (.iinc 4 1, 3) := dk_132 4 1 (dk_at dksX0_digest_12 20 rfl rfl)
theorem dX0_digest_306 : decode cX0_digest 306 = .ok (.goto (-46), 3) := dk_167 255 210 (dk_at dksX0_digest_13 0 rfl rfl)
theorem dX0_digest_309 : decode cX0_digest 309 = .ok (.lload_n 1, 1) := dk_31 (dk_at dksX0_digest_13 3 rfl rfl)
theorem dX0_digest_310 : decode cX0_digest 310 = .ok (.lreturn, 1) := dk_173 (dk_at dksX0_digest_13 4 rfl rfl)
abbrev cX0_tellsPair : ByteArray := prog_1_method_78_code
def yX0_tellsPair : MethodName := ⟨RX0, "tellsPair", "(JI)J"⟩
def dkwX0_tellsPair_7 : List UInt8 := [153, 0, 19, 20, 1, 112, 22, 4, 105, 42, 29, 182, 0, 242, 133, 97, 167, 0, 5, 22, 4, 173]
abbrev dktX0_tellsPair_7 : List UInt8 := dkwX0_tellsPair_7 ++ []
def dkwX0_tellsPair_6 : List UInt8 := [182, 0, 237, 167, 0, 10, 42, 29, 21, 7, 182, 1, 5, 97, 55, 4, 132, 7, 1, 167, 255, 216, 21, 6]
abbrev dktX0_tellsPair_6 : List UInt8 := dkwX0_tellsPair_6 ++ dktX0_tellsPair_7
def dkwX0_tellsPair_5 : List UInt8 := [3, 54, 7, 21, 7, 5, 162, 0, 40, 20, 1, 112, 22, 4, 105, 21, 6, 153, 0, 13, 42, 29, 21, 7]
abbrev dktX0_tellsPair_5 : List UInt8 := dkwX0_tellsPair_5 ++ dktX0_tellsPair_6
def dkwX0_tellsPair_4 : List UInt8 := [21, 6, 184, 0, 218, 97, 55, 4, 132, 6, 1, 167, 255, 224, 42, 180, 0, 90, 29, 184, 0, 93, 54, 6]
abbrev dktX0_tellsPair_4 : List UInt8 := dkwX0_tellsPair_4 ++ dktX0_tellsPair_5
def dkwX0_tellsPair_3 : List UInt8 := [54, 6, 21, 6, 5, 162, 0, 32, 20, 1, 112, 22, 4, 105, 42, 29, 182, 1, 28, 133, 20, 1, 31]
abbrev dktX0_tellsPair_3 : List UInt8 := dkwX0_tellsPair_3 ++ dktX0_tellsPair_4
def dkwX0_tellsPair_2 : List UInt8 := [20, 1, 112, 22, 4, 105, 42, 29, 21, 6, 182, 0, 222, 97, 55, 4, 132, 6, 1, 167, 255, 231, 3]
abbrev dktX0_tellsPair_2 : List UInt8 := dkwX0_tellsPair_2 ++ dktX0_tellsPair_3
def dkwX0_tellsPair_1 : List UInt8 := [182, 0, 203, 133, 97, 55, 4, 132, 6, 1, 167, 255, 230, 3, 54, 6, 21, 6, 5, 162, 0, 25]
abbrev dktX0_tellsPair_1 : List UInt8 := dkwX0_tellsPair_1 ++ dktX0_tellsPair_2
def dkwX0_tellsPair_0 : List UInt8 := [31, 55, 4, 3, 54, 6, 21, 6, 7, 162, 0, 26, 20, 1, 112, 22, 4, 105, 42, 29, 21, 6]
abbrev dktX0_tellsPair_0 : List UInt8 := dkwX0_tellsPair_0 ++ dktX0_tellsPair_1
theorem dksX0_tellsPair_0 : cX0_tellsPair.data.toList.drop 0 = dktX0_tellsPair_0 := by decide +kernel
theorem dksX0_tellsPair_1 : cX0_tellsPair.data.toList.drop 22 = dktX0_tellsPair_1 := dk_seg dksX0_tellsPair_0 22 rfl rfl
theorem dksX0_tellsPair_2 : cX0_tellsPair.data.toList.drop 44 = dktX0_tellsPair_2 := dk_seg dksX0_tellsPair_1 22 rfl rfl
theorem dksX0_tellsPair_3 : cX0_tellsPair.data.toList.drop 67 = dktX0_tellsPair_3 := dk_seg dksX0_tellsPair_2 23 rfl rfl
theorem dksX0_tellsPair_4 : cX0_tellsPair.data.toList.drop 90 = dktX0_tellsPair_4 := dk_seg dksX0_tellsPair_3 23 rfl rfl
theorem dksX0_tellsPair_5 : cX0_tellsPair.data.toList.drop 114 = dktX0_tellsPair_5 := dk_seg dksX0_tellsPair_4 24 rfl rfl
theorem dksX0_tellsPair_6 : cX0_tellsPair.data.toList.drop 138 = dktX0_tellsPair_6 := dk_seg dksX0_tellsPair_5 24 rfl rfl
theorem dksX0_tellsPair_7 : cX0_tellsPair.data.toList.drop 162 = dktX0_tellsPair_7 := dk_seg dksX0_tellsPair_6 24 rfl rfl
theorem dX0_tellsPair_0 : decode cX0_tellsPair 0 = .ok (.lload_n 1, 1) := dk_31 (dk_at dksX0_tellsPair_0 0 rfl rfl)
theorem dX0_tellsPair_1 : decode cX0_tellsPair 1 = .ok (.lstore 4, 2) := dk_55 4 (dk_at dksX0_tellsPair_0 1 rfl rfl)
theorem dX0_tellsPair_3 : decode cX0_tellsPair 3 = .ok (.iconst 0, 1) := dk_3 (dk_at dksX0_tellsPair_0 3 rfl rfl)
theorem dX0_tellsPair_4 : decode cX0_tellsPair 4 = .ok (.istore 6, 2) := dk_54 6 (dk_at dksX0_tellsPair_0 4 rfl rfl)
theorem dX0_tellsPair_6 : decode cX0_tellsPair 6 = .ok (.iload 6, 2) := dk_21 6 (dk_at dksX0_tellsPair_0 6 rfl rfl)
theorem dX0_tellsPair_8 : decode cX0_tellsPair 8 = .ok (.iconst 4, 1) := dk_7 (dk_at dksX0_tellsPair_0 8 rfl rfl)
theorem dX0_tellsPair_9 : decode cX0_tellsPair 9 = .ok (.if_icmp .ge 26, 3) := dk_162 0 26 (dk_at dksX0_tellsPair_0 9 rfl rfl)
theorem dX0_tellsPair_12 : decode cX0_tellsPair 12 = .ok (.ldc2_w 368, 3) := dk_20 1 112 (dk_at dksX0_tellsPair_0 12 rfl rfl)
theorem dX0_tellsPair_15 : decode cX0_tellsPair 15 = .ok (.lload 4, 2) := dk_22 4 (dk_at dksX0_tellsPair_0 15 rfl rfl)
theorem dX0_tellsPair_17 : decode cX0_tellsPair 17 = .ok (.lmul, 1) := dk_105 (dk_at dksX0_tellsPair_0 17 rfl rfl)
theorem dX0_tellsPair_18 : decode cX0_tellsPair 18 = .ok (.aload_n 0, 1) := dk_42 (dk_at dksX0_tellsPair_0 18 rfl rfl)
theorem dX0_tellsPair_19 : decode cX0_tellsPair 19 = .ok (.iload_n 3, 1) := dk_29 (dk_at dksX0_tellsPair_0 19 rfl rfl)
theorem dX0_tellsPair_20 : decode cX0_tellsPair 20 = .ok (.iload 6, 2) := dk_21 6 (dk_at dksX0_tellsPair_0 20 rfl rfl)
theorem dX0_tellsPair_22 : decode cX0_tellsPair 22 = .ok (.invokevirtual 203, 3) := dk_182 0 203 (dk_at dksX0_tellsPair_1 0 rfl rfl)
theorem dX0_tellsPair_25 : decode cX0_tellsPair 25 = .ok (.i2l, 1) := dk_133 (dk_at dksX0_tellsPair_1 3 rfl rfl)
theorem dX0_tellsPair_26 : decode cX0_tellsPair 26 = .ok (.ladd, 1) := dk_97 (dk_at dksX0_tellsPair_1 4 rfl rfl)
theorem dX0_tellsPair_27 : decode cX0_tellsPair 27 = .ok (.lstore 4, 2) := dk_55 4 (dk_at dksX0_tellsPair_1 5 rfl rfl)
theorem dX0_tellsPair_29 : decode cX0_tellsPair 29 = .ok (.iinc 6 1, 3) := dk_132 6 1 (dk_at dksX0_tellsPair_1 7 rfl rfl)
theorem dX0_tellsPair_32 : decode cX0_tellsPair 32 = .ok (.goto (-26), 3) := dk_167 255 230 (dk_at dksX0_tellsPair_1 10 rfl rfl)
theorem dX0_tellsPair_35 : decode cX0_tellsPair 35 = .ok (.iconst 0, 1) := dk_3 (dk_at dksX0_tellsPair_1 13 rfl rfl)
theorem dX0_tellsPair_36 : decode cX0_tellsPair 36 = .ok (.istore 6, 2) := dk_54 6 (dk_at dksX0_tellsPair_1 14 rfl rfl)
theorem dX0_tellsPair_38 : decode cX0_tellsPair 38 = .ok (.iload 6, 2) := dk_21 6 (dk_at dksX0_tellsPair_1 16 rfl rfl)
theorem dX0_tellsPair_40 : decode cX0_tellsPair 40 = .ok (.iconst 2, 1) := dk_5 (dk_at dksX0_tellsPair_1 18 rfl rfl)
theorem dX0_tellsPair_41 : decode cX0_tellsPair 41 = .ok (.if_icmp .ge 25, 3) := dk_162 0 25 (dk_at dksX0_tellsPair_1 19 rfl rfl)
theorem dX0_tellsPair_44 : decode cX0_tellsPair 44 = .ok (.ldc2_w 368, 3) := dk_20 1 112 (dk_at dksX0_tellsPair_2 0 rfl rfl)
theorem dX0_tellsPair_47 : decode cX0_tellsPair 47 = .ok (.lload 4, 2) := dk_22 4 (dk_at dksX0_tellsPair_2 3 rfl rfl)
theorem dX0_tellsPair_49 : decode cX0_tellsPair 49 = .ok (.lmul, 1) := dk_105 (dk_at dksX0_tellsPair_2 5 rfl rfl)
theorem dX0_tellsPair_50 : decode cX0_tellsPair 50 = .ok (.aload_n 0, 1) := dk_42 (dk_at dksX0_tellsPair_2 6 rfl rfl)
theorem dX0_tellsPair_51 : decode cX0_tellsPair 51 = .ok (.iload_n 3, 1) := dk_29 (dk_at dksX0_tellsPair_2 7 rfl rfl)
theorem dX0_tellsPair_52 : decode cX0_tellsPair 52 = .ok (.iload 6, 2) := dk_21 6 (dk_at dksX0_tellsPair_2 8 rfl rfl)
theorem dX0_tellsPair_54 : decode cX0_tellsPair 54 = .ok (.invokevirtual 222, 3) := dk_182 0 222 (dk_at dksX0_tellsPair_2 10 rfl rfl)
theorem dX0_tellsPair_57 : decode cX0_tellsPair 57 = .ok (.ladd, 1) := dk_97 (dk_at dksX0_tellsPair_2 13 rfl rfl)
theorem dX0_tellsPair_58 : decode cX0_tellsPair 58 = .ok (.lstore 4, 2) := dk_55 4 (dk_at dksX0_tellsPair_2 14 rfl rfl)
theorem dX0_tellsPair_60 : decode cX0_tellsPair 60 = .ok (.iinc 6 1, 3) := dk_132 6 1 (dk_at dksX0_tellsPair_2 16 rfl rfl)
theorem dX0_tellsPair_63 : decode cX0_tellsPair 63 = .ok (.goto (-25), 3) := dk_167 255 231 (dk_at dksX0_tellsPair_2 19 rfl rfl)
theorem dX0_tellsPair_66 : decode cX0_tellsPair 66 = .ok (.iconst 0, 1) := dk_3 (dk_at dksX0_tellsPair_2 22 rfl rfl)
theorem dX0_tellsPair_67 : decode cX0_tellsPair 67 = .ok (.istore 6, 2) := dk_54 6 (dk_at dksX0_tellsPair_3 0 rfl rfl)
theorem dX0_tellsPair_69 : decode cX0_tellsPair 69 = .ok (.iload 6, 2) := dk_21 6 (dk_at dksX0_tellsPair_3 2 rfl rfl)
theorem dX0_tellsPair_71 : decode cX0_tellsPair 71 = .ok (.iconst 2, 1) := dk_5 (dk_at dksX0_tellsPair_3 4 rfl rfl)
theorem dX0_tellsPair_72 : decode cX0_tellsPair 72 = .ok (.if_icmp .ge 32, 3) := dk_162 0 32 (dk_at dksX0_tellsPair_3 5 rfl rfl)
theorem dX0_tellsPair_75 : decode cX0_tellsPair 75 = .ok (.ldc2_w 368, 3) := dk_20 1 112 (dk_at dksX0_tellsPair_3 8 rfl rfl)
theorem dX0_tellsPair_78 : decode cX0_tellsPair 78 = .ok (.lload 4, 2) := dk_22 4 (dk_at dksX0_tellsPair_3 11 rfl rfl)
theorem dX0_tellsPair_80 : decode cX0_tellsPair 80 = .ok (.lmul, 1) := dk_105 (dk_at dksX0_tellsPair_3 13 rfl rfl)
theorem dX0_tellsPair_81 : decode cX0_tellsPair 81 = .ok (.aload_n 0, 1) := dk_42 (dk_at dksX0_tellsPair_3 14 rfl rfl)
theorem dX0_tellsPair_82 : decode cX0_tellsPair 82 = .ok (.iload_n 3, 1) := dk_29 (dk_at dksX0_tellsPair_3 15 rfl rfl)
theorem dX0_tellsPair_83 : decode cX0_tellsPair 83 = .ok (.invokevirtual 284, 3) := dk_182 1 28 (dk_at dksX0_tellsPair_3 16 rfl rfl)
theorem dX0_tellsPair_86 : decode cX0_tellsPair 86 = .ok (.i2l, 1) := dk_133 (dk_at dksX0_tellsPair_3 19 rfl rfl)
theorem dX0_tellsPair_87 : decode cX0_tellsPair 87 = .ok (.ldc2_w 287, 3) := dk_20 1 31 (dk_at dksX0_tellsPair_3 20 rfl rfl)
theorem dX0_tellsPair_90 : decode cX0_tellsPair 90 = .ok (.iload 6, 2) := dk_21 6 (dk_at dksX0_tellsPair_4 0 rfl rfl)
theorem dX0_tellsPair_92 : decode cX0_tellsPair 92 = .ok (.invokestatic 218, 3) := dk_184 0 218 (dk_at dksX0_tellsPair_4 2 rfl rfl)
theorem dX0_tellsPair_95 : decode cX0_tellsPair 95 = .ok (.ladd, 1) := dk_97 (dk_at dksX0_tellsPair_4 5 rfl rfl)
theorem dX0_tellsPair_96 : decode cX0_tellsPair 96 = .ok (.lstore 4, 2) := dk_55 4 (dk_at dksX0_tellsPair_4 6 rfl rfl)
theorem dX0_tellsPair_98 : decode cX0_tellsPair 98 = .ok (.iinc 6 1, 3) := dk_132 6 1 (dk_at dksX0_tellsPair_4 8 rfl rfl)
theorem dX0_tellsPair_101 : decode cX0_tellsPair 101 = .ok (.goto (-32), 3) := dk_167 255 224 (dk_at dksX0_tellsPair_4 11 rfl rfl)
theorem dX0_tellsPair_104 : decode cX0_tellsPair 104 = .ok (.aload_n 0, 1) := dk_42 (dk_at dksX0_tellsPair_4 14 rfl rfl)
theorem dX0_tellsPair_105 : decode cX0_tellsPair 105 = .ok (.getfield 90, 3) := dk_180 0 90 (dk_at dksX0_tellsPair_4 15 rfl rfl)
theorem dX0_tellsPair_108 : decode cX0_tellsPair 108 = .ok (.iload_n 3, 1) := dk_29 (dk_at dksX0_tellsPair_4 18 rfl rfl)
theorem dX0_tellsPair_109 : decode cX0_tellsPair 109 = .ok (.invokestatic 93, 3) := dk_184 0 93 (dk_at dksX0_tellsPair_4 19 rfl rfl)
theorem dX0_tellsPair_112 : decode cX0_tellsPair 112 = .ok (.istore 6, 2) := dk_54 6 (dk_at dksX0_tellsPair_4 22 rfl rfl)
theorem dX0_tellsPair_114 : decode cX0_tellsPair 114 = .ok (.iconst 0, 1) := dk_3 (dk_at dksX0_tellsPair_5 0 rfl rfl)
theorem dX0_tellsPair_115 : decode cX0_tellsPair 115 = .ok (.istore 7, 2) := dk_54 7 (dk_at dksX0_tellsPair_5 1 rfl rfl)
theorem dX0_tellsPair_117 : decode cX0_tellsPair 117 = .ok (.iload 7, 2) := dk_21 7 (dk_at dksX0_tellsPair_5 3 rfl rfl)
theorem dX0_tellsPair_119 : decode cX0_tellsPair 119 = .ok (.iconst 2, 1) := dk_5 (dk_at dksX0_tellsPair_5 5 rfl rfl)
theorem dX0_tellsPair_120 : decode cX0_tellsPair 120 = .ok (.if_icmp .ge 40, 3) := dk_162 0 40 (dk_at dksX0_tellsPair_5 6 rfl rfl)
theorem dX0_tellsPair_123 : decode cX0_tellsPair 123 = .ok (.ldc2_w 368, 3) := dk_20 1 112 (dk_at dksX0_tellsPair_5 9 rfl rfl)
theorem dX0_tellsPair_126 : decode cX0_tellsPair 126 = .ok (.lload 4, 2) := dk_22 4 (dk_at dksX0_tellsPair_5 12 rfl rfl)
theorem dX0_tellsPair_128 : decode cX0_tellsPair 128 = .ok (.lmul, 1) := dk_105 (dk_at dksX0_tellsPair_5 14 rfl rfl)
theorem dX0_tellsPair_129 : decode cX0_tellsPair 129 = .ok (.iload 6, 2) := dk_21 6 (dk_at dksX0_tellsPair_5 15 rfl rfl)
theorem dX0_tellsPair_131 : decode cX0_tellsPair 131 = .ok (.ifCond .eq 13, 3) := dk_153 0 13 (dk_at dksX0_tellsPair_5 17 rfl rfl)
theorem dX0_tellsPair_134 : decode cX0_tellsPair 134 = .ok (.aload_n 0, 1) := dk_42 (dk_at dksX0_tellsPair_5 20 rfl rfl)
theorem dX0_tellsPair_135 : decode cX0_tellsPair 135 = .ok (.iload_n 3, 1) := dk_29 (dk_at dksX0_tellsPair_5 21 rfl rfl)
theorem dX0_tellsPair_136 : decode cX0_tellsPair 136 = .ok (.iload 7, 2) := dk_21 7 (dk_at dksX0_tellsPair_5 22 rfl rfl)
theorem dX0_tellsPair_138 : decode cX0_tellsPair 138 = .ok (.invokevirtual 237, 3) := dk_182 0 237 (dk_at dksX0_tellsPair_6 0 rfl rfl)
theorem dX0_tellsPair_141 : decode cX0_tellsPair 141 = .ok (.goto 10, 3) := dk_167 0 10 (dk_at dksX0_tellsPair_6 3 rfl rfl)
theorem dX0_tellsPair_144 : decode cX0_tellsPair 144 = .ok (.aload_n 0, 1) := dk_42 (dk_at dksX0_tellsPair_6 6 rfl rfl)
theorem dX0_tellsPair_145 : decode cX0_tellsPair 145 = .ok (.iload_n 3, 1) := dk_29 (dk_at dksX0_tellsPair_6 7 rfl rfl)
theorem dX0_tellsPair_146 : decode cX0_tellsPair 146 = .ok (.iload 7, 2) := dk_21 7 (dk_at dksX0_tellsPair_6 8 rfl rfl)
theorem dX0_tellsPair_148 : decode cX0_tellsPair 148 = .ok (.invokevirtual 261, 3) := dk_182 1 5 (dk_at dksX0_tellsPair_6 10 rfl rfl)
theorem dX0_tellsPair_151 : decode cX0_tellsPair 151 = .ok (.ladd, 1) := dk_97 (dk_at dksX0_tellsPair_6 13 rfl rfl)
theorem dX0_tellsPair_152 : decode cX0_tellsPair 152 = .ok (.lstore 4, 2) := dk_55 4 (dk_at dksX0_tellsPair_6 14 rfl rfl)
theorem dX0_tellsPair_154 : decode cX0_tellsPair 154 = .ok (.iinc 7 1, 3) := dk_132 7 1 (dk_at dksX0_tellsPair_6 16 rfl rfl)
theorem dX0_tellsPair_157 : decode cX0_tellsPair 157 = .ok (.goto (-40), 3) := dk_167 255 216 (dk_at dksX0_tellsPair_6 19 rfl rfl)
theorem dX0_tellsPair_160 : decode cX0_tellsPair 160 = .ok (.iload 6, 2) := dk_21 6 (dk_at dksX0_tellsPair_6 22 rfl rfl)
theorem dX0_tellsPair_162 : decode cX0_tellsPair 162 = .ok (.ifCond .eq 19, 3) := dk_153 0 19 (dk_at dksX0_tellsPair_7 0 rfl rfl)
theorem dX0_tellsPair_165 : decode cX0_tellsPair 165 = .ok (.ldc2_w 368, 3) := dk_20 1 112 (dk_at dksX0_tellsPair_7 3 rfl rfl)
theorem dX0_tellsPair_168 : decode cX0_tellsPair 168 = .ok (.lload 4, 2) := dk_22 4 (dk_at dksX0_tellsPair_7 6 rfl rfl)
theorem dX0_tellsPair_170 : decode cX0_tellsPair 170 = .ok (.lmul, 1) := dk_105 (dk_at dksX0_tellsPair_7 8 rfl rfl)
theorem dX0_tellsPair_171 : decode cX0_tellsPair 171 = .ok (.aload_n 0, 1) := dk_42 (dk_at dksX0_tellsPair_7 9 rfl rfl)
theorem dX0_tellsPair_172 : decode cX0_tellsPair 172 = .ok (.iload_n 3, 1) := dk_29 (dk_at dksX0_tellsPair_7 10 rfl rfl)
theorem dX0_tellsPair_173 : decode cX0_tellsPair 173 = .ok (.invokevirtual 242, 3) := dk_182 0 242 (dk_at dksX0_tellsPair_7 11 rfl rfl)
theorem dX0_tellsPair_176 : decode cX0_tellsPair 176 = .ok (.i2l, 1) := dk_133 (dk_at dksX0_tellsPair_7 14 rfl rfl)
theorem dX0_tellsPair_177 : decode cX0_tellsPair 177 = .ok (.ladd, 1) := dk_97 (dk_at dksX0_tellsPair_7 15 rfl rfl)
theorem dX0_tellsPair_178 : decode cX0_tellsPair 178 = .ok (.goto 5, 3) := dk_167 0 5 (dk_at dksX0_tellsPair_7 16 rfl rfl)
theorem dX0_tellsPair_181 : decode cX0_tellsPair 181 = .ok (.lload 4, 2) := dk_22 4 (dk_at dksX0_tellsPair_7 19 rfl rfl)
theorem dX0_tellsPair_183 : decode cX0_tellsPair 183 = .ok (.lreturn, 1) := dk_173 (dk_at dksX0_tellsPair_7 21 rfl rfl)
theorem q85 : (Jvm.Cond.initialized "LeastFrames") ∈ lw_all := lw_g (lw_at lw_m1 1 rfl) rfl
theorem q108 : (Jvm.Cond.instantiable "LeastFrames" (13 : Nat)) ∈ lw_all := lw_g (lw_at lw_m1 24 rfl) rfl
theorem q110 : (Jvm.Cond.instanceMethod ({ cls := "LeastFrames", name := "<init>", desc := "()V" } : Jvm.MethodName)) ∈ lw_all := lw_g (lw_at lw_m1 26 rfl) rfl
theorem q111 : (Jvm.Cond.code ({ cls := "LeastFrames", name := "<init>", desc := "()V" } : Jvm.MethodName) prog_1_method_1_code (1 : Nat) (Option.none : Option Jvm.ClassFile.FieldType)) ∈ lw_all := lw_g (lw_at lw_m1 27 rfl) rfl
theorem q112 : (Jvm.Cond.methodLink "LeastFrames" (5 : Nat) ({ cls := "java/lang/Object", name := "<init>", desc := "()V" } : Jvm.MethodName)) ∈ lw_all := lw_g (lw_at lw_m1 28 rfl) rfl
theorem q115 : (Jvm.Cond.classLink "LeastFrames" (11 : Nat) "LeastFrames$Point") ∈ lw_all := lw_g (lw_at lw_m1 31 rfl) rfl
theorem q118 : (Jvm.Cond.methodLinkNest "LeastFrames" (13 : Nat) ({ cls := "LeastFrames$Point", name := "<init>", desc := "()V" } : Jvm.MethodName) "LeastFrames") ∈ lw_tbl := lw_at lw_m1 34 rfl
theorem q123 : (Jvm.Cond.fieldLinkNest "LeastFrames" (143 : Nat) "LeastFrames$Point" "x" "I" "LeastFrames") ∈ lw_tbl := lw_at lw_m1 39 rfl
theorem q125 : (Jvm.Cond.fieldLinkNest "LeastFrames" (146 : Nat) "LeastFrames$Point" "y" "I" "LeastFrames") ∈ lw_tbl := lw_at lw_m1 41 rfl
theorem q127 : (Jvm.Cond.fieldLinkNest "LeastFrames" (165 : Nat) "LeastFrames$Point" "held" "I" "LeastFrames") ∈ lw_tbl := lw_at lw_m1 43 rfl
theorem q130 : (Jvm.Cond.fieldLinkNest "LeastFrames" (176 : Nat) "LeastFrames$Point" "loads" "[I" "LeastFrames") ∈ lw_tbl := lw_at lw_m1 46 rfl
theorem q132 : (Jvm.Cond.fieldLinkNest "LeastFrames" (278 : Nat) "LeastFrames$Point" "shifts" "[I" "LeastFrames") ∈ lw_tbl := lw_at lw_m1 48 rfl
theorem q145 : (Jvm.Cond.classLink "LeastFrames" (20 : Nat) "LeastFrames$Program") ∈ lw_all := lw_g (lw_at lw_m1 61 rfl) rfl
theorem q147 : (Jvm.Cond.methodLinkNest "LeastFrames" (22 : Nat) ({ cls := "LeastFrames$Program", name := "<init>", desc := "(LLeastFrames;)V" } : Jvm.MethodName) "LeastFrames") ∈ lw_tbl := lw_at lw_m1 63 rfl
theorem q154 : (Jvm.Cond.fieldLinkNest "LeastFrames" (131 : Nat) "LeastFrames$Program" "rows" "[[J" "LeastFrames") ∈ lw_tbl := lw_at lw_m1 70 rfl
theorem q157 : (Jvm.Cond.fieldLinkNest "LeastFrames" (127 : Nat) "LeastFrames$Program" "basis" "[I" "LeastFrames") ∈ lw_tbl := lw_at lw_m1 73 rfl
theorem q160 : (Jvm.Cond.fieldLinkNest "LeastFrames" (124 : Nat) "LeastFrames$Program" "high" "I" "LeastFrames") ∈ lw_tbl := lw_at lw_m1 76 rfl
theorem q162 : (Jvm.Cond.fieldLinkNest "LeastFrames" (83 : Nat) "LeastFrames$Program" "below" "J" "LeastFrames") ∈ lw_tbl := lw_at lw_m1 78 rfl
theorem q180 : (Jvm.Cond.classLink "LeastFrames" (33 : Nat) "LeastFrames$Sheet") ∈ lw_all := lw_g (lw_at lw_m1 96 rfl) rfl
theorem q183 : (Jvm.Cond.methodLinkNest "LeastFrames" (35 : Nat) ({ cls := "LeastFrames$Sheet", name := "<init>", desc := "()V" } : Jvm.MethodName) "LeastFrames") ∈ lw_tbl := lw_at lw_m1 99 rfl
theorem q188 : (Jvm.Cond.fieldLinkNest "LeastFrames" (182 : Nat) "LeastFrames$Sheet" "row" "Ljava/lang/Object;" "LeastFrames") ∈ lw_tbl := lw_at lw_m1 104 rfl
theorem q192 : (Jvm.Cond.fieldLink "LeastFrames" (46 : Nat) "LeastFrames" "latest" "I") ∈ lw_all := lw_g (lw_at lw_m1 108 rfl) rfl
theorem q193 : (Jvm.Cond.fieldLink "LeastFrames" (14 : Nat) "LeastFrames" "points" "[LLeastFrames$Point;") ∈ lw_all := lw_g (lw_at lw_m1 109 rfl) rfl
theorem q196 : (Jvm.Cond.fieldLink "LeastFrames" (60 : Nat) "LeastFrames" "many" "I") ∈ lw_all := lw_g (lw_at lw_m1 112 rfl) rfl
theorem q197 : (Jvm.Cond.fieldLink "LeastFrames" (90 : Nat) "LeastFrames" "bars" "I") ∈ lw_all := lw_g (lw_at lw_m1 113 rfl) rfl
theorem q198 : (Jvm.Cond.fieldLink "LeastFrames" (25 : Nat) "LeastFrames" "program" "LLeastFrames$Program;") ∈ lw_all := lw_g (lw_at lw_m1 114 rfl) rfl
theorem q199 : (Jvm.Cond.fieldLink "LeastFrames" (111 : Nat) "LeastFrames" "fault" "I") ∈ lw_all := lw_g (lw_at lw_m1 115 rfl) rfl
theorem q200 : (Jvm.Cond.fieldLink "LeastFrames" (97 : Nat) "LeastFrames" "least" "LLeastFrames$Volume;") ∈ lw_all := lw_g (lw_at lw_m1 116 rfl) rfl
theorem q201 : (Jvm.Cond.fieldLink "LeastFrames" (118 : Nat) "LeastFrames" "frame" "I") ∈ lw_all := lw_g (lw_at lw_m1 117 rfl) rfl
theorem q202 : (Jvm.Cond.fieldLink "LeastFrames" (29 : Nat) "LeastFrames" "pulls" "[J") ∈ lw_all := lw_g (lw_at lw_m1 118 rfl) rfl
theorem q203 : (Jvm.Cond.fieldLink "LeastFrames" (135 : Nat) "LeastFrames" "pullsBelow" "J") ∈ lw_all := lw_g (lw_at lw_m1 119 rfl) rfl
theorem q204 : (Jvm.Cond.fieldLink "LeastFrames" (311 : Nat) "LeastFrames" "first" "I") ∈ lw_all := lw_g (lw_at lw_m1 120 rfl) rfl
theorem q205 : (Jvm.Cond.fieldLink "LeastFrames" (314 : Nat) "LeastFrames" "second" "I") ∈ lw_all := lw_g (lw_at lw_m1 121 rfl) rfl
theorem q206 : (Jvm.Cond.fieldLink "LeastFrames" (36 : Nat) "LeastFrames" "sheets" "[LLeastFrames$Sheet;") ∈ lw_all := lw_g (lw_at lw_m1 122 rfl) rfl
theorem q207 : (Jvm.Cond.lays "LeastFrames" "LeastFrames" "latest" "I") ∈ lw_all := lw_g (lw_at lw_m1 123 rfl) rfl
theorem q208 : (Jvm.Cond.soleField "LeastFrames" "latest") ∈ lw_all := lw_g (lw_at lw_m1 124 rfl) rfl
theorem q209 : (Jvm.Cond.laysFinal "LeastFrames" "LeastFrames" "points" "[LLeastFrames$Point;") ∈ lw_all := lw_g (lw_at lw_m1 125 rfl) rfl
theorem q210 : (Jvm.Cond.soleField "LeastFrames" "points") ∈ lw_all := lw_g (lw_at lw_m1 126 rfl) rfl
theorem q211 : (Jvm.Cond.lays "LeastFrames" "LeastFrames" "many" "I") ∈ lw_all := lw_g (lw_at lw_m1 127 rfl) rfl
theorem q212 : (Jvm.Cond.soleField "LeastFrames" "many") ∈ lw_all := lw_g (lw_at lw_m1 128 rfl) rfl
theorem q213 : (Jvm.Cond.lays "LeastFrames" "LeastFrames" "bars" "I") ∈ lw_all := lw_g (lw_at lw_m1 129 rfl) rfl
theorem q214 : (Jvm.Cond.soleField "LeastFrames" "bars") ∈ lw_all := lw_g (lw_at lw_m1 130 rfl) rfl
theorem q215 : (Jvm.Cond.laysFinal "LeastFrames" "LeastFrames" "program" "LLeastFrames$Program;") ∈ lw_all := lw_g (lw_at lw_m1 131 rfl) rfl
theorem q216 : (Jvm.Cond.soleField "LeastFrames" "program") ∈ lw_all := lw_g (lw_at lw_m1 132 rfl) rfl
theorem q217 : (Jvm.Cond.lays "LeastFrames" "LeastFrames" "fault" "I") ∈ lw_all := lw_g (lw_at lw_m1 133 rfl) rfl
theorem q218 : (Jvm.Cond.soleField "LeastFrames" "fault") ∈ lw_all := lw_g (lw_at lw_m1 134 rfl) rfl
theorem q219 : (Jvm.Cond.lays "LeastFrames" "LeastFrames" "least" "LLeastFrames$Volume;") ∈ lw_all := lw_g (lw_at lw_m1 135 rfl) rfl
theorem q220 : (Jvm.Cond.soleField "LeastFrames" "least") ∈ lw_all := lw_g (lw_at lw_m1 136 rfl) rfl
theorem q221 : (Jvm.Cond.lays "LeastFrames" "LeastFrames" "frame" "I") ∈ lw_all := lw_g (lw_at lw_m1 137 rfl) rfl
theorem q222 : (Jvm.Cond.soleField "LeastFrames" "frame") ∈ lw_all := lw_g (lw_at lw_m1 138 rfl) rfl
theorem q223 : (Jvm.Cond.laysFinal "LeastFrames" "LeastFrames" "pulls" "[J") ∈ lw_all := lw_g (lw_at lw_m1 139 rfl) rfl
theorem q224 : (Jvm.Cond.soleField "LeastFrames" "pulls") ∈ lw_all := lw_g (lw_at lw_m1 140 rfl) rfl
theorem q225 : (Jvm.Cond.lays "LeastFrames" "LeastFrames" "pullsBelow" "J") ∈ lw_all := lw_g (lw_at lw_m1 141 rfl) rfl
theorem q226 : (Jvm.Cond.soleField "LeastFrames" "pullsBelow") ∈ lw_all := lw_g (lw_at lw_m1 142 rfl) rfl
theorem q227 : (Jvm.Cond.lays "LeastFrames" "LeastFrames" "first" "I") ∈ lw_all := lw_g (lw_at lw_m1 143 rfl) rfl
theorem q228 : (Jvm.Cond.soleField "LeastFrames" "first") ∈ lw_all := lw_g (lw_at lw_m1 144 rfl) rfl
theorem q229 : (Jvm.Cond.lays "LeastFrames" "LeastFrames" "second" "I") ∈ lw_all := lw_g (lw_at lw_m1 145 rfl) rfl
theorem q230 : (Jvm.Cond.soleField "LeastFrames" "second") ∈ lw_all := lw_g (lw_at lw_m1 146 rfl) rfl
theorem q231 : (Jvm.Cond.laysFinal "LeastFrames" "LeastFrames" "sheets" "[LLeastFrames$Sheet;") ∈ lw_all := lw_g (lw_at lw_m1 147 rfl) rfl
theorem q232 : (Jvm.Cond.soleField "LeastFrames" "sheets") ∈ lw_all := lw_g (lw_at lw_m1 148 rfl) rfl
theorem q233 : (Jvm.Cond.superclass "LeastFrames" "java/lang/Object") ∈ lw_all := lw_g (lw_at lw_m1 149 rfl) rfl
theorem q235 : (Jvm.Cond.instanceMethod ({ cls := "LeastFrames", name := "point", desc := "(II)I" } : Jvm.MethodName)) ∈ lw_all := lw_g (lw_at lw_m1 151 rfl) rfl
theorem q236 : (Jvm.Cond.selects "LeastFrames" ({ cls := "LeastFrames", name := "point", desc := "(II)I" } : Jvm.MethodName) ({ cls := "LeastFrames", name := "point", desc := "(II)I" } : Jvm.MethodName)) ∈ lw_all := lw_g (lw_at lw_m1 152 rfl) rfl
theorem q237 : (Jvm.Cond.code ({ cls := "LeastFrames", name := "point", desc := "(II)I" } : Jvm.MethodName) prog_1_method_18_code (4 : Nat) (Option.some Jvm.ClassFile.FieldType.int)) ∈ lw_all := lw_g (lw_at lw_m1 153 rfl) rfl
theorem q238 : (Jvm.Cond.constantLong "LeastFrames" (141 : Nat) (4 : Int64)) ∈ lw_all := lw_g (lw_at lw_m1 154 rfl) rfl
theorem q239 : (Jvm.Cond.methodLink "LeastFrames" (40 : Nat) ({ cls := "LeastFrames", name := "in", desc := "(JJJ)Z" } : Jvm.MethodName)) ∈ lw_all := lw_g (lw_at lw_m1 155 rfl) rfl
theorem q240 : (Jvm.Cond.static ({ cls := "LeastFrames", name := "in", desc := "(JJJ)Z" } : Jvm.MethodName)) ∈ lw_all := lw_g (lw_at lw_m1 156 rfl) rfl
theorem q241 : (Jvm.Cond.code ({ cls := "LeastFrames", name := "in", desc := "(JJJ)Z" } : Jvm.MethodName) prog_1_method_2_code (6 : Nat) (Option.some Jvm.ClassFile.FieldType.boolean)) ∈ lw_all := lw_g (lw_at lw_m1 157 rfl) rfl
theorem q242 : (Jvm.Cond.methodLink "LeastFrames" (149 : Nat) ({ cls := "LeastFrames$Point", name := "becomes", desc := "(II)V" } : Jvm.MethodName)) ∈ lw_all := lw_g (lw_at lw_m1 158 rfl) rfl
theorem q247 : (Jvm.Cond.instanceMethod ({ cls := "LeastFrames", name := "back", desc := "()I" } : Jvm.MethodName)) ∈ lw_all := lw_g (lw_at lw_m1 163 rfl) rfl
theorem q248 : (Jvm.Cond.selects "LeastFrames" ({ cls := "LeastFrames", name := "back", desc := "()I" } : Jvm.MethodName) ({ cls := "LeastFrames", name := "back", desc := "()I" } : Jvm.MethodName)) ∈ lw_all := lw_g (lw_at lw_m1 164 rfl) rfl
theorem q249 : (Jvm.Cond.code ({ cls := "LeastFrames", name := "back", desc := "()I" } : Jvm.MethodName) prog_1_method_19_code (1 : Nat) (Option.some Jvm.ClassFile.FieldType.int)) ∈ lw_all := lw_g (lw_at lw_m1 165 rfl) rfl
theorem q250 : (Jvm.Cond.methodLink "LeastFrames" (153 : Nat) ({ cls := "LeastFrames", name := "pairs", desc := "()I" } : Jvm.MethodName)) ∈ lw_all := lw_g (lw_at lw_m1 166 rfl) rfl
theorem q251 : (Jvm.Cond.privateMethod ({ cls := "LeastFrames", name := "pairs", desc := "()I" } : Jvm.MethodName)) ∈ lw_tbl := lw_at lw_m1 167 rfl
theorem q252 : (Jvm.Cond.instanceMethod ({ cls := "LeastFrames", name := "pairs", desc := "()I" } : Jvm.MethodName)) ∈ lw_all := lw_g (lw_at lw_m1 168 rfl) rfl
theorem q253 : (Jvm.Cond.code ({ cls := "LeastFrames", name := "pairs", desc := "()I" } : Jvm.MethodName) prog_1_method_9_code (1 : Nat) (Option.some Jvm.ClassFile.FieldType.int)) ∈ lw_all := lw_g (lw_at lw_m1 169 rfl) rfl
theorem q255 : (Jvm.Cond.instanceMethod ({ cls := "LeastFrames", name := "hold", desc := "(II)I" } : Jvm.MethodName)) ∈ lw_all := lw_g (lw_at lw_m1 171 rfl) rfl
theorem q256 : (Jvm.Cond.selects "LeastFrames" ({ cls := "LeastFrames", name := "hold", desc := "(II)I" } : Jvm.MethodName) ({ cls := "LeastFrames", name := "hold", desc := "(II)I" } : Jvm.MethodName)) ∈ lw_all := lw_g (lw_at lw_m1 172 rfl) rfl
theorem q257 : (Jvm.Cond.code ({ cls := "LeastFrames", name := "hold", desc := "(II)I" } : Jvm.MethodName) prog_1_method_23_code (4 : Nat) (Option.some Jvm.ClassFile.FieldType.int)) ∈ lw_all := lw_g (lw_at lw_m1 173 rfl) rfl
theorem q258 : (Jvm.Cond.methodLink "LeastFrames" (160 : Nat) ({ cls := "LeastFrames", name := "isPoint", desc := "(I)Z" } : Jvm.MethodName)) ∈ lw_all := lw_g (lw_at lw_m1 174 rfl) rfl
theorem q259 : (Jvm.Cond.privateMethod ({ cls := "LeastFrames", name := "isPoint", desc := "(I)Z" } : Jvm.MethodName)) ∈ lw_tbl := lw_at lw_m1 175 rfl
theorem q260 : (Jvm.Cond.instanceMethod ({ cls := "LeastFrames", name := "isPoint", desc := "(I)Z" } : Jvm.MethodName)) ∈ lw_all := lw_g (lw_at lw_m1 176 rfl) rfl
theorem q261 : (Jvm.Cond.code ({ cls := "LeastFrames", name := "isPoint", desc := "(I)Z" } : Jvm.MethodName) prog_1_method_20_code (2 : Nat) (Option.some Jvm.ClassFile.FieldType.boolean)) ∈ lw_all := lw_g (lw_at lw_m1 177 rfl) rfl
theorem q262 : (Jvm.Cond.constantLong "LeastFrames" (163 : Nat) (3 : Int64)) ∈ lw_all := lw_g (lw_at lw_m1 178 rfl) rfl
theorem q264 : (Jvm.Cond.instanceMethod ({ cls := "LeastFrames", name := "load", desc := "(III)I" } : Jvm.MethodName)) ∈ lw_all := lw_g (lw_at lw_m1 180 rfl) rfl
theorem q265 : (Jvm.Cond.selects "LeastFrames" ({ cls := "LeastFrames", name := "load", desc := "(III)I" } : Jvm.MethodName) ({ cls := "LeastFrames", name := "load", desc := "(III)I" } : Jvm.MethodName)) ∈ lw_all := lw_g (lw_at lw_m1 181 rfl) rfl
theorem q266 : (Jvm.Cond.code ({ cls := "LeastFrames", name := "load", desc := "(III)I" } : Jvm.MethodName) prog_1_method_24_code (5 : Nat) (Option.some Jvm.ClassFile.FieldType.int)) ∈ lw_all := lw_g (lw_at lw_m1 182 rfl) rfl
theorem q267 : (Jvm.Cond.methodLink "LeastFrames" (168 : Nat) ({ cls := "LeastFrames", name := "isTwo", desc := "(I)Z" } : Jvm.MethodName)) ∈ lw_all := lw_g (lw_at lw_m1 183 rfl) rfl
theorem q268 : (Jvm.Cond.static ({ cls := "LeastFrames", name := "isTwo", desc := "(I)Z" } : Jvm.MethodName)) ∈ lw_all := lw_g (lw_at lw_m1 184 rfl) rfl
theorem q269 : (Jvm.Cond.code ({ cls := "LeastFrames", name := "isTwo", desc := "(I)Z" } : Jvm.MethodName) prog_1_method_3_code (1 : Nat) (Option.some Jvm.ClassFile.FieldType.boolean)) ∈ lw_all := lw_g (lw_at lw_m1 185 rfl) rfl
theorem q270 : (Jvm.Cond.constantLong "LeastFrames" (171 : Nat) (-9 : Int64)) ∈ lw_all := lw_g (lw_at lw_m1 186 rfl) rfl
theorem q271 : (Jvm.Cond.constantLong "LeastFrames" (173 : Nat) (9 : Int64)) ∈ lw_all := lw_g (lw_at lw_m1 187 rfl) rfl
theorem q272 : (Jvm.Cond.constant "LeastFrames" (175 : Nat) (-2147483648 : Int32)) ∈ lw_all := lw_g (lw_at lw_m1 188 rfl) rfl
theorem q274 : (Jvm.Cond.instanceMethod ({ cls := "LeastFrames", name := "bar", desc := "(I)I" } : Jvm.MethodName)) ∈ lw_all := lw_g (lw_at lw_m1 190 rfl) rfl
theorem q275 : (Jvm.Cond.selects "LeastFrames" ({ cls := "LeastFrames", name := "bar", desc := "(I)I" } : Jvm.MethodName) ({ cls := "LeastFrames", name := "bar", desc := "(I)I" } : Jvm.MethodName)) ∈ lw_all := lw_g (lw_at lw_m1 191 rfl) rfl
theorem q276 : (Jvm.Cond.code ({ cls := "LeastFrames", name := "bar", desc := "(I)I" } : Jvm.MethodName) prog_1_method_25_code (2 : Nat) (Option.some Jvm.ClassFile.FieldType.int)) ∈ lw_all := lw_g (lw_at lw_m1 192 rfl) rfl
theorem q277 : (Jvm.Cond.methodLink "LeastFrames" (156 : Nat) ({ cls := "LeastFrames", name := "isPair", desc := "(I)Z" } : Jvm.MethodName)) ∈ lw_all := lw_g (lw_at lw_m1 193 rfl) rfl
theorem q278 : (Jvm.Cond.privateMethod ({ cls := "LeastFrames", name := "isPair", desc := "(I)Z" } : Jvm.MethodName)) ∈ lw_tbl := lw_at lw_m1 194 rfl
theorem q279 : (Jvm.Cond.instanceMethod ({ cls := "LeastFrames", name := "isPair", desc := "(I)Z" } : Jvm.MethodName)) ∈ lw_all := lw_g (lw_at lw_m1 195 rfl) rfl
theorem q280 : (Jvm.Cond.code ({ cls := "LeastFrames", name := "isPair", desc := "(I)Z" } : Jvm.MethodName) prog_1_method_21_code (2 : Nat) (Option.some Jvm.ClassFile.FieldType.boolean)) ∈ lw_all := lw_g (lw_at lw_m1 196 rfl) rfl
theorem q282 : (Jvm.Cond.instanceMethod ({ cls := "LeastFrames", name := "all", desc := "()I" } : Jvm.MethodName)) ∈ lw_all := lw_g (lw_at lw_m1 198 rfl) rfl
theorem q283 : (Jvm.Cond.selects "LeastFrames" ({ cls := "LeastFrames", name := "all", desc := "()I" } : Jvm.MethodName) ({ cls := "LeastFrames", name := "all", desc := "()I" } : Jvm.MethodName)) ∈ lw_all := lw_g (lw_at lw_m1 199 rfl) rfl
theorem q284 : (Jvm.Cond.code ({ cls := "LeastFrames", name := "all", desc := "()I" } : Jvm.MethodName) prog_1_method_26_code (1 : Nat) (Option.some Jvm.ClassFile.FieldType.int)) ∈ lw_all := lw_g (lw_at lw_m1 200 rfl) rfl
theorem q286 : (Jvm.Cond.instanceMethod ({ cls := "LeastFrames", name := "read", desc := "(I)I" } : Jvm.MethodName)) ∈ lw_all := lw_g (lw_at lw_m1 202 rfl) rfl
theorem q287 : (Jvm.Cond.selects "LeastFrames" ({ cls := "LeastFrames", name := "read", desc := "(I)I" } : Jvm.MethodName) ({ cls := "LeastFrames", name := "read", desc := "(I)I" } : Jvm.MethodName)) ∈ lw_all := lw_g (lw_at lw_m1 203 rfl) rfl
theorem q288 : (Jvm.Cond.code ({ cls := "LeastFrames", name := "read", desc := "(I)I" } : Jvm.MethodName) prog_1_method_27_code (4 : Nat) (Option.some Jvm.ClassFile.FieldType.int)) ∈ lw_all := lw_g (lw_at lw_m1 204 rfl) rfl
theorem q289 : (Jvm.Cond.methodLink "LeastFrames" (179 : Nat) ({ cls := "LeastFrames", name := "isSheet", desc := "(I)Z" } : Jvm.MethodName)) ∈ lw_all := lw_g (lw_at lw_m1 205 rfl) rfl
theorem q290 : (Jvm.Cond.static ({ cls := "LeastFrames", name := "isSheet", desc := "(I)Z" } : Jvm.MethodName)) ∈ lw_all := lw_g (lw_at lw_m1 206 rfl) rfl
theorem q291 : (Jvm.Cond.code ({ cls := "LeastFrames", name := "isSheet", desc := "(I)Z" } : Jvm.MethodName) prog_1_method_68_code (1 : Nat) (Option.some Jvm.ClassFile.FieldType.boolean)) ∈ lw_all := lw_g (lw_at lw_m1 207 rfl) rfl
theorem q292 : (Jvm.Cond.methodLink "LeastFrames" (186 : Nat) ({ cls := "LeastFrames", name := "finds", desc := "(I)I" } : Jvm.MethodName)) ∈ lw_all := lw_g (lw_at lw_m1 208 rfl) rfl
theorem q293 : (Jvm.Cond.privateMethod ({ cls := "LeastFrames", name := "finds", desc := "(I)I" } : Jvm.MethodName)) ∈ lw_tbl := lw_at lw_m1 209 rfl
theorem q294 : (Jvm.Cond.instanceMethod ({ cls := "LeastFrames", name := "finds", desc := "(I)I" } : Jvm.MethodName)) ∈ lw_all := lw_g (lw_at lw_m1 210 rfl) rfl
theorem q295 : (Jvm.Cond.code ({ cls := "LeastFrames", name := "finds", desc := "(I)I" } : Jvm.MethodName) prog_1_method_5_code (2 : Nat) (Option.some Jvm.ClassFile.FieldType.int)) ∈ lw_all := lw_g (lw_at lw_m1 211 rfl) rfl
theorem q296 : (Jvm.Cond.methodLink "LeastFrames" (189 : Nat) ({ cls := "LeastFrames$Sheet", name := "size", desc := "()I" } : Jvm.MethodName)) ∈ lw_all := lw_g (lw_at lw_m1 212 rfl) rfl
theorem q302 : (Jvm.Cond.methodLink "LeastFrames" (192 : Nat) ({ cls := "LeastFrames$Sheet", name := "item", desc := "(I)J" } : Jvm.MethodName)) ∈ lw_all := lw_g (lw_at lw_m1 218 rfl) rfl
theorem q307 : (Jvm.Cond.instanceMethod ({ cls := "LeastFrames", name := "info", desc := "(II)I" } : Jvm.MethodName)) ∈ lw_all := lw_g (lw_at lw_m1 223 rfl) rfl
theorem q308 : (Jvm.Cond.selects "LeastFrames" ({ cls := "LeastFrames", name := "info", desc := "(II)I" } : Jvm.MethodName) ({ cls := "LeastFrames", name := "info", desc := "(II)I" } : Jvm.MethodName)) ∈ lw_all := lw_g (lw_at lw_m1 224 rfl) rfl
theorem q309 : (Jvm.Cond.code ({ cls := "LeastFrames", name := "info", desc := "(II)I" } : Jvm.MethodName) prog_1_method_28_code (3 : Nat) (Option.some Jvm.ClassFile.FieldType.int)) ∈ lw_all := lw_g (lw_at lw_m1 225 rfl) rfl
theorem q310 : (Jvm.Cond.constantLong "LeastFrames" (195 : Nat) (6 : Int64)) ∈ lw_all := lw_g (lw_at lw_m1 226 rfl) rfl
theorem q311 : (Jvm.Cond.methodLink "LeastFrames" (197 : Nat) ({ cls := "LeastFrames$Point", name := "tells", desc := "(I)I" } : Jvm.MethodName)) ∈ lw_all := lw_g (lw_at lw_m1 227 rfl) rfl
theorem q316 : (Jvm.Cond.instanceMethod ({ cls := "LeastFrames", name := "pair", desc := "(II)I" } : Jvm.MethodName)) ∈ lw_all := lw_g (lw_at lw_m1 232 rfl) rfl
theorem q317 : (Jvm.Cond.selects "LeastFrames" ({ cls := "LeastFrames", name := "pair", desc := "(II)I" } : Jvm.MethodName) ({ cls := "LeastFrames", name := "pair", desc := "(II)I" } : Jvm.MethodName)) ∈ lw_all := lw_g (lw_at lw_m1 233 rfl) rfl
theorem q318 : (Jvm.Cond.code ({ cls := "LeastFrames", name := "pair", desc := "(II)I" } : Jvm.MethodName) prog_1_method_30_code (3 : Nat) (Option.some Jvm.ClassFile.FieldType.int)) ∈ lw_all := lw_g (lw_at lw_m1 234 rfl) rfl
theorem q319 : (Jvm.Cond.methodLink "LeastFrames" (203 : Nat) ({ cls := "LeastFrames", name := "pairBy", desc := "(II)I" } : Jvm.MethodName)) ∈ lw_all := lw_g (lw_at lw_m1 235 rfl) rfl
theorem q320 : (Jvm.Cond.privateMethod ({ cls := "LeastFrames", name := "pairBy", desc := "(II)I" } : Jvm.MethodName)) ∈ lw_tbl := lw_at lw_m1 236 rfl
theorem q321 : (Jvm.Cond.instanceMethod ({ cls := "LeastFrames", name := "pairBy", desc := "(II)I" } : Jvm.MethodName)) ∈ lw_all := lw_g (lw_at lw_m1 237 rfl) rfl
theorem q322 : (Jvm.Cond.code ({ cls := "LeastFrames", name := "pairBy", desc := "(II)I" } : Jvm.MethodName) prog_1_method_29_code (3 : Nat) (Option.some Jvm.ClassFile.FieldType.int)) ∈ lw_all := lw_g (lw_at lw_m1 238 rfl) rfl
theorem q323 : (Jvm.Cond.methodLink "LeastFrames" (70 : Nat) ({ cls := "LeastFrames", name := "lesser", desc := "(I)I" } : Jvm.MethodName)) ∈ lw_all := lw_g (lw_at lw_m1 239 rfl) rfl
theorem q324 : (Jvm.Cond.static ({ cls := "LeastFrames", name := "lesser", desc := "(I)I" } : Jvm.MethodName)) ∈ lw_all := lw_g (lw_at lw_m2 0 rfl) rfl
theorem q325 : (Jvm.Cond.code ({ cls := "LeastFrames", name := "lesser", desc := "(I)I" } : Jvm.MethodName) prog_1_method_11_code (2 : Nat) (Option.some Jvm.ClassFile.FieldType.int)) ∈ lw_all := lw_g (lw_at lw_m2 1 rfl) rfl
theorem q326 : (Jvm.Cond.methodLink "LeastFrames" (63 : Nat) ({ cls := "LeastFrames", name := "greater", desc := "(I)I" } : Jvm.MethodName)) ∈ lw_all := lw_g (lw_at lw_m2 2 rfl) rfl
theorem q327 : (Jvm.Cond.static ({ cls := "LeastFrames", name := "greater", desc := "(I)I" } : Jvm.MethodName)) ∈ lw_all := lw_g (lw_at lw_m2 3 rfl) rfl
theorem q328 : (Jvm.Cond.code ({ cls := "LeastFrames", name := "greater", desc := "(I)I" } : Jvm.MethodName) prog_1_method_10_code (2 : Nat) (Option.some Jvm.ClassFile.FieldType.int)) ∈ lw_all := lw_g (lw_at lw_m2 4 rfl) rfl
theorem q329 : (Jvm.Cond.methodLink "LeastFrames" (200 : Nat) ({ cls := "LeastFrames", name := "quad", desc := "(I)I" } : Jvm.MethodName)) ∈ lw_all := lw_g (lw_at lw_m2 5 rfl) rfl
theorem q330 : (Jvm.Cond.privateMethod ({ cls := "LeastFrames", name := "quad", desc := "(I)I" } : Jvm.MethodName)) ∈ lw_tbl := lw_at lw_m2 6 rfl
theorem q331 : (Jvm.Cond.instanceMethod ({ cls := "LeastFrames", name := "quad", desc := "(I)I" } : Jvm.MethodName)) ∈ lw_all := lw_g (lw_at lw_m2 7 rfl) rfl
theorem q332 : (Jvm.Cond.code ({ cls := "LeastFrames", name := "quad", desc := "(I)I" } : Jvm.MethodName) prog_1_method_13_code (2 : Nat) (Option.some Jvm.ClassFile.FieldType.int)) ∈ lw_all := lw_g (lw_at lw_m2 8 rfl) rfl
theorem q333 : (Jvm.Cond.methodLink "LeastFrames" (73 : Nat) ({ cls := "LeastFrames", name := "far", desc := "(II)I" } : Jvm.MethodName)) ∈ lw_all := lw_g (lw_at lw_m2 9 rfl) rfl
theorem q334 : (Jvm.Cond.privateMethod ({ cls := "LeastFrames", name := "far", desc := "(II)I" } : Jvm.MethodName)) ∈ lw_tbl := lw_at lw_m2 10 rfl
theorem q335 : (Jvm.Cond.instanceMethod ({ cls := "LeastFrames", name := "far", desc := "(II)I" } : Jvm.MethodName)) ∈ lw_all := lw_g (lw_at lw_m2 11 rfl) rfl
theorem q336 : (Jvm.Cond.code ({ cls := "LeastFrames", name := "far", desc := "(II)I" } : Jvm.MethodName) prog_1_method_12_code (3 : Nat) (Option.some Jvm.ClassFile.FieldType.int)) ∈ lw_all := lw_g (lw_at lw_m2 12 rfl) rfl
theorem q337 : (Jvm.Cond.methodLink "LeastFrames" (67 : Nat) ({ cls := "LeastFrames$Point", name := "at", desc := "(I)I" } : Jvm.MethodName)) ∈ lw_all := lw_g (lw_at lw_m2 13 rfl) rfl
theorem q341 : (Jvm.Cond.methodLink "LeastFrames" (93 : Nat) ({ cls := "LeastFrames", name := "isIn", desc := "(II)Z" } : Jvm.MethodName)) ∈ lw_all := lw_g (lw_at lw_m2 17 rfl) rfl
theorem q342 : (Jvm.Cond.static ({ cls := "LeastFrames", name := "isIn", desc := "(II)Z" } : Jvm.MethodName)) ∈ lw_all := lw_g (lw_at lw_m2 18 rfl) rfl
theorem q343 : (Jvm.Cond.code ({ cls := "LeastFrames", name := "isIn", desc := "(II)Z" } : Jvm.MethodName) prog_1_method_8_code (2 : Nat) (Option.some Jvm.ClassFile.FieldType.boolean)) ∈ lw_all := lw_g (lw_at lw_m2 19 rfl) rfl
theorem q345 : (Jvm.Cond.instanceMethod ({ cls := "LeastFrames", name := "least", desc := "(I)J" } : Jvm.MethodName)) ∈ lw_all := lw_g (lw_at lw_m2 21 rfl) rfl
theorem q346 : (Jvm.Cond.selects "LeastFrames" ({ cls := "LeastFrames", name := "least", desc := "(I)J" } : Jvm.MethodName) ({ cls := "LeastFrames", name := "least", desc := "(I)J" } : Jvm.MethodName)) ∈ lw_all := lw_g (lw_at lw_m2 22 rfl) rfl
theorem q347 : (Jvm.Cond.code ({ cls := "LeastFrames", name := "least", desc := "(I)J" } : Jvm.MethodName) prog_1_method_32_code (2 : Nat) (Option.some Jvm.ClassFile.FieldType.long)) ∈ lw_all := lw_g (lw_at lw_m2 23 rfl) rfl
theorem q348 : (Jvm.Cond.methodLink "LeastFrames" (206 : Nat) ({ cls := "LeastFrames", name := "no", desc := "(I)J" } : Jvm.MethodName)) ∈ lw_all := lw_g (lw_at lw_m2 24 rfl) rfl
theorem q349 : (Jvm.Cond.static ({ cls := "LeastFrames", name := "no", desc := "(I)J" } : Jvm.MethodName)) ∈ lw_all := lw_g (lw_at lw_m2 25 rfl) rfl
theorem q350 : (Jvm.Cond.code ({ cls := "LeastFrames", name := "no", desc := "(I)J" } : Jvm.MethodName) prog_1_method_4_code (1 : Nat) (Option.some Jvm.ClassFile.FieldType.long)) ∈ lw_all := lw_g (lw_at lw_m2 26 rfl) rfl
theorem q351 : (Jvm.Cond.constantLong "LeastFrames" (44 : Nat) (-9223372036854775808 : Int64)) ∈ lw_all := lw_g (lw_at lw_m2 27 rfl) rfl
theorem q352 : (Jvm.Cond.methodLink "LeastFrames" (211 : Nat) ({ cls := "LeastFrames", name := "looks", desc := "()Z" } : Jvm.MethodName)) ∈ lw_all := lw_g (lw_at lw_m2 28 rfl) rfl
theorem q353 : (Jvm.Cond.privateMethod ({ cls := "LeastFrames", name := "looks", desc := "()Z" } : Jvm.MethodName)) ∈ lw_tbl := lw_at lw_m2 29 rfl
theorem q354 : (Jvm.Cond.instanceMethod ({ cls := "LeastFrames", name := "looks", desc := "()Z" } : Jvm.MethodName)) ∈ lw_all := lw_g (lw_at lw_m2 30 rfl) rfl
theorem q355 : (Jvm.Cond.codeWith ({ cls := "LeastFrames", name := "looks", desc := "()Z" } : Jvm.MethodName) prog_1_method_17_code (2 : Nat) (Option.some Jvm.ClassFile.FieldType.boolean) [((0 : Nat), (5 : Nat), (6 : Nat), (109 : Nat))]) ∈ lw_all := lw_g (lw_at lw_m2 31 rfl) rfl
theorem q356 : (Jvm.Cond.classLink "LeastFrames" (109 : Nat) "LeastFrames$Unborne") ∈ lw_all := lw_g (lw_at lw_m2 32 rfl) rfl
theorem q357 : (Jvm.Cond.methodLink "LeastFrames" (138 : Nat) ({ cls := "LeastFrames", name := "borne", desc := "()V" } : Jvm.MethodName)) ∈ lw_all := lw_g (lw_at lw_m2 33 rfl) rfl
theorem q358 : (Jvm.Cond.privateMethod ({ cls := "LeastFrames", name := "borne", desc := "()V" } : Jvm.MethodName)) ∈ lw_tbl := lw_at lw_m2 34 rfl
theorem q359 : (Jvm.Cond.instanceMethod ({ cls := "LeastFrames", name := "borne", desc := "()V" } : Jvm.MethodName)) ∈ lw_all := lw_g (lw_at lw_m2 35 rfl) rfl
theorem q360 : (Jvm.Cond.codeWith ({ cls := "LeastFrames", name := "borne", desc := "()V" } : Jvm.MethodName) prog_1_method_16_code (2 : Nat) (Option.none : Option Jvm.ClassFile.FieldType) [((0 : Nat), (42 : Nat), (45 : Nat), (109 : Nat))]) ∈ lw_all := lw_g (lw_at lw_m2 36 rfl) rfl
theorem q361 : (Jvm.Cond.methodLink "LeastFrames" (101 : Nat) ({ cls := "LeastFrames", name := "volumeOf", desc := "(I)LLeastFrames$Volume;" } : Jvm.MethodName)) ∈ lw_all := lw_g (lw_at lw_m2 37 rfl) rfl
theorem q362 : (Jvm.Cond.privateMethod ({ cls := "LeastFrames", name := "volumeOf", desc := "(I)LLeastFrames$Volume;" } : Jvm.MethodName)) ∈ lw_tbl := lw_at lw_m2 38 rfl
theorem q363 : (Jvm.Cond.instanceMethod ({ cls := "LeastFrames", name := "volumeOf", desc := "(I)LLeastFrames$Volume;" } : Jvm.MethodName)) ∈ lw_all := lw_g (lw_at lw_m2 39 rfl) rfl
theorem q364 : (Jvm.Cond.code ({ cls := "LeastFrames", name := "volumeOf", desc := "(I)LLeastFrames$Volume;" } : Jvm.MethodName) prog_1_method_14_code (4 : Nat) (Option.some (Jvm.ClassFile.FieldType.object "LeastFrames$Volume"))) ∈ lw_all := lw_g (lw_at lw_m2 40 rfl) rfl
theorem q365 : (Jvm.Cond.methodLink "LeastFrames" (77 : Nat) ({ cls := "LeastFrames$Program", name := "solves", desc := "(I)J" } : Jvm.MethodName)) ∈ lw_all := lw_g (lw_at lw_m2 41 rfl) rfl
theorem q465 : (Jvm.Cond.fieldLinkNest "LeastFrames" (121 : Nat) "LeastFrames$Unborne" "way" "I" "LeastFrames") ∈ lw_tbl := lw_at lw_m2 141 rfl
theorem q501 : (Jvm.Cond.classLink "LeastFrames" (81 : Nat) "LeastFrames$Volume") ∈ lw_all := lw_g (lw_at lw_m2 177 rfl) rfl
theorem q503 : (Jvm.Cond.methodLink "LeastFrames" (87 : Nat) ({ cls := "LeastFrames$Volume", name := "<init>", desc := "(JJ)V" } : Jvm.MethodName)) ∈ lw_all := lw_g (lw_at lw_m2 179 rfl) rfl
theorem q508 : (Jvm.Cond.static ({ cls := "LeastFrames", name := "part", desc := "(JJI)J" } : Jvm.MethodName)) ∈ lw_all := lw_g (lw_at lw_m2 184 rfl) rfl
theorem q509 : (Jvm.Cond.code ({ cls := "LeastFrames", name := "part", desc := "(JJI)J" } : Jvm.MethodName) prog_1_method_7_code (5 : Nat) (Option.some Jvm.ClassFile.FieldType.long)) ∈ lw_all := lw_g (lw_at lw_m2 185 rfl) rfl
theorem q510 : (Jvm.Cond.methodLink "LeastFrames" (56 : Nat) ({ cls := "LeastFrames", name := "divisor", desc := "(JJ)J" } : Jvm.MethodName)) ∈ lw_all := lw_g (lw_at lw_m2 186 rfl) rfl
theorem q511 : (Jvm.Cond.static ({ cls := "LeastFrames", name := "divisor", desc := "(JJ)J" } : Jvm.MethodName)) ∈ lw_all := lw_g (lw_at lw_m2 187 rfl) rfl
theorem q512 : (Jvm.Cond.code ({ cls := "LeastFrames", name := "divisor", desc := "(JJ)J" } : Jvm.MethodName) prog_1_method_6_code (10 : Nat) (Option.some Jvm.ClassFile.FieldType.long)) ∈ lw_all := lw_g (lw_at lw_m2 188 rfl) rfl
theorem q513 : (Jvm.Cond.methodLink "LeastFrames" (50 : Nat) ({ cls := "java/lang/Math", name := "abs", desc := "(J)J" } : Jvm.MethodName)) ∈ lw_all := lw_g (lw_at lw_m2 189 rfl) rfl
theorem q515 : (Jvm.Cond.fieldLinkNest "LeastFrames" (294 : Nat) "LeastFrames$Volume" "above" "J" "LeastFrames") ∈ lw_tbl := lw_at lw_m2 191 rfl
theorem q517 : (Jvm.Cond.fieldLinkNest "LeastFrames" (297 : Nat) "LeastFrames$Volume" "below" "J" "LeastFrames") ∈ lw_tbl := lw_at lw_m2 193 rfl
theorem q523 : (Jvm.Cond.methodLink "LeastFrames" (114 : Nat) ({ cls := "LeastFrames", name := "framed", desc := "()I" } : Jvm.MethodName)) ∈ lw_all := lw_g (lw_at lw_m2 199 rfl) rfl
theorem q524 : (Jvm.Cond.privateMethod ({ cls := "LeastFrames", name := "framed", desc := "()I" } : Jvm.MethodName)) ∈ lw_tbl := lw_at lw_m2 200 rfl
theorem q525 : (Jvm.Cond.instanceMethod ({ cls := "LeastFrames", name := "framed", desc := "()I" } : Jvm.MethodName)) ∈ lw_all := lw_g (lw_at lw_m2 201 rfl) rfl
theorem q526 : (Jvm.Cond.codeWith ({ cls := "LeastFrames", name := "framed", desc := "()I" } : Jvm.MethodName) prog_1_method_15_code (4 : Nat) (Option.some Jvm.ClassFile.FieldType.int) [((23 : Nat), (52 : Nat), (55 : Nat), (109 : Nat))]) ∈ lw_all := lw_g (lw_at lw_m2 202 rfl) rfl
theorem q527 : (Jvm.Cond.methodLink "LeastFrames" (105 : Nat) ({ cls := "LeastFrames$Volume", name := "isLess", desc := "(LLeastFrames$Volume;)Z" } : Jvm.MethodName)) ∈ lw_all := lw_g (lw_at lw_m2 203 rfl) rfl
theorem q531 : (Jvm.Cond.methodLink "LeastFrames" (215 : Nat) ({ cls := "LeastFrames", name := "leastBy", desc := "(I)J" } : Jvm.MethodName)) ∈ lw_all := lw_g (lw_at lw_m2 207 rfl) rfl
theorem q532 : (Jvm.Cond.privateMethod ({ cls := "LeastFrames", name := "leastBy", desc := "(I)J" } : Jvm.MethodName)) ∈ lw_tbl := lw_at lw_m2 208 rfl
theorem q533 : (Jvm.Cond.instanceMethod ({ cls := "LeastFrames", name := "leastBy", desc := "(I)J" } : Jvm.MethodName)) ∈ lw_all := lw_g (lw_at lw_m2 209 rfl) rfl
theorem q534 : (Jvm.Cond.code ({ cls := "LeastFrames", name := "leastBy", desc := "(I)J" } : Jvm.MethodName) prog_1_method_31_code (2 : Nat) (Option.some Jvm.ClassFile.FieldType.long)) ∈ lw_all := lw_g (lw_at lw_m2 210 rfl) rfl
theorem q535 : (Jvm.Cond.methodLink "LeastFrames" (209 : Nat) ({ cls := "LeastFrames$Volume", name := "tells", desc := "(I)J" } : Jvm.MethodName)) ∈ lw_all := lw_g (lw_at lw_m2 211 rfl) rfl
theorem q540 : (Jvm.Cond.instanceMethod ({ cls := "LeastFrames", name := "fault", desc := "()I" } : Jvm.MethodName)) ∈ lw_all := lw_g (lw_at lw_m2 216 rfl) rfl
theorem q541 : (Jvm.Cond.selects "LeastFrames" ({ cls := "LeastFrames", name := "fault", desc := "()I" } : Jvm.MethodName) ({ cls := "LeastFrames", name := "fault", desc := "()I" } : Jvm.MethodName)) ∈ lw_all := lw_g (lw_at lw_m2 217 rfl) rfl
theorem q542 : (Jvm.Cond.code ({ cls := "LeastFrames", name := "fault", desc := "()I" } : Jvm.MethodName) prog_1_method_33_code (1 : Nat) (Option.some Jvm.ClassFile.FieldType.int)) ∈ lw_all := lw_g (lw_at lw_m2 218 rfl) rfl
theorem q544 : (Jvm.Cond.instanceMethod ({ cls := "LeastFrames", name := "frame", desc := "()I" } : Jvm.MethodName)) ∈ lw_all := lw_g (lw_at lw_m2 220 rfl) rfl
theorem q545 : (Jvm.Cond.selects "LeastFrames" ({ cls := "LeastFrames", name := "frame", desc := "()I" } : Jvm.MethodName) ({ cls := "LeastFrames", name := "frame", desc := "()I" } : Jvm.MethodName)) ∈ lw_all := lw_g (lw_at lw_m2 221 rfl) rfl
theorem q546 : (Jvm.Cond.code ({ cls := "LeastFrames", name := "frame", desc := "()I" } : Jvm.MethodName) prog_1_method_34_code (1 : Nat) (Option.some Jvm.ClassFile.FieldType.int)) ∈ lw_all := lw_g (lw_at lw_m2 222 rfl) rfl
theorem q548 : (Jvm.Cond.instanceMethod ({ cls := "LeastFrames", name := "pull", desc := "(II)J" } : Jvm.MethodName)) ∈ lw_all := lw_g (lw_at lw_m2 224 rfl) rfl
theorem q549 : (Jvm.Cond.selects "LeastFrames" ({ cls := "LeastFrames", name := "pull", desc := "(II)J" } : Jvm.MethodName) ({ cls := "LeastFrames", name := "pull", desc := "(II)J" } : Jvm.MethodName)) ∈ lw_all := lw_g (lw_at lw_m2 225 rfl) rfl
theorem q550 : (Jvm.Cond.code ({ cls := "LeastFrames", name := "pull", desc := "(II)J" } : Jvm.MethodName) prog_1_method_36_code (3 : Nat) (Option.some Jvm.ClassFile.FieldType.long)) ∈ lw_all := lw_g (lw_at lw_m2 226 rfl) rfl
theorem q551 : (Jvm.Cond.methodLink "LeastFrames" (222 : Nat) ({ cls := "LeastFrames", name := "pullBy", desc := "(II)J" } : Jvm.MethodName)) ∈ lw_all := lw_g (lw_at lw_m2 227 rfl) rfl
theorem q552 : (Jvm.Cond.privateMethod ({ cls := "LeastFrames", name := "pullBy", desc := "(II)J" } : Jvm.MethodName)) ∈ lw_tbl := lw_at lw_m2 228 rfl
theorem q553 : (Jvm.Cond.instanceMethod ({ cls := "LeastFrames", name := "pullBy", desc := "(II)J" } : Jvm.MethodName)) ∈ lw_all := lw_g (lw_at lw_m2 229 rfl) rfl
theorem q554 : (Jvm.Cond.code ({ cls := "LeastFrames", name := "pullBy", desc := "(II)J" } : Jvm.MethodName) prog_1_method_35_code (3 : Nat) (Option.some Jvm.ClassFile.FieldType.long)) ∈ lw_all := lw_g (lw_at lw_m2 230 rfl) rfl
theorem q555 : (Jvm.Cond.methodLink "LeastFrames" (218 : Nat) ({ cls := "LeastFrames", name := "part", desc := "(JJI)J" } : Jvm.MethodName)) ∈ lw_all := lw_g (lw_at lw_m2 231 rfl) rfl
theorem q557 : (Jvm.Cond.instanceMethod ({ cls := "LeastFrames", name := "without", desc := "(II)J" } : Jvm.MethodName)) ∈ lw_all := lw_g (lw_at lw_m2 233 rfl) rfl
theorem q558 : (Jvm.Cond.selects "LeastFrames" ({ cls := "LeastFrames", name := "without", desc := "(II)J" } : Jvm.MethodName) ({ cls := "LeastFrames", name := "without", desc := "(II)J" } : Jvm.MethodName)) ∈ lw_all := lw_g (lw_at lw_m2 234 rfl) rfl
theorem q559 : (Jvm.Cond.code ({ cls := "LeastFrames", name := "without", desc := "(II)J" } : Jvm.MethodName) prog_1_method_39_code (3 : Nat) (Option.some Jvm.ClassFile.FieldType.long)) ∈ lw_all := lw_g (lw_at lw_m2 235 rfl) rfl
theorem q560 : (Jvm.Cond.methodLink "LeastFrames" (234 : Nat) ({ cls := "LeastFrames", name := "isBar", desc := "(I)Z" } : Jvm.MethodName)) ∈ lw_all := lw_g (lw_at lw_m2 236 rfl) rfl
theorem q561 : (Jvm.Cond.privateMethod ({ cls := "LeastFrames", name := "isBar", desc := "(I)Z" } : Jvm.MethodName)) ∈ lw_tbl := lw_at lw_m2 237 rfl
theorem q562 : (Jvm.Cond.instanceMethod ({ cls := "LeastFrames", name := "isBar", desc := "(I)Z" } : Jvm.MethodName)) ∈ lw_all := lw_g (lw_at lw_m2 238 rfl) rfl
theorem q563 : (Jvm.Cond.code ({ cls := "LeastFrames", name := "isBar", desc := "(I)Z" } : Jvm.MethodName) prog_1_method_22_code (2 : Nat) (Option.some Jvm.ClassFile.FieldType.boolean)) ∈ lw_all := lw_g (lw_at lw_m2 239 rfl) rfl
theorem q564 : (Jvm.Cond.methodLink "LeastFrames" (237 : Nat) ({ cls := "LeastFrames", name := "withoutBy", desc := "(II)J" } : Jvm.MethodName)) ∈ lw_all := lw_g (lw_at lw_m3 0 rfl) rfl
theorem q565 : (Jvm.Cond.privateMethod ({ cls := "LeastFrames", name := "withoutBy", desc := "(II)J" } : Jvm.MethodName)) ∈ lw_tbl := lw_at lw_m3 1 rfl
theorem q566 : (Jvm.Cond.instanceMethod ({ cls := "LeastFrames", name := "withoutBy", desc := "(II)J" } : Jvm.MethodName)) ∈ lw_all := lw_g (lw_at lw_m3 2 rfl) rfl
theorem q567 : (Jvm.Cond.codeWith ({ cls := "LeastFrames", name := "withoutBy", desc := "(II)J" } : Jvm.MethodName) prog_1_method_38_code (4 : Nat) (Option.some Jvm.ClassFile.FieldType.long) [((0 : Nat), (9 : Nat), (10 : Nat), (226 : Nat))]) ∈ lw_all := lw_g (lw_at lw_m3 3 rfl) rfl
theorem q568 : (Jvm.Cond.classLink "LeastFrames" (226 : Nat) "LeastFrames$Untried") ∈ lw_all := lw_g (lw_at lw_m3 4 rfl) rfl
theorem q569 : (Jvm.Cond.methodLink "LeastFrames" (231 : Nat) ({ cls := "LeastFrames", name := "lacking", desc := "(I)LLeastFrames$Volume;" } : Jvm.MethodName)) ∈ lw_all := lw_g (lw_at lw_m3 5 rfl) rfl
theorem q570 : (Jvm.Cond.privateMethod ({ cls := "LeastFrames", name := "lacking", desc := "(I)LLeastFrames$Volume;" } : Jvm.MethodName)) ∈ lw_tbl := lw_at lw_m3 6 rfl
theorem q571 : (Jvm.Cond.instanceMethod ({ cls := "LeastFrames", name := "lacking", desc := "(I)LLeastFrames$Volume;" } : Jvm.MethodName)) ∈ lw_all := lw_g (lw_at lw_m3 7 rfl) rfl
theorem q572 : (Jvm.Cond.codeWith ({ cls := "LeastFrames", name := "lacking", desc := "(I)LLeastFrames$Volume;" } : Jvm.MethodName) prog_1_method_37_code (3 : Nat) (Option.some (Jvm.ClassFile.FieldType.object "LeastFrames$Volume")) [((0 : Nat), (14 : Nat), (15 : Nat), (109 : Nat))]) ∈ lw_all := lw_g (lw_at lw_m3 8 rfl) rfl
theorem q581 : (Jvm.Cond.methodLink "LeastFrames" (228 : Nat) ({ cls := "LeastFrames$Untried", name := "<init>", desc := "(ILjava/lang/Throwable;)V" } : Jvm.MethodName)) ∈ lw_all := lw_g (lw_at lw_m3 17 rfl) rfl
theorem q591 : (Jvm.Cond.fieldLinkNest "LeastFrames" (245 : Nat) "LeastFrames$Untried" "bar" "I" "LeastFrames") ∈ lw_tbl := lw_at lw_m3 27 rfl
theorem q597 : (Jvm.Cond.instanceMethod ({ cls := "LeastFrames", name := "why", desc := "(I)I" } : Jvm.MethodName)) ∈ lw_all := lw_g (lw_at lw_m3 33 rfl) rfl
theorem q598 : (Jvm.Cond.selects "LeastFrames" ({ cls := "LeastFrames", name := "why", desc := "(I)I" } : Jvm.MethodName) ({ cls := "LeastFrames", name := "why", desc := "(I)I" } : Jvm.MethodName)) ∈ lw_all := lw_g (lw_at lw_m3 34 rfl) rfl
theorem q599 : (Jvm.Cond.code ({ cls := "LeastFrames", name := "why", desc := "(I)I" } : Jvm.MethodName) prog_1_method_41_code (2 : Nat) (Option.some Jvm.ClassFile.FieldType.int)) ∈ lw_all := lw_g (lw_at lw_m3 35 rfl) rfl
theorem q600 : (Jvm.Cond.methodLink "LeastFrames" (242 : Nat) ({ cls := "LeastFrames", name := "whyBy", desc := "(I)I" } : Jvm.MethodName)) ∈ lw_all := lw_g (lw_at lw_m3 36 rfl) rfl
theorem q601 : (Jvm.Cond.privateMethod ({ cls := "LeastFrames", name := "whyBy", desc := "(I)I" } : Jvm.MethodName)) ∈ lw_tbl := lw_at lw_m3 37 rfl
theorem q602 : (Jvm.Cond.instanceMethod ({ cls := "LeastFrames", name := "whyBy", desc := "(I)I" } : Jvm.MethodName)) ∈ lw_all := lw_g (lw_at lw_m3 38 rfl) rfl
theorem q603 : (Jvm.Cond.codeWith ({ cls := "LeastFrames", name := "whyBy", desc := "(I)I" } : Jvm.MethodName) prog_1_method_40_code (3 : Nat) (Option.some Jvm.ClassFile.FieldType.int) [((0 : Nat), (7 : Nat), (8 : Nat), (226 : Nat))]) ∈ lw_all := lw_g (lw_at lw_m3 39 rfl) rfl
theorem q604 : (Jvm.Cond.methodLink "LeastFrames" (240 : Nat) ({ cls := "LeastFrames$Untried", name := "way", desc := "()I" } : Jvm.MethodName)) ∈ lw_all := lw_g (lw_at lw_m3 40 rfl) rfl
theorem q616 : (Jvm.Cond.instanceMethod ({ cls := "LeastFrames", name := "needed", desc := "()I" } : Jvm.MethodName)) ∈ lw_all := lw_g (lw_at lw_m3 52 rfl) rfl
theorem q617 : (Jvm.Cond.selects "LeastFrames" ({ cls := "LeastFrames", name := "needed", desc := "()I" } : Jvm.MethodName) ({ cls := "LeastFrames", name := "needed", desc := "()I" } : Jvm.MethodName)) ∈ lw_all := lw_g (lw_at lw_m3 53 rfl) rfl
theorem q618 : (Jvm.Cond.code ({ cls := "LeastFrames", name := "needed", desc := "()I" } : Jvm.MethodName) prog_1_method_43_code (1 : Nat) (Option.some Jvm.ClassFile.FieldType.int)) ∈ lw_all := lw_g (lw_at lw_m3 54 rfl) rfl
theorem q619 : (Jvm.Cond.methodLink "LeastFrames" (248 : Nat) ({ cls := "LeastFrames", name := "neededNow", desc := "()I" } : Jvm.MethodName)) ∈ lw_all := lw_g (lw_at lw_m3 55 rfl) rfl
theorem q620 : (Jvm.Cond.privateMethod ({ cls := "LeastFrames", name := "neededNow", desc := "()I" } : Jvm.MethodName)) ∈ lw_tbl := lw_at lw_m3 56 rfl
theorem q621 : (Jvm.Cond.instanceMethod ({ cls := "LeastFrames", name := "neededNow", desc := "()I" } : Jvm.MethodName)) ∈ lw_all := lw_g (lw_at lw_m3 57 rfl) rfl
theorem q622 : (Jvm.Cond.codeWith ({ cls := "LeastFrames", name := "neededNow", desc := "()I" } : Jvm.MethodName) prog_1_method_42_code (4 : Nat) (Option.some Jvm.ClassFile.FieldType.int) [((26 : Nat), (51 : Nat), (54 : Nat), (226 : Nat))]) ∈ lw_all := lw_g (lw_at lw_m3 58 rfl) rfl
theorem q624 : (Jvm.Cond.instanceMethod ({ cls := "LeastFrames", name := "dearest", desc := "()I" } : Jvm.MethodName)) ∈ lw_all := lw_g (lw_at lw_m3 60 rfl) rfl
theorem q625 : (Jvm.Cond.selects "LeastFrames" ({ cls := "LeastFrames", name := "dearest", desc := "()I" } : Jvm.MethodName) ({ cls := "LeastFrames", name := "dearest", desc := "()I" } : Jvm.MethodName)) ∈ lw_all := lw_g (lw_at lw_m3 61 rfl) rfl
theorem q626 : (Jvm.Cond.code ({ cls := "LeastFrames", name := "dearest", desc := "()I" } : Jvm.MethodName) prog_1_method_45_code (1 : Nat) (Option.some Jvm.ClassFile.FieldType.int)) ∈ lw_all := lw_g (lw_at lw_m3 62 rfl) rfl
theorem q627 : (Jvm.Cond.methodLink "LeastFrames" (251 : Nat) ({ cls := "LeastFrames", name := "dearestNow", desc := "()I" } : Jvm.MethodName)) ∈ lw_all := lw_g (lw_at lw_m3 63 rfl) rfl
theorem q628 : (Jvm.Cond.privateMethod ({ cls := "LeastFrames", name := "dearestNow", desc := "()I" } : Jvm.MethodName)) ∈ lw_tbl := lw_at lw_m3 64 rfl
theorem q629 : (Jvm.Cond.instanceMethod ({ cls := "LeastFrames", name := "dearestNow", desc := "()I" } : Jvm.MethodName)) ∈ lw_all := lw_g (lw_at lw_m3 65 rfl) rfl
theorem q630 : (Jvm.Cond.codeWith ({ cls := "LeastFrames", name := "dearestNow", desc := "()I" } : Jvm.MethodName) prog_1_method_44_code (5 : Nat) (Option.some Jvm.ClassFile.FieldType.int) [((31 : Nat), (52 : Nat), (55 : Nat), (226 : Nat))]) ∈ lw_all := lw_g (lw_at lw_m3 66 rfl) rfl
theorem q632 : (Jvm.Cond.instanceMethod ({ cls := "LeastFrames", name := "gain", desc := "(II)J" } : Jvm.MethodName)) ∈ lw_all := lw_g (lw_at lw_m3 68 rfl) rfl
theorem q633 : (Jvm.Cond.selects "LeastFrames" ({ cls := "LeastFrames", name := "gain", desc := "(II)J" } : Jvm.MethodName) ({ cls := "LeastFrames", name := "gain", desc := "(II)J" } : Jvm.MethodName)) ∈ lw_all := lw_g (lw_at lw_m3 69 rfl) rfl
theorem q634 : (Jvm.Cond.code ({ cls := "LeastFrames", name := "gain", desc := "(II)J" } : Jvm.MethodName) prog_1_method_48_code (3 : Nat) (Option.some Jvm.ClassFile.FieldType.long)) ∈ lw_all := lw_g (lw_at lw_m3 70 rfl) rfl
theorem q635 : (Jvm.Cond.methodLink "LeastFrames" (261 : Nat) ({ cls := "LeastFrames", name := "gainBy", desc := "(II)J" } : Jvm.MethodName)) ∈ lw_all := lw_g (lw_at lw_m3 71 rfl) rfl
theorem q636 : (Jvm.Cond.privateMethod ({ cls := "LeastFrames", name := "gainBy", desc := "(II)J" } : Jvm.MethodName)) ∈ lw_tbl := lw_at lw_m3 72 rfl
theorem q637 : (Jvm.Cond.instanceMethod ({ cls := "LeastFrames", name := "gainBy", desc := "(II)J" } : Jvm.MethodName)) ∈ lw_all := lw_g (lw_at lw_m3 73 rfl) rfl
theorem q638 : (Jvm.Cond.codeWith ({ cls := "LeastFrames", name := "gainBy", desc := "(II)J" } : Jvm.MethodName) prog_1_method_46_code (4 : Nat) (Option.some Jvm.ClassFile.FieldType.long) [((0 : Nat), (22 : Nat), (23 : Nat), (109 : Nat)), ((0 : Nat), (22 : Nat), (23 : Nat), (226 : Nat))]) ∈ lw_all := lw_g (lw_at lw_m3 74 rfl) rfl
theorem q639 : (Jvm.Cond.methodLink "LeastFrames" (254 : Nat) ({ cls := "LeastFrames", name := "gained", desc := "(I)LLeastFrames$Volume;" } : Jvm.MethodName)) ∈ lw_all := lw_g (lw_at lw_m3 75 rfl) rfl
theorem q640 : (Jvm.Cond.privateMethod ({ cls := "LeastFrames", name := "gained", desc := "(I)LLeastFrames$Volume;" } : Jvm.MethodName)) ∈ lw_tbl := lw_at lw_m3 76 rfl
theorem q641 : (Jvm.Cond.instanceMethod ({ cls := "LeastFrames", name := "gained", desc := "(I)LLeastFrames$Volume;" } : Jvm.MethodName)) ∈ lw_all := lw_g (lw_at lw_m3 77 rfl) rfl
theorem q642 : (Jvm.Cond.codeWith ({ cls := "LeastFrames", name := "gained", desc := "(I)LLeastFrames$Volume;" } : Jvm.MethodName) prog_1_method_47_code (3 : Nat) (Option.some (Jvm.ClassFile.FieldType.object "LeastFrames$Volume")) [((0 : Nat), (12 : Nat), (13 : Nat), (109 : Nat))]) ∈ lw_all := lw_g (lw_at lw_m3 78 rfl) rfl
theorem q643 : (Jvm.Cond.methodLink "LeastFrames" (257 : Nat) ({ cls := "LeastFrames$Volume", name := "less", desc := "(LLeastFrames$Volume;)LLeastFrames$Volume;" } : Jvm.MethodName)) ∈ lw_all := lw_g (lw_at lw_m3 79 rfl) rfl
theorem q650 : (Jvm.Cond.instanceMethod ({ cls := "LeastFrames", name := "grow", desc := "()I" } : Jvm.MethodName)) ∈ lw_all := lw_g (lw_at lw_m3 86 rfl) rfl
theorem q651 : (Jvm.Cond.selects "LeastFrames" ({ cls := "LeastFrames", name := "grow", desc := "()I" } : Jvm.MethodName) ({ cls := "LeastFrames", name := "grow", desc := "()I" } : Jvm.MethodName)) ∈ lw_all := lw_g (lw_at lw_m3 87 rfl) rfl
theorem q652 : (Jvm.Cond.codeWith ({ cls := "LeastFrames", name := "grow", desc := "()I" } : Jvm.MethodName) prog_1_method_50_code (3 : Nat) (Option.some Jvm.ClassFile.FieldType.int) [((2 : Nat), (36 : Nat), (37 : Nat), (109 : Nat))]) ∈ lw_all := lw_g (lw_at lw_m3 88 rfl) rfl
theorem q653 : (Jvm.Cond.methodLink "LeastFrames" (264 : Nat) ({ cls := "LeastFrames", name := "gainer", desc := "()I" } : Jvm.MethodName)) ∈ lw_all := lw_g (lw_at lw_m3 89 rfl) rfl
theorem q654 : (Jvm.Cond.privateMethod ({ cls := "LeastFrames", name := "gainer", desc := "()I" } : Jvm.MethodName)) ∈ lw_tbl := lw_at lw_m3 90 rfl
theorem q655 : (Jvm.Cond.instanceMethod ({ cls := "LeastFrames", name := "gainer", desc := "()I" } : Jvm.MethodName)) ∈ lw_all := lw_g (lw_at lw_m3 91 rfl) rfl
theorem q656 : (Jvm.Cond.code ({ cls := "LeastFrames", name := "gainer", desc := "()I" } : Jvm.MethodName) prog_1_method_49_code (5 : Nat) (Option.some Jvm.ClassFile.FieldType.int)) ∈ lw_all := lw_g (lw_at lw_m3 92 rfl) rfl
theorem q658 : (Jvm.Cond.instanceMethod ({ cls := "LeastFrames", name := "prune", desc := "()I" } : Jvm.MethodName)) ∈ lw_all := lw_g (lw_at lw_m3 94 rfl) rfl
theorem q659 : (Jvm.Cond.selects "LeastFrames" ({ cls := "LeastFrames", name := "prune", desc := "()I" } : Jvm.MethodName) ({ cls := "LeastFrames", name := "prune", desc := "()I" } : Jvm.MethodName)) ∈ lw_all := lw_g (lw_at lw_m3 95 rfl) rfl
theorem q660 : (Jvm.Cond.code ({ cls := "LeastFrames", name := "prune", desc := "()I" } : Jvm.MethodName) prog_1_method_51_code (2 : Nat) (Option.some Jvm.ClassFile.FieldType.int)) ∈ lw_all := lw_g (lw_at lw_m3 96 rfl) rfl
theorem q661 : (Jvm.Cond.methodLink "LeastFrames" (267 : Nat) ({ cls := "java/lang/Integer", name := "bitCount", desc := "(I)I" } : Jvm.MethodName)) ∈ lw_all := lw_g (lw_at lw_m3 97 rfl) rfl
theorem q668 : (Jvm.Cond.instanceMethod ({ cls := "LeastFrames", name := "would", desc := "(IIII)J" } : Jvm.MethodName)) ∈ lw_all := lw_g (lw_at lw_m3 104 rfl) rfl
theorem q669 : (Jvm.Cond.selects "LeastFrames" ({ cls := "LeastFrames", name := "would", desc := "(IIII)J" } : Jvm.MethodName) ({ cls := "LeastFrames", name := "would", desc := "(IIII)J" } : Jvm.MethodName)) ∈ lw_all := lw_g (lw_at lw_m3 105 rfl) rfl
theorem q670 : (Jvm.Cond.code ({ cls := "LeastFrames", name := "would", desc := "(IIII)J" } : Jvm.MethodName) prog_1_method_53_code (5 : Nat) (Option.some Jvm.ClassFile.FieldType.long)) ∈ lw_all := lw_g (lw_at lw_m3 106 rfl) rfl
theorem q671 : (Jvm.Cond.methodLink "LeastFrames" (270 : Nat) ({ cls := "LeastFrames", name := "wouldBy", desc := "(IIII)J" } : Jvm.MethodName)) ∈ lw_all := lw_g (lw_at lw_m3 107 rfl) rfl
theorem q672 : (Jvm.Cond.privateMethod ({ cls := "LeastFrames", name := "wouldBy", desc := "(IIII)J" } : Jvm.MethodName)) ∈ lw_tbl := lw_at lw_m3 108 rfl
theorem q673 : (Jvm.Cond.instanceMethod ({ cls := "LeastFrames", name := "wouldBy", desc := "(IIII)J" } : Jvm.MethodName)) ∈ lw_all := lw_g (lw_at lw_m3 109 rfl) rfl
theorem q674 : (Jvm.Cond.codeWith ({ cls := "LeastFrames", name := "wouldBy", desc := "(IIII)J" } : Jvm.MethodName) prog_1_method_52_code (10 : Nat) (Option.some Jvm.ClassFile.FieldType.long) [((13 : Nat), (40 : Nat), (56 : Nat), (109 : Nat)), ((13 : Nat), (40 : Nat), (81 : Nat), (0 : Nat)), ((56 : Nat), (65 : Nat), (81 : Nat), (0 : Nat)), ((81 : Nat), (83 : Nat), (81 : Nat), (0 : Nat))]) ∈ lw_all := lw_g (lw_at lw_m3 110 rfl) rfl
theorem q676 : (Jvm.Cond.instanceMethod ({ cls := "LeastFrames", name := "shift", desc := "(III)I" } : Jvm.MethodName)) ∈ lw_all := lw_g (lw_at lw_m3 112 rfl) rfl
theorem q677 : (Jvm.Cond.selects "LeastFrames" ({ cls := "LeastFrames", name := "shift", desc := "(III)I" } : Jvm.MethodName) ({ cls := "LeastFrames", name := "shift", desc := "(III)I" } : Jvm.MethodName)) ∈ lw_all := lw_g (lw_at lw_m3 113 rfl) rfl
theorem q678 : (Jvm.Cond.code ({ cls := "LeastFrames", name := "shift", desc := "(III)I" } : Jvm.MethodName) prog_1_method_54_code (5 : Nat) (Option.some Jvm.ClassFile.FieldType.int)) ∈ lw_all := lw_g (lw_at lw_m3 114 rfl) rfl
theorem q679 : (Jvm.Cond.constantLong "LeastFrames" (274 : Nat) (-999 : Int64)) ∈ lw_all := lw_g (lw_at lw_m3 115 rfl) rfl
theorem q680 : (Jvm.Cond.constantLong "LeastFrames" (276 : Nat) (999 : Int64)) ∈ lw_all := lw_g (lw_at lw_m3 116 rfl) rfl
theorem q682 : (Jvm.Cond.instanceMethod ({ cls := "LeastFrames", name := "stretch", desc := "(II)J" } : Jvm.MethodName)) ∈ lw_all := lw_g (lw_at lw_m3 118 rfl) rfl
theorem q683 : (Jvm.Cond.selects "LeastFrames" ({ cls := "LeastFrames", name := "stretch", desc := "(II)J" } : Jvm.MethodName) ({ cls := "LeastFrames", name := "stretch", desc := "(II)J" } : Jvm.MethodName)) ∈ lw_all := lw_g (lw_at lw_m3 119 rfl) rfl
theorem q684 : (Jvm.Cond.code ({ cls := "LeastFrames", name := "stretch", desc := "(II)J" } : Jvm.MethodName) prog_1_method_56_code (3 : Nat) (Option.some Jvm.ClassFile.FieldType.long)) ∈ lw_all := lw_g (lw_at lw_m3 120 rfl) rfl
theorem q685 : (Jvm.Cond.methodLink "LeastFrames" (284 : Nat) ({ cls := "LeastFrames", name := "stretched", desc := "(I)I" } : Jvm.MethodName)) ∈ lw_all := lw_g (lw_at lw_m3 121 rfl) rfl
theorem q686 : (Jvm.Cond.privateMethod ({ cls := "LeastFrames", name := "stretched", desc := "(I)I" } : Jvm.MethodName)) ∈ lw_tbl := lw_at lw_m3 122 rfl
theorem q687 : (Jvm.Cond.instanceMethod ({ cls := "LeastFrames", name := "stretched", desc := "(I)I" } : Jvm.MethodName)) ∈ lw_all := lw_g (lw_at lw_m3 123 rfl) rfl
theorem q688 : (Jvm.Cond.code ({ cls := "LeastFrames", name := "stretched", desc := "(I)I" } : Jvm.MethodName) prog_1_method_55_code (4 : Nat) (Option.some Jvm.ClassFile.FieldType.int)) ∈ lw_all := lw_g (lw_at lw_m3 124 rfl) rfl
theorem q689 : (Jvm.Cond.methodLink "LeastFrames" (281 : Nat) ({ cls := "LeastFrames$Point", name := "shift", desc := "(I)I" } : Jvm.MethodName)) ∈ lw_all := lw_g (lw_at lw_m3 125 rfl) rfl
theorem q694 : (Jvm.Cond.constantLong "LeastFrames" (287 : Nat) (12 : Int64)) ∈ lw_all := lw_g (lw_at lw_m3 130 rfl) rfl
theorem q696 : (Jvm.Cond.instanceMethod ({ cls := "LeastFrames", name := "work", desc := "(I)J" } : Jvm.MethodName)) ∈ lw_all := lw_g (lw_at lw_m3 132 rfl) rfl
theorem q697 : (Jvm.Cond.selects "LeastFrames" ({ cls := "LeastFrames", name := "work", desc := "(I)J" } : Jvm.MethodName) ({ cls := "LeastFrames", name := "work", desc := "(I)J" } : Jvm.MethodName)) ∈ lw_all := lw_g (lw_at lw_m3 133 rfl) rfl
theorem q698 : (Jvm.Cond.code ({ cls := "LeastFrames", name := "work", desc := "(I)J" } : Jvm.MethodName) prog_1_method_58_code (2 : Nat) (Option.some Jvm.ClassFile.FieldType.long)) ∈ lw_all := lw_g (lw_at lw_m3 134 rfl) rfl
theorem q699 : (Jvm.Cond.methodLink "LeastFrames" (289 : Nat) ({ cls := "LeastFrames", name := "worked", desc := "()I" } : Jvm.MethodName)) ∈ lw_all := lw_g (lw_at lw_m3 135 rfl) rfl
theorem q700 : (Jvm.Cond.privateMethod ({ cls := "LeastFrames", name := "worked", desc := "()I" } : Jvm.MethodName)) ∈ lw_tbl := lw_at lw_m3 136 rfl
theorem q701 : (Jvm.Cond.instanceMethod ({ cls := "LeastFrames", name := "worked", desc := "()I" } : Jvm.MethodName)) ∈ lw_all := lw_g (lw_at lw_m3 137 rfl) rfl
theorem q702 : (Jvm.Cond.code ({ cls := "LeastFrames", name := "worked", desc := "()I" } : Jvm.MethodName) prog_1_method_57_code (4 : Nat) (Option.some Jvm.ClassFile.FieldType.int)) ∈ lw_all := lw_g (lw_at lw_m3 138 rfl) rfl
theorem q704 : (Jvm.Cond.instanceMethod ({ cls := "LeastFrames", name := "proves", desc := "()I" } : Jvm.MethodName)) ∈ lw_all := lw_g (lw_at lw_m3 140 rfl) rfl
theorem q705 : (Jvm.Cond.selects "LeastFrames" ({ cls := "LeastFrames", name := "proves", desc := "()I" } : Jvm.MethodName) ({ cls := "LeastFrames", name := "proves", desc := "()I" } : Jvm.MethodName)) ∈ lw_all := lw_g (lw_at lw_m3 141 rfl) rfl
theorem q706 : (Jvm.Cond.code ({ cls := "LeastFrames", name := "proves", desc := "()I" } : Jvm.MethodName) prog_1_method_60_code (1 : Nat) (Option.some Jvm.ClassFile.FieldType.int)) ∈ lw_all := lw_g (lw_at lw_m3 142 rfl) rfl
theorem q707 : (Jvm.Cond.methodLink "LeastFrames" (298 : Nat) ({ cls := "LeastFrames", name := "provesNow", desc := "()I" } : Jvm.MethodName)) ∈ lw_all := lw_g (lw_at lw_m3 143 rfl) rfl
theorem q708 : (Jvm.Cond.privateMethod ({ cls := "LeastFrames", name := "provesNow", desc := "()I" } : Jvm.MethodName)) ∈ lw_tbl := lw_at lw_m3 144 rfl
theorem q709 : (Jvm.Cond.instanceMethod ({ cls := "LeastFrames", name := "provesNow", desc := "()I" } : Jvm.MethodName)) ∈ lw_all := lw_g (lw_at lw_m3 145 rfl) rfl
theorem q710 : (Jvm.Cond.code ({ cls := "LeastFrames", name := "provesNow", desc := "()I" } : Jvm.MethodName) prog_1_method_59_code (2 : Nat) (Option.some Jvm.ClassFile.FieldType.int)) ∈ lw_all := lw_g (lw_at lw_m3 146 rfl) rfl
theorem q711 : (Jvm.Cond.methodLink "LeastFrames" (292 : Nat) ({ cls := "java/lang/Math", name := "abs", desc := "(I)I" } : Jvm.MethodName)) ∈ lw_all := lw_g (lw_at lw_m3 147 rfl) rfl
theorem q715 : (Jvm.Cond.instanceMethod ({ cls := "LeastFrames", name := "cross", desc := "(II)I" } : Jvm.MethodName)) ∈ lw_all := lw_g (lw_at lw_m3 151 rfl) rfl
theorem q716 : (Jvm.Cond.selects "LeastFrames" ({ cls := "LeastFrames", name := "cross", desc := "(II)I" } : Jvm.MethodName) ({ cls := "LeastFrames", name := "cross", desc := "(II)I" } : Jvm.MethodName)) ∈ lw_all := lw_g (lw_at lw_m3 152 rfl) rfl
theorem q717 : (Jvm.Cond.code ({ cls := "LeastFrames", name := "cross", desc := "(II)I" } : Jvm.MethodName) prog_1_method_66_code (3 : Nat) (Option.some Jvm.ClassFile.FieldType.int)) ∈ lw_all := lw_g (lw_at lw_m3 153 rfl) rfl
theorem q718 : (Jvm.Cond.constantLong "LeastFrames" (320 : Nat) (5 : Int64)) ∈ lw_all := lw_g (lw_at lw_m3 154 rfl) rfl
theorem q719 : (Jvm.Cond.methodLink "LeastFrames" (322 : Nat) ({ cls := "LeastFrames", name := "crossed", desc := "(I)Z" } : Jvm.MethodName)) ∈ lw_all := lw_g (lw_at lw_m3 155 rfl) rfl
theorem q720 : (Jvm.Cond.privateMethod ({ cls := "LeastFrames", name := "crossed", desc := "(I)Z" } : Jvm.MethodName)) ∈ lw_tbl := lw_at lw_m3 156 rfl
theorem q721 : (Jvm.Cond.instanceMethod ({ cls := "LeastFrames", name := "crossed", desc := "(I)Z" } : Jvm.MethodName)) ∈ lw_all := lw_g (lw_at lw_m3 157 rfl) rfl
theorem q722 : (Jvm.Cond.code ({ cls := "LeastFrames", name := "crossed", desc := "(I)Z" } : Jvm.MethodName) prog_1_method_63_code (5 : Nat) (Option.some Jvm.ClassFile.FieldType.boolean)) ∈ lw_all := lw_g (lw_at lw_m3 158 rfl) rfl
theorem q723 : (Jvm.Cond.methodLink "LeastFrames" (308 : Nat) ({ cls := "LeastFrames", name := "crosses", desc := "(II)Z" } : Jvm.MethodName)) ∈ lw_all := lw_g (lw_at lw_m3 159 rfl) rfl
theorem q724 : (Jvm.Cond.privateMethod ({ cls := "LeastFrames", name := "crosses", desc := "(II)Z" } : Jvm.MethodName)) ∈ lw_tbl := lw_at lw_m3 160 rfl
theorem q725 : (Jvm.Cond.instanceMethod ({ cls := "LeastFrames", name := "crosses", desc := "(II)Z" } : Jvm.MethodName)) ∈ lw_all := lw_g (lw_at lw_m3 161 rfl) rfl
theorem q726 : (Jvm.Cond.code ({ cls := "LeastFrames", name := "crosses", desc := "(II)Z" } : Jvm.MethodName) prog_1_method_62_code (7 : Nat) (Option.some Jvm.ClassFile.FieldType.boolean)) ∈ lw_all := lw_g (lw_at lw_m3 162 rfl) rfl
theorem q727 : (Jvm.Cond.methodLink "LeastFrames" (304 : Nat) ({ cls := "LeastFrames", name := "turn", desc := "(III)I" } : Jvm.MethodName)) ∈ lw_all := lw_g (lw_at lw_m3 163 rfl) rfl
theorem q728 : (Jvm.Cond.privateMethod ({ cls := "LeastFrames", name := "turn", desc := "(III)I" } : Jvm.MethodName)) ∈ lw_tbl := lw_at lw_m3 164 rfl
theorem q729 : (Jvm.Cond.instanceMethod ({ cls := "LeastFrames", name := "turn", desc := "(III)I" } : Jvm.MethodName)) ∈ lw_all := lw_g (lw_at lw_m3 165 rfl) rfl
theorem q730 : (Jvm.Cond.code ({ cls := "LeastFrames", name := "turn", desc := "(III)I" } : Jvm.MethodName) prog_1_method_61_code (7 : Nat) (Option.some Jvm.ClassFile.FieldType.int)) ∈ lw_all := lw_g (lw_at lw_m3 166 rfl) rfl
theorem q731 : (Jvm.Cond.methodLink "LeastFrames" (301 : Nat) ({ cls := "java/lang/Integer", name := "signum", desc := "(I)I" } : Jvm.MethodName)) ∈ lw_all := lw_g (lw_at lw_m3 167 rfl) rfl
theorem q734 : (Jvm.Cond.methodLink "LeastFrames" (325 : Nat) ({ cls := "LeastFrames", name := "crossBy", desc := "(I)I" } : Jvm.MethodName)) ∈ lw_all := lw_g (lw_at lw_m3 170 rfl) rfl
theorem q735 : (Jvm.Cond.privateMethod ({ cls := "LeastFrames", name := "crossBy", desc := "(I)I" } : Jvm.MethodName)) ∈ lw_tbl := lw_at lw_m3 171 rfl
theorem q736 : (Jvm.Cond.instanceMethod ({ cls := "LeastFrames", name := "crossBy", desc := "(I)I" } : Jvm.MethodName)) ∈ lw_all := lw_g (lw_at lw_m3 172 rfl) rfl
theorem q737 : (Jvm.Cond.code ({ cls := "LeastFrames", name := "crossBy", desc := "(I)I" } : Jvm.MethodName) prog_1_method_65_code (2 : Nat) (Option.some Jvm.ClassFile.FieldType.int)) ∈ lw_all := lw_g (lw_at lw_m3 173 rfl) rfl
theorem q738 : (Jvm.Cond.methodLink "LeastFrames" (317 : Nat) ({ cls := "LeastFrames", name := "placed", desc := "(II)J" } : Jvm.MethodName)) ∈ lw_all := lw_g (lw_at lw_m3 174 rfl) rfl
theorem q739 : (Jvm.Cond.privateMethod ({ cls := "LeastFrames", name := "placed", desc := "(II)J" } : Jvm.MethodName)) ∈ lw_tbl := lw_at lw_m3 175 rfl
theorem q740 : (Jvm.Cond.instanceMethod ({ cls := "LeastFrames", name := "placed", desc := "(II)J" } : Jvm.MethodName)) ∈ lw_all := lw_g (lw_at lw_m3 176 rfl) rfl
theorem q741 : (Jvm.Cond.code ({ cls := "LeastFrames", name := "placed", desc := "(II)J" } : Jvm.MethodName) prog_1_method_64_code (11 : Nat) (Option.some Jvm.ClassFile.FieldType.long)) ∈ lw_all := lw_g (lw_at lw_m3 177 rfl) rfl
theorem q743 : (Jvm.Cond.instanceMethod ({ cls := "LeastFrames", name := "sheet", desc := "(III)I" } : Jvm.MethodName)) ∈ lw_all := lw_g (lw_at lw_m3 179 rfl) rfl
theorem q744 : (Jvm.Cond.selects "LeastFrames" ({ cls := "LeastFrames", name := "sheet", desc := "(III)I" } : Jvm.MethodName) ({ cls := "LeastFrames", name := "sheet", desc := "(III)I" } : Jvm.MethodName)) ∈ lw_all := lw_g (lw_at lw_m3 180 rfl) rfl
theorem q745 : (Jvm.Cond.codeWith ({ cls := "LeastFrames", name := "sheet", desc := "(III)I" } : Jvm.MethodName) prog_1_method_69_code (5 : Nat) (Option.some Jvm.ClassFile.FieldType.int) [((23 : Nat), (46 : Nat), (47 : Nat), (328 : Nat))]) ∈ lw_all := lw_g (lw_at lw_m3 181 rfl) rfl
theorem q746 : (Jvm.Cond.classLink "LeastFrames" (328 : Nat) "java/lang/NegativeArraySizeException") ∈ lw_all := lw_g (lw_at lw_m3 182 rfl) rfl
theorem q777 : (Jvm.Cond.instanceMethod ({ cls := "LeastFrames", name := "lose", desc := "(I)I" } : Jvm.MethodName)) ∈ lw_all := lw_g (lw_at lw_m3 213 rfl) rfl
theorem q778 : (Jvm.Cond.selects "LeastFrames" ({ cls := "LeastFrames", name := "lose", desc := "(I)I" } : Jvm.MethodName) ({ cls := "LeastFrames", name := "lose", desc := "(I)I" } : Jvm.MethodName)) ∈ lw_all := lw_g (lw_at lw_m3 214 rfl) rfl
theorem q779 : (Jvm.Cond.code ({ cls := "LeastFrames", name := "lose", desc := "(I)I" } : Jvm.MethodName) prog_1_method_70_code (3 : Nat) (Option.some Jvm.ClassFile.FieldType.int)) ∈ lw_all := lw_g (lw_at lw_m3 215 rfl) rfl
theorem q781 : (Jvm.Cond.instanceMethod ({ cls := "LeastFrames", name := "put", desc := "(IIII)I" } : Jvm.MethodName)) ∈ lw_all := lw_g (lw_at lw_m3 217 rfl) rfl
theorem q782 : (Jvm.Cond.selects "LeastFrames" ({ cls := "LeastFrames", name := "put", desc := "(IIII)I" } : Jvm.MethodName) ({ cls := "LeastFrames", name := "put", desc := "(IIII)I" } : Jvm.MethodName)) ∈ lw_all := lw_g (lw_at lw_m3 218 rfl) rfl
theorem q783 : (Jvm.Cond.codeWith ({ cls := "LeastFrames", name := "put", desc := "(IIII)I" } : Jvm.MethodName) prog_1_method_71_code (6 : Nat) (Option.some Jvm.ClassFile.FieldType.int) [((35 : Nat), (49 : Nat), (50 : Nat), (334 : Nat)), ((35 : Nat), (49 : Nat), (58 : Nat), (336 : Nat)), ((35 : Nat), (49 : Nat), (66 : Nat), (338 : Nat))]) ∈ lw_all := lw_g (lw_at lw_m3 219 rfl) rfl
theorem q784 : (Jvm.Cond.classLink "LeastFrames" (334 : Nat) "java/lang/ClassCastException") ∈ lw_all := lw_g (lw_at lw_m3 220 rfl) rfl
theorem q798 : (Jvm.Cond.classLink "LeastFrames" (336 : Nat) "java/lang/ArrayIndexOutOfBoundsException") ∈ lw_all := lw_g (lw_at lw_m3 234 rfl) rfl
theorem q817 : (Jvm.Cond.classLink "LeastFrames" (338 : Nat) "java/lang/ArithmeticException") ∈ lw_all := lw_g (lw_at lw_m4 13 rfl) rfl
theorem q831 : (Jvm.Cond.methodLink "LeastFrames" (330 : Nat) ({ cls := "LeastFrames$Sheet", name := "lay", desc := "(III)V" } : Jvm.MethodName)) ∈ lw_all := lw_g (lw_at lw_m4 27 rfl) rfl
theorem q845 : (Jvm.Cond.instanceMethod ({ cls := "LeastFrames", name := "get", desc := "(II)J" } : Jvm.MethodName)) ∈ lw_all := lw_g (lw_at lw_m4 41 rfl) rfl
theorem q846 : (Jvm.Cond.selects "LeastFrames" ({ cls := "LeastFrames", name := "get", desc := "(II)J" } : Jvm.MethodName) ({ cls := "LeastFrames", name := "get", desc := "(II)J" } : Jvm.MethodName)) ∈ lw_all := lw_g (lw_at lw_m4 42 rfl) rfl
theorem q847 : (Jvm.Cond.codeWith ({ cls := "LeastFrames", name := "get", desc := "(II)J" } : Jvm.MethodName) prog_1_method_72_code (4 : Nat) (Option.some Jvm.ClassFile.FieldType.long) [((34 : Nat), (44 : Nat), (45 : Nat), (336 : Nat))]) ∈ lw_all := lw_g (lw_at lw_m4 43 rfl) rfl
theorem q849 : (Jvm.Cond.instanceMethod ({ cls := "LeastFrames", name := "copy", desc := "(IIIII)I" } : Jvm.MethodName)) ∈ lw_all := lw_g (lw_at lw_m4 45 rfl) rfl
theorem q850 : (Jvm.Cond.selects "LeastFrames" ({ cls := "LeastFrames", name := "copy", desc := "(IIIII)I" } : Jvm.MethodName) ({ cls := "LeastFrames", name := "copy", desc := "(IIIII)I" } : Jvm.MethodName)) ∈ lw_all := lw_g (lw_at lw_m4 46 rfl) rfl
theorem q851 : (Jvm.Cond.codeWith ({ cls := "LeastFrames", name := "copy", desc := "(IIIII)I" } : Jvm.MethodName) prog_1_method_73_code (7 : Nat) (Option.some Jvm.ClassFile.FieldType.int) [((17 : Nat), (44 : Nat), (45 : Nat), (346 : Nat)), ((17 : Nat), (44 : Nat), (53 : Nat), (348 : Nat)), ((17 : Nat), (44 : Nat), (61 : Nat), (350 : Nat))]) ∈ lw_all := lw_g (lw_at lw_m4 47 rfl) rfl
theorem q852 : (Jvm.Cond.classLink "LeastFrames" (346 : Nat) "java/lang/NullPointerException") ∈ lw_all := lw_g (lw_at lw_m4 48 rfl) rfl
theorem q874 : (Jvm.Cond.classLink "LeastFrames" (348 : Nat) "java/lang/ArrayStoreException") ∈ lw_all := lw_g (lw_at lw_m4 70 rfl) rfl
theorem q888 : (Jvm.Cond.classLink "LeastFrames" (350 : Nat) "java/lang/IndexOutOfBoundsException") ∈ lw_all := lw_g (lw_at lw_m4 84 rfl) rfl
theorem q889 : (Jvm.Cond.methodLink "LeastFrames" (340 : Nat) ({ cls := "java/lang/System", name := "arraycopy", desc := "(Ljava/lang/Object;ILjava/lang/Object;II)V" } : Jvm.MethodName)) ∈ lw_all := lw_g (lw_at lw_m4 85 rfl) rfl
theorem q893 : (Jvm.Cond.instanceMethod ({ cls := "LeastFrames", name := "write", desc := "(I)I" } : Jvm.MethodName)) ∈ lw_all := lw_g (lw_at lw_m4 89 rfl) rfl
theorem q894 : (Jvm.Cond.selects "LeastFrames" ({ cls := "LeastFrames", name := "write", desc := "(I)I" } : Jvm.MethodName) ({ cls := "LeastFrames", name := "write", desc := "(I)I" } : Jvm.MethodName)) ∈ lw_all := lw_g (lw_at lw_m4 90 rfl) rfl
theorem q895 : (Jvm.Cond.code ({ cls := "LeastFrames", name := "write", desc := "(I)I" } : Jvm.MethodName) prog_1_method_74_code (5 : Nat) (Option.some Jvm.ClassFile.FieldType.int)) ∈ lw_all := lw_g (lw_at lw_m4 91 rfl) rfl
theorem q896 : (Jvm.Cond.methodLink "LeastFrames" (352 : Nat) ({ cls := "java/lang/Math", name := "min", desc := "(II)I" } : Jvm.MethodName)) ∈ lw_all := lw_g (lw_at lw_m4 92 rfl) rfl
theorem q899 : (Jvm.Cond.methodLink "LeastFrames" (355 : Nat) ({ cls := "LeastFrames$Sheet", name := "lays", desc := "(IJ)V" } : Jvm.MethodName)) ∈ lw_all := lw_g (lw_at lw_m4 95 rfl) rfl
theorem q904 : (Jvm.Cond.instanceMethod ({ cls := "LeastFrames", name := "count", desc := "(I)I" } : Jvm.MethodName)) ∈ lw_all := lw_g (lw_at lw_m4 100 rfl) rfl
theorem q905 : (Jvm.Cond.selects "LeastFrames" ({ cls := "LeastFrames", name := "count", desc := "(I)I" } : Jvm.MethodName) ({ cls := "LeastFrames", name := "count", desc := "(I)I" } : Jvm.MethodName)) ∈ lw_all := lw_g (lw_at lw_m4 101 rfl) rfl
theorem q906 : (Jvm.Cond.code ({ cls := "LeastFrames", name := "count", desc := "(I)I" } : Jvm.MethodName) prog_1_method_77_code (2 : Nat) (Option.some Jvm.ClassFile.FieldType.int)) ∈ lw_all := lw_g (lw_at lw_m4 102 rfl) rfl
theorem q907 : (Jvm.Cond.methodLink "LeastFrames" (365 : Nat) ({ cls := "LeastFrames", name := "countBy", desc := "(I)I" } : Jvm.MethodName)) ∈ lw_all := lw_g (lw_at lw_m4 103 rfl) rfl
theorem q908 : (Jvm.Cond.privateMethod ({ cls := "LeastFrames", name := "countBy", desc := "(I)I" } : Jvm.MethodName)) ∈ lw_tbl := lw_at lw_m4 104 rfl
theorem q909 : (Jvm.Cond.instanceMethod ({ cls := "LeastFrames", name := "countBy", desc := "(I)I" } : Jvm.MethodName)) ∈ lw_all := lw_g (lw_at lw_m4 105 rfl) rfl
theorem q910 : (Jvm.Cond.code ({ cls := "LeastFrames", name := "countBy", desc := "(I)I" } : Jvm.MethodName) prog_1_method_76_code (3 : Nat) (Option.some Jvm.ClassFile.FieldType.int)) ∈ lw_all := lw_g (lw_at lw_m4 106 rfl) rfl
theorem q911 : (Jvm.Cond.methodLink "LeastFrames" (359 : Nat) ({ cls := "LeastFrames", name := "waysNow", desc := "()I" } : Jvm.MethodName)) ∈ lw_all := lw_g (lw_at lw_m4 107 rfl) rfl
theorem q912 : (Jvm.Cond.privateMethod ({ cls := "LeastFrames", name := "waysNow", desc := "()I" } : Jvm.MethodName)) ∈ lw_tbl := lw_at lw_m4 108 rfl
theorem q913 : (Jvm.Cond.instanceMethod ({ cls := "LeastFrames", name := "waysNow", desc := "()I" } : Jvm.MethodName)) ∈ lw_all := lw_g (lw_at lw_m4 109 rfl) rfl
theorem q914 : (Jvm.Cond.code ({ cls := "LeastFrames", name := "waysNow", desc := "()I" } : Jvm.MethodName) prog_1_method_75_code (3 : Nat) (Option.some Jvm.ClassFile.FieldType.int)) ∈ lw_all := lw_g (lw_at lw_m4 110 rfl) rfl
theorem q915 : (Jvm.Cond.methodLink "LeastFrames" (362 : Nat) ({ cls := "LeastFrames", name := "crossings", desc := "()I" } : Jvm.MethodName)) ∈ lw_all := lw_g (lw_at lw_m4 111 rfl) rfl
theorem q916 : (Jvm.Cond.privateMethod ({ cls := "LeastFrames", name := "crossings", desc := "()I" } : Jvm.MethodName)) ∈ lw_tbl := lw_at lw_m4 112 rfl
theorem q917 : (Jvm.Cond.instanceMethod ({ cls := "LeastFrames", name := "crossings", desc := "()I" } : Jvm.MethodName)) ∈ lw_all := lw_g (lw_at lw_m4 113 rfl) rfl
theorem q918 : (Jvm.Cond.code ({ cls := "LeastFrames", name := "crossings", desc := "()I" } : Jvm.MethodName) prog_1_method_67_code (2 : Nat) (Option.some Jvm.ClassFile.FieldType.int)) ∈ lw_all := lw_g (lw_at lw_m4 114 rfl) rfl
theorem q920 : (Jvm.Cond.instanceMethod ({ cls := "LeastFrames", name := "digest", desc := "()J" } : Jvm.MethodName)) ∈ lw_all := lw_g (lw_at lw_m4 116 rfl) rfl
theorem q921 : (Jvm.Cond.selects "LeastFrames" ({ cls := "LeastFrames", name := "digest", desc := "()J" } : Jvm.MethodName) ({ cls := "LeastFrames", name := "digest", desc := "()J" } : Jvm.MethodName)) ∈ lw_all := lw_g (lw_at lw_m4 117 rfl) rfl
theorem q922 : (Jvm.Cond.code ({ cls := "LeastFrames", name := "digest", desc := "()J" } : Jvm.MethodName) prog_1_method_79_code (6 : Nat) (Option.some Jvm.ClassFile.FieldType.long)) ∈ lw_all := lw_g (lw_at lw_m4 118 rfl) rfl
theorem q923 : (Jvm.Cond.constantLong "LeastFrames" (370 : Nat) (17 : Int64)) ∈ lw_all := lw_g (lw_at lw_m4 119 rfl) rfl
theorem q924 : (Jvm.Cond.constantLong "LeastFrames" (368 : Nat) (31 : Int64)) ∈ lw_all := lw_g (lw_at lw_m4 120 rfl) rfl
theorem q925 : (Jvm.Cond.methodLink "LeastFrames" (372 : Nat) ({ cls := "LeastFrames", name := "tellsPair", desc := "(JI)J" } : Jvm.MethodName)) ∈ lw_all := lw_g (lw_at lw_m4 121 rfl) rfl
theorem q926 : (Jvm.Cond.privateMethod ({ cls := "LeastFrames", name := "tellsPair", desc := "(JI)J" } : Jvm.MethodName)) ∈ lw_tbl := lw_at lw_m4 122 rfl
theorem q927 : (Jvm.Cond.instanceMethod ({ cls := "LeastFrames", name := "tellsPair", desc := "(JI)J" } : Jvm.MethodName)) ∈ lw_all := lw_g (lw_at lw_m4 123 rfl) rfl
theorem q928 : (Jvm.Cond.code ({ cls := "LeastFrames", name := "tellsPair", desc := "(JI)J" } : Jvm.MethodName) prog_1_method_78_code (8 : Nat) (Option.some Jvm.ClassFile.FieldType.long)) ∈ lw_all := lw_g (lw_at lw_m4 124 rfl) rfl
theorem in_X0 : ∀ w ∈ wsX00, w ∈ lw_all := lw_in wsX00 [207, 209, 211, 213, 215, 217, 219, 221, 223, 225, 227, 229, 231] (by decide +kernel) (by decide +kernel)
