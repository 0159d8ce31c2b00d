/-! LeastFramesModel -/
set_option maxRecDepth 100000
def RX4 : String := "LeastFramesModel"
def TX4 : u_T := fun k => match k with
  | 0 => ("LeastFramesModel", "xs", "[I", true)
  | 1 => ("LeastFramesModel", "ys", "[I", true)
  | 2 => ("LeastFramesModel", "helds", "[I", true)
  | 3 => ("LeastFramesModel", "loads", "[I", true)
  | 4 => ("LeastFramesModel", "shifts", "[I", true)
  | 5 => ("LeastFramesModel", "points", "I", false)
  | 6 => ("LeastFramesModel", "bars", "I", false)
  | 7 => ("LeastFramesModel", "rows", "[J", true)
  | 8 => ("LeastFramesModel", "pivots", "[I", true)
  | 9 => ("LeastFramesModel", "rank", "I", false)
  | 10 => ("LeastFramesModel", "bears", "[Z", true)
  | 11 => ("LeastFramesModel", "aboves", "[J", true)
  | 12 => ("LeastFramesModel", "belows", "[J", true)
  | 13 => ("LeastFramesModel", "isKnown", "Z", false)
  | 14 => ("LeastFramesModel", "sHit", "I", false)
  | 15 => ("LeastFramesModel", "tHit", "I", false)
  | 16 => ("LeastFramesModel", "under", "I", false)
  | 17 => ("LeastFramesModel", "forms", "[I", true)
  | 18 => ("LeastFramesModel", "sizes", "[I", true)
  | 19 => ("LeastFramesModel", "items", "[J", true)
  | 20 => ("LeastFramesModel", "movedItems", "[J", true)
  | _ => ("LeastFramesModel", "finding", "I", false)
def tyX4 : Nat → FieldType := fun k => match k with
  | 0 => .array .int
  | 1 => .array .int
  | 2 => .array .int
  | 3 => .array .int
  | 4 => .array .int
  | 5 => .int
  | 6 => .int
  | 7 => .array .long
  | 8 => .array .int
  | 9 => .int
  | 10 => .array .boolean
  | 11 => .array .long
  | 12 => .array .long
  | 13 => .boolean
  | 14 => .int
  | 15 => .int
  | 16 => .int
  | 17 => .array .int
  | 18 => .array .int
  | 19 => .array .long
  | 20 => .array .long
  | _ => .int
abbrev wsX40 : List Cond := u_ws RX4 TX4 22
set_option maxRecDepth 100000 in
theorem nmX4 : ∀ a, a < 22 → ∀ b, b < 22 → a ≠ b → (TX4 a).2.1 ≠ (TX4 b).2.1 := by decide +kernel
set_option maxRecDepth 100000 in
theorem tyX4_ok : ∀ k, k < 22 → parseFieldDescriptor (TX4 k).2.2.1 = some (tyX4 k) := by decide +kernel
abbrev cX4_init : ByteArray := prog_9_method_1_code
def yX4_init : MethodName := ⟨RX4, "<init>", "()V"⟩
def dkwX4_init_5 : List UInt8 := [27, 7, 162, 0, 16, 42, 180, 0, 42, 27, 2, 79, 132, 1, 1, 167, 255, 241, 177]
abbrev dktX4_init_5 : List UInt8 := dkwX4_init_5 ++ []
def dkwX4_init_4 : List UInt8 := [188, 10, 181, 0, 45, 42, 17, 0, 160, 188, 11, 181, 0, 48, 42, 16, 40, 188, 11, 181, 0, 51, 3, 60]
abbrev dktX4_init_4 : List UInt8 := dkwX4_init_4 ++ dktX4_init_5
def dkwX4_init_3 : List UInt8 := [188, 11, 181, 0, 36, 42, 17, 4, 0, 188, 11, 181, 0, 39, 42, 7, 188, 10, 181, 0, 42, 42, 7]
abbrev dktX4_init_3 : List UInt8 := dkwX4_init_3 ++ dktX4_init_4
def dkwX4_init_2 : List UInt8 := [181, 0, 25, 42, 16, 10, 188, 10, 181, 0, 29, 42, 17, 4, 0, 188, 4, 181, 0, 32, 42, 17, 4, 0]
abbrev dktX4_init_2 : List UInt8 := dkwX4_init_2 ++ dktX4_init_3
def dkwX4_init_1 : List UInt8 := [181, 0, 16, 42, 16, 10, 188, 10, 181, 0, 19, 42, 16, 10, 188, 10, 181, 0, 22, 42, 16, 110, 188, 11]
abbrev dktX4_init_1 : List UInt8 := dkwX4_init_1 ++ dktX4_init_2
def dkwX4_init_0 : List UInt8 := [42, 183, 0, 1, 42, 8, 188, 10, 181, 0, 7, 42, 8, 188, 10, 181, 0, 13, 42, 8, 188, 10]
abbrev dktX4_init_0 : List UInt8 := dkwX4_init_0 ++ dktX4_init_1
theorem dksX4_init_0 : cX4_init.data.toList.drop 0 = dktX4_init_0 := by decide +kernel
theorem dksX4_init_1 : cX4_init.data.toList.drop 22 = dktX4_init_1 := dk_seg dksX4_init_0 22 rfl rfl
theorem dksX4_init_2 : cX4_init.data.toList.drop 46 = dktX4_init_2 := dk_seg dksX4_init_1 24 rfl rfl
theorem dksX4_init_3 : cX4_init.data.toList.drop 70 = dktX4_init_3 := dk_seg dksX4_init_2 24 rfl rfl
theorem dksX4_init_4 : cX4_init.data.toList.drop 93 = dktX4_init_4 := dk_seg dksX4_init_3 23 rfl rfl
theorem dksX4_init_5 : cX4_init.data.toList.drop 117 = dktX4_init_5 := dk_seg dksX4_init_4 24 rfl rfl
theorem dX4_init_0 : decode cX4_init 0 = .ok (.aload_n 0, 1) := dk_42 (dk_at dksX4_init_0 0 rfl rfl)
theorem dX4_init_1 : decode cX4_init 1 = .ok (.invokespecial 1, 3) := dk_183 0 1 (dk_at dksX4_init_0 1 rfl rfl)
theorem dX4_init_4 : decode cX4_init 4 = .ok (.aload_n 0, 1) := dk_42 (dk_at dksX4_init_0 4 rfl rfl)
theorem dX4_init_5 : decode cX4_init 5 = .ok (.iconst 5, 1) := dk_8 (dk_at dksX4_init_0 5 rfl rfl)
theorem dX4_init_6 : decode cX4_init 6 = .ok (.newarray .int, 2) := dk_188_10 (dk_at dksX4_init_0 6 rfl rfl)
theorem dX4_init_8 : decode cX4_init 8 = .ok (.putfield 7, 3) := dk_181 0 7 (dk_at dksX4_init_0 8 rfl rfl)
theorem dX4_init_11 : decode cX4_init 11 = .ok (.aload_n 0, 1) := dk_42 (dk_at dksX4_init_0 11 rfl rfl)
theorem dX4_init_12 : decode cX4_init 12 = .ok (.iconst 5, 1) := dk_8 (dk_at dksX4_init_0 12 rfl rfl)
theorem dX4_init_13 : decode cX4_init 13 = .ok (.newarray .int, 2) := dk_188_10 (dk_at dksX4_init_0 13 rfl rfl)
theorem dX4_init_15 : decode cX4_init 15 = .ok (.putfield 13, 3) := dk_181 0 13 (dk_at dksX4_init_0 15 rfl rfl)
theorem dX4_init_18 : decode cX4_init 18 = .ok (.aload_n 0, 1) := dk_42 (dk_at dksX4_init_0 18 rfl rfl)
theorem dX4_init_19 : decode cX4_init 19 = .ok (.iconst 5, 1) := dk_8 (dk_at dksX4_init_0 19 rfl rfl)
theorem dX4_init_20 : decode cX4_init 20 = .ok (.newarray .int, 2) := dk_188_10 (dk_at dksX4_init_0 20 rfl rfl)
theorem dX4_init_22 : decode cX4_init 22 = .ok (.putfield 16, 3) := dk_181 0 16 (dk_at dksX4_init_1 0 rfl rfl)
theorem dX4_init_25 : decode cX4_init 25 = .ok (.aload_n 0, 1) := dk_42 (dk_at dksX4_init_1 3 rfl rfl)
theorem dX4_init_26 : decode cX4_init 26 = .ok (.bipush 10, 2) := dk_16 10 (dk_at dksX4_init_1 4 rfl rfl)
theorem dX4_init_28 : decode cX4_init 28 = .ok (.newarray .int, 2) := dk_188_10 (dk_at dksX4_init_1 6 rfl rfl)
theorem dX4_init_30 : decode cX4_init 30 = .ok (.putfield 19, 3) := dk_181 0 19 (dk_at dksX4_init_1 8 rfl rfl)
theorem dX4_init_33 : decode cX4_init 33 = .ok (.aload_n 0, 1) := dk_42 (dk_at dksX4_init_1 11 rfl rfl)
theorem dX4_init_34 : decode cX4_init 34 = .ok (.bipush 10, 2) := dk_16 10 (dk_at dksX4_init_1 12 rfl rfl)
theorem dX4_init_36 : decode cX4_init 36 = .ok (.newarray .int, 2) := dk_188_10 (dk_at dksX4_init_1 14 rfl rfl)
theorem dX4_init_38 : decode cX4_init 38 = .ok (.putfield 22, 3) := dk_181 0 22 (dk_at dksX4_init_1 16 rfl rfl)
theorem dX4_init_41 : decode cX4_init 41 = .ok (.aload_n 0, 1) := dk_42 (dk_at dksX4_init_1 19 rfl rfl)
theorem dX4_init_42 : decode cX4_init 42 = .ok (.bipush 110, 2) := dk_16 110 (dk_at dksX4_init_1 20 rfl rfl)
theorem dX4_init_44 : decode cX4_init 44 = .ok (.newarray .long, 2) := dk_188_11 (dk_at dksX4_init_1 22 rfl rfl)
theorem dX4_init_46 : decode cX4_init 46 = .ok (.putfield 25, 3) := dk_181 0 25 (dk_at dksX4_init_2 0 rfl rfl)
theorem dX4_init_49 : decode cX4_init 49 = .ok (.aload_n 0, 1) := dk_42 (dk_at dksX4_init_2 3 rfl rfl)
theorem dX4_init_50 : decode cX4_init 50 = .ok (.bipush 10, 2) := dk_16 10 (dk_at dksX4_init_2 4 rfl rfl)
theorem dX4_init_52 : decode cX4_init 52 = .ok (.newarray .int, 2) := dk_188_10 (dk_at dksX4_init_2 6 rfl rfl)
theorem dX4_init_54 : decode cX4_init 54 = .ok (.putfield 29, 3) := dk_181 0 29 (dk_at dksX4_init_2 8 rfl rfl)
theorem dX4_init_57 : decode cX4_init 57 = .ok (.aload_n 0, 1) := dk_42 (dk_at dksX4_init_2 11 rfl rfl)
theorem dX4_init_58 : decode cX4_init 58 = .ok (.sipush 1024, 3) := dk_17 4 0 (dk_at dksX4_init_2 12 rfl rfl)
theorem dX4_init_61 : decode cX4_init 61 = .ok (.newarray .boolean, 2) := dk_188_4 (dk_at dksX4_init_2 15 rfl rfl)
theorem dX4_init_63 : decode cX4_init 63 = .ok (.putfield 32, 3) := dk_181 0 32 (dk_at dksX4_init_2 17 rfl rfl)
theorem dX4_init_66 : decode cX4_init 66 = .ok (.aload_n 0, 1) := dk_42 (dk_at dksX4_init_2 20 rfl rfl)
theorem dX4_init_67 : decode cX4_init 67 = .ok (.sipush 1024, 3) := dk_17 4 0 (dk_at dksX4_init_2 21 rfl rfl)
theorem dX4_init_70 : decode cX4_init 70 = .ok (.newarray .long, 2) := dk_188_11 (dk_at dksX4_init_3 0 rfl rfl)
theorem dX4_init_72 : decode cX4_init 72 = .ok (.putfield 36, 3) := dk_181 0 36 (dk_at dksX4_init_3 2 rfl rfl)
theorem dX4_init_75 : decode cX4_init 75 = .ok (.aload_n 0, 1) := dk_42 (dk_at dksX4_init_3 5 rfl rfl)
theorem dX4_init_76 : decode cX4_init 76 = .ok (.sipush 1024, 3) := dk_17 4 0 (dk_at dksX4_init_3 6 rfl rfl)
theorem dX4_init_79 : decode cX4_init 79 = .ok (.newarray .long, 2) := dk_188_11 (dk_at dksX4_init_3 9 rfl rfl)
theorem dX4_init_81 : decode cX4_init 81 = .ok (.putfield 39, 3) := dk_181 0 39 (dk_at dksX4_init_3 11 rfl rfl)
theorem dX4_init_84 : decode cX4_init 84 = .ok (.aload_n 0, 1) := dk_42 (dk_at dksX4_init_3 14 rfl rfl)
theorem dX4_init_85 : decode cX4_init 85 = .ok (.iconst 4, 1) := dk_7 (dk_at dksX4_init_3 15 rfl rfl)
theorem dX4_init_86 : decode cX4_init 86 = .ok (.newarray .int, 2) := dk_188_10 (dk_at dksX4_init_3 16 rfl rfl)
theorem dX4_init_88 : decode cX4_init 88 = .ok (.putfield 42, 3) := dk_181 0 42 (dk_at dksX4_init_3 18 rfl rfl)
theorem dX4_init_91 : decode cX4_init 91 = .ok (.aload_n 0, 1) := dk_42 (dk_at dksX4_init_3 21 rfl rfl)
theorem dX4_init_92 : decode cX4_init 92 = .ok (.iconst 4, 1) := dk_7 (dk_at dksX4_init_3 22 rfl rfl)
theorem dX4_init_93 : decode cX4_init 93 = .ok (.newarray .int, 2) := dk_188_10 (dk_at dksX4_init_4 0 rfl rfl)
theorem dX4_init_95 : decode cX4_init 95 = .ok (.putfield 45, 3) := dk_181 0 45 (dk_at dksX4_init_4 2 rfl rfl)
theorem dX4_init_98 : decode cX4_init 98 = .ok (.aload_n 0, 1) := dk_42 (dk_at dksX4_init_4 5 rfl rfl)
theorem dX4_init_99 : decode cX4_init 99 = .ok (.sipush 160, 3) := dk_17 0 160 (dk_at dksX4_init_4 6 rfl rfl)
theorem dX4_init_102 : decode cX4_init 102 = .ok (.newarray .long, 2) := dk_188_11 (dk_at dksX4_init_4 9 rfl rfl)
theorem dX4_init_104 : decode cX4_init 104 = .ok (.putfield 48, 3) := dk_181 0 48 (dk_at dksX4_init_4 11 rfl rfl)
theorem dX4_init_107 : decode cX4_init 107 = .ok (.aload_n 0, 1) := dk_42 (dk_at dksX4_init_4 14 rfl rfl)
theorem dX4_init_108 : decode cX4_init 108 = .ok (.bipush 40, 2) := dk_16 40 (dk_at dksX4_init_4 15 rfl rfl)
theorem dX4_init_110 : decode cX4_init 110 = .ok (.newarray .long, 2) := dk_188_11 (dk_at dksX4_init_4 17 rfl rfl)
theorem dX4_init_112 : decode cX4_init 112 = .ok (.putfield 51, 3) := dk_181 0 51 (dk_at dksX4_init_4 19 rfl rfl)
theorem dX4_init_115 : decode cX4_init 115 = .ok (.iconst 0, 1) := dk_3 (dk_at dksX4_init_4 22 rfl rfl)
theorem dX4_init_116 : decode cX4_init 116 = .ok (.istore_n 1, 1) := dk_60 (dk_at dksX4_init_4 23 rfl rfl)
theorem dX4_init_117 : decode cX4_init 117 = .ok (.iload_n 1, 1) := dk_27 (dk_at dksX4_init_5 0 rfl rfl)
theorem dX4_init_118 : decode cX4_init 118 = .ok (.iconst 4, 1) := dk_7 (dk_at dksX4_init_5 1 rfl rfl)
theorem dX4_init_119 : decode cX4_init 119 = .ok (.if_icmp .ge 16, 3) := dk_162 0 16 (dk_at dksX4_init_5 2 rfl rfl)
theorem dX4_init_122 : decode cX4_init 122 = .ok (.aload_n 0, 1) := dk_42 (dk_at dksX4_init_5 5 rfl rfl)
theorem dX4_init_123 : decode cX4_init 123 = .ok (.getfield 42, 3) := dk_180 0 42 (dk_at dksX4_init_5 6 rfl rfl)
theorem dX4_init_126 : decode cX4_init 126 = .ok (.iload_n 1, 1) := dk_27 (dk_at dksX4_init_5 9 rfl rfl)
theorem dX4_init_127 : decode cX4_init 127 = .ok (.iconst (-1), 1) := dk_2 (dk_at dksX4_init_5 10 rfl rfl)
theorem dX4_init_128 : decode cX4_init 128 = .ok (.iastore, 1) := dk_79 (dk_at dksX4_init_5 11 rfl rfl)
theorem dX4_init_129 : decode cX4_init 129 = .ok (.iinc 1 1, 3) := dk_132 1 1 (dk_at dksX4_init_5 12 rfl rfl)
theorem dX4_init_132 : decode cX4_init 132 = .ok (.goto (-15), 3) := dk_167 255 241 (dk_at dksX4_init_5 15 rfl rfl)
theorem dX4_init_135 : decode cX4_init 135 = .ok (.return_, 1) := dk_177 (dk_at dksX4_init_5 18 rfl rfl)
abbrev cX4_point : ByteArray := prog_9_method_15_code
def yX4_point : MethodName := ⟨RX4, "point", "(II)I"⟩
def dkwX4_point_6 : List UInt8 := [180, 0, 60, 4, 96, 181, 0, 60, 42, 3, 181, 0, 90, 42, 180, 0, 60, 4, 100, 172]
abbrev dktX4_point_6 : List UInt8 := dkwX4_point_6 ++ []
def dkwX4_point_5 : List UInt8 := [42, 180, 0, 19, 29, 3, 79, 42, 180, 0, 22, 29, 3, 79, 132, 3, 1, 167, 255, 227, 42, 89]
abbrev dktX4_point_5 : List UInt8 := dkwX4_point_5 ++ dktX4_point_6
def dkwX4_point_4 : List UInt8 := [180, 0, 60, 3, 79, 5, 42, 180, 0, 60, 104, 62, 29, 5, 42, 180, 0, 60, 104, 5, 96, 162, 0, 23]
abbrev dktX4_point_4 : List UInt8 := dkwX4_point_4 ++ dktX4_point_5
def dkwX4_point_3 : List UInt8 := [180, 0, 7, 42, 180, 0, 60, 27, 79, 42, 180, 0, 13, 42, 180, 0, 60, 28, 79, 42, 180, 0, 16, 42]
abbrev dktX4_point_3 : List UInt8 := dkwX4_point_3 ++ dktX4_point_4
def dkwX4_point_2 : List UInt8 := [160, 0, 6, 16, 253, 172, 132, 3, 1, 167, 255, 222, 42, 180, 0, 60, 8, 160, 0, 6, 16, 252, 172, 42]
abbrev dktX4_point_2 : List UInt8 := dkwX4_point_2 ++ dktX4_point_3
def dkwX4_point_1 : List UInt8 := [42, 180, 0, 60, 162, 0, 32, 42, 180, 0, 7, 29, 46, 27, 160, 0, 16, 42, 180, 0, 13, 29, 46, 28]
abbrev dktX4_point_1 : List UInt8 := dkwX4_point_1 ++ dktX4_point_2
def dkwX4_point_0 : List UInt8 := [27, 3, 7, 184, 0, 64, 153, 0, 12, 28, 3, 7, 184, 0, 64, 154, 0, 6, 16, 254, 172, 3, 62, 29]
abbrev dktX4_point_0 : List UInt8 := dkwX4_point_0 ++ dktX4_point_1
theorem dksX4_point_0 : cX4_point.data.toList.drop 0 = dktX4_point_0 := by decide +kernel
theorem dksX4_point_1 : cX4_point.data.toList.drop 24 = dktX4_point_1 := dk_seg dksX4_point_0 24 rfl rfl
theorem dksX4_point_2 : cX4_point.data.toList.drop 48 = dktX4_point_2 := dk_seg dksX4_point_1 24 rfl rfl
theorem dksX4_point_3 : cX4_point.data.toList.drop 72 = dktX4_point_3 := dk_seg dksX4_point_2 24 rfl rfl
theorem dksX4_point_4 : cX4_point.data.toList.drop 96 = dktX4_point_4 := dk_seg dksX4_point_3 24 rfl rfl
theorem dksX4_point_5 : cX4_point.data.toList.drop 120 = dktX4_point_5 := dk_seg dksX4_point_4 24 rfl rfl
theorem dksX4_point_6 : cX4_point.data.toList.drop 142 = dktX4_point_6 := dk_seg dksX4_point_5 22 rfl rfl
theorem dX4_point_0 : decode cX4_point 0 = .ok (.iload_n 1, 1) := dk_27 (dk_at dksX4_point_0 0 rfl rfl)
theorem dX4_point_1 : decode cX4_point 1 = .ok (.iconst 0, 1) := dk_3 (dk_at dksX4_point_0 1 rfl rfl)
theorem dX4_point_2 : decode cX4_point 2 = .ok (.iconst 4, 1) := dk_7 (dk_at dksX4_point_0 2 rfl rfl)
theorem dX4_point_3 : decode cX4_point 3 = .ok (.invokestatic 64, 3) := dk_184 0 64 (dk_at dksX4_point_0 3 rfl rfl)
theorem dX4_point_6 : decode cX4_point 6 = .ok (.ifCond .eq 12, 3) := dk_153 0 12 (dk_at dksX4_point_0 6 rfl rfl)
theorem dX4_point_9 : decode cX4_point 9 = .ok (.iload_n 2, 1) := dk_28 (dk_at dksX4_point_0 9 rfl rfl)
theorem dX4_point_10 : decode cX4_point 10 = .ok (.iconst 0, 1) := dk_3 (dk_at dksX4_point_0 10 rfl rfl)
theorem dX4_point_11 : decode cX4_point 11 = .ok (.iconst 4, 1) := dk_7 (dk_at dksX4_point_0 11 rfl rfl)
theorem dX4_point_12 : decode cX4_point 12 = .ok (.invokestatic 64, 3) := dk_184 0 64 (dk_at dksX4_point_0 12 rfl rfl)
theorem dX4_point_15 : decode cX4_point 15 = .ok (.ifCond .ne 6, 3) := dk_154 0 6 (dk_at dksX4_point_0 15 rfl rfl)
theorem dX4_point_18 : decode cX4_point 18 = .ok (.bipush (-2), 2) := dk_16 254 (dk_at dksX4_point_0 18 rfl rfl)
theorem dX4_point_20 : decode cX4_point 20 = .ok (.ireturn, 1) := dk_172 (dk_at dksX4_point_0 20 rfl rfl)
theorem dX4_point_21 : decode cX4_point 21 = .ok (.iconst 0, 1) := dk_3 (dk_at dksX4_point_0 21 rfl rfl)
theorem dX4_point_22 : decode cX4_point 22 = .ok (.istore_n 3, 1) := dk_62 (dk_at dksX4_point_0 22 rfl rfl)
theorem dX4_point_23 : decode cX4_point 23 = .ok (.iload_n 3, 1) := dk_29 (dk_at dksX4_point_0 23 rfl rfl)
theorem dX4_point_24 : decode cX4_point 24 = .ok (.aload_n 0, 1) := dk_42 (dk_at dksX4_point_1 0 rfl rfl)
theorem dX4_point_25 : decode cX4_point 25 = .ok (.getfield 60, 3) := dk_180 0 60 (dk_at dksX4_point_1 1 rfl rfl)
theorem dX4_point_28 : decode cX4_point 28 = .ok (.if_icmp .ge 32, 3) := dk_162 0 32 (dk_at dksX4_point_1 4 rfl rfl)
theorem dX4_point_31 : decode cX4_point 31 = .ok (.aload_n 0, 1) := dk_42 (dk_at dksX4_point_1 7 rfl rfl)
theorem dX4_point_32 : decode cX4_point 32 = .ok (.getfield 7, 3) := dk_180 0 7 (dk_at dksX4_point_1 8 rfl rfl)
theorem dX4_point_35 : decode cX4_point 35 = .ok (.iload_n 3, 1) := dk_29 (dk_at dksX4_point_1 11 rfl rfl)
theorem dX4_point_36 : decode cX4_point 36 = .ok (.iaload, 1) := dk_46 (dk_at dksX4_point_1 12 rfl rfl)
theorem dX4_point_37 : decode cX4_point 37 = .ok (.iload_n 1, 1) := dk_27 (dk_at dksX4_point_1 13 rfl rfl)
theorem dX4_point_38 : decode cX4_point 38 = .ok (.if_icmp .ne 16, 3) := dk_160 0 16 (dk_at dksX4_point_1 14 rfl rfl)
theorem dX4_point_41 : decode cX4_point 41 = .ok (.aload_n 0, 1) := dk_42 (dk_at dksX4_point_1 17 rfl rfl)
theorem dX4_point_42 : decode cX4_point 42 = .ok (.getfield 13, 3) := dk_180 0 13 (dk_at dksX4_point_1 18 rfl rfl)
theorem dX4_point_45 : decode cX4_point 45 = .ok (.iload_n 3, 1) := dk_29 (dk_at dksX4_point_1 21 rfl rfl)
theorem dX4_point_46 : decode cX4_point 46 = .ok (.iaload, 1) := dk_46 (dk_at dksX4_point_1 22 rfl rfl)
theorem dX4_point_47 : decode cX4_point 47 = .ok (.iload_n 2, 1) := dk_28 (dk_at dksX4_point_1 23 rfl rfl)
theorem dX4_point_48 : decode cX4_point 48 = .ok (.if_icmp .ne 6, 3) := dk_160 0 6 (dk_at dksX4_point_2 0 rfl rfl)
theorem dX4_point_51 : decode cX4_point 51 = .ok (.bipush (-3), 2) := dk_16 253 (dk_at dksX4_point_2 3 rfl rfl)
theorem dX4_point_53 : decode cX4_point 53 = .ok (.ireturn, 1) := dk_172 (dk_at dksX4_point_2 5 rfl rfl)
theorem dX4_point_54 : decode cX4_point 54 = .ok (.iinc 3 1, 3) := dk_132 3 1 (dk_at dksX4_point_2 6 rfl rfl)
theorem dX4_point_57 : decode cX4_point 57 = .ok (.goto (-34), 3) := dk_167 255 222 (dk_at dksX4_point_2 9 rfl rfl)
theorem dX4_point_60 : decode cX4_point 60 = .ok (.aload_n 0, 1) := dk_42 (dk_at dksX4_point_2 12 rfl rfl)
theorem dX4_point_61 : decode cX4_point 61 = .ok (.getfield 60, 3) := dk_180 0 60 (dk_at dksX4_point_2 13 rfl rfl)
theorem dX4_point_64 : decode cX4_point 64 = .ok (.iconst 5, 1) := dk_8 (dk_at dksX4_point_2 16 rfl rfl)
theorem dX4_point_65 : decode cX4_point 65 = .ok (.if_icmp .ne 6, 3) := dk_160 0 6 (dk_at dksX4_point_2 17 rfl rfl)
theorem dX4_point_68 : decode cX4_point 68 = .ok (.bipush (-4), 2) := dk_16 252 (dk_at dksX4_point_2 20 rfl rfl)
theorem dX4_point_70 : decode cX4_point 70 = .ok (.ireturn, 1) := dk_172 (dk_at dksX4_point_2 22 rfl rfl)
theorem dX4_point_71 : decode cX4_point 71 = .ok (.aload_n 0, 1) := dk_42 (dk_at dksX4_point_2 23 rfl rfl)
theorem dX4_point_72 : decode cX4_point 72 = .ok (.getfield 7, 3) := dk_180 0 7 (dk_at dksX4_point_3 0 rfl rfl)
theorem dX4_point_75 : decode cX4_point 75 = .ok (.aload_n 0, 1) := dk_42 (dk_at dksX4_point_3 3 rfl rfl)
theorem dX4_point_76 : decode cX4_point 76 = .ok (.getfield 60, 3) := dk_180 0 60 (dk_at dksX4_point_3 4 rfl rfl)
theorem dX4_point_79 : decode cX4_point 79 = .ok (.iload_n 1, 1) := dk_27 (dk_at dksX4_point_3 7 rfl rfl)
theorem dX4_point_80 : decode cX4_point 80 = .ok (.iastore, 1) := dk_79 (dk_at dksX4_point_3 8 rfl rfl)
theorem dX4_point_81 : decode cX4_point 81 = .ok (.aload_n 0, 1) := dk_42 (dk_at dksX4_point_3 9 rfl rfl)
theorem dX4_point_82 : decode cX4_point 82 = .ok (.getfield 13, 3) := dk_180 0 13 (dk_at dksX4_point_3 10 rfl rfl)
theorem dX4_point_85 : decode cX4_point 85 = .ok (.aload_n 0, 1) := dk_42 (dk_at dksX4_point_3 13 rfl rfl)
theorem dX4_point_86 : decode cX4_point 86 = .ok (.getfield 60, 3) := dk_180 0 60 (dk_at dksX4_point_3 14 rfl rfl)
theorem dX4_point_89 : decode cX4_point 89 = .ok (.iload_n 2, 1) := dk_28 (dk_at dksX4_point_3 17 rfl rfl)
theorem dX4_point_90 : decode cX4_point 90 = .ok (.iastore, 1) := dk_79 (dk_at dksX4_point_3 18 rfl rfl)
theorem dX4_point_91 : decode cX4_point 91 = .ok (.aload_n 0, 1) := dk_42 (dk_at dksX4_point_3 19 rfl rfl)
theorem dX4_point_92 : decode cX4_point 92 = .ok (.getfield 16, 3) := dk_180 0 16 (dk_at dksX4_point_3 20 rfl rfl)
theorem dX4_point_95 : decode cX4_point 95 = .ok (.aload_n 0, 1) := dk_42 (dk_at dksX4_point_3 23 rfl rfl)
theorem dX4_point_96 : decode cX4_point 96 = .ok (.getfield 60, 3) := dk_180 0 60 (dk_at dksX4_point_4 0 rfl rfl)
theorem dX4_point_99 : decode cX4_point 99 = .ok (.iconst 0, 1) := dk_3 (dk_at dksX4_point_4 3 rfl rfl)
theorem dX4_point_100 : decode cX4_point 100 = .ok (.iastore, 1) := dk_79 (dk_at dksX4_point_4 4 rfl rfl)
theorem dX4_point_101 : decode cX4_point 101 = .ok (.iconst 2, 1) := dk_5 (dk_at dksX4_point_4 5 rfl rfl)
theorem dX4_point_102 : decode cX4_point 102 = .ok (.aload_n 0, 1) := dk_42 (dk_at dksX4_point_4 6 rfl rfl)
theorem dX4_point_103 : decode cX4_point 103 = .ok (.getfield 60, 3) := dk_180 0 60 (dk_at dksX4_point_4 7 rfl rfl)
theorem dX4_point_106 : decode cX4_point 106 = .ok (.imul, 1) := dk_104 (dk_at dksX4_point_4 10 rfl rfl)
theorem dX4_point_107 : decode cX4_point 107 = .ok (.istore_n 3, 1) := dk_62 (dk_at dksX4_point_4 11 rfl rfl)
theorem dX4_point_108 : decode cX4_point 108 = .ok (.iload_n 3, 1) := dk_29 (dk_at dksX4_point_4 12 rfl rfl)
theorem dX4_point_109 : decode cX4_point 109 = .ok (.iconst 2, 1) := dk_5 (dk_at dksX4_point_4 13 rfl rfl)
theorem dX4_point_110 : decode cX4_point 110 = .ok (.aload_n 0, 1) := dk_42 (dk_at dksX4_point_4 14 rfl rfl)
theorem dX4_point_111 : decode cX4_point 111 = .ok (.getfield 60, 3) := dk_180 0 60 (dk_at dksX4_point_4 15 rfl rfl)
theorem dX4_point_114 : decode cX4_point 114 = .ok (.imul, 1) := dk_104 (dk_at dksX4_point_4 18 rfl rfl)
theorem dX4_point_115 : decode cX4_point 115 = .ok (.iconst 2, 1) := dk_5 (dk_at dksX4_point_4 19 rfl rfl)
theorem dX4_point_116 : decode cX4_point 116 = .ok (.iadd, 1) := dk_96 (dk_at dksX4_point_4 20 rfl rfl)
theorem dX4_point_117 : decode cX4_point 117 = .ok (.if_icmp .ge 23, 3) := dk_162 0 23 (dk_at dksX4_point_4 21 rfl rfl)
theorem dX4_point_120 : decode cX4_point 120 = .ok (.aload_n 0, 1) := dk_42 (dk_at dksX4_point_5 0 rfl rfl)
theorem dX4_point_121 : decode cX4_point 121 = .ok (.getfield 19, 3) := dk_180 0 19 (dk_at dksX4_point_5 1 rfl rfl)
theorem dX4_point_124 : decode cX4_point 124 = .ok (.iload_n 3, 1) := dk_29 (dk_at dksX4_point_5 4 rfl rfl)
theorem dX4_point_125 : decode cX4_point 125 = .ok (.iconst 0, 1) := dk_3 (dk_at dksX4_point_5 5 rfl rfl)
theorem dX4_point_126 : decode cX4_point 126 = .ok (.iastore, 1) := dk_79 (dk_at dksX4_point_5 6 rfl rfl)
theorem dX4_point_127 : decode cX4_point 127 = .ok (.aload_n 0, 1) := dk_42 (dk_at dksX4_point_5 7 rfl rfl)
theorem dX4_point_128 : decode cX4_point 128 = .ok (.getfield 22, 3) := dk_180 0 22 (dk_at dksX4_point_5 8 rfl rfl)
theorem dX4_point_131 : decode cX4_point 131 = .ok (.iload_n 3, 1) := dk_29 (dk_at dksX4_point_5 11 rfl rfl)
theorem dX4_point_132 : decode cX4_point 132 = .ok (.iconst 0, 1) := dk_3 (dk_at dksX4_point_5 12 rfl rfl)
theorem dX4_point_133 : decode cX4_point 133 = .ok (.iastore, 1) := dk_79 (dk_at dksX4_point_5 13 rfl rfl)
theorem dX4_point_134 : decode cX4_point 134 = .ok (.iinc 3 1, 3) := dk_132 3 1 (dk_at dksX4_point_5 14 rfl rfl)
theorem dX4_point_137 : decode cX4_point 137 = .ok (.goto (-29), 3) := dk_167 255 227 (dk_at dksX4_point_5 17 rfl rfl)
theorem dX4_point_140 : decode cX4_point 140 = .ok (.aload_n 0, 1) := dk_42 (dk_at dksX4_point_5 20 rfl rfl)
theorem dX4_point_141 : decode cX4_point 141 = .ok (.dup, 1) := dk_89 (dk_at dksX4_point_5 21 rfl rfl)
theorem dX4_point_142 : decode cX4_point 142 = .ok (.getfield 60, 3) := dk_180 0 60 (dk_at dksX4_point_6 0 rfl rfl)
theorem dX4_point_145 : decode cX4_point 145 = .ok (.iconst 1, 1) := dk_4 (dk_at dksX4_point_6 3 rfl rfl)
theorem dX4_point_146 : decode cX4_point 146 = .ok (.iadd, 1) := dk_96 (dk_at dksX4_point_6 4 rfl rfl)
theorem dX4_point_147 : decode cX4_point 147 = .ok (.putfield 60, 3) := dk_181 0 60 (dk_at dksX4_point_6 5 rfl rfl)
theorem dX4_point_150 : decode cX4_point 150 = .ok (.aload_n 0, 1) := dk_42 (dk_at dksX4_point_6 8 rfl rfl)
theorem dX4_point_151 : decode cX4_point 151 = .ok (.iconst 0, 1) := dk_3 (dk_at dksX4_point_6 9 rfl rfl)
theorem dX4_point_152 : decode cX4_point 152 = .ok (.putfield 90, 3) := dk_181 0 90 (dk_at dksX4_point_6 10 rfl rfl)
theorem dX4_point_155 : decode cX4_point 155 = .ok (.aload_n 0, 1) := dk_42 (dk_at dksX4_point_6 13 rfl rfl)
theorem dX4_point_156 : decode cX4_point 156 = .ok (.getfield 60, 3) := dk_180 0 60 (dk_at dksX4_point_6 14 rfl rfl)
theorem dX4_point_159 : decode cX4_point 159 = .ok (.iconst 1, 1) := dk_4 (dk_at dksX4_point_6 17 rfl rfl)
theorem dX4_point_160 : decode cX4_point 160 = .ok (.isub, 1) := dk_100 (dk_at dksX4_point_6 18 rfl rfl)
theorem dX4_point_161 : decode cX4_point 161 = .ok (.ireturn, 1) := dk_172 (dk_at dksX4_point_6 19 rfl rfl)
abbrev cX4_in : ByteArray := prog_9_method_3_code
def yX4_in : MethodName := ⟨RX4, "in", "(III)Z"⟩
def dkwX4_in_0 : List UInt8 := [26, 27, 161, 0, 12, 26, 28, 163, 0, 7, 4, 167, 0, 4, 3, 172]
abbrev dktX4_in_0 : List UInt8 := dkwX4_in_0 ++ []
theorem dksX4_in_0 : cX4_in.data.toList.drop 0 = dktX4_in_0 := by decide +kernel
theorem dX4_in_0 : decode cX4_in 0 = .ok (.iload_n 0, 1) := dk_26 (dk_at dksX4_in_0 0 rfl rfl)
theorem dX4_in_1 : decode cX4_in 1 = .ok (.iload_n 1, 1) := dk_27 (dk_at dksX4_in_0 1 rfl rfl)
theorem dX4_in_2 : decode cX4_in 2 = .ok (.if_icmp .lt 12, 3) := dk_161 0 12 (dk_at dksX4_in_0 2 rfl rfl)
theorem dX4_in_5 : decode cX4_in 5 = .ok (.iload_n 0, 1) := dk_26 (dk_at dksX4_in_0 5 rfl rfl)
theorem dX4_in_6 : decode cX4_in 6 = .ok (.iload_n 2, 1) := dk_28 (dk_at dksX4_in_0 6 rfl rfl)
theorem dX4_in_7 : decode cX4_in 7 = .ok (.if_icmp .gt 7, 3) := dk_163 0 7 (dk_at dksX4_in_0 7 rfl rfl)
theorem dX4_in_10 : decode cX4_in 10 = .ok (.iconst 1, 1) := dk_4 (dk_at dksX4_in_0 10 rfl rfl)
theorem dX4_in_11 : decode cX4_in 11 = .ok (.goto 4, 3) := dk_167 0 4 (dk_at dksX4_in_0 11 rfl rfl)
theorem dX4_in_14 : decode cX4_in 14 = .ok (.iconst 0, 1) := dk_3 (dk_at dksX4_in_0 14 rfl rfl)
theorem dX4_in_15 : decode cX4_in 15 = .ok (.ireturn, 1) := dk_172 (dk_at dksX4_in_0 15 rfl rfl)
abbrev cX4_back : ByteArray := prog_9_method_16_code
def yX4_back : MethodName := ⟨RX4, "back", "()I"⟩
def dkwX4_back_2 : List UInt8 := [172]
abbrev dktX4_back_2 : List UInt8 := dkwX4_back_2 ++ []
def dkwX4_back_1 : List UInt8 := [180, 0, 76, 4, 42, 182, 0, 68, 120, 4, 100, 126, 181, 0, 76, 42, 3, 181, 0, 90, 42, 180, 0, 60]
abbrev dktX4_back_1 : List UInt8 := dkwX4_back_1 ++ dktX4_back_2
def dkwX4_back_0 : List UInt8 := [42, 180, 0, 60, 154, 0, 6, 16, 253, 172, 42, 89, 180, 0, 60, 4, 100, 181, 0, 60, 42, 89]
abbrev dktX4_back_0 : List UInt8 := dkwX4_back_0 ++ dktX4_back_1
theorem dksX4_back_0 : cX4_back.data.toList.drop 0 = dktX4_back_0 := by decide +kernel
theorem dksX4_back_1 : cX4_back.data.toList.drop 22 = dktX4_back_1 := dk_seg dksX4_back_0 22 rfl rfl
theorem dksX4_back_2 : cX4_back.data.toList.drop 46 = dktX4_back_2 := dk_seg dksX4_back_1 24 rfl rfl
theorem dX4_back_0 : decode cX4_back 0 = .ok (.aload_n 0, 1) := dk_42 (dk_at dksX4_back_0 0 rfl rfl)
theorem dX4_back_1 : decode cX4_back 1 = .ok (.getfield 60, 3) := dk_180 0 60 (dk_at dksX4_back_0 1 rfl rfl)
theorem dX4_back_4 : decode cX4_back 4 = .ok (.ifCond .ne 6, 3) := dk_154 0 6 (dk_at dksX4_back_0 4 rfl rfl)
theorem dX4_back_7 : decode cX4_back 7 = .ok (.bipush (-3), 2) := dk_16 253 (dk_at dksX4_back_0 7 rfl rfl)
theorem dX4_back_9 : decode cX4_back 9 = .ok (.ireturn, 1) := dk_172 (dk_at dksX4_back_0 9 rfl rfl)
theorem dX4_back_10 : decode cX4_back 10 = .ok (.aload_n 0, 1) := dk_42 (dk_at dksX4_back_0 10 rfl rfl)
theorem dX4_back_11 : decode cX4_back 11 = .ok (.dup, 1) := dk_89 (dk_at dksX4_back_0 11 rfl rfl)
theorem dX4_back_12 : decode cX4_back 12 = .ok (.getfield 60, 3) := dk_180 0 60 (dk_at dksX4_back_0 12 rfl rfl)
theorem dX4_back_15 : decode cX4_back 15 = .ok (.iconst 1, 1) := dk_4 (dk_at dksX4_back_0 15 rfl rfl)
theorem dX4_back_16 : decode cX4_back 16 = .ok (.isub, 1) := dk_100 (dk_at dksX4_back_0 16 rfl rfl)
theorem dX4_back_17 : decode cX4_back 17 = .ok (.putfield 60, 3) := dk_181 0 60 (dk_at dksX4_back_0 17 rfl rfl)
theorem dX4_back_20 : decode cX4_back 20 = .ok (.aload_n 0, 1) := dk_42 (dk_at dksX4_back_0 20 rfl rfl)
theorem dX4_back_21 : decode cX4_back 21 = .ok (.dup, 1) := dk_89 (dk_at dksX4_back_0 21 rfl rfl)
theorem dX4_back_22 : decode cX4_back 22 = .ok (.getfield 76, 3) := dk_180 0 76 (dk_at dksX4_back_1 0 rfl rfl)
theorem dX4_back_25 : decode cX4_back 25 = .ok (.iconst 1, 1) := dk_4 (dk_at dksX4_back_1 3 rfl rfl)
theorem dX4_back_26 : decode cX4_back 26 = .ok (.aload_n 0, 1) := dk_42 (dk_at dksX4_back_1 4 rfl rfl)
theorem dX4_back_27 : decode cX4_back 27 = .ok (.invokevirtual 68, 3) := dk_182 0 68 (dk_at dksX4_back_1 5 rfl rfl)
theorem dX4_back_30 : decode cX4_back 30 = .ok (.ishl, 1) := dk_120 (dk_at dksX4_back_1 8 rfl rfl)
theorem dX4_back_31 : decode cX4_back 31 = .ok (.iconst 1, 1) := dk_4 (dk_at dksX4_back_1 9 rfl rfl)
theorem dX4_back_32 : decode cX4_back 32 = .ok (.isub, 1) := dk_100 (dk_at dksX4_back_1 10 rfl rfl)
theorem dX4_back_33 : decode cX4_back 33 = .ok (.iand, 1) := dk_126 (dk_at dksX4_back_1 11 rfl rfl)
theorem dX4_back_34 : decode cX4_back 34 = .ok (.putfield 76, 3) := dk_181 0 76 (dk_at dksX4_back_1 12 rfl rfl)
theorem dX4_back_37 : decode cX4_back 37 = .ok (.aload_n 0, 1) := dk_42 (dk_at dksX4_back_1 15 rfl rfl)
theorem dX4_back_38 : decode cX4_back 38 = .ok (.iconst 0, 1) := dk_3 (dk_at dksX4_back_1 16 rfl rfl)
theorem dX4_back_39 : decode cX4_back 39 = .ok (.putfield 90, 3) := dk_181 0 90 (dk_at dksX4_back_1 17 rfl rfl)
theorem dX4_back_42 : decode cX4_back 42 = .ok (.aload_n 0, 1) := dk_42 (dk_at dksX4_back_1 20 rfl rfl)
theorem dX4_back_43 : decode cX4_back 43 = .ok (.getfield 60, 3) := dk_180 0 60 (dk_at dksX4_back_1 21 rfl rfl)
theorem dX4_back_46 : decode cX4_back 46 = .ok (.ireturn, 1) := dk_172 (dk_at dksX4_back_2 0 rfl rfl)
abbrev cX4_pairs : ByteArray := prog_9_method_8_code
def yX4_pairs : MethodName := ⟨RX4, "pairs", "()I"⟩
def dkwX4_pairs_0 : List UInt8 := [42, 180, 0, 60, 42, 180, 0, 60, 4, 100, 104, 5, 108, 172]
abbrev dktX4_pairs_0 : List UInt8 := dkwX4_pairs_0 ++ []
theorem dksX4_pairs_0 : cX4_pairs.data.toList.drop 0 = dktX4_pairs_0 := by decide +kernel
theorem dX4_pairs_0 : decode cX4_pairs 0 = .ok (.aload_n 0, 1) := dk_42 (dk_at dksX4_pairs_0 0 rfl rfl)
theorem dX4_pairs_1 : decode cX4_pairs 1 = .ok (.getfield 60, 3) := dk_180 0 60 (dk_at dksX4_pairs_0 1 rfl rfl)
theorem dX4_pairs_4 : decode cX4_pairs 4 = .ok (.aload_n 0, 1) := dk_42 (dk_at dksX4_pairs_0 4 rfl rfl)
theorem dX4_pairs_5 : decode cX4_pairs 5 = .ok (.getfield 60, 3) := dk_180 0 60 (dk_at dksX4_pairs_0 5 rfl rfl)
theorem dX4_pairs_8 : decode cX4_pairs 8 = .ok (.iconst 1, 1) := dk_4 (dk_at dksX4_pairs_0 8 rfl rfl)
theorem dX4_pairs_9 : decode cX4_pairs 9 = .ok (.isub, 1) := dk_100 (dk_at dksX4_pairs_0 9 rfl rfl)
theorem dX4_pairs_10 : decode cX4_pairs 10 = .ok (.imul, 1) := dk_104 (dk_at dksX4_pairs_0 10 rfl rfl)
theorem dX4_pairs_11 : decode cX4_pairs 11 = .ok (.iconst 2, 1) := dk_5 (dk_at dksX4_pairs_0 11 rfl rfl)
theorem dX4_pairs_12 : decode cX4_pairs 12 = .ok (.idiv, 1) := dk_108 (dk_at dksX4_pairs_0 12 rfl rfl)
theorem dX4_pairs_13 : decode cX4_pairs 13 = .ok (.ireturn, 1) := dk_172 (dk_at dksX4_pairs_0 13 rfl rfl)
abbrev cX4_hold : ByteArray := prog_9_method_17_code
def yX4_hold : MethodName := ⟨RX4, "hold", "(II)I"⟩
def dkwX4_hold_1 : List UInt8 := [27, 46, 62, 42, 180, 0, 16, 27, 28, 79, 42, 3, 181, 0, 90, 29, 172]
abbrev dktX4_hold_1 : List UInt8 := dkwX4_hold_1 ++ []
def dkwX4_hold_0 : List UInt8 := [42, 27, 182, 0, 94, 153, 0, 12, 28, 3, 6, 184, 0, 64, 154, 0, 6, 16, 254, 172, 42, 180, 0, 16]
abbrev dktX4_hold_0 : List UInt8 := dkwX4_hold_0 ++ dktX4_hold_1
theorem dksX4_hold_0 : cX4_hold.data.toList.drop 0 = dktX4_hold_0 := by decide +kernel
theorem dksX4_hold_1 : cX4_hold.data.toList.drop 24 = dktX4_hold_1 := dk_seg dksX4_hold_0 24 rfl rfl
theorem dX4_hold_0 : decode cX4_hold 0 = .ok (.aload_n 0, 1) := dk_42 (dk_at dksX4_hold_0 0 rfl rfl)
theorem dX4_hold_1 : decode cX4_hold 1 = .ok (.iload_n 1, 1) := dk_27 (dk_at dksX4_hold_0 1 rfl rfl)
theorem dX4_hold_2 : decode cX4_hold 2 = .ok (.invokevirtual 94, 3) := dk_182 0 94 (dk_at dksX4_hold_0 2 rfl rfl)
theorem dX4_hold_5 : decode cX4_hold 5 = .ok (.ifCond .eq 12, 3) := dk_153 0 12 (dk_at dksX4_hold_0 5 rfl rfl)
theorem dX4_hold_8 : decode cX4_hold 8 = .ok (.iload_n 2, 1) := dk_28 (dk_at dksX4_hold_0 8 rfl rfl)
theorem dX4_hold_9 : decode cX4_hold 9 = .ok (.iconst 0, 1) := dk_3 (dk_at dksX4_hold_0 9 rfl rfl)
theorem dX4_hold_10 : decode cX4_hold 10 = .ok (.iconst 3, 1) := dk_6 (dk_at dksX4_hold_0 10 rfl rfl)
theorem dX4_hold_11 : decode cX4_hold 11 = .ok (.invokestatic 64, 3) := dk_184 0 64 (dk_at dksX4_hold_0 11 rfl rfl)
theorem dX4_hold_14 : decode cX4_hold 14 = .ok (.ifCond .ne 6, 3) := dk_154 0 6 (dk_at dksX4_hold_0 14 rfl rfl)
theorem dX4_hold_17 : decode cX4_hold 17 = .ok (.bipush (-2), 2) := dk_16 254 (dk_at dksX4_hold_0 17 rfl rfl)
theorem dX4_hold_19 : decode cX4_hold 19 = .ok (.ireturn, 1) := dk_172 (dk_at dksX4_hold_0 19 rfl rfl)
theorem dX4_hold_20 : decode cX4_hold 20 = .ok (.aload_n 0, 1) := dk_42 (dk_at dksX4_hold_0 20 rfl rfl)
theorem dX4_hold_21 : decode cX4_hold 21 = .ok (.getfield 16, 3) := dk_180 0 16 (dk_at dksX4_hold_0 21 rfl rfl)
theorem dX4_hold_24 : decode cX4_hold 24 = .ok (.iload_n 1, 1) := dk_27 (dk_at dksX4_hold_1 0 rfl rfl)
theorem dX4_hold_25 : decode cX4_hold 25 = .ok (.iaload, 1) := dk_46 (dk_at dksX4_hold_1 1 rfl rfl)
theorem dX4_hold_26 : decode cX4_hold 26 = .ok (.istore_n 3, 1) := dk_62 (dk_at dksX4_hold_1 2 rfl rfl)
theorem dX4_hold_27 : decode cX4_hold 27 = .ok (.aload_n 0, 1) := dk_42 (dk_at dksX4_hold_1 3 rfl rfl)
theorem dX4_hold_28 : decode cX4_hold 28 = .ok (.getfield 16, 3) := dk_180 0 16 (dk_at dksX4_hold_1 4 rfl rfl)
theorem dX4_hold_31 : decode cX4_hold 31 = .ok (.iload_n 1, 1) := dk_27 (dk_at dksX4_hold_1 7 rfl rfl)
theorem dX4_hold_32 : decode cX4_hold 32 = .ok (.iload_n 2, 1) := dk_28 (dk_at dksX4_hold_1 8 rfl rfl)
theorem dX4_hold_33 : decode cX4_hold 33 = .ok (.iastore, 1) := dk_79 (dk_at dksX4_hold_1 9 rfl rfl)
theorem dX4_hold_34 : decode cX4_hold 34 = .ok (.aload_n 0, 1) := dk_42 (dk_at dksX4_hold_1 10 rfl rfl)
theorem dX4_hold_35 : decode cX4_hold 35 = .ok (.iconst 0, 1) := dk_3 (dk_at dksX4_hold_1 11 rfl rfl)
theorem dX4_hold_36 : decode cX4_hold 36 = .ok (.putfield 90, 3) := dk_181 0 90 (dk_at dksX4_hold_1 12 rfl rfl)
theorem dX4_hold_39 : decode cX4_hold 39 = .ok (.iload_n 3, 1) := dk_29 (dk_at dksX4_hold_1 15 rfl rfl)
theorem dX4_hold_40 : decode cX4_hold 40 = .ok (.ireturn, 1) := dk_172 (dk_at dksX4_hold_1 16 rfl rfl)
abbrev cX4_isPoint : ByteArray := prog_9_method_7_code
def yX4_isPoint : MethodName := ⟨RX4, "isPoint", "(I)Z"⟩
def dkwX4_isPoint_0 : List UInt8 := [27, 3, 42, 180, 0, 60, 4, 100, 184, 0, 64, 172]
abbrev dktX4_isPoint_0 : List UInt8 := dkwX4_isPoint_0 ++ []
theorem dksX4_isPoint_0 : cX4_isPoint.data.toList.drop 0 = dktX4_isPoint_0 := by decide +kernel
theorem dX4_isPoint_0 : decode cX4_isPoint 0 = .ok (.iload_n 1, 1) := dk_27 (dk_at dksX4_isPoint_0 0 rfl rfl)
theorem dX4_isPoint_1 : decode cX4_isPoint 1 = .ok (.iconst 0, 1) := dk_3 (dk_at dksX4_isPoint_0 1 rfl rfl)
theorem dX4_isPoint_2 : decode cX4_isPoint 2 = .ok (.aload_n 0, 1) := dk_42 (dk_at dksX4_isPoint_0 2 rfl rfl)
theorem dX4_isPoint_3 : decode cX4_isPoint 3 = .ok (.getfield 60, 3) := dk_180 0 60 (dk_at dksX4_isPoint_0 3 rfl rfl)
theorem dX4_isPoint_6 : decode cX4_isPoint 6 = .ok (.iconst 1, 1) := dk_4 (dk_at dksX4_isPoint_0 6 rfl rfl)
theorem dX4_isPoint_7 : decode cX4_isPoint 7 = .ok (.isub, 1) := dk_100 (dk_at dksX4_isPoint_0 7 rfl rfl)
theorem dX4_isPoint_8 : decode cX4_isPoint 8 = .ok (.invokestatic 64, 3) := dk_184 0 64 (dk_at dksX4_isPoint_0 8 rfl rfl)
theorem dX4_isPoint_11 : decode cX4_isPoint 11 = .ok (.ireturn, 1) := dk_172 (dk_at dksX4_isPoint_0 11 rfl rfl)
abbrev cX4_load : ByteArray := prog_9_method_18_code
def yX4_load : MethodName := ⟨RX4, "load", "(III)I"⟩
def dkwX4_load_2 : List UInt8 := [180, 0, 19, 5, 27, 104, 28, 96, 29, 79, 42, 3, 181, 0, 90, 21, 4, 172]
abbrev dktX4_load_2 : List UInt8 := dkwX4_load_2 ++ []
def dkwX4_load_1 : List UInt8 := [184, 0, 64, 154, 0, 6, 18, 97, 172, 42, 180, 0, 19, 5, 27, 104, 28, 96, 46, 54, 4, 42]
abbrev dktX4_load_1 : List UInt8 := dkwX4_load_1 ++ dktX4_load_2
def dkwX4_load_0 : List UInt8 := [42, 27, 182, 0, 94, 153, 0, 23, 28, 3, 4, 184, 0, 64, 153, 0, 14, 29, 16, 247, 16, 9]
abbrev dktX4_load_0 : List UInt8 := dkwX4_load_0 ++ dktX4_load_1
theorem dksX4_load_0 : cX4_load.data.toList.drop 0 = dktX4_load_0 := by decide +kernel
theorem dksX4_load_1 : cX4_load.data.toList.drop 22 = dktX4_load_1 := dk_seg dksX4_load_0 22 rfl rfl
theorem dksX4_load_2 : cX4_load.data.toList.drop 44 = dktX4_load_2 := dk_seg dksX4_load_1 22 rfl rfl
theorem dX4_load_0 : decode cX4_load 0 = .ok (.aload_n 0, 1) := dk_42 (dk_at dksX4_load_0 0 rfl rfl)
theorem dX4_load_1 : decode cX4_load 1 = .ok (.iload_n 1, 1) := dk_27 (dk_at dksX4_load_0 1 rfl rfl)
theorem dX4_load_2 : decode cX4_load 2 = .ok (.invokevirtual 94, 3) := dk_182 0 94 (dk_at dksX4_load_0 2 rfl rfl)
theorem dX4_load_5 : decode cX4_load 5 = .ok (.ifCond .eq 23, 3) := dk_153 0 23 (dk_at dksX4_load_0 5 rfl rfl)
theorem dX4_load_8 : decode cX4_load 8 = .ok (.iload_n 2, 1) := dk_28 (dk_at dksX4_load_0 8 rfl rfl)
theorem dX4_load_9 : decode cX4_load 9 = .ok (.iconst 0, 1) := dk_3 (dk_at dksX4_load_0 9 rfl rfl)
theorem dX4_load_10 : decode cX4_load 10 = .ok (.iconst 1, 1) := dk_4 (dk_at dksX4_load_0 10 rfl rfl)
theorem dX4_load_11 : decode cX4_load 11 = .ok (.invokestatic 64, 3) := dk_184 0 64 (dk_at dksX4_load_0 11 rfl rfl)
theorem dX4_load_14 : decode cX4_load 14 = .ok (.ifCond .eq 14, 3) := dk_153 0 14 (dk_at dksX4_load_0 14 rfl rfl)
theorem dX4_load_17 : decode cX4_load 17 = .ok (.iload_n 3, 1) := dk_29 (dk_at dksX4_load_0 17 rfl rfl)
theorem dX4_load_18 : decode cX4_load 18 = .ok (.bipush (-9), 2) := dk_16 247 (dk_at dksX4_load_0 18 rfl rfl)
theorem dX4_load_20 : decode cX4_load 20 = .ok (.bipush 9, 2) := dk_16 9 (dk_at dksX4_load_0 20 rfl rfl)
theorem dX4_load_22 : decode cX4_load 22 = .ok (.invokestatic 64, 3) := dk_184 0 64 (dk_at dksX4_load_1 0 rfl rfl)
theorem dX4_load_25 : decode cX4_load 25 = .ok (.ifCond .ne 6, 3) := dk_154 0 6 (dk_at dksX4_load_1 3 rfl rfl)
theorem dX4_load_28 : decode cX4_load 28 = .ok (.ldc 97, 2) := dk_18 97 (dk_at dksX4_load_1 6 rfl rfl)
theorem dX4_load_30 : decode cX4_load 30 = .ok (.ireturn, 1) := dk_172 (dk_at dksX4_load_1 8 rfl rfl)
theorem dX4_load_31 : decode cX4_load 31 = .ok (.aload_n 0, 1) := dk_42 (dk_at dksX4_load_1 9 rfl rfl)
theorem dX4_load_32 : decode cX4_load 32 = .ok (.getfield 19, 3) := dk_180 0 19 (dk_at dksX4_load_1 10 rfl rfl)
theorem dX4_load_35 : decode cX4_load 35 = .ok (.iconst 2, 1) := dk_5 (dk_at dksX4_load_1 13 rfl rfl)
theorem dX4_load_36 : decode cX4_load 36 = .ok (.iload_n 1, 1) := dk_27 (dk_at dksX4_load_1 14 rfl rfl)
theorem dX4_load_37 : decode cX4_load 37 = .ok (.imul, 1) := dk_104 (dk_at dksX4_load_1 15 rfl rfl)
theorem dX4_load_38 : decode cX4_load 38 = .ok (.iload_n 2, 1) := dk_28 (dk_at dksX4_load_1 16 rfl rfl)
theorem dX4_load_39 : decode cX4_load 39 = .ok (.iadd, 1) := dk_96 (dk_at dksX4_load_1 17 rfl rfl)
theorem dX4_load_40 : decode cX4_load 40 = .ok (.iaload, 1) := dk_46 (dk_at dksX4_load_1 18 rfl rfl)
theorem dX4_load_41 : decode cX4_load 41 = .ok (.istore 4, 2) := dk_54 4 (dk_at dksX4_load_1 19 rfl rfl)
theorem dX4_load_43 : decode cX4_load 43 = .ok (.aload_n 0, 1) := dk_42 (dk_at dksX4_load_1 21 rfl rfl)
theorem dX4_load_44 : decode cX4_load 44 = .ok (.getfield 19, 3) := dk_180 0 19 (dk_at dksX4_load_2 0 rfl rfl)
theorem dX4_load_47 : decode cX4_load 47 = .ok (.iconst 2, 1) := dk_5 (dk_at dksX4_load_2 3 rfl rfl)
theorem dX4_load_48 : decode cX4_load 48 = .ok (.iload_n 1, 1) := dk_27 (dk_at dksX4_load_2 4 rfl rfl)
theorem dX4_load_49 : decode cX4_load 49 = .ok (.imul, 1) := dk_104 (dk_at dksX4_load_2 5 rfl rfl)
theorem dX4_load_50 : decode cX4_load 50 = .ok (.iload_n 2, 1) := dk_28 (dk_at dksX4_load_2 6 rfl rfl)
theorem dX4_load_51 : decode cX4_load 51 = .ok (.iadd, 1) := dk_96 (dk_at dksX4_load_2 7 rfl rfl)
theorem dX4_load_52 : decode cX4_load 52 = .ok (.iload_n 3, 1) := dk_29 (dk_at dksX4_load_2 8 rfl rfl)
theorem dX4_load_53 : decode cX4_load 53 = .ok (.iastore, 1) := dk_79 (dk_at dksX4_load_2 9 rfl rfl)
theorem dX4_load_54 : decode cX4_load 54 = .ok (.aload_n 0, 1) := dk_42 (dk_at dksX4_load_2 10 rfl rfl)
theorem dX4_load_55 : decode cX4_load 55 = .ok (.iconst 0, 1) := dk_3 (dk_at dksX4_load_2 11 rfl rfl)
theorem dX4_load_56 : decode cX4_load 56 = .ok (.putfield 90, 3) := dk_181 0 90 (dk_at dksX4_load_2 12 rfl rfl)
theorem dX4_load_59 : decode cX4_load 59 = .ok (.iload 4, 2) := dk_21 4 (dk_at dksX4_load_2 15 rfl rfl)
theorem dX4_load_61 : decode cX4_load 61 = .ok (.ireturn, 1) := dk_172 (dk_at dksX4_load_2 17 rfl rfl)
abbrev cX4_bar : ByteArray := prog_9_method_19_code
def yX4_bar : MethodName := ⟨RX4, "bar", "(I)I"⟩
def dkwX4_bar_1 : List UInt8 := [180, 0, 76, 172]
abbrev dktX4_bar_1 : List UInt8 := dkwX4_bar_1 ++ []
def dkwX4_bar_0 : List UInt8 := [42, 27, 182, 0, 72, 154, 0, 6, 16, 254, 172, 42, 89, 180, 0, 76, 4, 27, 120, 130, 181, 0, 76, 42]
abbrev dktX4_bar_0 : List UInt8 := dkwX4_bar_0 ++ dktX4_bar_1
theorem dksX4_bar_0 : cX4_bar.data.toList.drop 0 = dktX4_bar_0 := by decide +kernel
theorem dksX4_bar_1 : cX4_bar.data.toList.drop 24 = dktX4_bar_1 := dk_seg dksX4_bar_0 24 rfl rfl
theorem dX4_bar_0 : decode cX4_bar 0 = .ok (.aload_n 0, 1) := dk_42 (dk_at dksX4_bar_0 0 rfl rfl)
theorem dX4_bar_1 : decode cX4_bar 1 = .ok (.iload_n 1, 1) := dk_27 (dk_at dksX4_bar_0 1 rfl rfl)
theorem dX4_bar_2 : decode cX4_bar 2 = .ok (.invokevirtual 72, 3) := dk_182 0 72 (dk_at dksX4_bar_0 2 rfl rfl)
theorem dX4_bar_5 : decode cX4_bar 5 = .ok (.ifCond .ne 6, 3) := dk_154 0 6 (dk_at dksX4_bar_0 5 rfl rfl)
theorem dX4_bar_8 : decode cX4_bar 8 = .ok (.bipush (-2), 2) := dk_16 254 (dk_at dksX4_bar_0 8 rfl rfl)
theorem dX4_bar_10 : decode cX4_bar 10 = .ok (.ireturn, 1) := dk_172 (dk_at dksX4_bar_0 10 rfl rfl)
theorem dX4_bar_11 : decode cX4_bar 11 = .ok (.aload_n 0, 1) := dk_42 (dk_at dksX4_bar_0 11 rfl rfl)
theorem dX4_bar_12 : decode cX4_bar 12 = .ok (.dup, 1) := dk_89 (dk_at dksX4_bar_0 12 rfl rfl)
theorem dX4_bar_13 : decode cX4_bar 13 = .ok (.getfield 76, 3) := dk_180 0 76 (dk_at dksX4_bar_0 13 rfl rfl)
theorem dX4_bar_16 : decode cX4_bar 16 = .ok (.iconst 1, 1) := dk_4 (dk_at dksX4_bar_0 16 rfl rfl)
theorem dX4_bar_17 : decode cX4_bar 17 = .ok (.iload_n 1, 1) := dk_27 (dk_at dksX4_bar_0 17 rfl rfl)
theorem dX4_bar_18 : decode cX4_bar 18 = .ok (.ishl, 1) := dk_120 (dk_at dksX4_bar_0 18 rfl rfl)
theorem dX4_bar_19 : decode cX4_bar 19 = .ok (.ixor, 1) := dk_130 (dk_at dksX4_bar_0 19 rfl rfl)
theorem dX4_bar_20 : decode cX4_bar 20 = .ok (.putfield 76, 3) := dk_181 0 76 (dk_at dksX4_bar_0 20 rfl rfl)
theorem dX4_bar_23 : decode cX4_bar 23 = .ok (.aload_n 0, 1) := dk_42 (dk_at dksX4_bar_0 23 rfl rfl)
theorem dX4_bar_24 : decode cX4_bar 24 = .ok (.getfield 76, 3) := dk_180 0 76 (dk_at dksX4_bar_1 0 rfl rfl)
theorem dX4_bar_27 : decode cX4_bar 27 = .ok (.ireturn, 1) := dk_172 (dk_at dksX4_bar_1 3 rfl rfl)
abbrev cX4_isPair : ByteArray := prog_9_method_9_code
def yX4_isPair : MethodName := ⟨RX4, "isPair", "(I)Z"⟩
def dkwX4_isPair_0 : List UInt8 := [27, 3, 42, 182, 0, 68, 4, 100, 184, 0, 64, 172]
abbrev dktX4_isPair_0 : List UInt8 := dkwX4_isPair_0 ++ []
theorem dksX4_isPair_0 : cX4_isPair.data.toList.drop 0 = dktX4_isPair_0 := by decide +kernel
theorem dX4_isPair_0 : decode cX4_isPair 0 = .ok (.iload_n 1, 1) := dk_27 (dk_at dksX4_isPair_0 0 rfl rfl)
theorem dX4_isPair_1 : decode cX4_isPair 1 = .ok (.iconst 0, 1) := dk_3 (dk_at dksX4_isPair_0 1 rfl rfl)
theorem dX4_isPair_2 : decode cX4_isPair 2 = .ok (.aload_n 0, 1) := dk_42 (dk_at dksX4_isPair_0 2 rfl rfl)
theorem dX4_isPair_3 : decode cX4_isPair 3 = .ok (.invokevirtual 68, 3) := dk_182 0 68 (dk_at dksX4_isPair_0 3 rfl rfl)
theorem dX4_isPair_6 : decode cX4_isPair 6 = .ok (.iconst 1, 1) := dk_4 (dk_at dksX4_isPair_0 6 rfl rfl)
theorem dX4_isPair_7 : decode cX4_isPair 7 = .ok (.isub, 1) := dk_100 (dk_at dksX4_isPair_0 7 rfl rfl)
theorem dX4_isPair_8 : decode cX4_isPair 8 = .ok (.invokestatic 64, 3) := dk_184 0 64 (dk_at dksX4_isPair_0 8 rfl rfl)
theorem dX4_isPair_11 : decode cX4_isPair 11 = .ok (.ireturn, 1) := dk_172 (dk_at dksX4_isPair_0 11 rfl rfl)
abbrev cX4_all : ByteArray := prog_9_method_20_code
def yX4_all : MethodName := ⟨RX4, "all", "()I"⟩
def dkwX4_all_0 : List UInt8 := [42, 4, 42, 182, 0, 68, 120, 4, 100, 181, 0, 76, 42, 182, 0, 68, 172]
abbrev dktX4_all_0 : List UInt8 := dkwX4_all_0 ++ []
theorem dksX4_all_0 : cX4_all.data.toList.drop 0 = dktX4_all_0 := by decide +kernel
theorem dX4_all_0 : decode cX4_all 0 = .ok (.aload_n 0, 1) := dk_42 (dk_at dksX4_all_0 0 rfl rfl)
theorem dX4_all_1 : decode cX4_all 1 = .ok (.iconst 1, 1) := dk_4 (dk_at dksX4_all_0 1 rfl rfl)
theorem dX4_all_2 : decode cX4_all 2 = .ok (.aload_n 0, 1) := dk_42 (dk_at dksX4_all_0 2 rfl rfl)
theorem dX4_all_3 : decode cX4_all 3 = .ok (.invokevirtual 68, 3) := dk_182 0 68 (dk_at dksX4_all_0 3 rfl rfl)
theorem dX4_all_6 : decode cX4_all 6 = .ok (.ishl, 1) := dk_120 (dk_at dksX4_all_0 6 rfl rfl)
theorem dX4_all_7 : decode cX4_all 7 = .ok (.iconst 1, 1) := dk_4 (dk_at dksX4_all_0 7 rfl rfl)
theorem dX4_all_8 : decode cX4_all 8 = .ok (.isub, 1) := dk_100 (dk_at dksX4_all_0 8 rfl rfl)
theorem dX4_all_9 : decode cX4_all 9 = .ok (.putfield 76, 3) := dk_181 0 76 (dk_at dksX4_all_0 9 rfl rfl)
theorem dX4_all_12 : decode cX4_all 12 = .ok (.aload_n 0, 1) := dk_42 (dk_at dksX4_all_0 12 rfl rfl)
theorem dX4_all_13 : decode cX4_all 13 = .ok (.invokevirtual 68, 3) := dk_182 0 68 (dk_at dksX4_all_0 13 rfl rfl)
theorem dX4_all_16 : decode cX4_all 16 = .ok (.ireturn, 1) := dk_172 (dk_at dksX4_all_0 16 rfl rfl)
abbrev cX4_read : ByteArray := prog_9_method_21_code
def yX4_read : MethodName := ⟨RX4, "read", "(I)I"⟩
def dkwX4_read_5 : List UInt8 := [172]
abbrev dktX4_read_5 : List UInt8 := dkwX4_read_5 ++ []
def dkwX4_read_4 : List UInt8 := [180, 0, 48, 16, 40, 27, 104, 28, 96, 47, 136, 79, 132, 2, 1, 167, 255, 179, 42, 3, 181, 0, 90, 28]
abbrev dktX4_read_4 : List UInt8 := dkwX4_read_4 ++ dktX4_read_5
def dkwX4_read_3 : List UInt8 := [180, 0, 48, 16, 40, 27, 104, 28, 96, 47, 20, 0, 106, 148, 157, 0, 27, 42, 180, 0, 19, 28, 42]
abbrev dktX4_read_3 : List UInt8 := dkwX4_read_3 ++ dktX4_read_4
def dkwX4_read_2 : List UInt8 := [162, 0, 63, 42, 180, 0, 48, 16, 40, 27, 104, 28, 96, 47, 20, 0, 104, 148, 155, 0, 45, 42]
abbrev dktX4_read_2 : List UInt8 := dkwX4_read_2 ++ dktX4_read_3
def dkwX4_read_1 : List UInt8 := [182, 0, 101, 172, 3, 61, 28, 42, 180, 0, 45, 27, 46, 162, 0, 73, 28, 5, 42, 180, 0, 60, 104]
abbrev dktX4_read_1 : List UInt8 := dkwX4_read_1 ++ dktX4_read_2
def dkwX4_read_0 : List UInt8 := [27, 184, 0, 98, 154, 0, 6, 16, 254, 172, 42, 180, 0, 42, 27, 46, 2, 160, 0, 9, 42, 4]
abbrev dktX4_read_0 : List UInt8 := dkwX4_read_0 ++ dktX4_read_1
theorem dksX4_read_0 : cX4_read.data.toList.drop 0 = dktX4_read_0 := by decide +kernel
theorem dksX4_read_1 : cX4_read.data.toList.drop 22 = dktX4_read_1 := dk_seg dksX4_read_0 22 rfl rfl
theorem dksX4_read_2 : cX4_read.data.toList.drop 45 = dktX4_read_2 := dk_seg dksX4_read_1 23 rfl rfl
theorem dksX4_read_3 : cX4_read.data.toList.drop 67 = dktX4_read_3 := dk_seg dksX4_read_2 22 rfl rfl
theorem dksX4_read_4 : cX4_read.data.toList.drop 90 = dktX4_read_4 := dk_seg dksX4_read_3 23 rfl rfl
theorem dksX4_read_5 : cX4_read.data.toList.drop 114 = dktX4_read_5 := dk_seg dksX4_read_4 24 rfl rfl
theorem dX4_read_0 : decode cX4_read 0 = .ok (.iload_n 1, 1) := dk_27 (dk_at dksX4_read_0 0 rfl rfl)
theorem dX4_read_1 : decode cX4_read 1 = .ok (.invokestatic 98, 3) := dk_184 0 98 (dk_at dksX4_read_0 1 rfl rfl)
theorem dX4_read_4 : decode cX4_read 4 = .ok (.ifCond .ne 6, 3) := dk_154 0 6 (dk_at dksX4_read_0 4 rfl rfl)
theorem dX4_read_7 : decode cX4_read 7 = .ok (.bipush (-2), 2) := dk_16 254 (dk_at dksX4_read_0 7 rfl rfl)
theorem dX4_read_9 : decode cX4_read 9 = .ok (.ireturn, 1) := dk_172 (dk_at dksX4_read_0 9 rfl rfl)
theorem dX4_read_10 : decode cX4_read 10 = .ok (.aload_n 0, 1) := dk_42 (dk_at dksX4_read_0 10 rfl rfl)
theorem dX4_read_11 : decode cX4_read 11 = .ok (.getfield 42, 3) := dk_180 0 42 (dk_at dksX4_read_0 11 rfl rfl)
theorem dX4_read_14 : decode cX4_read 14 = .ok (.iload_n 1, 1) := dk_27 (dk_at dksX4_read_0 14 rfl rfl)
theorem dX4_read_15 : decode cX4_read 15 = .ok (.iaload, 1) := dk_46 (dk_at dksX4_read_0 15 rfl rfl)
theorem dX4_read_16 : decode cX4_read 16 = .ok (.iconst (-1), 1) := dk_2 (dk_at dksX4_read_0 16 rfl rfl)
theorem dX4_read_17 : decode cX4_read 17 = .ok (.if_icmp .ne 9, 3) := dk_160 0 9 (dk_at dksX4_read_0 17 rfl rfl)
theorem dX4_read_20 : decode cX4_read 20 = .ok (.aload_n 0, 1) := dk_42 (dk_at dksX4_read_0 20 rfl rfl)
theorem dX4_read_21 : decode cX4_read 21 = .ok (.iconst 1, 1) := dk_4 (dk_at dksX4_read_0 21 rfl rfl)
theorem dX4_read_22 : decode cX4_read 22 = .ok (.invokevirtual 101, 3) := dk_182 0 101 (dk_at dksX4_read_1 0 rfl rfl)
theorem dX4_read_25 : decode cX4_read 25 = .ok (.ireturn, 1) := dk_172 (dk_at dksX4_read_1 3 rfl rfl)
theorem dX4_read_26 : decode cX4_read 26 = .ok (.iconst 0, 1) := dk_3 (dk_at dksX4_read_1 4 rfl rfl)
theorem dX4_read_27 : decode cX4_read 27 = .ok (.istore_n 2, 1) := dk_61 (dk_at dksX4_read_1 5 rfl rfl)
theorem dX4_read_28 : decode cX4_read 28 = .ok (.iload_n 2, 1) := dk_28 (dk_at dksX4_read_1 6 rfl rfl)
theorem dX4_read_29 : decode cX4_read 29 = .ok (.aload_n 0, 1) := dk_42 (dk_at dksX4_read_1 7 rfl rfl)
theorem dX4_read_30 : decode cX4_read 30 = .ok (.getfield 45, 3) := dk_180 0 45 (dk_at dksX4_read_1 8 rfl rfl)
theorem dX4_read_33 : decode cX4_read 33 = .ok (.iload_n 1, 1) := dk_27 (dk_at dksX4_read_1 11 rfl rfl)
theorem dX4_read_34 : decode cX4_read 34 = .ok (.iaload, 1) := dk_46 (dk_at dksX4_read_1 12 rfl rfl)
theorem dX4_read_35 : decode cX4_read 35 = .ok (.if_icmp .ge 73, 3) := dk_162 0 73 (dk_at dksX4_read_1 13 rfl rfl)
theorem dX4_read_38 : decode cX4_read 38 = .ok (.iload_n 2, 1) := dk_28 (dk_at dksX4_read_1 16 rfl rfl)
theorem dX4_read_39 : decode cX4_read 39 = .ok (.iconst 2, 1) := dk_5 (dk_at dksX4_read_1 17 rfl rfl)
theorem dX4_read_40 : decode cX4_read 40 = .ok (.aload_n 0, 1) := dk_42 (dk_at dksX4_read_1 18 rfl rfl)
theorem dX4_read_41 : decode cX4_read 41 = .ok (.getfield 60, 3) := dk_180 0 60 (dk_at dksX4_read_1 19 rfl rfl)
theorem dX4_read_44 : decode cX4_read 44 = .ok (.imul, 1) := dk_104 (dk_at dksX4_read_1 22 rfl rfl)
theorem dX4_read_45 : decode cX4_read 45 = .ok (.if_icmp .ge 63, 3) := dk_162 0 63 (dk_at dksX4_read_2 0 rfl rfl)
theorem dX4_read_48 : decode cX4_read 48 = .ok (.aload_n 0, 1) := dk_42 (dk_at dksX4_read_2 3 rfl rfl)
theorem dX4_read_49 : decode cX4_read 49 = .ok (.getfield 48, 3) := dk_180 0 48 (dk_at dksX4_read_2 4 rfl rfl)
theorem dX4_read_52 : decode cX4_read 52 = .ok (.bipush 40, 2) := dk_16 40 (dk_at dksX4_read_2 7 rfl rfl)
theorem dX4_read_54 : decode cX4_read 54 = .ok (.iload_n 1, 1) := dk_27 (dk_at dksX4_read_2 9 rfl rfl)
theorem dX4_read_55 : decode cX4_read 55 = .ok (.imul, 1) := dk_104 (dk_at dksX4_read_2 10 rfl rfl)
theorem dX4_read_56 : decode cX4_read 56 = .ok (.iload_n 2, 1) := dk_28 (dk_at dksX4_read_2 11 rfl rfl)
theorem dX4_read_57 : decode cX4_read 57 = .ok (.iadd, 1) := dk_96 (dk_at dksX4_read_2 12 rfl rfl)
theorem dX4_read_58 : decode cX4_read 58 = .ok (.laload, 1) := dk_47 (dk_at dksX4_read_2 13 rfl rfl)
theorem dX4_read_59 : decode cX4_read 59 = .ok (.ldc2_w 104, 3) := dk_20 0 104 (dk_at dksX4_read_2 14 rfl rfl)
theorem dX4_read_62 : decode cX4_read 62 = .ok (.lcmp, 1) := dk_148 (dk_at dksX4_read_2 17 rfl rfl)
theorem dX4_read_63 : decode cX4_read 63 = .ok (.ifCond .lt 45, 3) := dk_155 0 45 (dk_at dksX4_read_2 18 rfl rfl)
theorem dX4_read_66 : decode cX4_read 66 = .ok (.aload_n 0, 1) := dk_42 (dk_at dksX4_read_2 21 rfl rfl)
theorem dX4_read_67 : decode cX4_read 67 = .ok (.getfield 48, 3) := dk_180 0 48 (dk_at dksX4_read_3 0 rfl rfl)
theorem dX4_read_70 : decode cX4_read 70 = .ok (.bipush 40, 2) := dk_16 40 (dk_at dksX4_read_3 3 rfl rfl)
theorem dX4_read_72 : decode cX4_read 72 = .ok (.iload_n 1, 1) := dk_27 (dk_at dksX4_read_3 5 rfl rfl)
theorem dX4_read_73 : decode cX4_read 73 = .ok (.imul, 1) := dk_104 (dk_at dksX4_read_3 6 rfl rfl)
theorem dX4_read_74 : decode cX4_read 74 = .ok (.iload_n 2, 1) := dk_28 (dk_at dksX4_read_3 7 rfl rfl)
theorem dX4_read_75 : decode cX4_read 75 = .ok (.iadd, 1) := dk_96 (dk_at dksX4_read_3 8 rfl rfl)
theorem dX4_read_76 : decode cX4_read 76 = .ok (.laload, 1) := dk_47 (dk_at dksX4_read_3 9 rfl rfl)
theorem dX4_read_77 : decode cX4_read 77 = .ok (.ldc2_w 106, 3) := dk_20 0 106 (dk_at dksX4_read_3 10 rfl rfl)
theorem dX4_read_80 : decode cX4_read 80 = .ok (.lcmp, 1) := dk_148 (dk_at dksX4_read_3 13 rfl rfl)
theorem dX4_read_81 : decode cX4_read 81 = .ok (.ifCond .gt 27, 3) := dk_157 0 27 (dk_at dksX4_read_3 14 rfl rfl)
theorem dX4_read_84 : decode cX4_read 84 = .ok (.aload_n 0, 1) := dk_42 (dk_at dksX4_read_3 17 rfl rfl)
theorem dX4_read_85 : decode cX4_read 85 = .ok (.getfield 19, 3) := dk_180 0 19 (dk_at dksX4_read_3 18 rfl rfl)
theorem dX4_read_88 : decode cX4_read 88 = .ok (.iload_n 2, 1) := dk_28 (dk_at dksX4_read_3 21 rfl rfl)
theorem dX4_read_89 : decode cX4_read 89 = .ok (.aload_n 0, 1) := dk_42 (dk_at dksX4_read_3 22 rfl rfl)
theorem dX4_read_90 : decode cX4_read 90 = .ok (.getfield 48, 3) := dk_180 0 48 (dk_at dksX4_read_4 0 rfl rfl)
theorem dX4_read_93 : decode cX4_read 93 = .ok (.bipush 40, 2) := dk_16 40 (dk_at dksX4_read_4 3 rfl rfl)
theorem dX4_read_95 : decode cX4_read 95 = .ok (.iload_n 1, 1) := dk_27 (dk_at dksX4_read_4 5 rfl rfl)
theorem dX4_read_96 : decode cX4_read 96 = .ok (.imul, 1) := dk_104 (dk_at dksX4_read_4 6 rfl rfl)
theorem dX4_read_97 : decode cX4_read 97 = .ok (.iload_n 2, 1) := dk_28 (dk_at dksX4_read_4 7 rfl rfl)
theorem dX4_read_98 : decode cX4_read 98 = .ok (.iadd, 1) := dk_96 (dk_at dksX4_read_4 8 rfl rfl)
theorem dX4_read_99 : decode cX4_read 99 = .ok (.laload, 1) := dk_47 (dk_at dksX4_read_4 9 rfl rfl)
theorem dX4_read_100 : decode cX4_read 100 = .ok (.l2i, 1) := dk_136 (dk_at dksX4_read_4 10 rfl rfl)
theorem dX4_read_101 : decode cX4_read 101 = .ok (.iastore, 1) := dk_79 (dk_at dksX4_read_4 11 rfl rfl)
theorem dX4_read_102 : decode cX4_read 102 = .ok (.iinc 2 1, 3) := dk_132 2 1 (dk_at dksX4_read_4 12 rfl rfl)
theorem dX4_read_105 : decode cX4_read 105 = .ok (.goto (-77), 3) := dk_167 255 179 (dk_at dksX4_read_4 15 rfl rfl)
theorem dX4_read_108 : decode cX4_read 108 = .ok (.aload_n 0, 1) := dk_42 (dk_at dksX4_read_4 18 rfl rfl)
theorem dX4_read_109 : decode cX4_read 109 = .ok (.iconst 0, 1) := dk_3 (dk_at dksX4_read_4 19 rfl rfl)
theorem dX4_read_110 : decode cX4_read 110 = .ok (.putfield 90, 3) := dk_181 0 90 (dk_at dksX4_read_4 20 rfl rfl)
theorem dX4_read_113 : decode cX4_read 113 = .ok (.iload_n 2, 1) := dk_28 (dk_at dksX4_read_4 23 rfl rfl)
theorem dX4_read_114 : decode cX4_read 114 = .ok (.ireturn, 1) := dk_172 (dk_at dksX4_read_5 0 rfl rfl)
abbrev cX4_isSheet : ByteArray := prog_9_method_72_code
def yX4_isSheet : MethodName := ⟨RX4, "isSheet", "(I)Z"⟩
def dkwX4_isSheet_0 : List UInt8 := [26, 3, 6, 184, 0, 64, 172]
abbrev dktX4_isSheet_0 : List UInt8 := dkwX4_isSheet_0 ++ []
theorem dksX4_isSheet_0 : cX4_isSheet.data.toList.drop 0 = dktX4_isSheet_0 := by decide +kernel
theorem dX4_isSheet_0 : decode cX4_isSheet 0 = .ok (.iload_n 0, 1) := dk_26 (dk_at dksX4_isSheet_0 0 rfl rfl)
theorem dX4_isSheet_1 : decode cX4_isSheet 1 = .ok (.iconst 0, 1) := dk_3 (dk_at dksX4_isSheet_0 1 rfl rfl)
theorem dX4_isSheet_2 : decode cX4_isSheet 2 = .ok (.iconst 3, 1) := dk_6 (dk_at dksX4_isSheet_0 2 rfl rfl)
theorem dX4_isSheet_3 : decode cX4_isSheet 3 = .ok (.invokestatic 64, 3) := dk_184 0 64 (dk_at dksX4_isSheet_0 3 rfl rfl)
theorem dX4_isSheet_6 : decode cX4_isSheet 6 = .ok (.ireturn, 1) := dk_172 (dk_at dksX4_isSheet_0 6 rfl rfl)
abbrev cX4_meets : ByteArray := prog_9_method_71_code
def yX4_meets : MethodName := ⟨RX4, "meets", "(I)I"⟩
def dkwX4_meets_0 : List UInt8 := [42, 27, 181, 0, 228, 16, 246, 27, 100, 172]
abbrev dktX4_meets_0 : List UInt8 := dkwX4_meets_0 ++ []
theorem dksX4_meets_0 : cX4_meets.data.toList.drop 0 = dktX4_meets_0 := by decide +kernel
theorem dX4_meets_0 : decode cX4_meets 0 = .ok (.aload_n 0, 1) := dk_42 (dk_at dksX4_meets_0 0 rfl rfl)
theorem dX4_meets_1 : decode cX4_meets 1 = .ok (.iload_n 1, 1) := dk_27 (dk_at dksX4_meets_0 1 rfl rfl)
theorem dX4_meets_2 : decode cX4_meets 2 = .ok (.putfield 228, 3) := dk_181 0 228 (dk_at dksX4_meets_0 2 rfl rfl)
theorem dX4_meets_5 : decode cX4_meets 5 = .ok (.bipush (-10), 2) := dk_16 246 (dk_at dksX4_meets_0 5 rfl rfl)
theorem dX4_meets_7 : decode cX4_meets 7 = .ok (.iload_n 1, 1) := dk_27 (dk_at dksX4_meets_0 7 rfl rfl)
theorem dX4_meets_8 : decode cX4_meets 8 = .ok (.isub, 1) := dk_100 (dk_at dksX4_meets_0 8 rfl rfl)
theorem dX4_meets_9 : decode cX4_meets 9 = .ok (.ireturn, 1) := dk_172 (dk_at dksX4_meets_0 9 rfl rfl)
abbrev cX4_info : ByteArray := prog_9_method_23_code
def yX4_info : MethodName := ⟨RX4, "info", "(II)I"⟩
def dkwX4_info_1 : List UInt8 := [167, 0, 5, 18, 97, 172]
abbrev dktX4_info_1 : List UInt8 := dkwX4_info_1 ++ []
def dkwX4_info_0 : List UInt8 := [42, 27, 182, 0, 94, 153, 0, 22, 28, 3, 16, 6, 184, 0, 64, 153, 0, 12, 42, 27, 28, 182, 0, 108]
abbrev dktX4_info_0 : List UInt8 := dkwX4_info_0 ++ dktX4_info_1
theorem dksX4_info_0 : cX4_info.data.toList.drop 0 = dktX4_info_0 := by decide +kernel
theorem dksX4_info_1 : cX4_info.data.toList.drop 24 = dktX4_info_1 := dk_seg dksX4_info_0 24 rfl rfl
theorem dX4_info_0 : decode cX4_info 0 = .ok (.aload_n 0, 1) := dk_42 (dk_at dksX4_info_0 0 rfl rfl)
theorem dX4_info_1 : decode cX4_info 1 = .ok (.iload_n 1, 1) := dk_27 (dk_at dksX4_info_0 1 rfl rfl)
theorem dX4_info_2 : decode cX4_info 2 = .ok (.invokevirtual 94, 3) := dk_182 0 94 (dk_at dksX4_info_0 2 rfl rfl)
theorem dX4_info_5 : decode cX4_info 5 = .ok (.ifCond .eq 22, 3) := dk_153 0 22 (dk_at dksX4_info_0 5 rfl rfl)
theorem dX4_info_8 : decode cX4_info 8 = .ok (.iload_n 2, 1) := dk_28 (dk_at dksX4_info_0 8 rfl rfl)
theorem dX4_info_9 : decode cX4_info 9 = .ok (.iconst 0, 1) := dk_3 (dk_at dksX4_info_0 9 rfl rfl)
theorem dX4_info_10 : decode cX4_info 10 = .ok (.bipush 6, 2) := dk_16 6 (dk_at dksX4_info_0 10 rfl rfl)
theorem dX4_info_12 : decode cX4_info 12 = .ok (.invokestatic 64, 3) := dk_184 0 64 (dk_at dksX4_info_0 12 rfl rfl)
theorem dX4_info_15 : decode cX4_info 15 = .ok (.ifCond .eq 12, 3) := dk_153 0 12 (dk_at dksX4_info_0 15 rfl rfl)
theorem dX4_info_18 : decode cX4_info 18 = .ok (.aload_n 0, 1) := dk_42 (dk_at dksX4_info_0 18 rfl rfl)
theorem dX4_info_19 : decode cX4_info 19 = .ok (.iload_n 1, 1) := dk_27 (dk_at dksX4_info_0 19 rfl rfl)
theorem dX4_info_20 : decode cX4_info 20 = .ok (.iload_n 2, 1) := dk_28 (dk_at dksX4_info_0 20 rfl rfl)
theorem dX4_info_21 : decode cX4_info 21 = .ok (.invokevirtual 108, 3) := dk_182 0 108 (dk_at dksX4_info_0 21 rfl rfl)
theorem dX4_info_24 : decode cX4_info 24 = .ok (.goto 5, 3) := dk_167 0 5 (dk_at dksX4_info_1 0 rfl rfl)
theorem dX4_info_27 : decode cX4_info 27 = .ok (.ldc 97, 2) := dk_18 97 (dk_at dksX4_info_1 3 rfl rfl)
theorem dX4_info_29 : decode cX4_info 29 = .ok (.ireturn, 1) := dk_172 (dk_at dksX4_info_1 5 rfl rfl)
abbrev cX4_infoOf : ByteArray := prog_9_method_22_code
def yX4_infoOf : MethodName := ⟨RX4, "infoOf", "(II)I"⟩
def dkwX4_infoOf_4 : List UInt8 := [172]
abbrev dktX4_infoOf_4 : List UInt8 := dkwX4_infoOf_4 ++ []
def dkwX4_infoOf_3 : List UInt8 := [180, 0, 19, 5, 27, 104, 28, 96, 6, 100, 46, 172, 42, 180, 0, 22, 5, 27, 104, 28, 96, 8, 100, 46]
abbrev dktX4_infoOf_3 : List UInt8 := dkwX4_infoOf_3 ++ dktX4_infoOf_4
def dkwX4_infoOf_2 : List UInt8 := [42, 180, 0, 7, 27, 46, 172, 42, 180, 0, 13, 27, 46, 172, 42, 180, 0, 16, 27, 46, 172, 42]
abbrev dktX4_infoOf_2 : List UInt8 := dkwX4_infoOf_2 ++ dktX4_infoOf_3
def dkwX4_infoOf_1 : List UInt8 := [170, 0, 0, 0, 0, 0, 69, 0, 0, 0, 0, 0, 0, 0, 4, 0, 0, 0, 35, 0, 0, 0, 42, 0, 0, 0, 49, 0, 0, 0, 56, 0, 0, 0, 56]
abbrev dktX4_infoOf_1 : List UInt8 := dkwX4_infoOf_1 ++ dktX4_infoOf_2
def dkwX4_infoOf_0 : List UInt8 := [28]
abbrev dktX4_infoOf_0 : List UInt8 := dkwX4_infoOf_0 ++ dktX4_infoOf_1
theorem dksX4_infoOf_0 : cX4_infoOf.data.toList.drop 0 = dktX4_infoOf_0 := by decide +kernel
theorem dksX4_infoOf_1 : cX4_infoOf.data.toList.drop 1 = dktX4_infoOf_1 := dk_seg dksX4_infoOf_0 1 rfl rfl
theorem dksX4_infoOf_2 : cX4_infoOf.data.toList.drop 36 = dktX4_infoOf_2 := dk_seg dksX4_infoOf_1 35 rfl rfl
theorem dksX4_infoOf_3 : cX4_infoOf.data.toList.drop 58 = dktX4_infoOf_3 := dk_seg dksX4_infoOf_2 22 rfl rfl
theorem dksX4_infoOf_4 : cX4_infoOf.data.toList.drop 82 = dktX4_infoOf_4 := dk_seg dksX4_infoOf_3 24 rfl rfl
theorem dX4_infoOf_0 : decode cX4_infoOf 0 = .ok (.iload_n 2, 1) := dk_28 (dk_at dksX4_infoOf_0 0 rfl rfl)
theorem dX4_infoOf_1 : decode cX4_infoOf 1 = .ok (.tableswitch 69 0 4 #[35, 42, 49, 56, 56], 35) := by decide +kernel
theorem dX4_infoOf_36 : decode cX4_infoOf 36 = .ok (.aload_n 0, 1) := dk_42 (dk_at dksX4_infoOf_2 0 rfl rfl)
theorem dX4_infoOf_37 : decode cX4_infoOf 37 = .ok (.getfield 7, 3) := dk_180 0 7 (dk_at dksX4_infoOf_2 1 rfl rfl)
theorem dX4_infoOf_40 : decode cX4_infoOf 40 = .ok (.iload_n 1, 1) := dk_27 (dk_at dksX4_infoOf_2 4 rfl rfl)
theorem dX4_infoOf_41 : decode cX4_infoOf 41 = .ok (.iaload, 1) := dk_46 (dk_at dksX4_infoOf_2 5 rfl rfl)
theorem dX4_infoOf_42 : decode cX4_infoOf 42 = .ok (.ireturn, 1) := dk_172 (dk_at dksX4_infoOf_2 6 rfl rfl)
theorem dX4_infoOf_43 : decode cX4_infoOf 43 = .ok (.aload_n 0, 1) := dk_42 (dk_at dksX4_infoOf_2 7 rfl rfl)
theorem dX4_infoOf_44 : decode cX4_infoOf 44 = .ok (.getfield 13, 3) := dk_180 0 13 (dk_at dksX4_infoOf_2 8 rfl rfl)
theorem dX4_infoOf_47 : decode cX4_infoOf 47 = .ok (.iload_n 1, 1) := dk_27 (dk_at dksX4_infoOf_2 11 rfl rfl)
theorem dX4_infoOf_48 : decode cX4_infoOf 48 = .ok (.iaload, 1) := dk_46 (dk_at dksX4_infoOf_2 12 rfl rfl)
theorem dX4_infoOf_49 : decode cX4_infoOf 49 = .ok (.ireturn, 1) := dk_172 (dk_at dksX4_infoOf_2 13 rfl rfl)
theorem dX4_infoOf_50 : decode cX4_infoOf 50 = .ok (.aload_n 0, 1) := dk_42 (dk_at dksX4_infoOf_2 14 rfl rfl)
theorem dX4_infoOf_51 : decode cX4_infoOf 51 = .ok (.getfield 16, 3) := dk_180 0 16 (dk_at dksX4_infoOf_2 15 rfl rfl)
theorem dX4_infoOf_54 : decode cX4_infoOf 54 = .ok (.iload_n 1, 1) := dk_27 (dk_at dksX4_infoOf_2 18 rfl rfl)
theorem dX4_infoOf_55 : decode cX4_infoOf 55 = .ok (.iaload, 1) := dk_46 (dk_at dksX4_infoOf_2 19 rfl rfl)
theorem dX4_infoOf_56 : decode cX4_infoOf 56 = .ok (.ireturn, 1) := dk_172 (dk_at dksX4_infoOf_2 20 rfl rfl)
theorem dX4_infoOf_57 : decode cX4_infoOf 57 = .ok (.aload_n 0, 1) := dk_42 (dk_at dksX4_infoOf_2 21 rfl rfl)
theorem dX4_infoOf_58 : decode cX4_infoOf 58 = .ok (.getfield 19, 3) := dk_180 0 19 (dk_at dksX4_infoOf_3 0 rfl rfl)
theorem dX4_infoOf_61 : decode cX4_infoOf 61 = .ok (.iconst 2, 1) := dk_5 (dk_at dksX4_infoOf_3 3 rfl rfl)
theorem dX4_infoOf_62 : decode cX4_infoOf 62 = .ok (.iload_n 1, 1) := dk_27 (dk_at dksX4_infoOf_3 4 rfl rfl)
theorem dX4_infoOf_63 : decode cX4_infoOf 63 = .ok (.imul, 1) := dk_104 (dk_at dksX4_infoOf_3 5 rfl rfl)
theorem dX4_infoOf_64 : decode cX4_infoOf 64 = .ok (.iload_n 2, 1) := dk_28 (dk_at dksX4_infoOf_3 6 rfl rfl)
theorem dX4_infoOf_65 : decode cX4_infoOf 65 = .ok (.iadd, 1) := dk_96 (dk_at dksX4_infoOf_3 7 rfl rfl)
theorem dX4_infoOf_66 : decode cX4_infoOf 66 = .ok (.iconst 3, 1) := dk_6 (dk_at dksX4_infoOf_3 8 rfl rfl)
theorem dX4_infoOf_67 : decode cX4_infoOf 67 = .ok (.isub, 1) := dk_100 (dk_at dksX4_infoOf_3 9 rfl rfl)
theorem dX4_infoOf_68 : decode cX4_infoOf 68 = .ok (.iaload, 1) := dk_46 (dk_at dksX4_infoOf_3 10 rfl rfl)
theorem dX4_infoOf_69 : decode cX4_infoOf 69 = .ok (.ireturn, 1) := dk_172 (dk_at dksX4_infoOf_3 11 rfl rfl)
theorem dX4_infoOf_70 : decode cX4_infoOf 70 = .ok (.aload_n 0, 1) := dk_42 (dk_at dksX4_infoOf_3 12 rfl rfl)
theorem dX4_infoOf_71 : decode cX4_infoOf 71 = .ok (.getfield 22, 3) := dk_180 0 22 (dk_at dksX4_infoOf_3 13 rfl rfl)
theorem dX4_infoOf_74 : decode cX4_infoOf 74 = .ok (.iconst 2, 1) := dk_5 (dk_at dksX4_infoOf_3 16 rfl rfl)
theorem dX4_infoOf_75 : decode cX4_infoOf 75 = .ok (.iload_n 1, 1) := dk_27 (dk_at dksX4_infoOf_3 17 rfl rfl)
theorem dX4_infoOf_76 : decode cX4_infoOf 76 = .ok (.imul, 1) := dk_104 (dk_at dksX4_infoOf_3 18 rfl rfl)
theorem dX4_infoOf_77 : decode cX4_infoOf 77 = .ok (.iload_n 2, 1) := dk_28 (dk_at dksX4_infoOf_3 19 rfl rfl)
theorem dX4_infoOf_78 : decode cX4_infoOf 78 = .ok (.iadd, 1) := dk_96 (dk_at dksX4_infoOf_3 20 rfl rfl)
theorem dX4_infoOf_79 : decode cX4_infoOf 79 = .ok (.iconst 5, 1) := dk_8 (dk_at dksX4_infoOf_3 21 rfl rfl)
theorem dX4_infoOf_80 : decode cX4_infoOf 80 = .ok (.isub, 1) := dk_100 (dk_at dksX4_infoOf_3 22 rfl rfl)
theorem dX4_infoOf_81 : decode cX4_infoOf 81 = .ok (.iaload, 1) := dk_46 (dk_at dksX4_infoOf_3 23 rfl rfl)
theorem dX4_infoOf_82 : decode cX4_infoOf 82 = .ok (.ireturn, 1) := dk_172 (dk_at dksX4_infoOf_4 0 rfl rfl)
abbrev cX4_pair : ByteArray := prog_9_method_25_code
def yX4_pair : MethodName := ⟨RX4, "pair", "(II)I"⟩
def dkwX4_pair_1 : List UInt8 := [167, 0, 5, 16, 254, 172]
abbrev dktX4_pair_1 : List UInt8 := dkwX4_pair_1 ++ []
def dkwX4_pair_0 : List UInt8 := [42, 27, 182, 0, 72, 153, 0, 21, 28, 3, 6, 184, 0, 64, 153, 0, 12, 42, 27, 28, 182, 0, 114]
abbrev dktX4_pair_0 : List UInt8 := dkwX4_pair_0 ++ dktX4_pair_1
theorem dksX4_pair_0 : cX4_pair.data.toList.drop 0 = dktX4_pair_0 := by decide +kernel
theorem dksX4_pair_1 : cX4_pair.data.toList.drop 23 = dktX4_pair_1 := dk_seg dksX4_pair_0 23 rfl rfl
theorem dX4_pair_0 : decode cX4_pair 0 = .ok (.aload_n 0, 1) := dk_42 (dk_at dksX4_pair_0 0 rfl rfl)
theorem dX4_pair_1 : decode cX4_pair 1 = .ok (.iload_n 1, 1) := dk_27 (dk_at dksX4_pair_0 1 rfl rfl)
theorem dX4_pair_2 : decode cX4_pair 2 = .ok (.invokevirtual 72, 3) := dk_182 0 72 (dk_at dksX4_pair_0 2 rfl rfl)
theorem dX4_pair_5 : decode cX4_pair 5 = .ok (.ifCond .eq 21, 3) := dk_153 0 21 (dk_at dksX4_pair_0 5 rfl rfl)
theorem dX4_pair_8 : decode cX4_pair 8 = .ok (.iload_n 2, 1) := dk_28 (dk_at dksX4_pair_0 8 rfl rfl)
theorem dX4_pair_9 : decode cX4_pair 9 = .ok (.iconst 0, 1) := dk_3 (dk_at dksX4_pair_0 9 rfl rfl)
theorem dX4_pair_10 : decode cX4_pair 10 = .ok (.iconst 3, 1) := dk_6 (dk_at dksX4_pair_0 10 rfl rfl)
theorem dX4_pair_11 : decode cX4_pair 11 = .ok (.invokestatic 64, 3) := dk_184 0 64 (dk_at dksX4_pair_0 11 rfl rfl)
theorem dX4_pair_14 : decode cX4_pair 14 = .ok (.ifCond .eq 12, 3) := dk_153 0 12 (dk_at dksX4_pair_0 14 rfl rfl)
theorem dX4_pair_17 : decode cX4_pair 17 = .ok (.aload_n 0, 1) := dk_42 (dk_at dksX4_pair_0 17 rfl rfl)
theorem dX4_pair_18 : decode cX4_pair 18 = .ok (.iload_n 1, 1) := dk_27 (dk_at dksX4_pair_0 18 rfl rfl)
theorem dX4_pair_19 : decode cX4_pair 19 = .ok (.iload_n 2, 1) := dk_28 (dk_at dksX4_pair_0 19 rfl rfl)
theorem dX4_pair_20 : decode cX4_pair 20 = .ok (.invokevirtual 114, 3) := dk_182 0 114 (dk_at dksX4_pair_0 20 rfl rfl)
theorem dX4_pair_23 : decode cX4_pair 23 = .ok (.goto 5, 3) := dk_167 0 5 (dk_at dksX4_pair_1 0 rfl rfl)
theorem dX4_pair_26 : decode cX4_pair 26 = .ok (.bipush (-2), 2) := dk_16 254 (dk_at dksX4_pair_1 3 rfl rfl)
theorem dX4_pair_28 : decode cX4_pair 28 = .ok (.ireturn, 1) := dk_172 (dk_at dksX4_pair_1 5 rfl rfl)
abbrev cX4_pairOf : ByteArray := prog_9_method_24_code
def yX4_pairOf : MethodName := ⟨RX4, "pairOf", "(II)I"⟩
def dkwX4_pairOf_1 : List UInt8 := [5, 160, 0, 11, 42, 27, 182, 0, 111, 167, 0, 11, 42, 180, 0, 76, 27, 122, 4, 126, 172]
abbrev dktX4_pairOf_1 : List UInt8 := dkwX4_pairOf_1 ++ []
def dkwX4_pairOf_0 : List UInt8 := [28, 154, 0, 10, 27, 184, 0, 83, 167, 0, 36, 28, 4, 160, 0, 10, 27, 184, 0, 79, 167, 0, 24, 28]
abbrev dktX4_pairOf_0 : List UInt8 := dkwX4_pairOf_0 ++ dktX4_pairOf_1
theorem dksX4_pairOf_0 : cX4_pairOf.data.toList.drop 0 = dktX4_pairOf_0 := by decide +kernel
theorem dksX4_pairOf_1 : cX4_pairOf.data.toList.drop 24 = dktX4_pairOf_1 := dk_seg dksX4_pairOf_0 24 rfl rfl
theorem dX4_pairOf_0 : decode cX4_pairOf 0 = .ok (.iload_n 2, 1) := dk_28 (dk_at dksX4_pairOf_0 0 rfl rfl)
theorem dX4_pairOf_1 : decode cX4_pairOf 1 = .ok (.ifCond .ne 10, 3) := dk_154 0 10 (dk_at dksX4_pairOf_0 1 rfl rfl)
theorem dX4_pairOf_4 : decode cX4_pairOf 4 = .ok (.iload_n 1, 1) := dk_27 (dk_at dksX4_pairOf_0 4 rfl rfl)
theorem dX4_pairOf_5 : decode cX4_pairOf 5 = .ok (.invokestatic 83, 3) := dk_184 0 83 (dk_at dksX4_pairOf_0 5 rfl rfl)
theorem dX4_pairOf_8 : decode cX4_pairOf 8 = .ok (.goto 36, 3) := dk_167 0 36 (dk_at dksX4_pairOf_0 8 rfl rfl)
theorem dX4_pairOf_11 : decode cX4_pairOf 11 = .ok (.iload_n 2, 1) := dk_28 (dk_at dksX4_pairOf_0 11 rfl rfl)
theorem dX4_pairOf_12 : decode cX4_pairOf 12 = .ok (.iconst 1, 1) := dk_4 (dk_at dksX4_pairOf_0 12 rfl rfl)
theorem dX4_pairOf_13 : decode cX4_pairOf 13 = .ok (.if_icmp .ne 10, 3) := dk_160 0 10 (dk_at dksX4_pairOf_0 13 rfl rfl)
theorem dX4_pairOf_16 : decode cX4_pairOf 16 = .ok (.iload_n 1, 1) := dk_27 (dk_at dksX4_pairOf_0 16 rfl rfl)
theorem dX4_pairOf_17 : decode cX4_pairOf 17 = .ok (.invokestatic 79, 3) := dk_184 0 79 (dk_at dksX4_pairOf_0 17 rfl rfl)
theorem dX4_pairOf_20 : decode cX4_pairOf 20 = .ok (.goto 24, 3) := dk_167 0 24 (dk_at dksX4_pairOf_0 20 rfl rfl)
theorem dX4_pairOf_23 : decode cX4_pairOf 23 = .ok (.iload_n 2, 1) := dk_28 (dk_at dksX4_pairOf_0 23 rfl rfl)
theorem dX4_pairOf_24 : decode cX4_pairOf 24 = .ok (.iconst 2, 1) := dk_5 (dk_at dksX4_pairOf_1 0 rfl rfl)
theorem dX4_pairOf_25 : decode cX4_pairOf 25 = .ok (.if_icmp .ne 11, 3) := dk_160 0 11 (dk_at dksX4_pairOf_1 1 rfl rfl)
theorem dX4_pairOf_28 : decode cX4_pairOf 28 = .ok (.aload_n 0, 1) := dk_42 (dk_at dksX4_pairOf_1 4 rfl rfl)
theorem dX4_pairOf_29 : decode cX4_pairOf 29 = .ok (.iload_n 1, 1) := dk_27 (dk_at dksX4_pairOf_1 5 rfl rfl)
theorem dX4_pairOf_30 : decode cX4_pairOf 30 = .ok (.invokevirtual 111, 3) := dk_182 0 111 (dk_at dksX4_pairOf_1 6 rfl rfl)
theorem dX4_pairOf_33 : decode cX4_pairOf 33 = .ok (.goto 11, 3) := dk_167 0 11 (dk_at dksX4_pairOf_1 9 rfl rfl)
theorem dX4_pairOf_36 : decode cX4_pairOf 36 = .ok (.aload_n 0, 1) := dk_42 (dk_at dksX4_pairOf_1 12 rfl rfl)
theorem dX4_pairOf_37 : decode cX4_pairOf 37 = .ok (.getfield 76, 3) := dk_180 0 76 (dk_at dksX4_pairOf_1 13 rfl rfl)
theorem dX4_pairOf_40 : decode cX4_pairOf 40 = .ok (.iload_n 1, 1) := dk_27 (dk_at dksX4_pairOf_1 16 rfl rfl)
theorem dX4_pairOf_41 : decode cX4_pairOf 41 = .ok (.ishr, 1) := dk_122 (dk_at dksX4_pairOf_1 17 rfl rfl)
theorem dX4_pairOf_42 : decode cX4_pairOf 42 = .ok (.iconst 1, 1) := dk_4 (dk_at dksX4_pairOf_1 18 rfl rfl)
theorem dX4_pairOf_43 : decode cX4_pairOf 43 = .ok (.iand, 1) := dk_126 (dk_at dksX4_pairOf_1 19 rfl rfl)
theorem dX4_pairOf_44 : decode cX4_pairOf 44 = .ok (.ireturn, 1) := dk_172 (dk_at dksX4_pairOf_1 20 rfl rfl)
abbrev cX4_lesser : ByteArray := prog_9_method_12_code
def yX4_lesser : MethodName := ⟨RX4, "lesser", "(I)I"⟩
def dkwX4_lesser_0 : List UInt8 := [26, 184, 0, 79, 60, 26, 27, 27, 4, 100, 104, 5, 108, 100, 172]
abbrev dktX4_lesser_0 : List UInt8 := dkwX4_lesser_0 ++ []
theorem dksX4_lesser_0 : cX4_lesser.data.toList.drop 0 = dktX4_lesser_0 := by decide +kernel
theorem dX4_lesser_0 : decode cX4_lesser 0 = .ok (.iload_n 0, 1) := dk_26 (dk_at dksX4_lesser_0 0 rfl rfl)
theorem dX4_lesser_1 : decode cX4_lesser 1 = .ok (.invokestatic 79, 3) := dk_184 0 79 (dk_at dksX4_lesser_0 1 rfl rfl)
theorem dX4_lesser_4 : decode cX4_lesser 4 = .ok (.istore_n 1, 1) := dk_60 (dk_at dksX4_lesser_0 4 rfl rfl)
theorem dX4_lesser_5 : decode cX4_lesser 5 = .ok (.iload_n 0, 1) := dk_26 (dk_at dksX4_lesser_0 5 rfl rfl)
theorem dX4_lesser_6 : decode cX4_lesser 6 = .ok (.iload_n 1, 1) := dk_27 (dk_at dksX4_lesser_0 6 rfl rfl)
theorem dX4_lesser_7 : decode cX4_lesser 7 = .ok (.iload_n 1, 1) := dk_27 (dk_at dksX4_lesser_0 7 rfl rfl)
theorem dX4_lesser_8 : decode cX4_lesser 8 = .ok (.iconst 1, 1) := dk_4 (dk_at dksX4_lesser_0 8 rfl rfl)
theorem dX4_lesser_9 : decode cX4_lesser 9 = .ok (.isub, 1) := dk_100 (dk_at dksX4_lesser_0 9 rfl rfl)
theorem dX4_lesser_10 : decode cX4_lesser 10 = .ok (.imul, 1) := dk_104 (dk_at dksX4_lesser_0 10 rfl rfl)
theorem dX4_lesser_11 : decode cX4_lesser 11 = .ok (.iconst 2, 1) := dk_5 (dk_at dksX4_lesser_0 11 rfl rfl)
theorem dX4_lesser_12 : decode cX4_lesser 12 = .ok (.idiv, 1) := dk_108 (dk_at dksX4_lesser_0 12 rfl rfl)
theorem dX4_lesser_13 : decode cX4_lesser 13 = .ok (.isub, 1) := dk_100 (dk_at dksX4_lesser_0 13 rfl rfl)
theorem dX4_lesser_14 : decode cX4_lesser 14 = .ok (.ireturn, 1) := dk_172 (dk_at dksX4_lesser_0 14 rfl rfl)
abbrev cX4_greater : ByteArray := prog_9_method_11_code
def yX4_greater : MethodName := ⟨RX4, "greater", "(I)I"⟩
def dkwX4_greater_0 : List UInt8 := [4, 60, 27, 4, 96, 27, 104, 5, 108, 26, 163, 0, 9, 132, 1, 1, 167, 255, 242, 27, 172]
abbrev dktX4_greater_0 : List UInt8 := dkwX4_greater_0 ++ []
theorem dksX4_greater_0 : cX4_greater.data.toList.drop 0 = dktX4_greater_0 := by decide +kernel
theorem dX4_greater_0 : decode cX4_greater 0 = .ok (.iconst 1, 1) := dk_4 (dk_at dksX4_greater_0 0 rfl rfl)
theorem dX4_greater_1 : decode cX4_greater 1 = .ok (.istore_n 1, 1) := dk_60 (dk_at dksX4_greater_0 1 rfl rfl)
theorem dX4_greater_2 : decode cX4_greater 2 = .ok (.iload_n 1, 1) := dk_27 (dk_at dksX4_greater_0 2 rfl rfl)
theorem dX4_greater_3 : decode cX4_greater 3 = .ok (.iconst 1, 1) := dk_4 (dk_at dksX4_greater_0 3 rfl rfl)
theorem dX4_greater_4 : decode cX4_greater 4 = .ok (.iadd, 1) := dk_96 (dk_at dksX4_greater_0 4 rfl rfl)
theorem dX4_greater_5 : decode cX4_greater 5 = .ok (.iload_n 1, 1) := dk_27 (dk_at dksX4_greater_0 5 rfl rfl)
theorem dX4_greater_6 : decode cX4_greater 6 = .ok (.imul, 1) := dk_104 (dk_at dksX4_greater_0 6 rfl rfl)
theorem dX4_greater_7 : decode cX4_greater 7 = .ok (.iconst 2, 1) := dk_5 (dk_at dksX4_greater_0 7 rfl rfl)
theorem dX4_greater_8 : decode cX4_greater 8 = .ok (.idiv, 1) := dk_108 (dk_at dksX4_greater_0 8 rfl rfl)
theorem dX4_greater_9 : decode cX4_greater 9 = .ok (.iload_n 0, 1) := dk_26 (dk_at dksX4_greater_0 9 rfl rfl)
theorem dX4_greater_10 : decode cX4_greater 10 = .ok (.if_icmp .gt 9, 3) := dk_163 0 9 (dk_at dksX4_greater_0 10 rfl rfl)
theorem dX4_greater_13 : decode cX4_greater 13 = .ok (.iinc 1 1, 3) := dk_132 1 1 (dk_at dksX4_greater_0 13 rfl rfl)
theorem dX4_greater_16 : decode cX4_greater 16 = .ok (.goto (-14), 3) := dk_167 255 242 (dk_at dksX4_greater_0 16 rfl rfl)
theorem dX4_greater_19 : decode cX4_greater 19 = .ok (.iload_n 1, 1) := dk_27 (dk_at dksX4_greater_0 19 rfl rfl)
theorem dX4_greater_20 : decode cX4_greater 20 = .ok (.ireturn, 1) := dk_172 (dk_at dksX4_greater_0 20 rfl rfl)
abbrev cX4_quad : ByteArray := prog_9_method_14_code
def yX4_quad : MethodName := ⟨RX4, "quad", "(I)I"⟩
def dkwX4_quad_1 : List UInt8 := [182, 0, 86, 104, 96, 172]
abbrev dktX4_quad_1 : List UInt8 := dkwX4_quad_1 ++ []
def dkwX4_quad_0 : List UInt8 := [42, 27, 3, 182, 0, 86, 42, 27, 3, 182, 0, 86, 104, 42, 27, 4, 182, 0, 86, 42, 27, 4]
abbrev dktX4_quad_0 : List UInt8 := dkwX4_quad_0 ++ dktX4_quad_1
theorem dksX4_quad_0 : cX4_quad.data.toList.drop 0 = dktX4_quad_0 := by decide +kernel
theorem dksX4_quad_1 : cX4_quad.data.toList.drop 22 = dktX4_quad_1 := dk_seg dksX4_quad_0 22 rfl rfl
theorem dX4_quad_0 : decode cX4_quad 0 = .ok (.aload_n 0, 1) := dk_42 (dk_at dksX4_quad_0 0 rfl rfl)
theorem dX4_quad_1 : decode cX4_quad 1 = .ok (.iload_n 1, 1) := dk_27 (dk_at dksX4_quad_0 1 rfl rfl)
theorem dX4_quad_2 : decode cX4_quad 2 = .ok (.iconst 0, 1) := dk_3 (dk_at dksX4_quad_0 2 rfl rfl)
theorem dX4_quad_3 : decode cX4_quad 3 = .ok (.invokevirtual 86, 3) := dk_182 0 86 (dk_at dksX4_quad_0 3 rfl rfl)
theorem dX4_quad_6 : decode cX4_quad 6 = .ok (.aload_n 0, 1) := dk_42 (dk_at dksX4_quad_0 6 rfl rfl)
theorem dX4_quad_7 : decode cX4_quad 7 = .ok (.iload_n 1, 1) := dk_27 (dk_at dksX4_quad_0 7 rfl rfl)
theorem dX4_quad_8 : decode cX4_quad 8 = .ok (.iconst 0, 1) := dk_3 (dk_at dksX4_quad_0 8 rfl rfl)
theorem dX4_quad_9 : decode cX4_quad 9 = .ok (.invokevirtual 86, 3) := dk_182 0 86 (dk_at dksX4_quad_0 9 rfl rfl)
theorem dX4_quad_12 : decode cX4_quad 12 = .ok (.imul, 1) := dk_104 (dk_at dksX4_quad_0 12 rfl rfl)
theorem dX4_quad_13 : decode cX4_quad 13 = .ok (.aload_n 0, 1) := dk_42 (dk_at dksX4_quad_0 13 rfl rfl)
theorem dX4_quad_14 : decode cX4_quad 14 = .ok (.iload_n 1, 1) := dk_27 (dk_at dksX4_quad_0 14 rfl rfl)
theorem dX4_quad_15 : decode cX4_quad 15 = .ok (.iconst 1, 1) := dk_4 (dk_at dksX4_quad_0 15 rfl rfl)
theorem dX4_quad_16 : decode cX4_quad 16 = .ok (.invokevirtual 86, 3) := dk_182 0 86 (dk_at dksX4_quad_0 16 rfl rfl)
theorem dX4_quad_19 : decode cX4_quad 19 = .ok (.aload_n 0, 1) := dk_42 (dk_at dksX4_quad_0 19 rfl rfl)
theorem dX4_quad_20 : decode cX4_quad 20 = .ok (.iload_n 1, 1) := dk_27 (dk_at dksX4_quad_0 20 rfl rfl)
theorem dX4_quad_21 : decode cX4_quad 21 = .ok (.iconst 1, 1) := dk_4 (dk_at dksX4_quad_0 21 rfl rfl)
theorem dX4_quad_22 : decode cX4_quad 22 = .ok (.invokevirtual 86, 3) := dk_182 0 86 (dk_at dksX4_quad_1 0 rfl rfl)
theorem dX4_quad_25 : decode cX4_quad 25 = .ok (.imul, 1) := dk_104 (dk_at dksX4_quad_1 3 rfl rfl)
theorem dX4_quad_26 : decode cX4_quad 26 = .ok (.iadd, 1) := dk_96 (dk_at dksX4_quad_1 4 rfl rfl)
theorem dX4_quad_27 : decode cX4_quad 27 = .ok (.ireturn, 1) := dk_172 (dk_at dksX4_quad_1 5 rfl rfl)
abbrev cX4_far : ByteArray := prog_9_method_13_code
def yX4_far : MethodName := ⟨RX4, "far", "(II)I"⟩
def dkwX4_far_1 : List UInt8 := [180, 0, 7, 29, 46, 100, 167, 0, 17, 42, 180, 0, 13, 21, 4, 46, 42, 180, 0, 13, 29, 46, 100, 172]
abbrev dktX4_far_1 : List UInt8 := dkwX4_far_1 ++ []
def dkwX4_far_0 : List UInt8 := [27, 184, 0, 83, 62, 27, 184, 0, 79, 54, 4, 28, 154, 0, 20, 42, 180, 0, 7, 21, 4, 46, 42]
abbrev dktX4_far_0 : List UInt8 := dkwX4_far_0 ++ dktX4_far_1
theorem dksX4_far_0 : cX4_far.data.toList.drop 0 = dktX4_far_0 := by decide +kernel
theorem dksX4_far_1 : cX4_far.data.toList.drop 23 = dktX4_far_1 := dk_seg dksX4_far_0 23 rfl rfl
theorem dX4_far_0 : decode cX4_far 0 = .ok (.iload_n 1, 1) := dk_27 (dk_at dksX4_far_0 0 rfl rfl)
theorem dX4_far_1 : decode cX4_far 1 = .ok (.invokestatic 83, 3) := dk_184 0 83 (dk_at dksX4_far_0 1 rfl rfl)
theorem dX4_far_4 : decode cX4_far 4 = .ok (.istore_n 3, 1) := dk_62 (dk_at dksX4_far_0 4 rfl rfl)
theorem dX4_far_5 : decode cX4_far 5 = .ok (.iload_n 1, 1) := dk_27 (dk_at dksX4_far_0 5 rfl rfl)
theorem dX4_far_6 : decode cX4_far 6 = .ok (.invokestatic 79, 3) := dk_184 0 79 (dk_at dksX4_far_0 6 rfl rfl)
theorem dX4_far_9 : decode cX4_far 9 = .ok (.istore 4, 2) := dk_54 4 (dk_at dksX4_far_0 9 rfl rfl)
theorem dX4_far_11 : decode cX4_far 11 = .ok (.iload_n 2, 1) := dk_28 (dk_at dksX4_far_0 11 rfl rfl)
theorem dX4_far_12 : decode cX4_far 12 = .ok (.ifCond .ne 20, 3) := dk_154 0 20 (dk_at dksX4_far_0 12 rfl rfl)
theorem dX4_far_15 : decode cX4_far 15 = .ok (.aload_n 0, 1) := dk_42 (dk_at dksX4_far_0 15 rfl rfl)
theorem dX4_far_16 : decode cX4_far 16 = .ok (.getfield 7, 3) := dk_180 0 7 (dk_at dksX4_far_0 16 rfl rfl)
theorem dX4_far_19 : decode cX4_far 19 = .ok (.iload 4, 2) := dk_21 4 (dk_at dksX4_far_0 19 rfl rfl)
theorem dX4_far_21 : decode cX4_far 21 = .ok (.iaload, 1) := dk_46 (dk_at dksX4_far_0 21 rfl rfl)
theorem dX4_far_22 : decode cX4_far 22 = .ok (.aload_n 0, 1) := dk_42 (dk_at dksX4_far_0 22 rfl rfl)
theorem dX4_far_23 : decode cX4_far 23 = .ok (.getfield 7, 3) := dk_180 0 7 (dk_at dksX4_far_1 0 rfl rfl)
theorem dX4_far_26 : decode cX4_far 26 = .ok (.iload_n 3, 1) := dk_29 (dk_at dksX4_far_1 3 rfl rfl)
theorem dX4_far_27 : decode cX4_far 27 = .ok (.iaload, 1) := dk_46 (dk_at dksX4_far_1 4 rfl rfl)
theorem dX4_far_28 : decode cX4_far 28 = .ok (.isub, 1) := dk_100 (dk_at dksX4_far_1 5 rfl rfl)
theorem dX4_far_29 : decode cX4_far 29 = .ok (.goto 17, 3) := dk_167 0 17 (dk_at dksX4_far_1 6 rfl rfl)
theorem dX4_far_32 : decode cX4_far 32 = .ok (.aload_n 0, 1) := dk_42 (dk_at dksX4_far_1 9 rfl rfl)
theorem dX4_far_33 : decode cX4_far 33 = .ok (.getfield 13, 3) := dk_180 0 13 (dk_at dksX4_far_1 10 rfl rfl)
theorem dX4_far_36 : decode cX4_far 36 = .ok (.iload 4, 2) := dk_21 4 (dk_at dksX4_far_1 13 rfl rfl)
theorem dX4_far_38 : decode cX4_far 38 = .ok (.iaload, 1) := dk_46 (dk_at dksX4_far_1 15 rfl rfl)
theorem dX4_far_39 : decode cX4_far 39 = .ok (.aload_n 0, 1) := dk_42 (dk_at dksX4_far_1 16 rfl rfl)
theorem dX4_far_40 : decode cX4_far 40 = .ok (.getfield 13, 3) := dk_180 0 13 (dk_at dksX4_far_1 17 rfl rfl)
theorem dX4_far_43 : decode cX4_far 43 = .ok (.iload_n 3, 1) := dk_29 (dk_at dksX4_far_1 20 rfl rfl)
theorem dX4_far_44 : decode cX4_far 44 = .ok (.iaload, 1) := dk_46 (dk_at dksX4_far_1 21 rfl rfl)
theorem dX4_far_45 : decode cX4_far 45 = .ok (.isub, 1) := dk_100 (dk_at dksX4_far_1 22 rfl rfl)
theorem dX4_far_46 : decode cX4_far 46 = .ok (.ireturn, 1) := dk_172 (dk_at dksX4_far_1 23 rfl rfl)
abbrev cX4_least : ByteArray := prog_9_method_38_code
def yX4_least : MethodName := ⟨RX4, "least", "(I)J"⟩
def dkwX4_least_1 : List UInt8 := [184, 0, 160, 173]
abbrev dktX4_least_1 : List UInt8 := dkwX4_least_1 ++ []
def dkwX4_least_0 : List UInt8 := [27, 3, 4, 184, 0, 64, 153, 0, 15, 42, 42, 180, 0, 76, 27, 182, 0, 164, 167, 0, 8, 16, 254]
abbrev dktX4_least_0 : List UInt8 := dkwX4_least_0 ++ dktX4_least_1
theorem dksX4_least_0 : cX4_least.data.toList.drop 0 = dktX4_least_0 := by decide +kernel
theorem dksX4_least_1 : cX4_least.data.toList.drop 23 = dktX4_least_1 := dk_seg dksX4_least_0 23 rfl rfl
theorem dX4_least_0 : decode cX4_least 0 = .ok (.iload_n 1, 1) := dk_27 (dk_at dksX4_least_0 0 rfl rfl)
theorem dX4_least_1 : decode cX4_least 1 = .ok (.iconst 0, 1) := dk_3 (dk_at dksX4_least_0 1 rfl rfl)
theorem dX4_least_2 : decode cX4_least 2 = .ok (.iconst 1, 1) := dk_4 (dk_at dksX4_least_0 2 rfl rfl)
theorem dX4_least_3 : decode cX4_least 3 = .ok (.invokestatic 64, 3) := dk_184 0 64 (dk_at dksX4_least_0 3 rfl rfl)
theorem dX4_least_6 : decode cX4_least 6 = .ok (.ifCond .eq 15, 3) := dk_153 0 15 (dk_at dksX4_least_0 6 rfl rfl)
theorem dX4_least_9 : decode cX4_least 9 = .ok (.aload_n 0, 1) := dk_42 (dk_at dksX4_least_0 9 rfl rfl)
theorem dX4_least_10 : decode cX4_least 10 = .ok (.aload_n 0, 1) := dk_42 (dk_at dksX4_least_0 10 rfl rfl)
theorem dX4_least_11 : decode cX4_least 11 = .ok (.getfield 76, 3) := dk_180 0 76 (dk_at dksX4_least_0 11 rfl rfl)
theorem dX4_least_14 : decode cX4_least 14 = .ok (.iload_n 1, 1) := dk_27 (dk_at dksX4_least_0 14 rfl rfl)
theorem dX4_least_15 : decode cX4_least 15 = .ok (.invokevirtual 164, 3) := dk_182 0 164 (dk_at dksX4_least_0 15 rfl rfl)
theorem dX4_least_18 : decode cX4_least 18 = .ok (.goto 8, 3) := dk_167 0 8 (dk_at dksX4_least_0 18 rfl rfl)
theorem dX4_least_21 : decode cX4_least 21 = .ok (.bipush (-2), 2) := dk_16 254 (dk_at dksX4_least_0 21 rfl rfl)
theorem dX4_least_23 : decode cX4_least 23 = .ok (.invokestatic 160, 3) := dk_184 0 160 (dk_at dksX4_least_1 0 rfl rfl)
theorem dX4_least_26 : decode cX4_least 26 = .ok (.lreturn, 1) := dk_173 (dk_at dksX4_least_1 3 rfl rfl)
abbrev cX4_volumeOf : ByteArray := prog_9_method_37_code
def yX4_volumeOf : MethodName := ⟨RX4, "volumeOf", "(II)J"⟩
def dkwX4_volumeOf_1 : List UInt8 := [180, 0, 36, 29, 47, 167, 0, 9, 42, 180, 0, 39, 29, 47, 173]
abbrev dktX4_volumeOf_1 : List UInt8 := dkwX4_volumeOf_1 ++ []
def dkwX4_volumeOf_0 : List UInt8 := [42, 27, 182, 0, 157, 62, 29, 2, 160, 0, 11, 16, 253, 184, 0, 160, 167, 0, 22, 28, 154, 0, 12, 42]
abbrev dktX4_volumeOf_0 : List UInt8 := dkwX4_volumeOf_0 ++ dktX4_volumeOf_1
theorem dksX4_volumeOf_0 : cX4_volumeOf.data.toList.drop 0 = dktX4_volumeOf_0 := by decide +kernel
theorem dksX4_volumeOf_1 : cX4_volumeOf.data.toList.drop 24 = dktX4_volumeOf_1 := dk_seg dksX4_volumeOf_0 24 rfl rfl
theorem dX4_volumeOf_0 : decode cX4_volumeOf 0 = .ok (.aload_n 0, 1) := dk_42 (dk_at dksX4_volumeOf_0 0 rfl rfl)
theorem dX4_volumeOf_1 : decode cX4_volumeOf 1 = .ok (.iload_n 1, 1) := dk_27 (dk_at dksX4_volumeOf_0 1 rfl rfl)
theorem dX4_volumeOf_2 : decode cX4_volumeOf 2 = .ok (.invokevirtual 157, 3) := dk_182 0 157 (dk_at dksX4_volumeOf_0 2 rfl rfl)
theorem dX4_volumeOf_5 : decode cX4_volumeOf 5 = .ok (.istore_n 3, 1) := dk_62 (dk_at dksX4_volumeOf_0 5 rfl rfl)
theorem dX4_volumeOf_6 : decode cX4_volumeOf 6 = .ok (.iload_n 3, 1) := dk_29 (dk_at dksX4_volumeOf_0 6 rfl rfl)
theorem dX4_volumeOf_7 : decode cX4_volumeOf 7 = .ok (.iconst (-1), 1) := dk_2 (dk_at dksX4_volumeOf_0 7 rfl rfl)
theorem dX4_volumeOf_8 : decode cX4_volumeOf 8 = .ok (.if_icmp .ne 11, 3) := dk_160 0 11 (dk_at dksX4_volumeOf_0 8 rfl rfl)
theorem dX4_volumeOf_11 : decode cX4_volumeOf 11 = .ok (.bipush (-3), 2) := dk_16 253 (dk_at dksX4_volumeOf_0 11 rfl rfl)
theorem dX4_volumeOf_13 : decode cX4_volumeOf 13 = .ok (.invokestatic 160, 3) := dk_184 0 160 (dk_at dksX4_volumeOf_0 13 rfl rfl)
theorem dX4_volumeOf_16 : decode cX4_volumeOf 16 = .ok (.goto 22, 3) := dk_167 0 22 (dk_at dksX4_volumeOf_0 16 rfl rfl)
theorem dX4_volumeOf_19 : decode cX4_volumeOf 19 = .ok (.iload_n 2, 1) := dk_28 (dk_at dksX4_volumeOf_0 19 rfl rfl)
theorem dX4_volumeOf_20 : decode cX4_volumeOf 20 = .ok (.ifCond .ne 12, 3) := dk_154 0 12 (dk_at dksX4_volumeOf_0 20 rfl rfl)
theorem dX4_volumeOf_23 : decode cX4_volumeOf 23 = .ok (.aload_n 0, 1) := dk_42 (dk_at dksX4_volumeOf_0 23 rfl rfl)
theorem dX4_volumeOf_24 : decode cX4_volumeOf 24 = .ok (.getfield 36, 3) := dk_180 0 36 (dk_at dksX4_volumeOf_1 0 rfl rfl)
theorem dX4_volumeOf_27 : decode cX4_volumeOf 27 = .ok (.iload_n 3, 1) := dk_29 (dk_at dksX4_volumeOf_1 3 rfl rfl)
theorem dX4_volumeOf_28 : decode cX4_volumeOf 28 = .ok (.laload, 1) := dk_47 (dk_at dksX4_volumeOf_1 4 rfl rfl)
theorem dX4_volumeOf_29 : decode cX4_volumeOf 29 = .ok (.goto 9, 3) := dk_167 0 9 (dk_at dksX4_volumeOf_1 5 rfl rfl)
theorem dX4_volumeOf_32 : decode cX4_volumeOf 32 = .ok (.aload_n 0, 1) := dk_42 (dk_at dksX4_volumeOf_1 8 rfl rfl)
theorem dX4_volumeOf_33 : decode cX4_volumeOf 33 = .ok (.getfield 39, 3) := dk_180 0 39 (dk_at dksX4_volumeOf_1 9 rfl rfl)
theorem dX4_volumeOf_36 : decode cX4_volumeOf 36 = .ok (.iload_n 3, 1) := dk_29 (dk_at dksX4_volumeOf_1 12 rfl rfl)
theorem dX4_volumeOf_37 : decode cX4_volumeOf 37 = .ok (.laload, 1) := dk_47 (dk_at dksX4_volumeOf_1 13 rfl rfl)
theorem dX4_volumeOf_38 : decode cX4_volumeOf 38 = .ok (.lreturn, 1) := dk_173 (dk_at dksX4_volumeOf_1 14 rfl rfl)
abbrev cX4_bestOf : ByteArray := prog_9_method_36_code
def yX4_bestOf : MethodName := ⟨RX4, "bestOf", "(I)I"⟩
def dkwX4_bestOf_3 : List UInt8 := [167, 255, 194, 28, 172]
abbrev dktX4_bestOf_3 : List UInt8 := dkwX4_bestOf_3 ++ []
def dkwX4_bestOf_2 : List UInt8 := [28, 2, 159, 0, 12, 42, 29, 28, 182, 0, 154, 153, 0, 7, 29, 167, 0, 4, 28, 61, 132, 3, 1]
abbrev dktX4_bestOf_2 : List UInt8 := dkwX4_bestOf_2 ++ dktX4_bestOf_3
def dkwX4_bestOf_1 : List UInt8 := [154, 0, 16, 42, 180, 0, 32, 29, 51, 153, 0, 7, 4, 167, 0, 4, 3, 54, 4, 21, 4, 153, 0, 21]
abbrev dktX4_bestOf_1 : List UInt8 := dkwX4_bestOf_1 ++ dktX4_bestOf_2
def dkwX4_bestOf_0 : List UInt8 := [42, 182, 0, 151, 2, 61, 3, 62, 29, 4, 42, 182, 0, 68, 120, 162, 0, 58, 29, 27, 2, 130, 126]
abbrev dktX4_bestOf_0 : List UInt8 := dkwX4_bestOf_0 ++ dktX4_bestOf_1
theorem dksX4_bestOf_0 : cX4_bestOf.data.toList.drop 0 = dktX4_bestOf_0 := by decide +kernel
theorem dksX4_bestOf_1 : cX4_bestOf.data.toList.drop 23 = dktX4_bestOf_1 := dk_seg dksX4_bestOf_0 23 rfl rfl
theorem dksX4_bestOf_2 : cX4_bestOf.data.toList.drop 47 = dktX4_bestOf_2 := dk_seg dksX4_bestOf_1 24 rfl rfl
theorem dksX4_bestOf_3 : cX4_bestOf.data.toList.drop 70 = dktX4_bestOf_3 := dk_seg dksX4_bestOf_2 23 rfl rfl
theorem dX4_bestOf_0 : decode cX4_bestOf 0 = .ok (.aload_n 0, 1) := dk_42 (dk_at dksX4_bestOf_0 0 rfl rfl)
theorem dX4_bestOf_1 : decode cX4_bestOf 1 = .ok (.invokevirtual 151, 3) := dk_182 0 151 (dk_at dksX4_bestOf_0 1 rfl rfl)
theorem dX4_bestOf_4 : decode cX4_bestOf 4 = .ok (.iconst (-1), 1) := dk_2 (dk_at dksX4_bestOf_0 4 rfl rfl)
theorem dX4_bestOf_5 : decode cX4_bestOf 5 = .ok (.istore_n 2, 1) := dk_61 (dk_at dksX4_bestOf_0 5 rfl rfl)
theorem dX4_bestOf_6 : decode cX4_bestOf 6 = .ok (.iconst 0, 1) := dk_3 (dk_at dksX4_bestOf_0 6 rfl rfl)
theorem dX4_bestOf_7 : decode cX4_bestOf 7 = .ok (.istore_n 3, 1) := dk_62 (dk_at dksX4_bestOf_0 7 rfl rfl)
theorem dX4_bestOf_8 : decode cX4_bestOf 8 = .ok (.iload_n 3, 1) := dk_29 (dk_at dksX4_bestOf_0 8 rfl rfl)
theorem dX4_bestOf_9 : decode cX4_bestOf 9 = .ok (.iconst 1, 1) := dk_4 (dk_at dksX4_bestOf_0 9 rfl rfl)
theorem dX4_bestOf_10 : decode cX4_bestOf 10 = .ok (.aload_n 0, 1) := dk_42 (dk_at dksX4_bestOf_0 10 rfl rfl)
theorem dX4_bestOf_11 : decode cX4_bestOf 11 = .ok (.invokevirtual 68, 3) := dk_182 0 68 (dk_at dksX4_bestOf_0 11 rfl rfl)
theorem dX4_bestOf_14 : decode cX4_bestOf 14 = .ok (.ishl, 1) := dk_120 (dk_at dksX4_bestOf_0 14 rfl rfl)
theorem dX4_bestOf_15 : decode cX4_bestOf 15 = .ok (.if_icmp .ge 58, 3) := dk_162 0 58 (dk_at dksX4_bestOf_0 15 rfl rfl)
theorem dX4_bestOf_18 : decode cX4_bestOf 18 = .ok (.iload_n 3, 1) := dk_29 (dk_at dksX4_bestOf_0 18 rfl rfl)
theorem dX4_bestOf_19 : decode cX4_bestOf 19 = .ok (.iload_n 1, 1) := dk_27 (dk_at dksX4_bestOf_0 19 rfl rfl)
theorem dX4_bestOf_20 : decode cX4_bestOf 20 = .ok (.iconst (-1), 1) := dk_2 (dk_at dksX4_bestOf_0 20 rfl rfl)
theorem dX4_bestOf_21 : decode cX4_bestOf 21 = .ok (.ixor, 1) := dk_130 (dk_at dksX4_bestOf_0 21 rfl rfl)
theorem dX4_bestOf_22 : decode cX4_bestOf 22 = .ok (.iand, 1) := dk_126 (dk_at dksX4_bestOf_0 22 rfl rfl)
theorem dX4_bestOf_23 : decode cX4_bestOf 23 = .ok (.ifCond .ne 16, 3) := dk_154 0 16 (dk_at dksX4_bestOf_1 0 rfl rfl)
theorem dX4_bestOf_26 : decode cX4_bestOf 26 = .ok (.aload_n 0, 1) := dk_42 (dk_at dksX4_bestOf_1 3 rfl rfl)
theorem dX4_bestOf_27 : decode cX4_bestOf 27 = .ok (.getfield 32, 3) := dk_180 0 32 (dk_at dksX4_bestOf_1 4 rfl rfl)
theorem dX4_bestOf_30 : decode cX4_bestOf 30 = .ok (.iload_n 3, 1) := dk_29 (dk_at dksX4_bestOf_1 7 rfl rfl)
theorem dX4_bestOf_31 : decode cX4_bestOf 31 = .ok (.baload, 1) := dk_51 (dk_at dksX4_bestOf_1 8 rfl rfl)
theorem dX4_bestOf_32 : decode cX4_bestOf 32 = .ok (.ifCond .eq 7, 3) := dk_153 0 7 (dk_at dksX4_bestOf_1 9 rfl rfl)
theorem dX4_bestOf_35 : decode cX4_bestOf 35 = .ok (.iconst 1, 1) := dk_4 (dk_at dksX4_bestOf_1 12 rfl rfl)
theorem dX4_bestOf_36 : decode cX4_bestOf 36 = .ok (.goto 4, 3) := dk_167 0 4 (dk_at dksX4_bestOf_1 13 rfl rfl)
theorem dX4_bestOf_39 : decode cX4_bestOf 39 = .ok (.iconst 0, 1) := dk_3 (dk_at dksX4_bestOf_1 16 rfl rfl)
theorem dX4_bestOf_40 : decode cX4_bestOf 40 = .ok (.istore 4, 2) := dk_54 4 (dk_at dksX4_bestOf_1 17 rfl rfl)
theorem dX4_bestOf_42 : decode cX4_bestOf 42 = .ok (.iload 4, 2) := dk_21 4 (dk_at dksX4_bestOf_1 19 rfl rfl)
theorem dX4_bestOf_44 : decode cX4_bestOf 44 = .ok (.ifCond .eq 21, 3) := dk_153 0 21 (dk_at dksX4_bestOf_1 21 rfl rfl)
theorem dX4_bestOf_47 : decode cX4_bestOf 47 = .ok (.iload_n 2, 1) := dk_28 (dk_at dksX4_bestOf_2 0 rfl rfl)
theorem dX4_bestOf_48 : decode cX4_bestOf 48 = .ok (.iconst (-1), 1) := dk_2 (dk_at dksX4_bestOf_2 1 rfl rfl)
theorem dX4_bestOf_49 : decode cX4_bestOf 49 = .ok (.if_icmp .eq 12, 3) := dk_159 0 12 (dk_at dksX4_bestOf_2 2 rfl rfl)
theorem dX4_bestOf_52 : decode cX4_bestOf 52 = .ok (.aload_n 0, 1) := dk_42 (dk_at dksX4_bestOf_2 5 rfl rfl)
theorem dX4_bestOf_53 : decode cX4_bestOf 53 = .ok (.iload_n 3, 1) := dk_29 (dk_at dksX4_bestOf_2 6 rfl rfl)
theorem dX4_bestOf_54 : decode cX4_bestOf 54 = .ok (.iload_n 2, 1) := dk_28 (dk_at dksX4_bestOf_2 7 rfl rfl)
theorem dX4_bestOf_55 : decode cX4_bestOf 55 = .ok (.invokevirtual 154, 3) := dk_182 0 154 (dk_at dksX4_bestOf_2 8 rfl rfl)
theorem dX4_bestOf_58 : decode cX4_bestOf 58 = .ok (.ifCond .eq 7, 3) := dk_153 0 7 (dk_at dksX4_bestOf_2 11 rfl rfl)
theorem dX4_bestOf_61 : decode cX4_bestOf 61 = .ok (.iload_n 3, 1) := dk_29 (dk_at dksX4_bestOf_2 14 rfl rfl)
theorem dX4_bestOf_62 : decode cX4_bestOf 62 = .ok (.goto 4, 3) := dk_167 0 4 (dk_at dksX4_bestOf_2 15 rfl rfl)
theorem dX4_bestOf_65 : decode cX4_bestOf 65 = .ok (.iload_n 2, 1) := dk_28 (dk_at dksX4_bestOf_2 18 rfl rfl)
theorem dX4_bestOf_66 : decode cX4_bestOf 66 = .ok (.istore_n 2, 1) := dk_61 (dk_at dksX4_bestOf_2 19 rfl rfl)
theorem dX4_bestOf_67 : decode cX4_bestOf 67 = .ok (.iinc 3 1, 3) := dk_132 3 1 (dk_at dksX4_bestOf_2 20 rfl rfl)
theorem dX4_bestOf_70 : decode cX4_bestOf 70 = .ok (.goto (-62), 3) := dk_167 255 194 (dk_at dksX4_bestOf_3 0 rfl rfl)
theorem dX4_bestOf_73 : decode cX4_bestOf 73 = .ok (.iload_n 2, 1) := dk_28 (dk_at dksX4_bestOf_3 3 rfl rfl)
theorem dX4_bestOf_74 : decode cX4_bestOf 74 = .ok (.ireturn, 1) := dk_172 (dk_at dksX4_bestOf_3 4 rfl rfl)
abbrev cX4_finds : ByteArray := prog_9_method_34_code
def yX4_finds : MethodName := ⟨RX4, "finds", "()V"⟩
def dkwX4_finds_3 : List UInt8 := [181, 0, 90, 177]
abbrev dktX4_finds_3 : List UInt8 := dkwX4_finds_3 ++ []
def dkwX4_finds_2 : List UInt8 := [3, 84, 42, 180, 0, 32, 27, 51, 153, 0, 8, 42, 27, 182, 0, 148, 132, 1, 1, 167, 255, 191, 42, 4]
abbrev dktX4_finds_2 : List UInt8 := dkwX4_finds_2 ++ dktX4_finds_3
def dkwX4_finds_1 : List UInt8 := [42, 27, 182, 0, 142, 2, 160, 0, 18, 42, 180, 0, 121, 27, 184, 0, 145, 160, 0, 7, 4, 167, 0, 4]
abbrev dktX4_finds_1 : List UInt8 := dkwX4_finds_1 ++ dktX4_finds_2
def dkwX4_finds_0 : List UInt8 := [3, 60, 27, 4, 42, 182, 0, 68, 120, 162, 0, 61, 42, 180, 0, 90, 154, 0, 54, 42, 180, 0, 32, 27]
abbrev dktX4_finds_0 : List UInt8 := dkwX4_finds_0 ++ dktX4_finds_1
theorem dksX4_finds_0 : cX4_finds.data.toList.drop 0 = dktX4_finds_0 := by decide +kernel
theorem dksX4_finds_1 : cX4_finds.data.toList.drop 24 = dktX4_finds_1 := dk_seg dksX4_finds_0 24 rfl rfl
theorem dksX4_finds_2 : cX4_finds.data.toList.drop 48 = dktX4_finds_2 := dk_seg dksX4_finds_1 24 rfl rfl
theorem dksX4_finds_3 : cX4_finds.data.toList.drop 72 = dktX4_finds_3 := dk_seg dksX4_finds_2 24 rfl rfl
theorem dX4_finds_0 : decode cX4_finds 0 = .ok (.iconst 0, 1) := dk_3 (dk_at dksX4_finds_0 0 rfl rfl)
theorem dX4_finds_1 : decode cX4_finds 1 = .ok (.istore_n 1, 1) := dk_60 (dk_at dksX4_finds_0 1 rfl rfl)
theorem dX4_finds_2 : decode cX4_finds 2 = .ok (.iload_n 1, 1) := dk_27 (dk_at dksX4_finds_0 2 rfl rfl)
theorem dX4_finds_3 : decode cX4_finds 3 = .ok (.iconst 1, 1) := dk_4 (dk_at dksX4_finds_0 3 rfl rfl)
theorem dX4_finds_4 : decode cX4_finds 4 = .ok (.aload_n 0, 1) := dk_42 (dk_at dksX4_finds_0 4 rfl rfl)
theorem dX4_finds_5 : decode cX4_finds 5 = .ok (.invokevirtual 68, 3) := dk_182 0 68 (dk_at dksX4_finds_0 5 rfl rfl)
theorem dX4_finds_8 : decode cX4_finds 8 = .ok (.ishl, 1) := dk_120 (dk_at dksX4_finds_0 8 rfl rfl)
theorem dX4_finds_9 : decode cX4_finds 9 = .ok (.if_icmp .ge 61, 3) := dk_162 0 61 (dk_at dksX4_finds_0 9 rfl rfl)
theorem dX4_finds_12 : decode cX4_finds 12 = .ok (.aload_n 0, 1) := dk_42 (dk_at dksX4_finds_0 12 rfl rfl)
theorem dX4_finds_13 : decode cX4_finds 13 = .ok (.getfield 90, 3) := dk_180 0 90 (dk_at dksX4_finds_0 13 rfl rfl)
theorem dX4_finds_16 : decode cX4_finds 16 = .ok (.ifCond .ne 54, 3) := dk_154 0 54 (dk_at dksX4_finds_0 16 rfl rfl)
theorem dX4_finds_19 : decode cX4_finds 19 = .ok (.aload_n 0, 1) := dk_42 (dk_at dksX4_finds_0 19 rfl rfl)
theorem dX4_finds_20 : decode cX4_finds 20 = .ok (.getfield 32, 3) := dk_180 0 32 (dk_at dksX4_finds_0 20 rfl rfl)
theorem dX4_finds_23 : decode cX4_finds 23 = .ok (.iload_n 1, 1) := dk_27 (dk_at dksX4_finds_0 23 rfl rfl)
theorem dX4_finds_24 : decode cX4_finds 24 = .ok (.aload_n 0, 1) := dk_42 (dk_at dksX4_finds_1 0 rfl rfl)
theorem dX4_finds_25 : decode cX4_finds 25 = .ok (.iload_n 1, 1) := dk_27 (dk_at dksX4_finds_1 1 rfl rfl)
theorem dX4_finds_26 : decode cX4_finds 26 = .ok (.invokevirtual 142, 3) := dk_182 0 142 (dk_at dksX4_finds_1 2 rfl rfl)
theorem dX4_finds_29 : decode cX4_finds 29 = .ok (.iconst (-1), 1) := dk_2 (dk_at dksX4_finds_1 5 rfl rfl)
theorem dX4_finds_30 : decode cX4_finds 30 = .ok (.if_icmp .ne 18, 3) := dk_160 0 18 (dk_at dksX4_finds_1 6 rfl rfl)
theorem dX4_finds_33 : decode cX4_finds 33 = .ok (.aload_n 0, 1) := dk_42 (dk_at dksX4_finds_1 9 rfl rfl)
theorem dX4_finds_34 : decode cX4_finds 34 = .ok (.getfield 121, 3) := dk_180 0 121 (dk_at dksX4_finds_1 10 rfl rfl)
theorem dX4_finds_37 : decode cX4_finds 37 = .ok (.iload_n 1, 1) := dk_27 (dk_at dksX4_finds_1 13 rfl rfl)
theorem dX4_finds_38 : decode cX4_finds 38 = .ok (.invokestatic 145, 3) := dk_184 0 145 (dk_at dksX4_finds_1 14 rfl rfl)
theorem dX4_finds_41 : decode cX4_finds 41 = .ok (.if_icmp .ne 7, 3) := dk_160 0 7 (dk_at dksX4_finds_1 17 rfl rfl)
theorem dX4_finds_44 : decode cX4_finds 44 = .ok (.iconst 1, 1) := dk_4 (dk_at dksX4_finds_1 20 rfl rfl)
theorem dX4_finds_45 : decode cX4_finds 45 = .ok (.goto 4, 3) := dk_167 0 4 (dk_at dksX4_finds_1 21 rfl rfl)
theorem dX4_finds_48 : decode cX4_finds 48 = .ok (.iconst 0, 1) := dk_3 (dk_at dksX4_finds_2 0 rfl rfl)
theorem dX4_finds_49 : decode cX4_finds 49 = .ok (.bastore, 1) := dk_84 (dk_at dksX4_finds_2 1 rfl rfl)
theorem dX4_finds_50 : decode cX4_finds 50 = .ok (.aload_n 0, 1) := dk_42 (dk_at dksX4_finds_2 2 rfl rfl)
theorem dX4_finds_51 : decode cX4_finds 51 = .ok (.getfield 32, 3) := dk_180 0 32 (dk_at dksX4_finds_2 3 rfl rfl)
theorem dX4_finds_54 : decode cX4_finds 54 = .ok (.iload_n 1, 1) := dk_27 (dk_at dksX4_finds_2 6 rfl rfl)
theorem dX4_finds_55 : decode cX4_finds 55 = .ok (.baload, 1) := dk_51 (dk_at dksX4_finds_2 7 rfl rfl)
theorem dX4_finds_56 : decode cX4_finds 56 = .ok (.ifCond .eq 8, 3) := dk_153 0 8 (dk_at dksX4_finds_2 8 rfl rfl)
theorem dX4_finds_59 : decode cX4_finds 59 = .ok (.aload_n 0, 1) := dk_42 (dk_at dksX4_finds_2 11 rfl rfl)
theorem dX4_finds_60 : decode cX4_finds 60 = .ok (.iload_n 1, 1) := dk_27 (dk_at dksX4_finds_2 12 rfl rfl)
theorem dX4_finds_61 : decode cX4_finds 61 = .ok (.invokevirtual 148, 3) := dk_182 0 148 (dk_at dksX4_finds_2 13 rfl rfl)
theorem dX4_finds_64 : decode cX4_finds 64 = .ok (.iinc 1 1, 3) := dk_132 1 1 (dk_at dksX4_finds_2 16 rfl rfl)
theorem dX4_finds_67 : decode cX4_finds 67 = .ok (.goto (-65), 3) := dk_167 255 191 (dk_at dksX4_finds_2 19 rfl rfl)
theorem dX4_finds_70 : decode cX4_finds 70 = .ok (.aload_n 0, 1) := dk_42 (dk_at dksX4_finds_2 22 rfl rfl)
theorem dX4_finds_71 : decode cX4_finds 71 = .ok (.iconst 1, 1) := dk_4 (dk_at dksX4_finds_2 23 rfl rfl)
theorem dX4_finds_72 : decode cX4_finds 72 = .ok (.putfield 90, 3) := dk_181 0 90 (dk_at dksX4_finds_3 0 rfl rfl)
theorem dX4_finds_75 : decode cX4_finds 75 = .ok (.return_, 1) := dk_177 (dk_at dksX4_finds_3 3 rfl rfl)
abbrev cX4_faultOf : ByteArray := prog_9_method_31_code
def yX4_faultOf : MethodName := ⟨RX4, "faultOf", "(I)I"⟩
def dkwX4_faultOf_1 : List UInt8 := [182, 0, 134, 154, 0, 5, 28, 172, 132, 2, 1, 167, 255, 228, 2, 172]
abbrev dktX4_faultOf_1 : List UInt8 := dkwX4_faultOf_1 ++ []
def dkwX4_faultOf_0 : List UInt8 := [42, 3, 181, 0, 121, 3, 61, 28, 16, 10, 162, 0, 28, 42, 28, 182, 0, 131, 153, 0, 14, 42, 27, 28]
abbrev dktX4_faultOf_0 : List UInt8 := dkwX4_faultOf_0 ++ dktX4_faultOf_1
theorem dksX4_faultOf_0 : cX4_faultOf.data.toList.drop 0 = dktX4_faultOf_0 := by decide +kernel
theorem dksX4_faultOf_1 : cX4_faultOf.data.toList.drop 24 = dktX4_faultOf_1 := dk_seg dksX4_faultOf_0 24 rfl rfl
theorem dX4_faultOf_0 : decode cX4_faultOf 0 = .ok (.aload_n 0, 1) := dk_42 (dk_at dksX4_faultOf_0 0 rfl rfl)
theorem dX4_faultOf_1 : decode cX4_faultOf 1 = .ok (.iconst 0, 1) := dk_3 (dk_at dksX4_faultOf_0 1 rfl rfl)
theorem dX4_faultOf_2 : decode cX4_faultOf 2 = .ok (.putfield 121, 3) := dk_181 0 121 (dk_at dksX4_faultOf_0 2 rfl rfl)
theorem dX4_faultOf_5 : decode cX4_faultOf 5 = .ok (.iconst 0, 1) := dk_3 (dk_at dksX4_faultOf_0 5 rfl rfl)
theorem dX4_faultOf_6 : decode cX4_faultOf 6 = .ok (.istore_n 2, 1) := dk_61 (dk_at dksX4_faultOf_0 6 rfl rfl)
theorem dX4_faultOf_7 : decode cX4_faultOf 7 = .ok (.iload_n 2, 1) := dk_28 (dk_at dksX4_faultOf_0 7 rfl rfl)
theorem dX4_faultOf_8 : decode cX4_faultOf 8 = .ok (.bipush 10, 2) := dk_16 10 (dk_at dksX4_faultOf_0 8 rfl rfl)
theorem dX4_faultOf_10 : decode cX4_faultOf 10 = .ok (.if_icmp .ge 28, 3) := dk_162 0 28 (dk_at dksX4_faultOf_0 10 rfl rfl)
theorem dX4_faultOf_13 : decode cX4_faultOf 13 = .ok (.aload_n 0, 1) := dk_42 (dk_at dksX4_faultOf_0 13 rfl rfl)
theorem dX4_faultOf_14 : decode cX4_faultOf 14 = .ok (.iload_n 2, 1) := dk_28 (dk_at dksX4_faultOf_0 14 rfl rfl)
theorem dX4_faultOf_15 : decode cX4_faultOf 15 = .ok (.invokevirtual 131, 3) := dk_182 0 131 (dk_at dksX4_faultOf_0 15 rfl rfl)
theorem dX4_faultOf_18 : decode cX4_faultOf 18 = .ok (.ifCond .eq 14, 3) := dk_153 0 14 (dk_at dksX4_faultOf_0 18 rfl rfl)
theorem dX4_faultOf_21 : decode cX4_faultOf 21 = .ok (.aload_n 0, 1) := dk_42 (dk_at dksX4_faultOf_0 21 rfl rfl)
theorem dX4_faultOf_22 : decode cX4_faultOf 22 = .ok (.iload_n 1, 1) := dk_27 (dk_at dksX4_faultOf_0 22 rfl rfl)
theorem dX4_faultOf_23 : decode cX4_faultOf 23 = .ok (.iload_n 2, 1) := dk_28 (dk_at dksX4_faultOf_0 23 rfl rfl)
theorem dX4_faultOf_24 : decode cX4_faultOf 24 = .ok (.invokevirtual 134, 3) := dk_182 0 134 (dk_at dksX4_faultOf_1 0 rfl rfl)
theorem dX4_faultOf_27 : decode cX4_faultOf 27 = .ok (.ifCond .ne 5, 3) := dk_154 0 5 (dk_at dksX4_faultOf_1 3 rfl rfl)
theorem dX4_faultOf_30 : decode cX4_faultOf 30 = .ok (.iload_n 2, 1) := dk_28 (dk_at dksX4_faultOf_1 6 rfl rfl)
theorem dX4_faultOf_31 : decode cX4_faultOf 31 = .ok (.ireturn, 1) := dk_172 (dk_at dksX4_faultOf_1 7 rfl rfl)
theorem dX4_faultOf_32 : decode cX4_faultOf 32 = .ok (.iinc 2 1, 3) := dk_132 2 1 (dk_at dksX4_faultOf_1 8 rfl rfl)
theorem dX4_faultOf_35 : decode cX4_faultOf 35 = .ok (.goto (-28), 3) := dk_167 255 228 (dk_at dksX4_faultOf_1 11 rfl rfl)
theorem dX4_faultOf_38 : decode cX4_faultOf 38 = .ok (.iconst (-1), 1) := dk_2 (dk_at dksX4_faultOf_1 14 rfl rfl)
theorem dX4_faultOf_39 : decode cX4_faultOf 39 = .ok (.ireturn, 1) := dk_172 (dk_at dksX4_faultOf_1 15 rfl rfl)
abbrev cX4_isWay : ByteArray := prog_9_method_26_code
def yX4_isWay : MethodName := ⟨RX4, "isWay", "(I)Z"⟩
def dkwX4_isWay_1 : List UInt8 := [154, 0, 7, 4, 167, 0, 4, 3, 172]
abbrev dktX4_isWay_1 : List UInt8 := dkwX4_isWay_1 ++ []
def dkwX4_isWay_0 : List UInt8 := [27, 5, 108, 42, 180, 0, 60, 162, 0, 24, 42, 180, 0, 16, 27, 5, 108, 46, 27, 5, 112, 122, 4, 126]
abbrev dktX4_isWay_0 : List UInt8 := dkwX4_isWay_0 ++ dktX4_isWay_1
theorem dksX4_isWay_0 : cX4_isWay.data.toList.drop 0 = dktX4_isWay_0 := by decide +kernel
theorem dksX4_isWay_1 : cX4_isWay.data.toList.drop 24 = dktX4_isWay_1 := dk_seg dksX4_isWay_0 24 rfl rfl
theorem dX4_isWay_0 : decode cX4_isWay 0 = .ok (.iload_n 1, 1) := dk_27 (dk_at dksX4_isWay_0 0 rfl rfl)
theorem dX4_isWay_1 : decode cX4_isWay 1 = .ok (.iconst 2, 1) := dk_5 (dk_at dksX4_isWay_0 1 rfl rfl)
theorem dX4_isWay_2 : decode cX4_isWay 2 = .ok (.idiv, 1) := dk_108 (dk_at dksX4_isWay_0 2 rfl rfl)
theorem dX4_isWay_3 : decode cX4_isWay 3 = .ok (.aload_n 0, 1) := dk_42 (dk_at dksX4_isWay_0 3 rfl rfl)
theorem dX4_isWay_4 : decode cX4_isWay 4 = .ok (.getfield 60, 3) := dk_180 0 60 (dk_at dksX4_isWay_0 4 rfl rfl)
theorem dX4_isWay_7 : decode cX4_isWay 7 = .ok (.if_icmp .ge 24, 3) := dk_162 0 24 (dk_at dksX4_isWay_0 7 rfl rfl)
theorem dX4_isWay_10 : decode cX4_isWay 10 = .ok (.aload_n 0, 1) := dk_42 (dk_at dksX4_isWay_0 10 rfl rfl)
theorem dX4_isWay_11 : decode cX4_isWay 11 = .ok (.getfield 16, 3) := dk_180 0 16 (dk_at dksX4_isWay_0 11 rfl rfl)
theorem dX4_isWay_14 : decode cX4_isWay 14 = .ok (.iload_n 1, 1) := dk_27 (dk_at dksX4_isWay_0 14 rfl rfl)
theorem dX4_isWay_15 : decode cX4_isWay 15 = .ok (.iconst 2, 1) := dk_5 (dk_at dksX4_isWay_0 15 rfl rfl)
theorem dX4_isWay_16 : decode cX4_isWay 16 = .ok (.idiv, 1) := dk_108 (dk_at dksX4_isWay_0 16 rfl rfl)
theorem dX4_isWay_17 : decode cX4_isWay 17 = .ok (.iaload, 1) := dk_46 (dk_at dksX4_isWay_0 17 rfl rfl)
theorem dX4_isWay_18 : decode cX4_isWay 18 = .ok (.iload_n 1, 1) := dk_27 (dk_at dksX4_isWay_0 18 rfl rfl)
theorem dX4_isWay_19 : decode cX4_isWay 19 = .ok (.iconst 2, 1) := dk_5 (dk_at dksX4_isWay_0 19 rfl rfl)
theorem dX4_isWay_20 : decode cX4_isWay 20 = .ok (.irem, 1) := dk_112 (dk_at dksX4_isWay_0 20 rfl rfl)
theorem dX4_isWay_21 : decode cX4_isWay 21 = .ok (.ishr, 1) := dk_122 (dk_at dksX4_isWay_0 21 rfl rfl)
theorem dX4_isWay_22 : decode cX4_isWay 22 = .ok (.iconst 1, 1) := dk_4 (dk_at dksX4_isWay_0 22 rfl rfl)
theorem dX4_isWay_23 : decode cX4_isWay 23 = .ok (.iand, 1) := dk_126 (dk_at dksX4_isWay_0 23 rfl rfl)
theorem dX4_isWay_24 : decode cX4_isWay 24 = .ok (.ifCond .ne 7, 3) := dk_154 0 7 (dk_at dksX4_isWay_1 0 rfl rfl)
theorem dX4_isWay_27 : decode cX4_isWay 27 = .ok (.iconst 1, 1) := dk_4 (dk_at dksX4_isWay_1 3 rfl rfl)
theorem dX4_isWay_28 : decode cX4_isWay 28 = .ok (.goto 4, 3) := dk_167 0 4 (dk_at dksX4_isWay_1 4 rfl rfl)
theorem dX4_isWay_31 : decode cX4_isWay 31 = .ok (.iconst 0, 1) := dk_3 (dk_at dksX4_isWay_1 7 rfl rfl)
theorem dX4_isWay_32 : decode cX4_isWay 32 = .ok (.ireturn, 1) := dk_172 (dk_at dksX4_isWay_1 8 rfl rfl)
abbrev cX4_adds : ByteArray := prog_9_method_30_code
def yX4_adds : MethodName := ⟨RX4, "adds", "(II)Z"⟩
def dkwX4_adds_9 : List UInt8 := [180, 0, 29, 42, 180, 0, 121, 21, 4, 79, 42, 89, 180, 0, 121, 4, 96, 181, 0, 121, 4, 172]
abbrev dktX4_adds_9 : List UInt8 := dkwX4_adds_9 ++ []
def dkwX4_adds_8 : List UInt8 := [162, 0, 21, 42, 16, 11, 21, 5, 104, 29, 21, 4, 182, 0, 127, 132, 5, 1, 167, 255, 232, 42]
abbrev dktX4_adds_8 : List UInt8 := dkwX4_adds_8 ++ dktX4_adds_9
def dkwX4_adds_7 : List UInt8 := [154, 0, 7, 4, 167, 0, 4, 3, 172, 42, 29, 182, 0, 117, 3, 54, 5, 21, 5, 42, 180, 0, 121]
abbrev dktX4_adds_7 : List UInt8 := dkwX4_adds_7 ++ dktX4_adds_8
def dkwX4_adds_6 : List UInt8 := [132, 5, 255, 167, 255, 225, 21, 4, 2, 160, 0, 23, 42, 180, 0, 25, 29, 16, 10, 96, 47, 9, 148]
abbrev dktX4_adds_6 : List UInt8 := dkwX4_adds_6 ++ dktX4_adds_7
def dkwX4_adds_5 : List UInt8 := [42, 180, 0, 25, 29, 21, 5, 96, 47, 9, 148, 153, 0, 8, 21, 5, 167, 0, 5, 21, 4, 54, 4]
abbrev dktX4_adds_5 : List UInt8 := dkwX4_adds_5 ++ dktX4_adds_6
def dkwX4_adds_4 : List UInt8 := [21, 4, 46, 182, 0, 127, 132, 4, 1, 167, 255, 227, 2, 54, 4, 16, 9, 54, 5, 21, 5, 155, 0, 32]
abbrev dktX4_adds_4 : List UInt8 := dkwX4_adds_4 ++ dktX4_adds_5
def dkwX4_adds_3 : List UInt8 := [80, 3, 54, 4, 21, 4, 42, 180, 0, 121, 162, 0, 26, 42, 29, 16, 11, 21, 4, 104, 42, 180, 0, 29]
abbrev dktX4_adds_3 : List UInt8 := dkwX4_adds_3 ++ dktX4_adds_4
def dkwX4_adds_2 : List UInt8 := [9, 80, 132, 4, 1, 167, 255, 215, 42, 180, 0, 25, 29, 16, 10, 96, 42, 180, 0, 19, 28, 46, 116, 133]
abbrev dktX4_adds_2 : List UInt8 := dkwX4_adds_2 ++ dktX4_adds_3
def dkwX4_adds_1 : List UInt8 := [21, 4, 96, 27, 21, 4, 122, 4, 126, 4, 160, 0, 14, 42, 21, 4, 28, 182, 0, 124, 133, 167, 0, 4]
abbrev dktX4_adds_1 : List UInt8 := dkwX4_adds_1 ++ dktX4_adds_2
def dkwX4_adds_0 : List UInt8 := [16, 11, 42, 180, 0, 121, 104, 62, 3, 54, 4, 21, 4, 16, 10, 162, 0, 40, 42, 180, 0, 25, 29]
abbrev dktX4_adds_0 : List UInt8 := dkwX4_adds_0 ++ dktX4_adds_1
theorem dksX4_adds_0 : cX4_adds.data.toList.drop 0 = dktX4_adds_0 := by decide +kernel
theorem dksX4_adds_1 : cX4_adds.data.toList.drop 23 = dktX4_adds_1 := dk_seg dksX4_adds_0 23 rfl rfl
theorem dksX4_adds_2 : cX4_adds.data.toList.drop 47 = dktX4_adds_2 := dk_seg dksX4_adds_1 24 rfl rfl
theorem dksX4_adds_3 : cX4_adds.data.toList.drop 71 = dktX4_adds_3 := dk_seg dksX4_adds_2 24 rfl rfl
theorem dksX4_adds_4 : cX4_adds.data.toList.drop 95 = dktX4_adds_4 := dk_seg dksX4_adds_3 24 rfl rfl
theorem dksX4_adds_5 : cX4_adds.data.toList.drop 119 = dktX4_adds_5 := dk_seg dksX4_adds_4 24 rfl rfl
theorem dksX4_adds_6 : cX4_adds.data.toList.drop 142 = dktX4_adds_6 := dk_seg dksX4_adds_5 23 rfl rfl
theorem dksX4_adds_7 : cX4_adds.data.toList.drop 165 = dktX4_adds_7 := dk_seg dksX4_adds_6 23 rfl rfl
theorem dksX4_adds_8 : cX4_adds.data.toList.drop 188 = dktX4_adds_8 := dk_seg dksX4_adds_7 23 rfl rfl
theorem dksX4_adds_9 : cX4_adds.data.toList.drop 210 = dktX4_adds_9 := dk_seg dksX4_adds_8 22 rfl rfl
theorem dX4_adds_0 : decode cX4_adds 0 = .ok (.bipush 11, 2) := dk_16 11 (dk_at dksX4_adds_0 0 rfl rfl)
theorem dX4_adds_2 : decode cX4_adds 2 = .ok (.aload_n 0, 1) := dk_42 (dk_at dksX4_adds_0 2 rfl rfl)
theorem dX4_adds_3 : decode cX4_adds 3 = .ok (.getfield 121, 3) := dk_180 0 121 (dk_at dksX4_adds_0 3 rfl rfl)
theorem dX4_adds_6 : decode cX4_adds 6 = .ok (.imul, 1) := dk_104 (dk_at dksX4_adds_0 6 rfl rfl)
theorem dX4_adds_7 : decode cX4_adds 7 = .ok (.istore_n 3, 1) := dk_62 (dk_at dksX4_adds_0 7 rfl rfl)
theorem dX4_adds_8 : decode cX4_adds 8 = .ok (.iconst 0, 1) := dk_3 (dk_at dksX4_adds_0 8 rfl rfl)
theorem dX4_adds_9 : decode cX4_adds 9 = .ok (.istore 4, 2) := dk_54 4 (dk_at dksX4_adds_0 9 rfl rfl)
theorem dX4_adds_11 : decode cX4_adds 11 = .ok (.iload 4, 2) := dk_21 4 (dk_at dksX4_adds_0 11 rfl rfl)
theorem dX4_adds_13 : decode cX4_adds 13 = .ok (.bipush 10, 2) := dk_16 10 (dk_at dksX4_adds_0 13 rfl rfl)
theorem dX4_adds_15 : decode cX4_adds 15 = .ok (.if_icmp .ge 40, 3) := dk_162 0 40 (dk_at dksX4_adds_0 15 rfl rfl)
theorem dX4_adds_18 : decode cX4_adds 18 = .ok (.aload_n 0, 1) := dk_42 (dk_at dksX4_adds_0 18 rfl rfl)
theorem dX4_adds_19 : decode cX4_adds 19 = .ok (.getfield 25, 3) := dk_180 0 25 (dk_at dksX4_adds_0 19 rfl rfl)
theorem dX4_adds_22 : decode cX4_adds 22 = .ok (.iload_n 3, 1) := dk_29 (dk_at dksX4_adds_0 22 rfl rfl)
theorem dX4_adds_23 : decode cX4_adds 23 = .ok (.iload 4, 2) := dk_21 4 (dk_at dksX4_adds_1 0 rfl rfl)
theorem dX4_adds_25 : decode cX4_adds 25 = .ok (.iadd, 1) := dk_96 (dk_at dksX4_adds_1 2 rfl rfl)
theorem dX4_adds_26 : decode cX4_adds 26 = .ok (.iload_n 1, 1) := dk_27 (dk_at dksX4_adds_1 3 rfl rfl)
theorem dX4_adds_27 : decode cX4_adds 27 = .ok (.iload 4, 2) := dk_21 4 (dk_at dksX4_adds_1 4 rfl rfl)
theorem dX4_adds_29 : decode cX4_adds 29 = .ok (.ishr, 1) := dk_122 (dk_at dksX4_adds_1 6 rfl rfl)
theorem dX4_adds_30 : decode cX4_adds 30 = .ok (.iconst 1, 1) := dk_4 (dk_at dksX4_adds_1 7 rfl rfl)
theorem dX4_adds_31 : decode cX4_adds 31 = .ok (.iand, 1) := dk_126 (dk_at dksX4_adds_1 8 rfl rfl)
theorem dX4_adds_32 : decode cX4_adds 32 = .ok (.iconst 1, 1) := dk_4 (dk_at dksX4_adds_1 9 rfl rfl)
theorem dX4_adds_33 : decode cX4_adds 33 = .ok (.if_icmp .ne 14, 3) := dk_160 0 14 (dk_at dksX4_adds_1 10 rfl rfl)
theorem dX4_adds_36 : decode cX4_adds 36 = .ok (.aload_n 0, 1) := dk_42 (dk_at dksX4_adds_1 13 rfl rfl)
theorem dX4_adds_37 : decode cX4_adds 37 = .ok (.iload 4, 2) := dk_21 4 (dk_at dksX4_adds_1 14 rfl rfl)
theorem dX4_adds_39 : decode cX4_adds 39 = .ok (.iload_n 2, 1) := dk_28 (dk_at dksX4_adds_1 16 rfl rfl)
theorem dX4_adds_40 : decode cX4_adds 40 = .ok (.invokevirtual 124, 3) := dk_182 0 124 (dk_at dksX4_adds_1 17 rfl rfl)
theorem dX4_adds_43 : decode cX4_adds 43 = .ok (.i2l, 1) := dk_133 (dk_at dksX4_adds_1 20 rfl rfl)
theorem dX4_adds_44 : decode cX4_adds 44 = .ok (.goto 4, 3) := dk_167 0 4 (dk_at dksX4_adds_1 21 rfl rfl)
theorem dX4_adds_47 : decode cX4_adds 47 = .ok (.lconst 0, 1) := dk_9 (dk_at dksX4_adds_2 0 rfl rfl)
theorem dX4_adds_48 : decode cX4_adds 48 = .ok (.lastore, 1) := dk_80 (dk_at dksX4_adds_2 1 rfl rfl)
theorem dX4_adds_49 : decode cX4_adds 49 = .ok (.iinc 4 1, 3) := dk_132 4 1 (dk_at dksX4_adds_2 2 rfl rfl)
theorem dX4_adds_52 : decode cX4_adds 52 = .ok (.goto (-41), 3) := dk_167 255 215 (dk_at dksX4_adds_2 5 rfl rfl)
theorem dX4_adds_55 : decode cX4_adds 55 = .ok (.aload_n 0, 1) := dk_42 (dk_at dksX4_adds_2 8 rfl rfl)
theorem dX4_adds_56 : decode cX4_adds 56 = .ok (.getfield 25, 3) := dk_180 0 25 (dk_at dksX4_adds_2 9 rfl rfl)
theorem dX4_adds_59 : decode cX4_adds 59 = .ok (.iload_n 3, 1) := dk_29 (dk_at dksX4_adds_2 12 rfl rfl)
theorem dX4_adds_60 : decode cX4_adds 60 = .ok (.bipush 10, 2) := dk_16 10 (dk_at dksX4_adds_2 13 rfl rfl)
theorem dX4_adds_62 : decode cX4_adds 62 = .ok (.iadd, 1) := dk_96 (dk_at dksX4_adds_2 15 rfl rfl)
theorem dX4_adds_63 : decode cX4_adds 63 = .ok (.aload_n 0, 1) := dk_42 (dk_at dksX4_adds_2 16 rfl rfl)
theorem dX4_adds_64 : decode cX4_adds 64 = .ok (.getfield 19, 3) := dk_180 0 19 (dk_at dksX4_adds_2 17 rfl rfl)
theorem dX4_adds_67 : decode cX4_adds 67 = .ok (.iload_n 2, 1) := dk_28 (dk_at dksX4_adds_2 20 rfl rfl)
theorem dX4_adds_68 : decode cX4_adds 68 = .ok (.iaload, 1) := dk_46 (dk_at dksX4_adds_2 21 rfl rfl)
theorem dX4_adds_69 : decode cX4_adds 69 = .ok (.ineg, 1) := dk_116 (dk_at dksX4_adds_2 22 rfl rfl)
theorem dX4_adds_70 : decode cX4_adds 70 = .ok (.i2l, 1) := dk_133 (dk_at dksX4_adds_2 23 rfl rfl)
theorem dX4_adds_71 : decode cX4_adds 71 = .ok (.lastore, 1) := dk_80 (dk_at dksX4_adds_3 0 rfl rfl)
theorem dX4_adds_72 : decode cX4_adds 72 = .ok (.iconst 0, 1) := dk_3 (dk_at dksX4_adds_3 1 rfl rfl)
theorem dX4_adds_73 : decode cX4_adds 73 = .ok (.istore 4, 2) := dk_54 4 (dk_at dksX4_adds_3 2 rfl rfl)
theorem dX4_adds_75 : decode cX4_adds 75 = .ok (.iload 4, 2) := dk_21 4 (dk_at dksX4_adds_3 4 rfl rfl)
theorem dX4_adds_77 : decode cX4_adds 77 = .ok (.aload_n 0, 1) := dk_42 (dk_at dksX4_adds_3 6 rfl rfl)
theorem dX4_adds_78 : decode cX4_adds 78 = .ok (.getfield 121, 3) := dk_180 0 121 (dk_at dksX4_adds_3 7 rfl rfl)
theorem dX4_adds_81 : decode cX4_adds 81 = .ok (.if_icmp .ge 26, 3) := dk_162 0 26 (dk_at dksX4_adds_3 10 rfl rfl)
theorem dX4_adds_84 : decode cX4_adds 84 = .ok (.aload_n 0, 1) := dk_42 (dk_at dksX4_adds_3 13 rfl rfl)
theorem dX4_adds_85 : decode cX4_adds 85 = .ok (.iload_n 3, 1) := dk_29 (dk_at dksX4_adds_3 14 rfl rfl)
theorem dX4_adds_86 : decode cX4_adds 86 = .ok (.bipush 11, 2) := dk_16 11 (dk_at dksX4_adds_3 15 rfl rfl)
theorem dX4_adds_88 : decode cX4_adds 88 = .ok (.iload 4, 2) := dk_21 4 (dk_at dksX4_adds_3 17 rfl rfl)
theorem dX4_adds_90 : decode cX4_adds 90 = .ok (.imul, 1) := dk_104 (dk_at dksX4_adds_3 19 rfl rfl)
theorem dX4_adds_91 : decode cX4_adds 91 = .ok (.aload_n 0, 1) := dk_42 (dk_at dksX4_adds_3 20 rfl rfl)
theorem dX4_adds_92 : decode cX4_adds 92 = .ok (.getfield 29, 3) := dk_180 0 29 (dk_at dksX4_adds_3 21 rfl rfl)
theorem dX4_adds_95 : decode cX4_adds 95 = .ok (.iload 4, 2) := dk_21 4 (dk_at dksX4_adds_4 0 rfl rfl)
theorem dX4_adds_97 : decode cX4_adds 97 = .ok (.iaload, 1) := dk_46 (dk_at dksX4_adds_4 2 rfl rfl)
theorem dX4_adds_98 : decode cX4_adds 98 = .ok (.invokevirtual 127, 3) := dk_182 0 127 (dk_at dksX4_adds_4 3 rfl rfl)
theorem dX4_adds_101 : decode cX4_adds 101 = .ok (.iinc 4 1, 3) := dk_132 4 1 (dk_at dksX4_adds_4 6 rfl rfl)
theorem dX4_adds_104 : decode cX4_adds 104 = .ok (.goto (-29), 3) := dk_167 255 227 (dk_at dksX4_adds_4 9 rfl rfl)
theorem dX4_adds_107 : decode cX4_adds 107 = .ok (.iconst (-1), 1) := dk_2 (dk_at dksX4_adds_4 12 rfl rfl)
theorem dX4_adds_108 : decode cX4_adds 108 = .ok (.istore 4, 2) := dk_54 4 (dk_at dksX4_adds_4 13 rfl rfl)
theorem dX4_adds_110 : decode cX4_adds 110 = .ok (.bipush 9, 2) := dk_16 9 (dk_at dksX4_adds_4 15 rfl rfl)
theorem dX4_adds_112 : decode cX4_adds 112 = .ok (.istore 5, 2) := dk_54 5 (dk_at dksX4_adds_4 17 rfl rfl)
theorem dX4_adds_114 : decode cX4_adds 114 = .ok (.iload 5, 2) := dk_21 5 (dk_at dksX4_adds_4 19 rfl rfl)
theorem dX4_adds_116 : decode cX4_adds 116 = .ok (.ifCond .lt 32, 3) := dk_155 0 32 (dk_at dksX4_adds_4 21 rfl rfl)
theorem dX4_adds_119 : decode cX4_adds 119 = .ok (.aload_n 0, 1) := dk_42 (dk_at dksX4_adds_5 0 rfl rfl)
theorem dX4_adds_120 : decode cX4_adds 120 = .ok (.getfield 25, 3) := dk_180 0 25 (dk_at dksX4_adds_5 1 rfl rfl)
theorem dX4_adds_123 : decode cX4_adds 123 = .ok (.iload_n 3, 1) := dk_29 (dk_at dksX4_adds_5 4 rfl rfl)
theorem dX4_adds_124 : decode cX4_adds 124 = .ok (.iload 5, 2) := dk_21 5 (dk_at dksX4_adds_5 5 rfl rfl)
theorem dX4_adds_126 : decode cX4_adds 126 = .ok (.iadd, 1) := dk_96 (dk_at dksX4_adds_5 7 rfl rfl)
theorem dX4_adds_127 : decode cX4_adds 127 = .ok (.laload, 1) := dk_47 (dk_at dksX4_adds_5 8 rfl rfl)
theorem dX4_adds_128 : decode cX4_adds 128 = .ok (.lconst 0, 1) := dk_9 (dk_at dksX4_adds_5 9 rfl rfl)
theorem dX4_adds_129 : decode cX4_adds 129 = .ok (.lcmp, 1) := dk_148 (dk_at dksX4_adds_5 10 rfl rfl)
theorem dX4_adds_130 : decode cX4_adds 130 = .ok (.ifCond .eq 8, 3) := dk_153 0 8 (dk_at dksX4_adds_5 11 rfl rfl)
theorem dX4_adds_133 : decode cX4_adds 133 = .ok (.iload 5, 2) := dk_21 5 (dk_at dksX4_adds_5 14 rfl rfl)
theorem dX4_adds_135 : decode cX4_adds 135 = .ok (.goto 5, 3) := dk_167 0 5 (dk_at dksX4_adds_5 16 rfl rfl)
theorem dX4_adds_138 : decode cX4_adds 138 = .ok (.iload 4, 2) := dk_21 4 (dk_at dksX4_adds_5 19 rfl rfl)
theorem dX4_adds_140 : decode cX4_adds 140 = .ok (.istore 4, 2) := dk_54 4 (dk_at dksX4_adds_5 21 rfl rfl)
theorem dX4_adds_142 : decode cX4_adds 142 = .ok (.iinc 5 (-1), 3) := dk_132 5 255 (dk_at dksX4_adds_6 0 rfl rfl)
theorem dX4_adds_145 : decode cX4_adds 145 = .ok (.goto (-31), 3) := dk_167 255 225 (dk_at dksX4_adds_6 3 rfl rfl)
theorem dX4_adds_148 : decode cX4_adds 148 = .ok (.iload 4, 2) := dk_21 4 (dk_at dksX4_adds_6 6 rfl rfl)
theorem dX4_adds_150 : decode cX4_adds 150 = .ok (.iconst (-1), 1) := dk_2 (dk_at dksX4_adds_6 8 rfl rfl)
theorem dX4_adds_151 : decode cX4_adds 151 = .ok (.if_icmp .ne 23, 3) := dk_160 0 23 (dk_at dksX4_adds_6 9 rfl rfl)
theorem dX4_adds_154 : decode cX4_adds 154 = .ok (.aload_n 0, 1) := dk_42 (dk_at dksX4_adds_6 12 rfl rfl)
theorem dX4_adds_155 : decode cX4_adds 155 = .ok (.getfield 25, 3) := dk_180 0 25 (dk_at dksX4_adds_6 13 rfl rfl)
theorem dX4_adds_158 : decode cX4_adds 158 = .ok (.iload_n 3, 1) := dk_29 (dk_at dksX4_adds_6 16 rfl rfl)
theorem dX4_adds_159 : decode cX4_adds 159 = .ok (.bipush 10, 2) := dk_16 10 (dk_at dksX4_adds_6 17 rfl rfl)
theorem dX4_adds_161 : decode cX4_adds 161 = .ok (.iadd, 1) := dk_96 (dk_at dksX4_adds_6 19 rfl rfl)
theorem dX4_adds_162 : decode cX4_adds 162 = .ok (.laload, 1) := dk_47 (dk_at dksX4_adds_6 20 rfl rfl)
theorem dX4_adds_163 : decode cX4_adds 163 = .ok (.lconst 0, 1) := dk_9 (dk_at dksX4_adds_6 21 rfl rfl)
theorem dX4_adds_164 : decode cX4_adds 164 = .ok (.lcmp, 1) := dk_148 (dk_at dksX4_adds_6 22 rfl rfl)
theorem dX4_adds_165 : decode cX4_adds 165 = .ok (.ifCond .ne 7, 3) := dk_154 0 7 (dk_at dksX4_adds_7 0 rfl rfl)
theorem dX4_adds_168 : decode cX4_adds 168 = .ok (.iconst 1, 1) := dk_4 (dk_at dksX4_adds_7 3 rfl rfl)
theorem dX4_adds_169 : decode cX4_adds 169 = .ok (.goto 4, 3) := dk_167 0 4 (dk_at dksX4_adds_7 4 rfl rfl)
theorem dX4_adds_172 : decode cX4_adds 172 = .ok (.iconst 0, 1) := dk_3 (dk_at dksX4_adds_7 7 rfl rfl)
theorem dX4_adds_173 : decode cX4_adds 173 = .ok (.ireturn, 1) := dk_172 (dk_at dksX4_adds_7 8 rfl rfl)
theorem dX4_adds_174 : decode cX4_adds 174 = .ok (.aload_n 0, 1) := dk_42 (dk_at dksX4_adds_7 9 rfl rfl)
theorem dX4_adds_175 : decode cX4_adds 175 = .ok (.iload_n 3, 1) := dk_29 (dk_at dksX4_adds_7 10 rfl rfl)
theorem dX4_adds_176 : decode cX4_adds 176 = .ok (.invokevirtual 117, 3) := dk_182 0 117 (dk_at dksX4_adds_7 11 rfl rfl)
theorem dX4_adds_179 : decode cX4_adds 179 = .ok (.iconst 0, 1) := dk_3 (dk_at dksX4_adds_7 14 rfl rfl)
theorem dX4_adds_180 : decode cX4_adds 180 = .ok (.istore 5, 2) := dk_54 5 (dk_at dksX4_adds_7 15 rfl rfl)
theorem dX4_adds_182 : decode cX4_adds 182 = .ok (.iload 5, 2) := dk_21 5 (dk_at dksX4_adds_7 17 rfl rfl)
theorem dX4_adds_184 : decode cX4_adds 184 = .ok (.aload_n 0, 1) := dk_42 (dk_at dksX4_adds_7 19 rfl rfl)
theorem dX4_adds_185 : decode cX4_adds 185 = .ok (.getfield 121, 3) := dk_180 0 121 (dk_at dksX4_adds_7 20 rfl rfl)
theorem dX4_adds_188 : decode cX4_adds 188 = .ok (.if_icmp .ge 21, 3) := dk_162 0 21 (dk_at dksX4_adds_8 0 rfl rfl)
theorem dX4_adds_191 : decode cX4_adds 191 = .ok (.aload_n 0, 1) := dk_42 (dk_at dksX4_adds_8 3 rfl rfl)
theorem dX4_adds_192 : decode cX4_adds 192 = .ok (.bipush 11, 2) := dk_16 11 (dk_at dksX4_adds_8 4 rfl rfl)
theorem dX4_adds_194 : decode cX4_adds 194 = .ok (.iload 5, 2) := dk_21 5 (dk_at dksX4_adds_8 6 rfl rfl)
theorem dX4_adds_196 : decode cX4_adds 196 = .ok (.imul, 1) := dk_104 (dk_at dksX4_adds_8 8 rfl rfl)
theorem dX4_adds_197 : decode cX4_adds 197 = .ok (.iload_n 3, 1) := dk_29 (dk_at dksX4_adds_8 9 rfl rfl)
theorem dX4_adds_198 : decode cX4_adds 198 = .ok (.iload 4, 2) := dk_21 4 (dk_at dksX4_adds_8 10 rfl rfl)
theorem dX4_adds_200 : decode cX4_adds 200 = .ok (.invokevirtual 127, 3) := dk_182 0 127 (dk_at dksX4_adds_8 12 rfl rfl)
theorem dX4_adds_203 : decode cX4_adds 203 = .ok (.iinc 5 1, 3) := dk_132 5 1 (dk_at dksX4_adds_8 15 rfl rfl)
theorem dX4_adds_206 : decode cX4_adds 206 = .ok (.goto (-24), 3) := dk_167 255 232 (dk_at dksX4_adds_8 18 rfl rfl)
theorem dX4_adds_209 : decode cX4_adds 209 = .ok (.aload_n 0, 1) := dk_42 (dk_at dksX4_adds_8 21 rfl rfl)
theorem dX4_adds_210 : decode cX4_adds 210 = .ok (.getfield 29, 3) := dk_180 0 29 (dk_at dksX4_adds_9 0 rfl rfl)
theorem dX4_adds_213 : decode cX4_adds 213 = .ok (.aload_n 0, 1) := dk_42 (dk_at dksX4_adds_9 3 rfl rfl)
theorem dX4_adds_214 : decode cX4_adds 214 = .ok (.getfield 121, 3) := dk_180 0 121 (dk_at dksX4_adds_9 4 rfl rfl)
theorem dX4_adds_217 : decode cX4_adds 217 = .ok (.iload 4, 2) := dk_21 4 (dk_at dksX4_adds_9 7 rfl rfl)
theorem dX4_adds_219 : decode cX4_adds 219 = .ok (.iastore, 1) := dk_79 (dk_at dksX4_adds_9 9 rfl rfl)
theorem dX4_adds_220 : decode cX4_adds 220 = .ok (.aload_n 0, 1) := dk_42 (dk_at dksX4_adds_9 10 rfl rfl)
theorem dX4_adds_221 : decode cX4_adds 221 = .ok (.dup, 1) := dk_89 (dk_at dksX4_adds_9 11 rfl rfl)
theorem dX4_adds_222 : decode cX4_adds 222 = .ok (.getfield 121, 3) := dk_180 0 121 (dk_at dksX4_adds_9 12 rfl rfl)
theorem dX4_adds_225 : decode cX4_adds 225 = .ok (.iconst 1, 1) := dk_4 (dk_at dksX4_adds_9 15 rfl rfl)
theorem dX4_adds_226 : decode cX4_adds 226 = .ok (.iadd, 1) := dk_96 (dk_at dksX4_adds_9 16 rfl rfl)
theorem dX4_adds_227 : decode cX4_adds 227 = .ok (.putfield 121, 3) := dk_181 0 121 (dk_at dksX4_adds_9 17 rfl rfl)
theorem dX4_adds_230 : decode cX4_adds 230 = .ok (.iconst 1, 1) := dk_4 (dk_at dksX4_adds_9 20 rfl rfl)
theorem dX4_adds_231 : decode cX4_adds 231 = .ok (.ireturn, 1) := dk_172 (dk_at dksX4_adds_9 21 rfl rfl)
abbrev cX4_brought : ByteArray := prog_9_method_27_code
def yX4_brought : MethodName := ⟨RX4, "brought", "(II)I"⟩
def dkwX4_brought_1 : List UInt8 := [27, 184, 0, 79, 160, 0, 15, 42, 27, 28, 5, 112, 182, 0, 86, 116, 167, 0, 4, 3, 172]
abbrev dktX4_brought_1 : List UInt8 := dkwX4_brought_1 ++ []
def dkwX4_brought_0 : List UInt8 := [28, 5, 108, 62, 29, 27, 184, 0, 83, 160, 0, 14, 42, 27, 28, 5, 112, 182, 0, 86, 167, 0, 24, 29]
abbrev dktX4_brought_0 : List UInt8 := dkwX4_brought_0 ++ dktX4_brought_1
theorem dksX4_brought_0 : cX4_brought.data.toList.drop 0 = dktX4_brought_0 := by decide +kernel
theorem dksX4_brought_1 : cX4_brought.data.toList.drop 24 = dktX4_brought_1 := dk_seg dksX4_brought_0 24 rfl rfl
theorem dX4_brought_0 : decode cX4_brought 0 = .ok (.iload_n 2, 1) := dk_28 (dk_at dksX4_brought_0 0 rfl rfl)
theorem dX4_brought_1 : decode cX4_brought 1 = .ok (.iconst 2, 1) := dk_5 (dk_at dksX4_brought_0 1 rfl rfl)
theorem dX4_brought_2 : decode cX4_brought 2 = .ok (.idiv, 1) := dk_108 (dk_at dksX4_brought_0 2 rfl rfl)
theorem dX4_brought_3 : decode cX4_brought 3 = .ok (.istore_n 3, 1) := dk_62 (dk_at dksX4_brought_0 3 rfl rfl)
theorem dX4_brought_4 : decode cX4_brought 4 = .ok (.iload_n 3, 1) := dk_29 (dk_at dksX4_brought_0 4 rfl rfl)
theorem dX4_brought_5 : decode cX4_brought 5 = .ok (.iload_n 1, 1) := dk_27 (dk_at dksX4_brought_0 5 rfl rfl)
theorem dX4_brought_6 : decode cX4_brought 6 = .ok (.invokestatic 83, 3) := dk_184 0 83 (dk_at dksX4_brought_0 6 rfl rfl)
theorem dX4_brought_9 : decode cX4_brought 9 = .ok (.if_icmp .ne 14, 3) := dk_160 0 14 (dk_at dksX4_brought_0 9 rfl rfl)
theorem dX4_brought_12 : decode cX4_brought 12 = .ok (.aload_n 0, 1) := dk_42 (dk_at dksX4_brought_0 12 rfl rfl)
theorem dX4_brought_13 : decode cX4_brought 13 = .ok (.iload_n 1, 1) := dk_27 (dk_at dksX4_brought_0 13 rfl rfl)
theorem dX4_brought_14 : decode cX4_brought 14 = .ok (.iload_n 2, 1) := dk_28 (dk_at dksX4_brought_0 14 rfl rfl)
theorem dX4_brought_15 : decode cX4_brought 15 = .ok (.iconst 2, 1) := dk_5 (dk_at dksX4_brought_0 15 rfl rfl)
theorem dX4_brought_16 : decode cX4_brought 16 = .ok (.irem, 1) := dk_112 (dk_at dksX4_brought_0 16 rfl rfl)
theorem dX4_brought_17 : decode cX4_brought 17 = .ok (.invokevirtual 86, 3) := dk_182 0 86 (dk_at dksX4_brought_0 17 rfl rfl)
theorem dX4_brought_20 : decode cX4_brought 20 = .ok (.goto 24, 3) := dk_167 0 24 (dk_at dksX4_brought_0 20 rfl rfl)
theorem dX4_brought_23 : decode cX4_brought 23 = .ok (.iload_n 3, 1) := dk_29 (dk_at dksX4_brought_0 23 rfl rfl)
theorem dX4_brought_24 : decode cX4_brought 24 = .ok (.iload_n 1, 1) := dk_27 (dk_at dksX4_brought_1 0 rfl rfl)
theorem dX4_brought_25 : decode cX4_brought 25 = .ok (.invokestatic 79, 3) := dk_184 0 79 (dk_at dksX4_brought_1 1 rfl rfl)
theorem dX4_brought_28 : decode cX4_brought 28 = .ok (.if_icmp .ne 15, 3) := dk_160 0 15 (dk_at dksX4_brought_1 4 rfl rfl)
theorem dX4_brought_31 : decode cX4_brought 31 = .ok (.aload_n 0, 1) := dk_42 (dk_at dksX4_brought_1 7 rfl rfl)
theorem dX4_brought_32 : decode cX4_brought 32 = .ok (.iload_n 1, 1) := dk_27 (dk_at dksX4_brought_1 8 rfl rfl)
theorem dX4_brought_33 : decode cX4_brought 33 = .ok (.iload_n 2, 1) := dk_28 (dk_at dksX4_brought_1 9 rfl rfl)
theorem dX4_brought_34 : decode cX4_brought 34 = .ok (.iconst 2, 1) := dk_5 (dk_at dksX4_brought_1 10 rfl rfl)
theorem dX4_brought_35 : decode cX4_brought 35 = .ok (.irem, 1) := dk_112 (dk_at dksX4_brought_1 11 rfl rfl)
theorem dX4_brought_36 : decode cX4_brought 36 = .ok (.invokevirtual 86, 3) := dk_182 0 86 (dk_at dksX4_brought_1 12 rfl rfl)
theorem dX4_brought_39 : decode cX4_brought 39 = .ok (.ineg, 1) := dk_116 (dk_at dksX4_brought_1 15 rfl rfl)
theorem dX4_brought_40 : decode cX4_brought 40 = .ok (.goto 4, 3) := dk_167 0 4 (dk_at dksX4_brought_1 16 rfl rfl)
theorem dX4_brought_43 : decode cX4_brought 43 = .ok (.iconst 0, 1) := dk_3 (dk_at dksX4_brought_1 19 rfl rfl)
theorem dX4_brought_44 : decode cX4_brought 44 = .ok (.ireturn, 1) := dk_172 (dk_at dksX4_brought_1 20 rfl rfl)
abbrev cX4_clears : ByteArray := prog_9_method_29_code
def yX4_clears : MethodName := ⟨RX4, "clears", "(III)V"⟩
def dkwX4_clears_3 : List UInt8 := [80, 132, 8, 1, 167, 255, 212, 42, 27, 182, 0, 117, 177]
abbrev dktX4_clears_3 : List UInt8 := dkwX4_clears_3 ++ []
def dkwX4_clears_2 : List UInt8 := [180, 0, 25, 27, 21, 8, 96, 47, 22, 6, 105, 42, 180, 0, 25, 28, 21, 8, 96, 47, 22, 4, 105, 101]
abbrev dktX4_clears_2 : List UInt8 := dkwX4_clears_2 ++ dktX4_clears_3
def dkwX4_clears_1 : List UInt8 := [153, 0, 58, 3, 54, 8, 21, 8, 16, 11, 162, 0, 43, 42, 180, 0, 25, 27, 21, 8, 96, 42]
abbrev dktX4_clears_1 : List UInt8 := dkwX4_clears_1 ++ dktX4_clears_2
def dkwX4_clears_0 : List UInt8 := [42, 180, 0, 25, 27, 29, 96, 47, 55, 4, 42, 180, 0, 25, 28, 29, 96, 47, 55, 6, 22, 4, 9, 148]
abbrev dktX4_clears_0 : List UInt8 := dkwX4_clears_0 ++ dktX4_clears_1
theorem dksX4_clears_0 : cX4_clears.data.toList.drop 0 = dktX4_clears_0 := by decide +kernel
theorem dksX4_clears_1 : cX4_clears.data.toList.drop 24 = dktX4_clears_1 := dk_seg dksX4_clears_0 24 rfl rfl
theorem dksX4_clears_2 : cX4_clears.data.toList.drop 46 = dktX4_clears_2 := dk_seg dksX4_clears_1 22 rfl rfl
theorem dksX4_clears_3 : cX4_clears.data.toList.drop 70 = dktX4_clears_3 := dk_seg dksX4_clears_2 24 rfl rfl
theorem dX4_clears_0 : decode cX4_clears 0 = .ok (.aload_n 0, 1) := dk_42 (dk_at dksX4_clears_0 0 rfl rfl)
theorem dX4_clears_1 : decode cX4_clears 1 = .ok (.getfield 25, 3) := dk_180 0 25 (dk_at dksX4_clears_0 1 rfl rfl)
theorem dX4_clears_4 : decode cX4_clears 4 = .ok (.iload_n 1, 1) := dk_27 (dk_at dksX4_clears_0 4 rfl rfl)
theorem dX4_clears_5 : decode cX4_clears 5 = .ok (.iload_n 3, 1) := dk_29 (dk_at dksX4_clears_0 5 rfl rfl)
theorem dX4_clears_6 : decode cX4_clears 6 = .ok (.iadd, 1) := dk_96 (dk_at dksX4_clears_0 6 rfl rfl)
theorem dX4_clears_7 : decode cX4_clears 7 = .ok (.laload, 1) := dk_47 (dk_at dksX4_clears_0 7 rfl rfl)
theorem dX4_clears_8 : decode cX4_clears 8 = .ok (.lstore 4, 2) := dk_55 4 (dk_at dksX4_clears_0 8 rfl rfl)
theorem dX4_clears_10 : decode cX4_clears 10 = .ok (.aload_n 0, 1) := dk_42 (dk_at dksX4_clears_0 10 rfl rfl)
theorem dX4_clears_11 : decode cX4_clears 11 = .ok (.getfield 25, 3) := dk_180 0 25 (dk_at dksX4_clears_0 11 rfl rfl)
theorem dX4_clears_14 : decode cX4_clears 14 = .ok (.iload_n 2, 1) := dk_28 (dk_at dksX4_clears_0 14 rfl rfl)
theorem dX4_clears_15 : decode cX4_clears 15 = .ok (.iload_n 3, 1) := dk_29 (dk_at dksX4_clears_0 15 rfl rfl)
theorem dX4_clears_16 : decode cX4_clears 16 = .ok (.iadd, 1) := dk_96 (dk_at dksX4_clears_0 16 rfl rfl)
theorem dX4_clears_17 : decode cX4_clears 17 = .ok (.laload, 1) := dk_47 (dk_at dksX4_clears_0 17 rfl rfl)
theorem dX4_clears_18 : decode cX4_clears 18 = .ok (.lstore 6, 2) := dk_55 6 (dk_at dksX4_clears_0 18 rfl rfl)
theorem dX4_clears_20 : decode cX4_clears 20 = .ok (.lload 4, 2) := dk_22 4 (dk_at dksX4_clears_0 20 rfl rfl)
theorem dX4_clears_22 : decode cX4_clears 22 = .ok (.lconst 0, 1) := dk_9 (dk_at dksX4_clears_0 22 rfl rfl)
theorem dX4_clears_23 : decode cX4_clears 23 = .ok (.lcmp, 1) := dk_148 (dk_at dksX4_clears_0 23 rfl rfl)
theorem dX4_clears_24 : decode cX4_clears 24 = .ok (.ifCond .eq 58, 3) := dk_153 0 58 (dk_at dksX4_clears_1 0 rfl rfl)
theorem dX4_clears_27 : decode cX4_clears 27 = .ok (.iconst 0, 1) := dk_3 (dk_at dksX4_clears_1 3 rfl rfl)
theorem dX4_clears_28 : decode cX4_clears 28 = .ok (.istore 8, 2) := dk_54 8 (dk_at dksX4_clears_1 4 rfl rfl)
theorem dX4_clears_30 : decode cX4_clears 30 = .ok (.iload 8, 2) := dk_21 8 (dk_at dksX4_clears_1 6 rfl rfl)
theorem dX4_clears_32 : decode cX4_clears 32 = .ok (.bipush 11, 2) := dk_16 11 (dk_at dksX4_clears_1 8 rfl rfl)
theorem dX4_clears_34 : decode cX4_clears 34 = .ok (.if_icmp .ge 43, 3) := dk_162 0 43 (dk_at dksX4_clears_1 10 rfl rfl)
theorem dX4_clears_37 : decode cX4_clears 37 = .ok (.aload_n 0, 1) := dk_42 (dk_at dksX4_clears_1 13 rfl rfl)
theorem dX4_clears_38 : decode cX4_clears 38 = .ok (.getfield 25, 3) := dk_180 0 25 (dk_at dksX4_clears_1 14 rfl rfl)
theorem dX4_clears_41 : decode cX4_clears 41 = .ok (.iload_n 1, 1) := dk_27 (dk_at dksX4_clears_1 17 rfl rfl)
theorem dX4_clears_42 : decode cX4_clears 42 = .ok (.iload 8, 2) := dk_21 8 (dk_at dksX4_clears_1 18 rfl rfl)
theorem dX4_clears_44 : decode cX4_clears 44 = .ok (.iadd, 1) := dk_96 (dk_at dksX4_clears_1 20 rfl rfl)
theorem dX4_clears_45 : decode cX4_clears 45 = .ok (.aload_n 0, 1) := dk_42 (dk_at dksX4_clears_1 21 rfl rfl)
theorem dX4_clears_46 : decode cX4_clears 46 = .ok (.getfield 25, 3) := dk_180 0 25 (dk_at dksX4_clears_2 0 rfl rfl)
theorem dX4_clears_49 : decode cX4_clears 49 = .ok (.iload_n 1, 1) := dk_27 (dk_at dksX4_clears_2 3 rfl rfl)
theorem dX4_clears_50 : decode cX4_clears 50 = .ok (.iload 8, 2) := dk_21 8 (dk_at dksX4_clears_2 4 rfl rfl)
theorem dX4_clears_52 : decode cX4_clears 52 = .ok (.iadd, 1) := dk_96 (dk_at dksX4_clears_2 6 rfl rfl)
theorem dX4_clears_53 : decode cX4_clears 53 = .ok (.laload, 1) := dk_47 (dk_at dksX4_clears_2 7 rfl rfl)
theorem dX4_clears_54 : decode cX4_clears 54 = .ok (.lload 6, 2) := dk_22 6 (dk_at dksX4_clears_2 8 rfl rfl)
theorem dX4_clears_56 : decode cX4_clears 56 = .ok (.lmul, 1) := dk_105 (dk_at dksX4_clears_2 10 rfl rfl)
theorem dX4_clears_57 : decode cX4_clears 57 = .ok (.aload_n 0, 1) := dk_42 (dk_at dksX4_clears_2 11 rfl rfl)
theorem dX4_clears_58 : decode cX4_clears 58 = .ok (.getfield 25, 3) := dk_180 0 25 (dk_at dksX4_clears_2 12 rfl rfl)
theorem dX4_clears_61 : decode cX4_clears 61 = .ok (.iload_n 2, 1) := dk_28 (dk_at dksX4_clears_2 15 rfl rfl)
theorem dX4_clears_62 : decode cX4_clears 62 = .ok (.iload 8, 2) := dk_21 8 (dk_at dksX4_clears_2 16 rfl rfl)
theorem dX4_clears_64 : decode cX4_clears 64 = .ok (.iadd, 1) := dk_96 (dk_at dksX4_clears_2 18 rfl rfl)
theorem dX4_clears_65 : decode cX4_clears 65 = .ok (.laload, 1) := dk_47 (dk_at dksX4_clears_2 19 rfl rfl)
theorem dX4_clears_66 : decode cX4_clears 66 = .ok (.lload 4, 2) := dk_22 4 (dk_at dksX4_clears_2 20 rfl rfl)
theorem dX4_clears_68 : decode cX4_clears 68 = .ok (.lmul, 1) := dk_105 (dk_at dksX4_clears_2 22 rfl rfl)
theorem dX4_clears_69 : decode cX4_clears 69 = .ok (.lsub, 1) := dk_101 (dk_at dksX4_clears_2 23 rfl rfl)
theorem dX4_clears_70 : decode cX4_clears 70 = .ok (.lastore, 1) := dk_80 (dk_at dksX4_clears_3 0 rfl rfl)
theorem dX4_clears_71 : decode cX4_clears 71 = .ok (.iinc 8 1, 3) := dk_132 8 1 (dk_at dksX4_clears_3 1 rfl rfl)
theorem dX4_clears_74 : decode cX4_clears 74 = .ok (.goto (-44), 3) := dk_167 255 212 (dk_at dksX4_clears_3 4 rfl rfl)
theorem dX4_clears_77 : decode cX4_clears 77 = .ok (.aload_n 0, 1) := dk_42 (dk_at dksX4_clears_3 7 rfl rfl)
theorem dX4_clears_78 : decode cX4_clears 78 = .ok (.iload_n 1, 1) := dk_27 (dk_at dksX4_clears_3 8 rfl rfl)
theorem dX4_clears_79 : decode cX4_clears 79 = .ok (.invokevirtual 117, 3) := dk_182 0 117 (dk_at dksX4_clears_3 9 rfl rfl)
theorem dX4_clears_82 : decode cX4_clears 82 = .ok (.return_, 1) := dk_177 (dk_at dksX4_clears_3 12 rfl rfl)
abbrev cX4_lowers : ByteArray := prog_9_method_28_code
def yX4_lowers : MethodName := ⟨RX4, "lowers", "(I)V"⟩
def dkwX4_lowers_2 : List UInt8 := [158, 0, 22, 42, 180, 0, 25, 27, 21, 4, 96, 92, 47, 32, 109, 80, 132, 4, 1, 167, 255, 227, 177]
abbrev dktX4_lowers_2 : List UInt8 := dkwX4_lowers_2 ++ []
def dkwX4_lowers_1 : List UInt8 := [184, 0, 56, 65, 132, 4, 1, 167, 255, 232, 3, 54, 4, 21, 4, 16, 11, 162, 0, 28, 32, 10, 148]
abbrev dktX4_lowers_1 : List UInt8 := dkwX4_lowers_1 ++ dktX4_lowers_2
def dkwX4_lowers_0 : List UInt8 := [9, 65, 3, 54, 4, 21, 4, 16, 11, 162, 0, 23, 32, 42, 180, 0, 25, 27, 21, 4, 96, 47]
abbrev dktX4_lowers_0 : List UInt8 := dkwX4_lowers_0 ++ dktX4_lowers_1
theorem dksX4_lowers_0 : cX4_lowers.data.toList.drop 0 = dktX4_lowers_0 := by decide +kernel
theorem dksX4_lowers_1 : cX4_lowers.data.toList.drop 22 = dktX4_lowers_1 := dk_seg dksX4_lowers_0 22 rfl rfl
theorem dksX4_lowers_2 : cX4_lowers.data.toList.drop 45 = dktX4_lowers_2 := dk_seg dksX4_lowers_1 23 rfl rfl
theorem dX4_lowers_0 : decode cX4_lowers 0 = .ok (.lconst 0, 1) := dk_9 (dk_at dksX4_lowers_0 0 rfl rfl)
theorem dX4_lowers_1 : decode cX4_lowers 1 = .ok (.lstore_n 2, 1) := dk_65 (dk_at dksX4_lowers_0 1 rfl rfl)
theorem dX4_lowers_2 : decode cX4_lowers 2 = .ok (.iconst 0, 1) := dk_3 (dk_at dksX4_lowers_0 2 rfl rfl)
theorem dX4_lowers_3 : decode cX4_lowers 3 = .ok (.istore 4, 2) := dk_54 4 (dk_at dksX4_lowers_0 3 rfl rfl)
theorem dX4_lowers_5 : decode cX4_lowers 5 = .ok (.iload 4, 2) := dk_21 4 (dk_at dksX4_lowers_0 5 rfl rfl)
theorem dX4_lowers_7 : decode cX4_lowers 7 = .ok (.bipush 11, 2) := dk_16 11 (dk_at dksX4_lowers_0 7 rfl rfl)
theorem dX4_lowers_9 : decode cX4_lowers 9 = .ok (.if_icmp .ge 23, 3) := dk_162 0 23 (dk_at dksX4_lowers_0 9 rfl rfl)
theorem dX4_lowers_12 : decode cX4_lowers 12 = .ok (.lload_n 2, 1) := dk_32 (dk_at dksX4_lowers_0 12 rfl rfl)
theorem dX4_lowers_13 : decode cX4_lowers 13 = .ok (.aload_n 0, 1) := dk_42 (dk_at dksX4_lowers_0 13 rfl rfl)
theorem dX4_lowers_14 : decode cX4_lowers 14 = .ok (.getfield 25, 3) := dk_180 0 25 (dk_at dksX4_lowers_0 14 rfl rfl)
theorem dX4_lowers_17 : decode cX4_lowers 17 = .ok (.iload_n 1, 1) := dk_27 (dk_at dksX4_lowers_0 17 rfl rfl)
theorem dX4_lowers_18 : decode cX4_lowers 18 = .ok (.iload 4, 2) := dk_21 4 (dk_at dksX4_lowers_0 18 rfl rfl)
theorem dX4_lowers_20 : decode cX4_lowers 20 = .ok (.iadd, 1) := dk_96 (dk_at dksX4_lowers_0 20 rfl rfl)
theorem dX4_lowers_21 : decode cX4_lowers 21 = .ok (.laload, 1) := dk_47 (dk_at dksX4_lowers_0 21 rfl rfl)
theorem dX4_lowers_22 : decode cX4_lowers 22 = .ok (.invokestatic 56, 3) := dk_184 0 56 (dk_at dksX4_lowers_1 0 rfl rfl)
theorem dX4_lowers_25 : decode cX4_lowers 25 = .ok (.lstore_n 2, 1) := dk_65 (dk_at dksX4_lowers_1 3 rfl rfl)
theorem dX4_lowers_26 : decode cX4_lowers 26 = .ok (.iinc 4 1, 3) := dk_132 4 1 (dk_at dksX4_lowers_1 4 rfl rfl)
theorem dX4_lowers_29 : decode cX4_lowers 29 = .ok (.goto (-24), 3) := dk_167 255 232 (dk_at dksX4_lowers_1 7 rfl rfl)
theorem dX4_lowers_32 : decode cX4_lowers 32 = .ok (.iconst 0, 1) := dk_3 (dk_at dksX4_lowers_1 10 rfl rfl)
theorem dX4_lowers_33 : decode cX4_lowers 33 = .ok (.istore 4, 2) := dk_54 4 (dk_at dksX4_lowers_1 11 rfl rfl)
theorem dX4_lowers_35 : decode cX4_lowers 35 = .ok (.iload 4, 2) := dk_21 4 (dk_at dksX4_lowers_1 13 rfl rfl)
theorem dX4_lowers_37 : decode cX4_lowers 37 = .ok (.bipush 11, 2) := dk_16 11 (dk_at dksX4_lowers_1 15 rfl rfl)
theorem dX4_lowers_39 : decode cX4_lowers 39 = .ok (.if_icmp .ge 28, 3) := dk_162 0 28 (dk_at dksX4_lowers_1 17 rfl rfl)
theorem dX4_lowers_42 : decode cX4_lowers 42 = .ok (.lload_n 2, 1) := dk_32 (dk_at dksX4_lowers_1 20 rfl rfl)
theorem dX4_lowers_43 : decode cX4_lowers 43 = .ok (.lconst 1, 1) := dk_10 (dk_at dksX4_lowers_1 21 rfl rfl)
theorem dX4_lowers_44 : decode cX4_lowers 44 = .ok (.lcmp, 1) := dk_148 (dk_at dksX4_lowers_1 22 rfl rfl)
theorem dX4_lowers_45 : decode cX4_lowers 45 = .ok (.ifCond .le 22, 3) := dk_158 0 22 (dk_at dksX4_lowers_2 0 rfl rfl)
theorem dX4_lowers_48 : decode cX4_lowers 48 = .ok (.aload_n 0, 1) := dk_42 (dk_at dksX4_lowers_2 3 rfl rfl)
theorem dX4_lowers_49 : decode cX4_lowers 49 = .ok (.getfield 25, 3) := dk_180 0 25 (dk_at dksX4_lowers_2 4 rfl rfl)
theorem dX4_lowers_52 : decode cX4_lowers 52 = .ok (.iload_n 1, 1) := dk_27 (dk_at dksX4_lowers_2 7 rfl rfl)
theorem dX4_lowers_53 : decode cX4_lowers 53 = .ok (.iload 4, 2) := dk_21 4 (dk_at dksX4_lowers_2 8 rfl rfl)
theorem dX4_lowers_55 : decode cX4_lowers 55 = .ok (.iadd, 1) := dk_96 (dk_at dksX4_lowers_2 10 rfl rfl)
theorem dX4_lowers_56 : decode cX4_lowers 56 = .ok (.dup2, 1) := dk_92 (dk_at dksX4_lowers_2 11 rfl rfl)
theorem dX4_lowers_57 : decode cX4_lowers 57 = .ok (.laload, 1) := dk_47 (dk_at dksX4_lowers_2 12 rfl rfl)
theorem dX4_lowers_58 : decode cX4_lowers 58 = .ok (.lload_n 2, 1) := dk_32 (dk_at dksX4_lowers_2 13 rfl rfl)
theorem dX4_lowers_59 : decode cX4_lowers 59 = .ok (.ldiv, 1) := dk_109 (dk_at dksX4_lowers_2 14 rfl rfl)
theorem dX4_lowers_60 : decode cX4_lowers 60 = .ok (.lastore, 1) := dk_80 (dk_at dksX4_lowers_2 15 rfl rfl)
theorem dX4_lowers_61 : decode cX4_lowers 61 = .ok (.iinc 4 1, 3) := dk_132 4 1 (dk_at dksX4_lowers_2 16 rfl rfl)
theorem dX4_lowers_64 : decode cX4_lowers 64 = .ok (.goto (-29), 3) := dk_167 255 227 (dk_at dksX4_lowers_2 19 rfl rfl)
theorem dX4_lowers_67 : decode cX4_lowers 67 = .ok (.return_, 1) := dk_177 (dk_at dksX4_lowers_2 22 rfl rfl)
abbrev cX4_divisor : ByteArray := prog_9_method_5_code
def yX4_divisor : MethodName := ⟨RX4, "divisor", "(JJ)J"⟩
def dkwX4_divisor_2 : List UInt8 := [22, 8, 55, 6, 167, 255, 234, 22, 4, 173]
abbrev dktX4_divisor_2 : List UInt8 := dkwX4_divisor_2 ++ []
def dkwX4_divisor_1 : List UInt8 := [167, 0, 4, 32, 55, 6, 22, 6, 9, 148, 153, 0, 21, 22, 4, 22, 6, 113, 55, 8, 22, 6, 55, 4]
abbrev dktX4_divisor_1 : List UInt8 := dkwX4_divisor_1 ++ dktX4_divisor_2
def dkwX4_divisor_0 : List UInt8 := [30, 9, 148, 156, 0, 8, 30, 117, 167, 0, 4, 30, 55, 4, 32, 9, 148, 156, 0, 8, 32, 117]
abbrev dktX4_divisor_0 : List UInt8 := dkwX4_divisor_0 ++ dktX4_divisor_1
theorem dksX4_divisor_0 : cX4_divisor.data.toList.drop 0 = dktX4_divisor_0 := by decide +kernel
theorem dksX4_divisor_1 : cX4_divisor.data.toList.drop 22 = dktX4_divisor_1 := dk_seg dksX4_divisor_0 22 rfl rfl
theorem dksX4_divisor_2 : cX4_divisor.data.toList.drop 46 = dktX4_divisor_2 := dk_seg dksX4_divisor_1 24 rfl rfl
theorem dX4_divisor_0 : decode cX4_divisor 0 = .ok (.lload_n 0, 1) := dk_30 (dk_at dksX4_divisor_0 0 rfl rfl)
theorem dX4_divisor_1 : decode cX4_divisor 1 = .ok (.lconst 0, 1) := dk_9 (dk_at dksX4_divisor_0 1 rfl rfl)
theorem dX4_divisor_2 : decode cX4_divisor 2 = .ok (.lcmp, 1) := dk_148 (dk_at dksX4_divisor_0 2 rfl rfl)
theorem dX4_divisor_3 : decode cX4_divisor 3 = .ok (.ifCond .ge 8, 3) := dk_156 0 8 (dk_at dksX4_divisor_0 3 rfl rfl)
theorem dX4_divisor_6 : decode cX4_divisor 6 = .ok (.lload_n 0, 1) := dk_30 (dk_at dksX4_divisor_0 6 rfl rfl)
theorem dX4_divisor_7 : decode cX4_divisor 7 = .ok (.lneg, 1) := dk_117 (dk_at dksX4_divisor_0 7 rfl rfl)
theorem dX4_divisor_8 : decode cX4_divisor 8 = .ok (.goto 4, 3) := dk_167 0 4 (dk_at dksX4_divisor_0 8 rfl rfl)
theorem dX4_divisor_11 : decode cX4_divisor 11 = .ok (.lload_n 0, 1) := dk_30 (dk_at dksX4_divisor_0 11 rfl rfl)
theorem dX4_divisor_12 : decode cX4_divisor 12 = .ok (.lstore 4, 2) := dk_55 4 (dk_at dksX4_divisor_0 12 rfl rfl)
theorem dX4_divisor_14 : decode cX4_divisor 14 = .ok (.lload_n 2, 1) := dk_32 (dk_at dksX4_divisor_0 14 rfl rfl)
theorem dX4_divisor_15 : decode cX4_divisor 15 = .ok (.lconst 0, 1) := dk_9 (dk_at dksX4_divisor_0 15 rfl rfl)
theorem dX4_divisor_16 : decode cX4_divisor 16 = .ok (.lcmp, 1) := dk_148 (dk_at dksX4_divisor_0 16 rfl rfl)
theorem dX4_divisor_17 : decode cX4_divisor 17 = .ok (.ifCond .ge 8, 3) := dk_156 0 8 (dk_at dksX4_divisor_0 17 rfl rfl)
theorem dX4_divisor_20 : decode cX4_divisor 20 = .ok (.lload_n 2, 1) := dk_32 (dk_at dksX4_divisor_0 20 rfl rfl)
theorem dX4_divisor_21 : decode cX4_divisor 21 = .ok (.lneg, 1) := dk_117 (dk_at dksX4_divisor_0 21 rfl rfl)
theorem dX4_divisor_22 : decode cX4_divisor 22 = .ok (.goto 4, 3) := dk_167 0 4 (dk_at dksX4_divisor_1 0 rfl rfl)
theorem dX4_divisor_25 : decode cX4_divisor 25 = .ok (.lload_n 2, 1) := dk_32 (dk_at dksX4_divisor_1 3 rfl rfl)
theorem dX4_divisor_26 : decode cX4_divisor 26 = .ok (.lstore 6, 2) := dk_55 6 (dk_at dksX4_divisor_1 4 rfl rfl)
theorem dX4_divisor_28 : decode cX4_divisor 28 = .ok (.lload 6, 2) := dk_22 6 (dk_at dksX4_divisor_1 6 rfl rfl)
theorem dX4_divisor_30 : decode cX4_divisor 30 = .ok (.lconst 0, 1) := dk_9 (dk_at dksX4_divisor_1 8 rfl rfl)
theorem dX4_divisor_31 : decode cX4_divisor 31 = .ok (.lcmp, 1) := dk_148 (dk_at dksX4_divisor_1 9 rfl rfl)
theorem dX4_divisor_32 : decode cX4_divisor 32 = .ok (.ifCond .eq 21, 3) := dk_153 0 21 (dk_at dksX4_divisor_1 10 rfl rfl)
theorem dX4_divisor_35 : decode cX4_divisor 35 = .ok (.lload 4, 2) := dk_22 4 (dk_at dksX4_divisor_1 13 rfl rfl)
theorem dX4_divisor_37 : decode cX4_divisor 37 = .ok (.lload 6, 2) := dk_22 6 (dk_at dksX4_divisor_1 15 rfl rfl)
theorem dX4_divisor_39 : decode cX4_divisor 39 = .ok (.lrem, 1) := dk_113 (dk_at dksX4_divisor_1 17 rfl rfl)
theorem dX4_divisor_40 : decode cX4_divisor 40 = .ok (.lstore 8, 2) := dk_55 8 (dk_at dksX4_divisor_1 18 rfl rfl)
theorem dX4_divisor_42 : decode cX4_divisor 42 = .ok (.lload 6, 2) := dk_22 6 (dk_at dksX4_divisor_1 20 rfl rfl)
theorem dX4_divisor_44 : decode cX4_divisor 44 = .ok (.lstore 4, 2) := dk_55 4 (dk_at dksX4_divisor_1 22 rfl rfl)
theorem dX4_divisor_46 : decode cX4_divisor 46 = .ok (.lload 8, 2) := dk_22 8 (dk_at dksX4_divisor_2 0 rfl rfl)
theorem dX4_divisor_48 : decode cX4_divisor 48 = .ok (.lstore 6, 2) := dk_55 6 (dk_at dksX4_divisor_2 2 rfl rfl)
theorem dX4_divisor_50 : decode cX4_divisor 50 = .ok (.goto (-22), 3) := dk_167 255 234 (dk_at dksX4_divisor_2 4 rfl rfl)
theorem dX4_divisor_53 : decode cX4_divisor 53 = .ok (.lload 4, 2) := dk_22 4 (dk_at dksX4_divisor_2 7 rfl rfl)
theorem dX4_divisor_55 : decode cX4_divisor 55 = .ok (.lreturn, 1) := dk_173 (dk_at dksX4_divisor_2 9 rfl rfl)
abbrev cX4_size : ByteArray := prog_9_method_32_code
def yX4_size : MethodName := ⟨RX4, "size", "(I)I"⟩
def dkwX4_size_1 : List UInt8 := [27, 172]
abbrev dktX4_size_1 : List UInt8 := dkwX4_size_1 ++ []
def dkwX4_size_0 : List UInt8 := [3, 60, 3, 61, 28, 16, 10, 162, 0, 17, 27, 26, 28, 122, 4, 126, 96, 60, 132, 2, 1, 167, 255, 239]
abbrev dktX4_size_0 : List UInt8 := dkwX4_size_0 ++ dktX4_size_1
theorem dksX4_size_0 : cX4_size.data.toList.drop 0 = dktX4_size_0 := by decide +kernel
theorem dksX4_size_1 : cX4_size.data.toList.drop 24 = dktX4_size_1 := dk_seg dksX4_size_0 24 rfl rfl
theorem dX4_size_0 : decode cX4_size 0 = .ok (.iconst 0, 1) := dk_3 (dk_at dksX4_size_0 0 rfl rfl)
theorem dX4_size_1 : decode cX4_size 1 = .ok (.istore_n 1, 1) := dk_60 (dk_at dksX4_size_0 1 rfl rfl)
theorem dX4_size_2 : decode cX4_size 2 = .ok (.iconst 0, 1) := dk_3 (dk_at dksX4_size_0 2 rfl rfl)
theorem dX4_size_3 : decode cX4_size 3 = .ok (.istore_n 2, 1) := dk_61 (dk_at dksX4_size_0 3 rfl rfl)
theorem dX4_size_4 : decode cX4_size 4 = .ok (.iload_n 2, 1) := dk_28 (dk_at dksX4_size_0 4 rfl rfl)
theorem dX4_size_5 : decode cX4_size 5 = .ok (.bipush 10, 2) := dk_16 10 (dk_at dksX4_size_0 5 rfl rfl)
theorem dX4_size_7 : decode cX4_size 7 = .ok (.if_icmp .ge 17, 3) := dk_162 0 17 (dk_at dksX4_size_0 7 rfl rfl)
theorem dX4_size_10 : decode cX4_size 10 = .ok (.iload_n 1, 1) := dk_27 (dk_at dksX4_size_0 10 rfl rfl)
theorem dX4_size_11 : decode cX4_size 11 = .ok (.iload_n 0, 1) := dk_26 (dk_at dksX4_size_0 11 rfl rfl)
theorem dX4_size_12 : decode cX4_size 12 = .ok (.iload_n 2, 1) := dk_28 (dk_at dksX4_size_0 12 rfl rfl)
theorem dX4_size_13 : decode cX4_size 13 = .ok (.ishr, 1) := dk_122 (dk_at dksX4_size_0 13 rfl rfl)
theorem dX4_size_14 : decode cX4_size 14 = .ok (.iconst 1, 1) := dk_4 (dk_at dksX4_size_0 14 rfl rfl)
theorem dX4_size_15 : decode cX4_size 15 = .ok (.iand, 1) := dk_126 (dk_at dksX4_size_0 15 rfl rfl)
theorem dX4_size_16 : decode cX4_size 16 = .ok (.iadd, 1) := dk_96 (dk_at dksX4_size_0 16 rfl rfl)
theorem dX4_size_17 : decode cX4_size 17 = .ok (.istore_n 1, 1) := dk_60 (dk_at dksX4_size_0 17 rfl rfl)
theorem dX4_size_18 : decode cX4_size 18 = .ok (.iinc 2 1, 3) := dk_132 2 1 (dk_at dksX4_size_0 18 rfl rfl)
theorem dX4_size_21 : decode cX4_size 21 = .ok (.goto (-17), 3) := dk_167 255 239 (dk_at dksX4_size_0 21 rfl rfl)
theorem dX4_size_24 : decode cX4_size 24 = .ok (.iload_n 1, 1) := dk_27 (dk_at dksX4_size_1 0 rfl rfl)
theorem dX4_size_25 : decode cX4_size 25 = .ok (.ireturn, 1) := dk_172 (dk_at dksX4_size_1 1 rfl rfl)
abbrev cX4_volumes : ByteArray := prog_9_method_33_code
def yX4_volumes : MethodName := ⟨RX4, "volumes", "(I)V"⟩
def dkwX4_volumes_6 : List UInt8 := [167, 255, 124, 42, 180, 0, 36, 27, 32, 80, 42, 180, 0, 39, 27, 22, 4, 80, 177]
abbrev dktX4_volumes_6 : List UInt8 := dkwX4_volumes_6 ++ []
def dkwX4_volumes_5 : List UInt8 := [22, 11, 22, 13, 3, 184, 0, 138, 65, 22, 11, 22, 13, 4, 184, 0, 138, 55, 4, 132, 6, 1]
abbrev dktX4_volumes_5 : List UInt8 := dkwX4_volumes_5 ++ dktX4_volumes_6
def dkwX4_volumes_4 : List UInt8 := [42, 42, 180, 0, 29, 21, 6, 46, 182, 0, 111, 133, 105, 97, 55, 11, 22, 4, 22, 9, 105, 55, 13]
abbrev dktX4_volumes_4 : List UInt8 := dkwX4_volumes_4 ++ dktX4_volumes_5
def dkwX4_volumes_3 : List UInt8 := [9, 148, 156, 0, 9, 22, 9, 117, 167, 0, 5, 22, 9, 55, 9, 32, 22, 9, 105, 22, 4, 22, 7, 105]
abbrev dktX4_volumes_3 : List UInt8 := dkwX4_volumes_3 ++ dktX4_volumes_4
def dkwX4_volumes_2 : List UInt8 := [46, 96, 47, 55, 9, 22, 7, 9, 148, 156, 0, 9, 22, 7, 117, 167, 0, 5, 22, 7, 55, 7, 22, 9]
abbrev dktX4_volumes_2 : List UInt8 := dkwX4_volumes_2 ++ dktX4_volumes_3
def dkwX4_volumes_1 : List UInt8 := [21, 6, 104, 16, 10, 96, 47, 55, 7, 42, 180, 0, 25, 16, 11, 21, 6, 104, 42, 180, 0, 29, 21, 6]
abbrev dktX4_volumes_1 : List UInt8 := dkwX4_volumes_1 ++ dktX4_volumes_2
def dkwX4_volumes_0 : List UInt8 := [9, 65, 10, 55, 4, 3, 54, 6, 21, 6, 42, 180, 0, 121, 162, 0, 129, 42, 180, 0, 25, 16, 11]
abbrev dktX4_volumes_0 : List UInt8 := dkwX4_volumes_0 ++ dktX4_volumes_1
theorem dksX4_volumes_0 : cX4_volumes.data.toList.drop 0 = dktX4_volumes_0 := by decide +kernel
theorem dksX4_volumes_1 : cX4_volumes.data.toList.drop 23 = dktX4_volumes_1 := dk_seg dksX4_volumes_0 23 rfl rfl
theorem dksX4_volumes_2 : cX4_volumes.data.toList.drop 47 = dktX4_volumes_2 := dk_seg dksX4_volumes_1 24 rfl rfl
theorem dksX4_volumes_3 : cX4_volumes.data.toList.drop 71 = dktX4_volumes_3 := dk_seg dksX4_volumes_2 24 rfl rfl
theorem dksX4_volumes_4 : cX4_volumes.data.toList.drop 95 = dktX4_volumes_4 := dk_seg dksX4_volumes_3 24 rfl rfl
theorem dksX4_volumes_5 : cX4_volumes.data.toList.drop 118 = dktX4_volumes_5 := dk_seg dksX4_volumes_4 23 rfl rfl
theorem dksX4_volumes_6 : cX4_volumes.data.toList.drop 140 = dktX4_volumes_6 := dk_seg dksX4_volumes_5 22 rfl rfl
theorem dX4_volumes_0 : decode cX4_volumes 0 = .ok (.lconst 0, 1) := dk_9 (dk_at dksX4_volumes_0 0 rfl rfl)
theorem dX4_volumes_1 : decode cX4_volumes 1 = .ok (.lstore_n 2, 1) := dk_65 (dk_at dksX4_volumes_0 1 rfl rfl)
theorem dX4_volumes_2 : decode cX4_volumes 2 = .ok (.lconst 1, 1) := dk_10 (dk_at dksX4_volumes_0 2 rfl rfl)
theorem dX4_volumes_3 : decode cX4_volumes 3 = .ok (.lstore 4, 2) := dk_55 4 (dk_at dksX4_volumes_0 3 rfl rfl)
theorem dX4_volumes_5 : decode cX4_volumes 5 = .ok (.iconst 0, 1) := dk_3 (dk_at dksX4_volumes_0 5 rfl rfl)
theorem dX4_volumes_6 : decode cX4_volumes 6 = .ok (.istore 6, 2) := dk_54 6 (dk_at dksX4_volumes_0 6 rfl rfl)
theorem dX4_volumes_8 : decode cX4_volumes 8 = .ok (.iload 6, 2) := dk_21 6 (dk_at dksX4_volumes_0 8 rfl rfl)
theorem dX4_volumes_10 : decode cX4_volumes 10 = .ok (.aload_n 0, 1) := dk_42 (dk_at dksX4_volumes_0 10 rfl rfl)
theorem dX4_volumes_11 : decode cX4_volumes 11 = .ok (.getfield 121, 3) := dk_180 0 121 (dk_at dksX4_volumes_0 11 rfl rfl)
theorem dX4_volumes_14 : decode cX4_volumes 14 = .ok (.if_icmp .ge 129, 3) := dk_162 0 129 (dk_at dksX4_volumes_0 14 rfl rfl)
theorem dX4_volumes_17 : decode cX4_volumes 17 = .ok (.aload_n 0, 1) := dk_42 (dk_at dksX4_volumes_0 17 rfl rfl)
theorem dX4_volumes_18 : decode cX4_volumes 18 = .ok (.getfield 25, 3) := dk_180 0 25 (dk_at dksX4_volumes_0 18 rfl rfl)
theorem dX4_volumes_21 : decode cX4_volumes 21 = .ok (.bipush 11, 2) := dk_16 11 (dk_at dksX4_volumes_0 21 rfl rfl)
theorem dX4_volumes_23 : decode cX4_volumes 23 = .ok (.iload 6, 2) := dk_21 6 (dk_at dksX4_volumes_1 0 rfl rfl)
theorem dX4_volumes_25 : decode cX4_volumes 25 = .ok (.imul, 1) := dk_104 (dk_at dksX4_volumes_1 2 rfl rfl)
theorem dX4_volumes_26 : decode cX4_volumes 26 = .ok (.bipush 10, 2) := dk_16 10 (dk_at dksX4_volumes_1 3 rfl rfl)
theorem dX4_volumes_28 : decode cX4_volumes 28 = .ok (.iadd, 1) := dk_96 (dk_at dksX4_volumes_1 5 rfl rfl)
theorem dX4_volumes_29 : decode cX4_volumes 29 = .ok (.laload, 1) := dk_47 (dk_at dksX4_volumes_1 6 rfl rfl)
theorem dX4_volumes_30 : decode cX4_volumes 30 = .ok (.lstore 7, 2) := dk_55 7 (dk_at dksX4_volumes_1 7 rfl rfl)
theorem dX4_volumes_32 : decode cX4_volumes 32 = .ok (.aload_n 0, 1) := dk_42 (dk_at dksX4_volumes_1 9 rfl rfl)
theorem dX4_volumes_33 : decode cX4_volumes 33 = .ok (.getfield 25, 3) := dk_180 0 25 (dk_at dksX4_volumes_1 10 rfl rfl)
theorem dX4_volumes_36 : decode cX4_volumes 36 = .ok (.bipush 11, 2) := dk_16 11 (dk_at dksX4_volumes_1 13 rfl rfl)
theorem dX4_volumes_38 : decode cX4_volumes 38 = .ok (.iload 6, 2) := dk_21 6 (dk_at dksX4_volumes_1 15 rfl rfl)
theorem dX4_volumes_40 : decode cX4_volumes 40 = .ok (.imul, 1) := dk_104 (dk_at dksX4_volumes_1 17 rfl rfl)
theorem dX4_volumes_41 : decode cX4_volumes 41 = .ok (.aload_n 0, 1) := dk_42 (dk_at dksX4_volumes_1 18 rfl rfl)
theorem dX4_volumes_42 : decode cX4_volumes 42 = .ok (.getfield 29, 3) := dk_180 0 29 (dk_at dksX4_volumes_1 19 rfl rfl)
theorem dX4_volumes_45 : decode cX4_volumes 45 = .ok (.iload 6, 2) := dk_21 6 (dk_at dksX4_volumes_1 22 rfl rfl)
theorem dX4_volumes_47 : decode cX4_volumes 47 = .ok (.iaload, 1) := dk_46 (dk_at dksX4_volumes_2 0 rfl rfl)
theorem dX4_volumes_48 : decode cX4_volumes 48 = .ok (.iadd, 1) := dk_96 (dk_at dksX4_volumes_2 1 rfl rfl)
theorem dX4_volumes_49 : decode cX4_volumes 49 = .ok (.laload, 1) := dk_47 (dk_at dksX4_volumes_2 2 rfl rfl)
theorem dX4_volumes_50 : decode cX4_volumes 50 = .ok (.lstore 9, 2) := dk_55 9 (dk_at dksX4_volumes_2 3 rfl rfl)
theorem dX4_volumes_52 : decode cX4_volumes 52 = .ok (.lload 7, 2) := dk_22 7 (dk_at dksX4_volumes_2 5 rfl rfl)
theorem dX4_volumes_54 : decode cX4_volumes 54 = .ok (.lconst 0, 1) := dk_9 (dk_at dksX4_volumes_2 7 rfl rfl)
theorem dX4_volumes_55 : decode cX4_volumes 55 = .ok (.lcmp, 1) := dk_148 (dk_at dksX4_volumes_2 8 rfl rfl)
theorem dX4_volumes_56 : decode cX4_volumes 56 = .ok (.ifCond .ge 9, 3) := dk_156 0 9 (dk_at dksX4_volumes_2 9 rfl rfl)
theorem dX4_volumes_59 : decode cX4_volumes 59 = .ok (.lload 7, 2) := dk_22 7 (dk_at dksX4_volumes_2 12 rfl rfl)
theorem dX4_volumes_61 : decode cX4_volumes 61 = .ok (.lneg, 1) := dk_117 (dk_at dksX4_volumes_2 14 rfl rfl)
theorem dX4_volumes_62 : decode cX4_volumes 62 = .ok (.goto 5, 3) := dk_167 0 5 (dk_at dksX4_volumes_2 15 rfl rfl)
theorem dX4_volumes_65 : decode cX4_volumes 65 = .ok (.lload 7, 2) := dk_22 7 (dk_at dksX4_volumes_2 18 rfl rfl)
theorem dX4_volumes_67 : decode cX4_volumes 67 = .ok (.lstore 7, 2) := dk_55 7 (dk_at dksX4_volumes_2 20 rfl rfl)
theorem dX4_volumes_69 : decode cX4_volumes 69 = .ok (.lload 9, 2) := dk_22 9 (dk_at dksX4_volumes_2 22 rfl rfl)
theorem dX4_volumes_71 : decode cX4_volumes 71 = .ok (.lconst 0, 1) := dk_9 (dk_at dksX4_volumes_3 0 rfl rfl)
theorem dX4_volumes_72 : decode cX4_volumes 72 = .ok (.lcmp, 1) := dk_148 (dk_at dksX4_volumes_3 1 rfl rfl)
theorem dX4_volumes_73 : decode cX4_volumes 73 = .ok (.ifCond .ge 9, 3) := dk_156 0 9 (dk_at dksX4_volumes_3 2 rfl rfl)
theorem dX4_volumes_76 : decode cX4_volumes 76 = .ok (.lload 9, 2) := dk_22 9 (dk_at dksX4_volumes_3 5 rfl rfl)
theorem dX4_volumes_78 : decode cX4_volumes 78 = .ok (.lneg, 1) := dk_117 (dk_at dksX4_volumes_3 7 rfl rfl)
theorem dX4_volumes_79 : decode cX4_volumes 79 = .ok (.goto 5, 3) := dk_167 0 5 (dk_at dksX4_volumes_3 8 rfl rfl)
theorem dX4_volumes_82 : decode cX4_volumes 82 = .ok (.lload 9, 2) := dk_22 9 (dk_at dksX4_volumes_3 11 rfl rfl)
theorem dX4_volumes_84 : decode cX4_volumes 84 = .ok (.lstore 9, 2) := dk_55 9 (dk_at dksX4_volumes_3 13 rfl rfl)
theorem dX4_volumes_86 : decode cX4_volumes 86 = .ok (.lload_n 2, 1) := dk_32 (dk_at dksX4_volumes_3 15 rfl rfl)
theorem dX4_volumes_87 : decode cX4_volumes 87 = .ok (.lload 9, 2) := dk_22 9 (dk_at dksX4_volumes_3 16 rfl rfl)
theorem dX4_volumes_89 : decode cX4_volumes 89 = .ok (.lmul, 1) := dk_105 (dk_at dksX4_volumes_3 18 rfl rfl)
theorem dX4_volumes_90 : decode cX4_volumes 90 = .ok (.lload 4, 2) := dk_22 4 (dk_at dksX4_volumes_3 19 rfl rfl)
theorem dX4_volumes_92 : decode cX4_volumes 92 = .ok (.lload 7, 2) := dk_22 7 (dk_at dksX4_volumes_3 21 rfl rfl)
theorem dX4_volumes_94 : decode cX4_volumes 94 = .ok (.lmul, 1) := dk_105 (dk_at dksX4_volumes_3 23 rfl rfl)
theorem dX4_volumes_95 : decode cX4_volumes 95 = .ok (.aload_n 0, 1) := dk_42 (dk_at dksX4_volumes_4 0 rfl rfl)
theorem dX4_volumes_96 : decode cX4_volumes 96 = .ok (.aload_n 0, 1) := dk_42 (dk_at dksX4_volumes_4 1 rfl rfl)
theorem dX4_volumes_97 : decode cX4_volumes 97 = .ok (.getfield 29, 3) := dk_180 0 29 (dk_at dksX4_volumes_4 2 rfl rfl)
theorem dX4_volumes_100 : decode cX4_volumes 100 = .ok (.iload 6, 2) := dk_21 6 (dk_at dksX4_volumes_4 5 rfl rfl)
theorem dX4_volumes_102 : decode cX4_volumes 102 = .ok (.iaload, 1) := dk_46 (dk_at dksX4_volumes_4 7 rfl rfl)
theorem dX4_volumes_103 : decode cX4_volumes 103 = .ok (.invokevirtual 111, 3) := dk_182 0 111 (dk_at dksX4_volumes_4 8 rfl rfl)
theorem dX4_volumes_106 : decode cX4_volumes 106 = .ok (.i2l, 1) := dk_133 (dk_at dksX4_volumes_4 11 rfl rfl)
theorem dX4_volumes_107 : decode cX4_volumes 107 = .ok (.lmul, 1) := dk_105 (dk_at dksX4_volumes_4 12 rfl rfl)
theorem dX4_volumes_108 : decode cX4_volumes 108 = .ok (.ladd, 1) := dk_97 (dk_at dksX4_volumes_4 13 rfl rfl)
theorem dX4_volumes_109 : decode cX4_volumes 109 = .ok (.lstore 11, 2) := dk_55 11 (dk_at dksX4_volumes_4 14 rfl rfl)
theorem dX4_volumes_111 : decode cX4_volumes 111 = .ok (.lload 4, 2) := dk_22 4 (dk_at dksX4_volumes_4 16 rfl rfl)
theorem dX4_volumes_113 : decode cX4_volumes 113 = .ok (.lload 9, 2) := dk_22 9 (dk_at dksX4_volumes_4 18 rfl rfl)
theorem dX4_volumes_115 : decode cX4_volumes 115 = .ok (.lmul, 1) := dk_105 (dk_at dksX4_volumes_4 20 rfl rfl)
theorem dX4_volumes_116 : decode cX4_volumes 116 = .ok (.lstore 13, 2) := dk_55 13 (dk_at dksX4_volumes_4 21 rfl rfl)
theorem dX4_volumes_118 : decode cX4_volumes 118 = .ok (.lload 11, 2) := dk_22 11 (dk_at dksX4_volumes_5 0 rfl rfl)
theorem dX4_volumes_120 : decode cX4_volumes 120 = .ok (.lload 13, 2) := dk_22 13 (dk_at dksX4_volumes_5 2 rfl rfl)
theorem dX4_volumes_122 : decode cX4_volumes 122 = .ok (.iconst 0, 1) := dk_3 (dk_at dksX4_volumes_5 4 rfl rfl)
theorem dX4_volumes_123 : decode cX4_volumes 123 = .ok (.invokestatic 138, 3) := dk_184 0 138 (dk_at dksX4_volumes_5 5 rfl rfl)
theorem dX4_volumes_126 : decode cX4_volumes 126 = .ok (.lstore_n 2, 1) := dk_65 (dk_at dksX4_volumes_5 8 rfl rfl)
theorem dX4_volumes_127 : decode cX4_volumes 127 = .ok (.lload 11, 2) := dk_22 11 (dk_at dksX4_volumes_5 9 rfl rfl)
theorem dX4_volumes_129 : decode cX4_volumes 129 = .ok (.lload 13, 2) := dk_22 13 (dk_at dksX4_volumes_5 11 rfl rfl)
theorem dX4_volumes_131 : decode cX4_volumes 131 = .ok (.iconst 1, 1) := dk_4 (dk_at dksX4_volumes_5 13 rfl rfl)
theorem dX4_volumes_132 : decode cX4_volumes 132 = .ok (.invokestatic 138, 3) := dk_184 0 138 (dk_at dksX4_volumes_5 14 rfl rfl)
theorem dX4_volumes_135 : decode cX4_volumes 135 = .ok (.lstore 4, 2) := dk_55 4 (dk_at dksX4_volumes_5 17 rfl rfl)
theorem dX4_volumes_137 : decode cX4_volumes 137 = .ok (.iinc 6 1, 3) := dk_132 6 1 (dk_at dksX4_volumes_5 19 rfl rfl)
theorem dX4_volumes_140 : decode cX4_volumes 140 = .ok (.goto (-132), 3) := dk_167 255 124 (dk_at dksX4_volumes_6 0 rfl rfl)
theorem dX4_volumes_143 : decode cX4_volumes 143 = .ok (.aload_n 0, 1) := dk_42 (dk_at dksX4_volumes_6 3 rfl rfl)
theorem dX4_volumes_144 : decode cX4_volumes 144 = .ok (.getfield 36, 3) := dk_180 0 36 (dk_at dksX4_volumes_6 4 rfl rfl)
theorem dX4_volumes_147 : decode cX4_volumes 147 = .ok (.iload_n 1, 1) := dk_27 (dk_at dksX4_volumes_6 7 rfl rfl)
theorem dX4_volumes_148 : decode cX4_volumes 148 = .ok (.lload_n 2, 1) := dk_32 (dk_at dksX4_volumes_6 8 rfl rfl)
theorem dX4_volumes_149 : decode cX4_volumes 149 = .ok (.lastore, 1) := dk_80 (dk_at dksX4_volumes_6 9 rfl rfl)
theorem dX4_volumes_150 : decode cX4_volumes 150 = .ok (.aload_n 0, 1) := dk_42 (dk_at dksX4_volumes_6 10 rfl rfl)
theorem dX4_volumes_151 : decode cX4_volumes 151 = .ok (.getfield 39, 3) := dk_180 0 39 (dk_at dksX4_volumes_6 11 rfl rfl)
theorem dX4_volumes_154 : decode cX4_volumes 154 = .ok (.iload_n 1, 1) := dk_27 (dk_at dksX4_volumes_6 14 rfl rfl)
theorem dX4_volumes_155 : decode cX4_volumes 155 = .ok (.lload 4, 2) := dk_22 4 (dk_at dksX4_volumes_6 15 rfl rfl)
theorem dX4_volumes_157 : decode cX4_volumes 157 = .ok (.lastore, 1) := dk_80 (dk_at dksX4_volumes_6 17 rfl rfl)
theorem dX4_volumes_158 : decode cX4_volumes 158 = .ok (.return_, 1) := dk_177 (dk_at dksX4_volumes_6 18 rfl rfl)
abbrev cX4_partOf : ByteArray := prog_9_method_6_code
def yX4_partOf : MethodName := ⟨RX4, "partOf", "(JJI)J"⟩
def dkwX4_partOf_1 : List UInt8 := [21, 4, 154, 0, 10, 30, 22, 5, 109, 167, 0, 7, 32, 22, 5, 109, 173]
abbrev dktX4_partOf_1 : List UInt8 := dkwX4_partOf_1 ++ []
def dkwX4_partOf_0 : List UInt8 := [30, 32, 184, 0, 56, 55, 5, 32, 9, 148, 156, 0, 9, 22, 5, 117, 167, 0, 5, 22, 5, 55, 5]
abbrev dktX4_partOf_0 : List UInt8 := dkwX4_partOf_0 ++ dktX4_partOf_1
theorem dksX4_partOf_0 : cX4_partOf.data.toList.drop 0 = dktX4_partOf_0 := by decide +kernel
theorem dksX4_partOf_1 : cX4_partOf.data.toList.drop 23 = dktX4_partOf_1 := dk_seg dksX4_partOf_0 23 rfl rfl
theorem dX4_partOf_0 : decode cX4_partOf 0 = .ok (.lload_n 0, 1) := dk_30 (dk_at dksX4_partOf_0 0 rfl rfl)
theorem dX4_partOf_1 : decode cX4_partOf 1 = .ok (.lload_n 2, 1) := dk_32 (dk_at dksX4_partOf_0 1 rfl rfl)
theorem dX4_partOf_2 : decode cX4_partOf 2 = .ok (.invokestatic 56, 3) := dk_184 0 56 (dk_at dksX4_partOf_0 2 rfl rfl)
theorem dX4_partOf_5 : decode cX4_partOf 5 = .ok (.lstore 5, 2) := dk_55 5 (dk_at dksX4_partOf_0 5 rfl rfl)
theorem dX4_partOf_7 : decode cX4_partOf 7 = .ok (.lload_n 2, 1) := dk_32 (dk_at dksX4_partOf_0 7 rfl rfl)
theorem dX4_partOf_8 : decode cX4_partOf 8 = .ok (.lconst 0, 1) := dk_9 (dk_at dksX4_partOf_0 8 rfl rfl)
theorem dX4_partOf_9 : decode cX4_partOf 9 = .ok (.lcmp, 1) := dk_148 (dk_at dksX4_partOf_0 9 rfl rfl)
theorem dX4_partOf_10 : decode cX4_partOf 10 = .ok (.ifCond .ge 9, 3) := dk_156 0 9 (dk_at dksX4_partOf_0 10 rfl rfl)
theorem dX4_partOf_13 : decode cX4_partOf 13 = .ok (.lload 5, 2) := dk_22 5 (dk_at dksX4_partOf_0 13 rfl rfl)
theorem dX4_partOf_15 : decode cX4_partOf 15 = .ok (.lneg, 1) := dk_117 (dk_at dksX4_partOf_0 15 rfl rfl)
theorem dX4_partOf_16 : decode cX4_partOf 16 = .ok (.goto 5, 3) := dk_167 0 5 (dk_at dksX4_partOf_0 16 rfl rfl)
theorem dX4_partOf_19 : decode cX4_partOf 19 = .ok (.lload 5, 2) := dk_22 5 (dk_at dksX4_partOf_0 19 rfl rfl)
theorem dX4_partOf_21 : decode cX4_partOf 21 = .ok (.lstore 5, 2) := dk_55 5 (dk_at dksX4_partOf_0 21 rfl rfl)
theorem dX4_partOf_23 : decode cX4_partOf 23 = .ok (.iload 4, 2) := dk_21 4 (dk_at dksX4_partOf_1 0 rfl rfl)
theorem dX4_partOf_25 : decode cX4_partOf 25 = .ok (.ifCond .ne 10, 3) := dk_154 0 10 (dk_at dksX4_partOf_1 2 rfl rfl)
theorem dX4_partOf_28 : decode cX4_partOf 28 = .ok (.lload_n 0, 1) := dk_30 (dk_at dksX4_partOf_1 5 rfl rfl)
theorem dX4_partOf_29 : decode cX4_partOf 29 = .ok (.lload 5, 2) := dk_22 5 (dk_at dksX4_partOf_1 6 rfl rfl)
theorem dX4_partOf_31 : decode cX4_partOf 31 = .ok (.ldiv, 1) := dk_109 (dk_at dksX4_partOf_1 8 rfl rfl)
theorem dX4_partOf_32 : decode cX4_partOf 32 = .ok (.goto 7, 3) := dk_167 0 7 (dk_at dksX4_partOf_1 9 rfl rfl)
theorem dX4_partOf_35 : decode cX4_partOf 35 = .ok (.lload_n 2, 1) := dk_32 (dk_at dksX4_partOf_1 12 rfl rfl)
theorem dX4_partOf_36 : decode cX4_partOf 36 = .ok (.lload 5, 2) := dk_22 5 (dk_at dksX4_partOf_1 13 rfl rfl)
theorem dX4_partOf_38 : decode cX4_partOf 38 = .ok (.ldiv, 1) := dk_109 (dk_at dksX4_partOf_1 15 rfl rfl)
theorem dX4_partOf_39 : decode cX4_partOf 39 = .ok (.lreturn, 1) := dk_173 (dk_at dksX4_partOf_1 16 rfl rfl)
abbrev cX4_isLess : ByteArray := prog_9_method_35_code
def yX4_isLess : MethodName := ⟨RX4, "isLess", "(II)Z"⟩
def dkwX4_isLess_1 : List UInt8 := [47, 105, 148, 156, 0, 7, 4, 167, 0, 4, 3, 172]
abbrev dktX4_isLess_1 : List UInt8 := dkwX4_isLess_1 ++ []
def dkwX4_isLess_0 : List UInt8 := [42, 180, 0, 36, 27, 47, 42, 180, 0, 39, 28, 47, 105, 42, 180, 0, 36, 28, 47, 42, 180, 0, 39, 27]
abbrev dktX4_isLess_0 : List UInt8 := dkwX4_isLess_0 ++ dktX4_isLess_1
theorem dksX4_isLess_0 : cX4_isLess.data.toList.drop 0 = dktX4_isLess_0 := by decide +kernel
theorem dksX4_isLess_1 : cX4_isLess.data.toList.drop 24 = dktX4_isLess_1 := dk_seg dksX4_isLess_0 24 rfl rfl
theorem dX4_isLess_0 : decode cX4_isLess 0 = .ok (.aload_n 0, 1) := dk_42 (dk_at dksX4_isLess_0 0 rfl rfl)
theorem dX4_isLess_1 : decode cX4_isLess 1 = .ok (.getfield 36, 3) := dk_180 0 36 (dk_at dksX4_isLess_0 1 rfl rfl)
theorem dX4_isLess_4 : decode cX4_isLess 4 = .ok (.iload_n 1, 1) := dk_27 (dk_at dksX4_isLess_0 4 rfl rfl)
theorem dX4_isLess_5 : decode cX4_isLess 5 = .ok (.laload, 1) := dk_47 (dk_at dksX4_isLess_0 5 rfl rfl)
theorem dX4_isLess_6 : decode cX4_isLess 6 = .ok (.aload_n 0, 1) := dk_42 (dk_at dksX4_isLess_0 6 rfl rfl)
theorem dX4_isLess_7 : decode cX4_isLess 7 = .ok (.getfield 39, 3) := dk_180 0 39 (dk_at dksX4_isLess_0 7 rfl rfl)
theorem dX4_isLess_10 : decode cX4_isLess 10 = .ok (.iload_n 2, 1) := dk_28 (dk_at dksX4_isLess_0 10 rfl rfl)
theorem dX4_isLess_11 : decode cX4_isLess 11 = .ok (.laload, 1) := dk_47 (dk_at dksX4_isLess_0 11 rfl rfl)
theorem dX4_isLess_12 : decode cX4_isLess 12 = .ok (.lmul, 1) := dk_105 (dk_at dksX4_isLess_0 12 rfl rfl)
theorem dX4_isLess_13 : decode cX4_isLess 13 = .ok (.aload_n 0, 1) := dk_42 (dk_at dksX4_isLess_0 13 rfl rfl)
theorem dX4_isLess_14 : decode cX4_isLess 14 = .ok (.getfield 36, 3) := dk_180 0 36 (dk_at dksX4_isLess_0 14 rfl rfl)
theorem dX4_isLess_17 : decode cX4_isLess 17 = .ok (.iload_n 2, 1) := dk_28 (dk_at dksX4_isLess_0 17 rfl rfl)
theorem dX4_isLess_18 : decode cX4_isLess 18 = .ok (.laload, 1) := dk_47 (dk_at dksX4_isLess_0 18 rfl rfl)
theorem dX4_isLess_19 : decode cX4_isLess 19 = .ok (.aload_n 0, 1) := dk_42 (dk_at dksX4_isLess_0 19 rfl rfl)
theorem dX4_isLess_20 : decode cX4_isLess 20 = .ok (.getfield 39, 3) := dk_180 0 39 (dk_at dksX4_isLess_0 20 rfl rfl)
theorem dX4_isLess_23 : decode cX4_isLess 23 = .ok (.iload_n 1, 1) := dk_27 (dk_at dksX4_isLess_0 23 rfl rfl)
theorem dX4_isLess_24 : decode cX4_isLess 24 = .ok (.laload, 1) := dk_47 (dk_at dksX4_isLess_1 0 rfl rfl)
theorem dX4_isLess_25 : decode cX4_isLess 25 = .ok (.lmul, 1) := dk_105 (dk_at dksX4_isLess_1 1 rfl rfl)
theorem dX4_isLess_26 : decode cX4_isLess 26 = .ok (.lcmp, 1) := dk_148 (dk_at dksX4_isLess_1 2 rfl rfl)
theorem dX4_isLess_27 : decode cX4_isLess 27 = .ok (.ifCond .ge 7, 3) := dk_156 0 7 (dk_at dksX4_isLess_1 3 rfl rfl)
theorem dX4_isLess_30 : decode cX4_isLess 30 = .ok (.iconst 1, 1) := dk_4 (dk_at dksX4_isLess_1 6 rfl rfl)
theorem dX4_isLess_31 : decode cX4_isLess 31 = .ok (.goto 4, 3) := dk_167 0 4 (dk_at dksX4_isLess_1 7 rfl rfl)
theorem dX4_isLess_34 : decode cX4_isLess 34 = .ok (.iconst 0, 1) := dk_3 (dk_at dksX4_isLess_1 10 rfl rfl)
theorem dX4_isLess_35 : decode cX4_isLess 35 = .ok (.ireturn, 1) := dk_172 (dk_at dksX4_isLess_1 11 rfl rfl)
abbrev cX4_no : ByteArray := prog_9_method_4_code
def yX4_no : MethodName := ⟨RX4, "no", "(I)J"⟩
def dkwX4_no_0 : List UInt8 := [20, 0, 54, 26, 133, 101, 173]
abbrev dktX4_no_0 : List UInt8 := dkwX4_no_0 ++ []
theorem dksX4_no_0 : cX4_no.data.toList.drop 0 = dktX4_no_0 := by decide +kernel
theorem dX4_no_0 : decode cX4_no 0 = .ok (.ldc2_w 54, 3) := dk_20 0 54 (dk_at dksX4_no_0 0 rfl rfl)
theorem dX4_no_3 : decode cX4_no 3 = .ok (.iload_n 0, 1) := dk_26 (dk_at dksX4_no_0 3 rfl rfl)
theorem dX4_no_4 : decode cX4_no 4 = .ok (.i2l, 1) := dk_133 (dk_at dksX4_no_0 4 rfl rfl)
theorem dX4_no_5 : decode cX4_no 5 = .ok (.lsub, 1) := dk_101 (dk_at dksX4_no_0 5 rfl rfl)
theorem dX4_no_6 : decode cX4_no 6 = .ok (.lreturn, 1) := dk_173 (dk_at dksX4_no_0 6 rfl rfl)
abbrev cX4_fault : ByteArray := prog_9_method_39_code
def yX4_fault : MethodName := ⟨RX4, "fault", "()I"⟩
def dkwX4_fault_0 : List UInt8 := [42, 42, 180, 0, 76, 182, 0, 142, 172]
abbrev dktX4_fault_0 : List UInt8 := dkwX4_fault_0 ++ []
theorem dksX4_fault_0 : cX4_fault.data.toList.drop 0 = dktX4_fault_0 := by decide +kernel
theorem dX4_fault_0 : decode cX4_fault 0 = .ok (.aload_n 0, 1) := dk_42 (dk_at dksX4_fault_0 0 rfl rfl)
theorem dX4_fault_1 : decode cX4_fault 1 = .ok (.aload_n 0, 1) := dk_42 (dk_at dksX4_fault_0 1 rfl rfl)
theorem dX4_fault_2 : decode cX4_fault 2 = .ok (.getfield 76, 3) := dk_180 0 76 (dk_at dksX4_fault_0 2 rfl rfl)
theorem dX4_fault_5 : decode cX4_fault 5 = .ok (.invokevirtual 142, 3) := dk_182 0 142 (dk_at dksX4_fault_0 5 rfl rfl)
theorem dX4_fault_8 : decode cX4_fault 8 = .ok (.ireturn, 1) := dk_172 (dk_at dksX4_fault_0 8 rfl rfl)
abbrev cX4_frame : ByteArray := prog_9_method_41_code
def yX4_frame : MethodName := ⟨RX4, "frame", "()I"⟩
theorem dX4_frame_0 : decode cX4_frame 0 = .ok (.aload_n 0, 1) := by decide +kernel
theorem dX4_frame_1 : decode cX4_frame 1 = .ok (.invokevirtual 168, 3) := by decide +kernel
theorem dX4_frame_4 : decode cX4_frame 4 = .ok (.ireturn, 1) := by decide +kernel
abbrev cX4_frameNow : ByteArray := prog_9_method_40_code
def yX4_frameNow : MethodName := ⟨RX4, "frameNow", "()I"⟩
def dkwX4_frameNow_0 : List UInt8 := [42, 42, 180, 0, 76, 182, 0, 157, 60, 27, 2, 160, 0, 8, 16, 253, 167, 0, 4, 27, 172]
abbrev dktX4_frameNow_0 : List UInt8 := dkwX4_frameNow_0 ++ []
theorem dksX4_frameNow_0 : cX4_frameNow.data.toList.drop 0 = dktX4_frameNow_0 := by decide +kernel
theorem dX4_frameNow_0 : decode cX4_frameNow 0 = .ok (.aload_n 0, 1) := dk_42 (dk_at dksX4_frameNow_0 0 rfl rfl)
theorem dX4_frameNow_1 : decode cX4_frameNow 1 = .ok (.aload_n 0, 1) := dk_42 (dk_at dksX4_frameNow_0 1 rfl rfl)
theorem dX4_frameNow_2 : decode cX4_frameNow 2 = .ok (.getfield 76, 3) := dk_180 0 76 (dk_at dksX4_frameNow_0 2 rfl rfl)
theorem dX4_frameNow_5 : decode cX4_frameNow 5 = .ok (.invokevirtual 157, 3) := dk_182 0 157 (dk_at dksX4_frameNow_0 5 rfl rfl)
theorem dX4_frameNow_8 : decode cX4_frameNow 8 = .ok (.istore_n 1, 1) := dk_60 (dk_at dksX4_frameNow_0 8 rfl rfl)
theorem dX4_frameNow_9 : decode cX4_frameNow 9 = .ok (.iload_n 1, 1) := dk_27 (dk_at dksX4_frameNow_0 9 rfl rfl)
theorem dX4_frameNow_10 : decode cX4_frameNow 10 = .ok (.iconst (-1), 1) := dk_2 (dk_at dksX4_frameNow_0 10 rfl rfl)
theorem dX4_frameNow_11 : decode cX4_frameNow 11 = .ok (.if_icmp .ne 8, 3) := dk_160 0 8 (dk_at dksX4_frameNow_0 11 rfl rfl)
theorem dX4_frameNow_14 : decode cX4_frameNow 14 = .ok (.bipush (-3), 2) := dk_16 253 (dk_at dksX4_frameNow_0 14 rfl rfl)
theorem dX4_frameNow_16 : decode cX4_frameNow 16 = .ok (.goto 4, 3) := dk_167 0 4 (dk_at dksX4_frameNow_0 16 rfl rfl)
theorem dX4_frameNow_19 : decode cX4_frameNow 19 = .ok (.iload_n 1, 1) := dk_27 (dk_at dksX4_frameNow_0 19 rfl rfl)
theorem dX4_frameNow_20 : decode cX4_frameNow 20 = .ok (.ireturn, 1) := dk_172 (dk_at dksX4_frameNow_0 20 rfl rfl)
abbrev cX4_pull : ByteArray := prog_9_method_43_code
def yX4_pull : MethodName := ⟨RX4, "pull", "(II)J"⟩
def dkwX4_pull_1 : List UInt8 := [167, 0, 8, 16, 254, 184, 0, 160, 173]
abbrev dktX4_pull_1 : List UInt8 := dkwX4_pull_1 ++ []
def dkwX4_pull_0 : List UInt8 := [42, 27, 182, 0, 72, 153, 0, 21, 28, 3, 4, 184, 0, 64, 153, 0, 12, 42, 27, 28, 182, 0, 171]
abbrev dktX4_pull_0 : List UInt8 := dkwX4_pull_0 ++ dktX4_pull_1
theorem dksX4_pull_0 : cX4_pull.data.toList.drop 0 = dktX4_pull_0 := by decide +kernel
theorem dksX4_pull_1 : cX4_pull.data.toList.drop 23 = dktX4_pull_1 := dk_seg dksX4_pull_0 23 rfl rfl
theorem dX4_pull_0 : decode cX4_pull 0 = .ok (.aload_n 0, 1) := dk_42 (dk_at dksX4_pull_0 0 rfl rfl)
theorem dX4_pull_1 : decode cX4_pull 1 = .ok (.iload_n 1, 1) := dk_27 (dk_at dksX4_pull_0 1 rfl rfl)
theorem dX4_pull_2 : decode cX4_pull 2 = .ok (.invokevirtual 72, 3) := dk_182 0 72 (dk_at dksX4_pull_0 2 rfl rfl)
theorem dX4_pull_5 : decode cX4_pull 5 = .ok (.ifCond .eq 21, 3) := dk_153 0 21 (dk_at dksX4_pull_0 5 rfl rfl)
theorem dX4_pull_8 : decode cX4_pull 8 = .ok (.iload_n 2, 1) := dk_28 (dk_at dksX4_pull_0 8 rfl rfl)
theorem dX4_pull_9 : decode cX4_pull 9 = .ok (.iconst 0, 1) := dk_3 (dk_at dksX4_pull_0 9 rfl rfl)
theorem dX4_pull_10 : decode cX4_pull 10 = .ok (.iconst 1, 1) := dk_4 (dk_at dksX4_pull_0 10 rfl rfl)
theorem dX4_pull_11 : decode cX4_pull 11 = .ok (.invokestatic 64, 3) := dk_184 0 64 (dk_at dksX4_pull_0 11 rfl rfl)
theorem dX4_pull_14 : decode cX4_pull 14 = .ok (.ifCond .eq 12, 3) := dk_153 0 12 (dk_at dksX4_pull_0 14 rfl rfl)
theorem dX4_pull_17 : decode cX4_pull 17 = .ok (.aload_n 0, 1) := dk_42 (dk_at dksX4_pull_0 17 rfl rfl)
theorem dX4_pull_18 : decode cX4_pull 18 = .ok (.iload_n 1, 1) := dk_27 (dk_at dksX4_pull_0 18 rfl rfl)
theorem dX4_pull_19 : decode cX4_pull 19 = .ok (.iload_n 2, 1) := dk_28 (dk_at dksX4_pull_0 19 rfl rfl)
theorem dX4_pull_20 : decode cX4_pull 20 = .ok (.invokevirtual 171, 3) := dk_182 0 171 (dk_at dksX4_pull_0 20 rfl rfl)
theorem dX4_pull_23 : decode cX4_pull 23 = .ok (.goto 8, 3) := dk_167 0 8 (dk_at dksX4_pull_1 0 rfl rfl)
theorem dX4_pull_26 : decode cX4_pull 26 = .ok (.bipush (-2), 2) := dk_16 254 (dk_at dksX4_pull_1 3 rfl rfl)
theorem dX4_pull_28 : decode cX4_pull 28 = .ok (.invokestatic 160, 3) := dk_184 0 160 (dk_at dksX4_pull_1 5 rfl rfl)
theorem dX4_pull_31 : decode cX4_pull 31 = .ok (.lreturn, 1) := dk_173 (dk_at dksX4_pull_1 8 rfl rfl)
abbrev cX4_pullOf : ByteArray := prog_9_method_42_code
def yX4_pullOf : MethodName := ⟨RX4, "pullOf", "(II)J"⟩
def dkwX4_pullOf_4 : List UInt8 := [167, 0, 5, 22, 4, 55, 4, 132, 6, 1, 167, 255, 197, 22, 4, 173]
abbrev dktX4_pullOf_4 : List UInt8 := dkwX4_pullOf_4 ++ []
def dkwX4_pullOf_3 : List UInt8 := [21, 6, 104, 16, 10, 96, 47, 42, 180, 0, 25, 16, 11, 21, 6, 104, 27, 96, 47, 28, 184, 0, 138]
abbrev dktX4_pullOf_3 : List UInt8 := dkwX4_pullOf_3 ++ dktX4_pullOf_4
def dkwX4_pullOf_2 : List UInt8 := [180, 0, 121, 162, 0, 56, 42, 180, 0, 29, 21, 6, 46, 27, 160, 0, 35, 42, 180, 0, 25, 16, 11]
abbrev dktX4_pullOf_2 : List UInt8 := dkwX4_pullOf_2 ++ dktX4_pullOf_3
def dkwX4_pullOf_1 : List UInt8 := [126, 154, 0, 6, 28, 133, 173, 42, 29, 182, 0, 142, 87, 9, 55, 4, 3, 54, 6, 21, 6, 42]
abbrev dktX4_pullOf_1 : List UInt8 := dkwX4_pullOf_1 ++ dktX4_pullOf_2
def dkwX4_pullOf_0 : List UInt8 := [42, 42, 180, 0, 76, 182, 0, 157, 62, 29, 2, 160, 0, 9, 16, 253, 184, 0, 160, 173, 29, 27, 122, 4]
abbrev dktX4_pullOf_0 : List UInt8 := dkwX4_pullOf_0 ++ dktX4_pullOf_1
theorem dksX4_pullOf_0 : cX4_pullOf.data.toList.drop 0 = dktX4_pullOf_0 := by decide +kernel
theorem dksX4_pullOf_1 : cX4_pullOf.data.toList.drop 24 = dktX4_pullOf_1 := dk_seg dksX4_pullOf_0 24 rfl rfl
theorem dksX4_pullOf_2 : cX4_pullOf.data.toList.drop 46 = dktX4_pullOf_2 := dk_seg dksX4_pullOf_1 22 rfl rfl
theorem dksX4_pullOf_3 : cX4_pullOf.data.toList.drop 69 = dktX4_pullOf_3 := dk_seg dksX4_pullOf_2 23 rfl rfl
theorem dksX4_pullOf_4 : cX4_pullOf.data.toList.drop 92 = dktX4_pullOf_4 := dk_seg dksX4_pullOf_3 23 rfl rfl
theorem dX4_pullOf_0 : decode cX4_pullOf 0 = .ok (.aload_n 0, 1) := dk_42 (dk_at dksX4_pullOf_0 0 rfl rfl)
theorem dX4_pullOf_1 : decode cX4_pullOf 1 = .ok (.aload_n 0, 1) := dk_42 (dk_at dksX4_pullOf_0 1 rfl rfl)
theorem dX4_pullOf_2 : decode cX4_pullOf 2 = .ok (.getfield 76, 3) := dk_180 0 76 (dk_at dksX4_pullOf_0 2 rfl rfl)
theorem dX4_pullOf_5 : decode cX4_pullOf 5 = .ok (.invokevirtual 157, 3) := dk_182 0 157 (dk_at dksX4_pullOf_0 5 rfl rfl)
theorem dX4_pullOf_8 : decode cX4_pullOf 8 = .ok (.istore_n 3, 1) := dk_62 (dk_at dksX4_pullOf_0 8 rfl rfl)
theorem dX4_pullOf_9 : decode cX4_pullOf 9 = .ok (.iload_n 3, 1) := dk_29 (dk_at dksX4_pullOf_0 9 rfl rfl)
theorem dX4_pullOf_10 : decode cX4_pullOf 10 = .ok (.iconst (-1), 1) := dk_2 (dk_at dksX4_pullOf_0 10 rfl rfl)
theorem dX4_pullOf_11 : decode cX4_pullOf 11 = .ok (.if_icmp .ne 9, 3) := dk_160 0 9 (dk_at dksX4_pullOf_0 11 rfl rfl)
theorem dX4_pullOf_14 : decode cX4_pullOf 14 = .ok (.bipush (-3), 2) := dk_16 253 (dk_at dksX4_pullOf_0 14 rfl rfl)
theorem dX4_pullOf_16 : decode cX4_pullOf 16 = .ok (.invokestatic 160, 3) := dk_184 0 160 (dk_at dksX4_pullOf_0 16 rfl rfl)
theorem dX4_pullOf_19 : decode cX4_pullOf 19 = .ok (.lreturn, 1) := dk_173 (dk_at dksX4_pullOf_0 19 rfl rfl)
theorem dX4_pullOf_20 : decode cX4_pullOf 20 = .ok (.iload_n 3, 1) := dk_29 (dk_at dksX4_pullOf_0 20 rfl rfl)
theorem dX4_pullOf_21 : decode cX4_pullOf 21 = .ok (.iload_n 1, 1) := dk_27 (dk_at dksX4_pullOf_0 21 rfl rfl)
theorem dX4_pullOf_22 : decode cX4_pullOf 22 = .ok (.ishr, 1) := dk_122 (dk_at dksX4_pullOf_0 22 rfl rfl)
theorem dX4_pullOf_23 : decode cX4_pullOf 23 = .ok (.iconst 1, 1) := dk_4 (dk_at dksX4_pullOf_0 23 rfl rfl)
theorem dX4_pullOf_24 : decode cX4_pullOf 24 = .ok (.iand, 1) := dk_126 (dk_at dksX4_pullOf_1 0 rfl rfl)
theorem dX4_pullOf_25 : decode cX4_pullOf 25 = .ok (.ifCond .ne 6, 3) := dk_154 0 6 (dk_at dksX4_pullOf_1 1 rfl rfl)
theorem dX4_pullOf_28 : decode cX4_pullOf 28 = .ok (.iload_n 2, 1) := dk_28 (dk_at dksX4_pullOf_1 4 rfl rfl)
theorem dX4_pullOf_29 : decode cX4_pullOf 29 = .ok (.i2l, 1) := dk_133 (dk_at dksX4_pullOf_1 5 rfl rfl)
theorem dX4_pullOf_30 : decode cX4_pullOf 30 = .ok (.lreturn, 1) := dk_173 (dk_at dksX4_pullOf_1 6 rfl rfl)
theorem dX4_pullOf_31 : decode cX4_pullOf 31 = .ok (.aload_n 0, 1) := dk_42 (dk_at dksX4_pullOf_1 7 rfl rfl)
theorem dX4_pullOf_32 : decode cX4_pullOf 32 = .ok (.iload_n 3, 1) := dk_29 (dk_at dksX4_pullOf_1 8 rfl rfl)
theorem dX4_pullOf_33 : decode cX4_pullOf 33 = .ok (.invokevirtual 142, 3) := dk_182 0 142 (dk_at dksX4_pullOf_1 9 rfl rfl)
theorem dX4_pullOf_36 : decode cX4_pullOf 36 = .ok (.pop, 1) := dk_87 (dk_at dksX4_pullOf_1 12 rfl rfl)
theorem dX4_pullOf_37 : decode cX4_pullOf 37 = .ok (.lconst 0, 1) := dk_9 (dk_at dksX4_pullOf_1 13 rfl rfl)
theorem dX4_pullOf_38 : decode cX4_pullOf 38 = .ok (.lstore 4, 2) := dk_55 4 (dk_at dksX4_pullOf_1 14 rfl rfl)
theorem dX4_pullOf_40 : decode cX4_pullOf 40 = .ok (.iconst 0, 1) := dk_3 (dk_at dksX4_pullOf_1 16 rfl rfl)
theorem dX4_pullOf_41 : decode cX4_pullOf 41 = .ok (.istore 6, 2) := dk_54 6 (dk_at dksX4_pullOf_1 17 rfl rfl)
theorem dX4_pullOf_43 : decode cX4_pullOf 43 = .ok (.iload 6, 2) := dk_21 6 (dk_at dksX4_pullOf_1 19 rfl rfl)
theorem dX4_pullOf_45 : decode cX4_pullOf 45 = .ok (.aload_n 0, 1) := dk_42 (dk_at dksX4_pullOf_1 21 rfl rfl)
theorem dX4_pullOf_46 : decode cX4_pullOf 46 = .ok (.getfield 121, 3) := dk_180 0 121 (dk_at dksX4_pullOf_2 0 rfl rfl)
theorem dX4_pullOf_49 : decode cX4_pullOf 49 = .ok (.if_icmp .ge 56, 3) := dk_162 0 56 (dk_at dksX4_pullOf_2 3 rfl rfl)
theorem dX4_pullOf_52 : decode cX4_pullOf 52 = .ok (.aload_n 0, 1) := dk_42 (dk_at dksX4_pullOf_2 6 rfl rfl)
theorem dX4_pullOf_53 : decode cX4_pullOf 53 = .ok (.getfield 29, 3) := dk_180 0 29 (dk_at dksX4_pullOf_2 7 rfl rfl)
theorem dX4_pullOf_56 : decode cX4_pullOf 56 = .ok (.iload 6, 2) := dk_21 6 (dk_at dksX4_pullOf_2 10 rfl rfl)
theorem dX4_pullOf_58 : decode cX4_pullOf 58 = .ok (.iaload, 1) := dk_46 (dk_at dksX4_pullOf_2 12 rfl rfl)
theorem dX4_pullOf_59 : decode cX4_pullOf 59 = .ok (.iload_n 1, 1) := dk_27 (dk_at dksX4_pullOf_2 13 rfl rfl)
theorem dX4_pullOf_60 : decode cX4_pullOf 60 = .ok (.if_icmp .ne 35, 3) := dk_160 0 35 (dk_at dksX4_pullOf_2 14 rfl rfl)
theorem dX4_pullOf_63 : decode cX4_pullOf 63 = .ok (.aload_n 0, 1) := dk_42 (dk_at dksX4_pullOf_2 17 rfl rfl)
theorem dX4_pullOf_64 : decode cX4_pullOf 64 = .ok (.getfield 25, 3) := dk_180 0 25 (dk_at dksX4_pullOf_2 18 rfl rfl)
theorem dX4_pullOf_67 : decode cX4_pullOf 67 = .ok (.bipush 11, 2) := dk_16 11 (dk_at dksX4_pullOf_2 21 rfl rfl)
theorem dX4_pullOf_69 : decode cX4_pullOf 69 = .ok (.iload 6, 2) := dk_21 6 (dk_at dksX4_pullOf_3 0 rfl rfl)
theorem dX4_pullOf_71 : decode cX4_pullOf 71 = .ok (.imul, 1) := dk_104 (dk_at dksX4_pullOf_3 2 rfl rfl)
theorem dX4_pullOf_72 : decode cX4_pullOf 72 = .ok (.bipush 10, 2) := dk_16 10 (dk_at dksX4_pullOf_3 3 rfl rfl)
theorem dX4_pullOf_74 : decode cX4_pullOf 74 = .ok (.iadd, 1) := dk_96 (dk_at dksX4_pullOf_3 5 rfl rfl)
theorem dX4_pullOf_75 : decode cX4_pullOf 75 = .ok (.laload, 1) := dk_47 (dk_at dksX4_pullOf_3 6 rfl rfl)
theorem dX4_pullOf_76 : decode cX4_pullOf 76 = .ok (.aload_n 0, 1) := dk_42 (dk_at dksX4_pullOf_3 7 rfl rfl)
theorem dX4_pullOf_77 : decode cX4_pullOf 77 = .ok (.getfield 25, 3) := dk_180 0 25 (dk_at dksX4_pullOf_3 8 rfl rfl)
theorem dX4_pullOf_80 : decode cX4_pullOf 80 = .ok (.bipush 11, 2) := dk_16 11 (dk_at dksX4_pullOf_3 11 rfl rfl)
theorem dX4_pullOf_82 : decode cX4_pullOf 82 = .ok (.iload 6, 2) := dk_21 6 (dk_at dksX4_pullOf_3 13 rfl rfl)
theorem dX4_pullOf_84 : decode cX4_pullOf 84 = .ok (.imul, 1) := dk_104 (dk_at dksX4_pullOf_3 15 rfl rfl)
theorem dX4_pullOf_85 : decode cX4_pullOf 85 = .ok (.iload_n 1, 1) := dk_27 (dk_at dksX4_pullOf_3 16 rfl rfl)
theorem dX4_pullOf_86 : decode cX4_pullOf 86 = .ok (.iadd, 1) := dk_96 (dk_at dksX4_pullOf_3 17 rfl rfl)
theorem dX4_pullOf_87 : decode cX4_pullOf 87 = .ok (.laload, 1) := dk_47 (dk_at dksX4_pullOf_3 18 rfl rfl)
theorem dX4_pullOf_88 : decode cX4_pullOf 88 = .ok (.iload_n 2, 1) := dk_28 (dk_at dksX4_pullOf_3 19 rfl rfl)
theorem dX4_pullOf_89 : decode cX4_pullOf 89 = .ok (.invokestatic 138, 3) := dk_184 0 138 (dk_at dksX4_pullOf_3 20 rfl rfl)
theorem dX4_pullOf_92 : decode cX4_pullOf 92 = .ok (.goto 5, 3) := dk_167 0 5 (dk_at dksX4_pullOf_4 0 rfl rfl)
theorem dX4_pullOf_95 : decode cX4_pullOf 95 = .ok (.lload 4, 2) := dk_22 4 (dk_at dksX4_pullOf_4 3 rfl rfl)
theorem dX4_pullOf_97 : decode cX4_pullOf 97 = .ok (.lstore 4, 2) := dk_55 4 (dk_at dksX4_pullOf_4 5 rfl rfl)
theorem dX4_pullOf_99 : decode cX4_pullOf 99 = .ok (.iinc 6 1, 3) := dk_132 6 1 (dk_at dksX4_pullOf_4 7 rfl rfl)
theorem dX4_pullOf_102 : decode cX4_pullOf 102 = .ok (.goto (-59), 3) := dk_167 255 197 (dk_at dksX4_pullOf_4 10 rfl rfl)
theorem dX4_pullOf_105 : decode cX4_pullOf 105 = .ok (.lload 4, 2) := dk_22 4 (dk_at dksX4_pullOf_4 13 rfl rfl)
theorem dX4_pullOf_107 : decode cX4_pullOf 107 = .ok (.lreturn, 1) := dk_173 (dk_at dksX4_pullOf_4 15 rfl rfl)
abbrev cX4_without : ByteArray := prog_9_method_44_code
def yX4_without : MethodName := ⟨RX4, "without", "(II)J"⟩
def dkwX4_without_1 : List UInt8 := [120, 2, 130, 126, 28, 182, 0, 164, 167, 0, 8, 16, 254, 184, 0, 160, 173]
abbrev dktX4_without_1 : List UInt8 := dkwX4_without_1 ++ []
def dkwX4_without_0 : List UInt8 := [42, 27, 182, 0, 174, 153, 0, 30, 28, 3, 4, 184, 0, 64, 153, 0, 21, 42, 42, 180, 0, 76, 4, 27]
abbrev dktX4_without_0 : List UInt8 := dkwX4_without_0 ++ dktX4_without_1
theorem dksX4_without_0 : cX4_without.data.toList.drop 0 = dktX4_without_0 := by decide +kernel
theorem dksX4_without_1 : cX4_without.data.toList.drop 24 = dktX4_without_1 := dk_seg dksX4_without_0 24 rfl rfl
theorem dX4_without_0 : decode cX4_without 0 = .ok (.aload_n 0, 1) := dk_42 (dk_at dksX4_without_0 0 rfl rfl)
theorem dX4_without_1 : decode cX4_without 1 = .ok (.iload_n 1, 1) := dk_27 (dk_at dksX4_without_0 1 rfl rfl)
theorem dX4_without_2 : decode cX4_without 2 = .ok (.invokevirtual 174, 3) := dk_182 0 174 (dk_at dksX4_without_0 2 rfl rfl)
theorem dX4_without_5 : decode cX4_without 5 = .ok (.ifCond .eq 30, 3) := dk_153 0 30 (dk_at dksX4_without_0 5 rfl rfl)
theorem dX4_without_8 : decode cX4_without 8 = .ok (.iload_n 2, 1) := dk_28 (dk_at dksX4_without_0 8 rfl rfl)
theorem dX4_without_9 : decode cX4_without 9 = .ok (.iconst 0, 1) := dk_3 (dk_at dksX4_without_0 9 rfl rfl)
theorem dX4_without_10 : decode cX4_without 10 = .ok (.iconst 1, 1) := dk_4 (dk_at dksX4_without_0 10 rfl rfl)
theorem dX4_without_11 : decode cX4_without 11 = .ok (.invokestatic 64, 3) := dk_184 0 64 (dk_at dksX4_without_0 11 rfl rfl)
theorem dX4_without_14 : decode cX4_without 14 = .ok (.ifCond .eq 21, 3) := dk_153 0 21 (dk_at dksX4_without_0 14 rfl rfl)
theorem dX4_without_17 : decode cX4_without 17 = .ok (.aload_n 0, 1) := dk_42 (dk_at dksX4_without_0 17 rfl rfl)
theorem dX4_without_18 : decode cX4_without 18 = .ok (.aload_n 0, 1) := dk_42 (dk_at dksX4_without_0 18 rfl rfl)
theorem dX4_without_19 : decode cX4_without 19 = .ok (.getfield 76, 3) := dk_180 0 76 (dk_at dksX4_without_0 19 rfl rfl)
theorem dX4_without_22 : decode cX4_without 22 = .ok (.iconst 1, 1) := dk_4 (dk_at dksX4_without_0 22 rfl rfl)
theorem dX4_without_23 : decode cX4_without 23 = .ok (.iload_n 1, 1) := dk_27 (dk_at dksX4_without_0 23 rfl rfl)
theorem dX4_without_24 : decode cX4_without 24 = .ok (.ishl, 1) := dk_120 (dk_at dksX4_without_1 0 rfl rfl)
theorem dX4_without_25 : decode cX4_without 25 = .ok (.iconst (-1), 1) := dk_2 (dk_at dksX4_without_1 1 rfl rfl)
theorem dX4_without_26 : decode cX4_without 26 = .ok (.ixor, 1) := dk_130 (dk_at dksX4_without_1 2 rfl rfl)
theorem dX4_without_27 : decode cX4_without 27 = .ok (.iand, 1) := dk_126 (dk_at dksX4_without_1 3 rfl rfl)
theorem dX4_without_28 : decode cX4_without 28 = .ok (.iload_n 2, 1) := dk_28 (dk_at dksX4_without_1 4 rfl rfl)
theorem dX4_without_29 : decode cX4_without 29 = .ok (.invokevirtual 164, 3) := dk_182 0 164 (dk_at dksX4_without_1 5 rfl rfl)
theorem dX4_without_32 : decode cX4_without 32 = .ok (.goto 8, 3) := dk_167 0 8 (dk_at dksX4_without_1 8 rfl rfl)
theorem dX4_without_35 : decode cX4_without 35 = .ok (.bipush (-2), 2) := dk_16 254 (dk_at dksX4_without_1 11 rfl rfl)
theorem dX4_without_37 : decode cX4_without 37 = .ok (.invokestatic 160, 3) := dk_184 0 160 (dk_at dksX4_without_1 13 rfl rfl)
theorem dX4_without_40 : decode cX4_without 40 = .ok (.lreturn, 1) := dk_173 (dk_at dksX4_without_1 16 rfl rfl)
abbrev cX4_isBar : ByteArray := prog_9_method_10_code
def yX4_isBar : MethodName := ⟨RX4, "isBar", "(I)Z"⟩
def dkwX4_isBar_1 : List UInt8 := [3, 172]
abbrev dktX4_isBar_1 : List UInt8 := dkwX4_isBar_1 ++ []
def dkwX4_isBar_0 : List UInt8 := [42, 27, 182, 0, 72, 153, 0, 19, 42, 180, 0, 76, 27, 122, 4, 126, 4, 160, 0, 7, 4, 167, 0, 4]
abbrev dktX4_isBar_0 : List UInt8 := dkwX4_isBar_0 ++ dktX4_isBar_1
theorem dksX4_isBar_0 : cX4_isBar.data.toList.drop 0 = dktX4_isBar_0 := by decide +kernel
theorem dksX4_isBar_1 : cX4_isBar.data.toList.drop 24 = dktX4_isBar_1 := dk_seg dksX4_isBar_0 24 rfl rfl
theorem dX4_isBar_0 : decode cX4_isBar 0 = .ok (.aload_n 0, 1) := dk_42 (dk_at dksX4_isBar_0 0 rfl rfl)
theorem dX4_isBar_1 : decode cX4_isBar 1 = .ok (.iload_n 1, 1) := dk_27 (dk_at dksX4_isBar_0 1 rfl rfl)
theorem dX4_isBar_2 : decode cX4_isBar 2 = .ok (.invokevirtual 72, 3) := dk_182 0 72 (dk_at dksX4_isBar_0 2 rfl rfl)
theorem dX4_isBar_5 : decode cX4_isBar 5 = .ok (.ifCond .eq 19, 3) := dk_153 0 19 (dk_at dksX4_isBar_0 5 rfl rfl)
theorem dX4_isBar_8 : decode cX4_isBar 8 = .ok (.aload_n 0, 1) := dk_42 (dk_at dksX4_isBar_0 8 rfl rfl)
theorem dX4_isBar_9 : decode cX4_isBar 9 = .ok (.getfield 76, 3) := dk_180 0 76 (dk_at dksX4_isBar_0 9 rfl rfl)
theorem dX4_isBar_12 : decode cX4_isBar 12 = .ok (.iload_n 1, 1) := dk_27 (dk_at dksX4_isBar_0 12 rfl rfl)
theorem dX4_isBar_13 : decode cX4_isBar 13 = .ok (.ishr, 1) := dk_122 (dk_at dksX4_isBar_0 13 rfl rfl)
theorem dX4_isBar_14 : decode cX4_isBar 14 = .ok (.iconst 1, 1) := dk_4 (dk_at dksX4_isBar_0 14 rfl rfl)
theorem dX4_isBar_15 : decode cX4_isBar 15 = .ok (.iand, 1) := dk_126 (dk_at dksX4_isBar_0 15 rfl rfl)
theorem dX4_isBar_16 : decode cX4_isBar 16 = .ok (.iconst 1, 1) := dk_4 (dk_at dksX4_isBar_0 16 rfl rfl)
theorem dX4_isBar_17 : decode cX4_isBar 17 = .ok (.if_icmp .ne 7, 3) := dk_160 0 7 (dk_at dksX4_isBar_0 17 rfl rfl)
theorem dX4_isBar_20 : decode cX4_isBar 20 = .ok (.iconst 1, 1) := dk_4 (dk_at dksX4_isBar_0 20 rfl rfl)
theorem dX4_isBar_21 : decode cX4_isBar 21 = .ok (.goto 4, 3) := dk_167 0 4 (dk_at dksX4_isBar_0 21 rfl rfl)
theorem dX4_isBar_24 : decode cX4_isBar 24 = .ok (.iconst 0, 1) := dk_3 (dk_at dksX4_isBar_1 0 rfl rfl)
theorem dX4_isBar_25 : decode cX4_isBar 25 = .ok (.ireturn, 1) := dk_172 (dk_at dksX4_isBar_1 1 rfl rfl)
abbrev cX4_why : ByteArray := prog_9_method_45_code
def yX4_why : MethodName := ⟨RX4, "why", "(I)I"⟩
def dkwX4_why_1 : List UInt8 := [167, 0, 5, 16, 254, 172]
abbrev dktX4_why_1 : List UInt8 := dkwX4_why_1 ++ []
def dkwX4_why_0 : List UInt8 := [42, 27, 182, 0, 174, 153, 0, 20, 42, 42, 180, 0, 76, 4, 27, 120, 2, 130, 126, 182, 0, 142]
abbrev dktX4_why_0 : List UInt8 := dkwX4_why_0 ++ dktX4_why_1
theorem dksX4_why_0 : cX4_why.data.toList.drop 0 = dktX4_why_0 := by decide +kernel
theorem dksX4_why_1 : cX4_why.data.toList.drop 22 = dktX4_why_1 := dk_seg dksX4_why_0 22 rfl rfl
theorem dX4_why_0 : decode cX4_why 0 = .ok (.aload_n 0, 1) := dk_42 (dk_at dksX4_why_0 0 rfl rfl)
theorem dX4_why_1 : decode cX4_why 1 = .ok (.iload_n 1, 1) := dk_27 (dk_at dksX4_why_0 1 rfl rfl)
theorem dX4_why_2 : decode cX4_why 2 = .ok (.invokevirtual 174, 3) := dk_182 0 174 (dk_at dksX4_why_0 2 rfl rfl)
theorem dX4_why_5 : decode cX4_why 5 = .ok (.ifCond .eq 20, 3) := dk_153 0 20 (dk_at dksX4_why_0 5 rfl rfl)
theorem dX4_why_8 : decode cX4_why 8 = .ok (.aload_n 0, 1) := dk_42 (dk_at dksX4_why_0 8 rfl rfl)
theorem dX4_why_9 : decode cX4_why 9 = .ok (.aload_n 0, 1) := dk_42 (dk_at dksX4_why_0 9 rfl rfl)
theorem dX4_why_10 : decode cX4_why 10 = .ok (.getfield 76, 3) := dk_180 0 76 (dk_at dksX4_why_0 10 rfl rfl)
theorem dX4_why_13 : decode cX4_why 13 = .ok (.iconst 1, 1) := dk_4 (dk_at dksX4_why_0 13 rfl rfl)
theorem dX4_why_14 : decode cX4_why 14 = .ok (.iload_n 1, 1) := dk_27 (dk_at dksX4_why_0 14 rfl rfl)
theorem dX4_why_15 : decode cX4_why 15 = .ok (.ishl, 1) := dk_120 (dk_at dksX4_why_0 15 rfl rfl)
theorem dX4_why_16 : decode cX4_why 16 = .ok (.iconst (-1), 1) := dk_2 (dk_at dksX4_why_0 16 rfl rfl)
theorem dX4_why_17 : decode cX4_why 17 = .ok (.ixor, 1) := dk_130 (dk_at dksX4_why_0 17 rfl rfl)
theorem dX4_why_18 : decode cX4_why 18 = .ok (.iand, 1) := dk_126 (dk_at dksX4_why_0 18 rfl rfl)
theorem dX4_why_19 : decode cX4_why 19 = .ok (.invokevirtual 142, 3) := dk_182 0 142 (dk_at dksX4_why_0 19 rfl rfl)
theorem dX4_why_22 : decode cX4_why 22 = .ok (.goto 5, 3) := dk_167 0 5 (dk_at dksX4_why_1 0 rfl rfl)
theorem dX4_why_25 : decode cX4_why 25 = .ok (.bipush (-2), 2) := dk_16 254 (dk_at dksX4_why_1 3 rfl rfl)
theorem dX4_why_27 : decode cX4_why 27 = .ok (.ireturn, 1) := dk_172 (dk_at dksX4_why_1 5 rfl rfl)
abbrev cX4_needed : ByteArray := prog_9_method_48_code
def yX4_needed : MethodName := ⟨RX4, "needed", "()I"⟩
theorem dX4_needed_0 : decode cX4_needed 0 = .ok (.aload_n 0, 1) := by decide +kernel
theorem dX4_needed_1 : decode cX4_needed 1 = .ok (.invokevirtual 180, 3) := by decide +kernel
theorem dX4_needed_4 : decode cX4_needed 4 = .ok (.ireturn, 1) := by decide +kernel
abbrev cX4_neededNow : ByteArray := prog_9_method_47_code
def yX4_neededNow : MethodName := ⟨RX4, "neededNow", "()I"⟩
def dkwX4_neededNow_2 : List UInt8 := [167, 0, 4, 3, 128, 61, 132, 3, 1, 167, 255, 213, 27, 2, 160, 0, 8, 16, 253, 167, 0, 4, 28, 172]
abbrev dktX4_neededNow_2 : List UInt8 := dkwX4_neededNow_2 ++ []
def dkwX4_neededNow_1 : List UInt8 := [159, 0, 36, 28, 42, 29, 182, 0, 174, 153, 0, 18, 42, 29, 27, 182, 0, 177, 153, 0, 9, 4, 29, 120]
abbrev dktX4_neededNow_1 : List UInt8 := dkwX4_neededNow_1 ++ dktX4_neededNow_2
def dkwX4_neededNow_0 : List UInt8 := [42, 42, 180, 0, 76, 182, 0, 157, 60, 3, 61, 3, 62, 29, 42, 182, 0, 68, 162, 0, 41, 27, 2]
abbrev dktX4_neededNow_0 : List UInt8 := dkwX4_neededNow_0 ++ dktX4_neededNow_1
theorem dksX4_neededNow_0 : cX4_neededNow.data.toList.drop 0 = dktX4_neededNow_0 := by decide +kernel
theorem dksX4_neededNow_1 : cX4_neededNow.data.toList.drop 23 = dktX4_neededNow_1 := dk_seg dksX4_neededNow_0 23 rfl rfl
theorem dksX4_neededNow_2 : cX4_neededNow.data.toList.drop 47 = dktX4_neededNow_2 := dk_seg dksX4_neededNow_1 24 rfl rfl
theorem dX4_neededNow_0 : decode cX4_neededNow 0 = .ok (.aload_n 0, 1) := dk_42 (dk_at dksX4_neededNow_0 0 rfl rfl)
theorem dX4_neededNow_1 : decode cX4_neededNow 1 = .ok (.aload_n 0, 1) := dk_42 (dk_at dksX4_neededNow_0 1 rfl rfl)
theorem dX4_neededNow_2 : decode cX4_neededNow 2 = .ok (.getfield 76, 3) := dk_180 0 76 (dk_at dksX4_neededNow_0 2 rfl rfl)
theorem dX4_neededNow_5 : decode cX4_neededNow 5 = .ok (.invokevirtual 157, 3) := dk_182 0 157 (dk_at dksX4_neededNow_0 5 rfl rfl)
theorem dX4_neededNow_8 : decode cX4_neededNow 8 = .ok (.istore_n 1, 1) := dk_60 (dk_at dksX4_neededNow_0 8 rfl rfl)
theorem dX4_neededNow_9 : decode cX4_neededNow 9 = .ok (.iconst 0, 1) := dk_3 (dk_at dksX4_neededNow_0 9 rfl rfl)
theorem dX4_neededNow_10 : decode cX4_neededNow 10 = .ok (.istore_n 2, 1) := dk_61 (dk_at dksX4_neededNow_0 10 rfl rfl)
theorem dX4_neededNow_11 : decode cX4_neededNow 11 = .ok (.iconst 0, 1) := dk_3 (dk_at dksX4_neededNow_0 11 rfl rfl)
theorem dX4_neededNow_12 : decode cX4_neededNow 12 = .ok (.istore_n 3, 1) := dk_62 (dk_at dksX4_neededNow_0 12 rfl rfl)
theorem dX4_neededNow_13 : decode cX4_neededNow 13 = .ok (.iload_n 3, 1) := dk_29 (dk_at dksX4_neededNow_0 13 rfl rfl)
theorem dX4_neededNow_14 : decode cX4_neededNow 14 = .ok (.aload_n 0, 1) := dk_42 (dk_at dksX4_neededNow_0 14 rfl rfl)
theorem dX4_neededNow_15 : decode cX4_neededNow 15 = .ok (.invokevirtual 68, 3) := dk_182 0 68 (dk_at dksX4_neededNow_0 15 rfl rfl)
theorem dX4_neededNow_18 : decode cX4_neededNow 18 = .ok (.if_icmp .ge 41, 3) := dk_162 0 41 (dk_at dksX4_neededNow_0 18 rfl rfl)
theorem dX4_neededNow_21 : decode cX4_neededNow 21 = .ok (.iload_n 1, 1) := dk_27 (dk_at dksX4_neededNow_0 21 rfl rfl)
theorem dX4_neededNow_22 : decode cX4_neededNow 22 = .ok (.iconst (-1), 1) := dk_2 (dk_at dksX4_neededNow_0 22 rfl rfl)
theorem dX4_neededNow_23 : decode cX4_neededNow 23 = .ok (.if_icmp .eq 36, 3) := dk_159 0 36 (dk_at dksX4_neededNow_1 0 rfl rfl)
theorem dX4_neededNow_26 : decode cX4_neededNow 26 = .ok (.iload_n 2, 1) := dk_28 (dk_at dksX4_neededNow_1 3 rfl rfl)
theorem dX4_neededNow_27 : decode cX4_neededNow 27 = .ok (.aload_n 0, 1) := dk_42 (dk_at dksX4_neededNow_1 4 rfl rfl)
theorem dX4_neededNow_28 : decode cX4_neededNow 28 = .ok (.iload_n 3, 1) := dk_29 (dk_at dksX4_neededNow_1 5 rfl rfl)
theorem dX4_neededNow_29 : decode cX4_neededNow 29 = .ok (.invokevirtual 174, 3) := dk_182 0 174 (dk_at dksX4_neededNow_1 6 rfl rfl)
theorem dX4_neededNow_32 : decode cX4_neededNow 32 = .ok (.ifCond .eq 18, 3) := dk_153 0 18 (dk_at dksX4_neededNow_1 9 rfl rfl)
theorem dX4_neededNow_35 : decode cX4_neededNow 35 = .ok (.aload_n 0, 1) := dk_42 (dk_at dksX4_neededNow_1 12 rfl rfl)
theorem dX4_neededNow_36 : decode cX4_neededNow 36 = .ok (.iload_n 3, 1) := dk_29 (dk_at dksX4_neededNow_1 13 rfl rfl)
theorem dX4_neededNow_37 : decode cX4_neededNow 37 = .ok (.iload_n 1, 1) := dk_27 (dk_at dksX4_neededNow_1 14 rfl rfl)
theorem dX4_neededNow_38 : decode cX4_neededNow 38 = .ok (.invokevirtual 177, 3) := dk_182 0 177 (dk_at dksX4_neededNow_1 15 rfl rfl)
theorem dX4_neededNow_41 : decode cX4_neededNow 41 = .ok (.ifCond .eq 9, 3) := dk_153 0 9 (dk_at dksX4_neededNow_1 18 rfl rfl)
theorem dX4_neededNow_44 : decode cX4_neededNow 44 = .ok (.iconst 1, 1) := dk_4 (dk_at dksX4_neededNow_1 21 rfl rfl)
theorem dX4_neededNow_45 : decode cX4_neededNow 45 = .ok (.iload_n 3, 1) := dk_29 (dk_at dksX4_neededNow_1 22 rfl rfl)
theorem dX4_neededNow_46 : decode cX4_neededNow 46 = .ok (.ishl, 1) := dk_120 (dk_at dksX4_neededNow_1 23 rfl rfl)
theorem dX4_neededNow_47 : decode cX4_neededNow 47 = .ok (.goto 4, 3) := dk_167 0 4 (dk_at dksX4_neededNow_2 0 rfl rfl)
theorem dX4_neededNow_50 : decode cX4_neededNow 50 = .ok (.iconst 0, 1) := dk_3 (dk_at dksX4_neededNow_2 3 rfl rfl)
theorem dX4_neededNow_51 : decode cX4_neededNow 51 = .ok (.ior, 1) := dk_128 (dk_at dksX4_neededNow_2 4 rfl rfl)
theorem dX4_neededNow_52 : decode cX4_neededNow 52 = .ok (.istore_n 2, 1) := dk_61 (dk_at dksX4_neededNow_2 5 rfl rfl)
theorem dX4_neededNow_53 : decode cX4_neededNow 53 = .ok (.iinc 3 1, 3) := dk_132 3 1 (dk_at dksX4_neededNow_2 6 rfl rfl)
theorem dX4_neededNow_56 : decode cX4_neededNow 56 = .ok (.goto (-43), 3) := dk_167 255 213 (dk_at dksX4_neededNow_2 9 rfl rfl)
theorem dX4_neededNow_59 : decode cX4_neededNow 59 = .ok (.iload_n 1, 1) := dk_27 (dk_at dksX4_neededNow_2 12 rfl rfl)
theorem dX4_neededNow_60 : decode cX4_neededNow 60 = .ok (.iconst (-1), 1) := dk_2 (dk_at dksX4_neededNow_2 13 rfl rfl)
theorem dX4_neededNow_61 : decode cX4_neededNow 61 = .ok (.if_icmp .ne 8, 3) := dk_160 0 8 (dk_at dksX4_neededNow_2 14 rfl rfl)
theorem dX4_neededNow_64 : decode cX4_neededNow 64 = .ok (.bipush (-3), 2) := dk_16 253 (dk_at dksX4_neededNow_2 17 rfl rfl)
theorem dX4_neededNow_66 : decode cX4_neededNow 66 = .ok (.goto 4, 3) := dk_167 0 4 (dk_at dksX4_neededNow_2 19 rfl rfl)
theorem dX4_neededNow_69 : decode cX4_neededNow 69 = .ok (.iload_n 2, 1) := dk_28 (dk_at dksX4_neededNow_2 22 rfl rfl)
theorem dX4_neededNow_70 : decode cX4_neededNow 70 = .ok (.ireturn, 1) := dk_172 (dk_at dksX4_neededNow_2 23 rfl rfl)
abbrev cX4_isNeeded : ByteArray := prog_9_method_46_code
def yX4_isNeeded : MethodName := ⟨RX4, "isNeeded", "(II)Z"⟩
def dkwX4_isNeeded_1 : List UInt8 := [182, 0, 154, 153, 0, 7, 4, 167, 0, 4, 3, 172]
abbrev dktX4_isNeeded_1 : List UInt8 := dkwX4_isNeeded_1 ++ []
def dkwX4_isNeeded_0 : List UInt8 := [42, 42, 180, 0, 76, 4, 27, 120, 2, 130, 126, 182, 0, 157, 62, 29, 2, 159, 0, 12, 42, 28, 29]
abbrev dktX4_isNeeded_0 : List UInt8 := dkwX4_isNeeded_0 ++ dktX4_isNeeded_1
theorem dksX4_isNeeded_0 : cX4_isNeeded.data.toList.drop 0 = dktX4_isNeeded_0 := by decide +kernel
theorem dksX4_isNeeded_1 : cX4_isNeeded.data.toList.drop 23 = dktX4_isNeeded_1 := dk_seg dksX4_isNeeded_0 23 rfl rfl
theorem dX4_isNeeded_0 : decode cX4_isNeeded 0 = .ok (.aload_n 0, 1) := dk_42 (dk_at dksX4_isNeeded_0 0 rfl rfl)
theorem dX4_isNeeded_1 : decode cX4_isNeeded 1 = .ok (.aload_n 0, 1) := dk_42 (dk_at dksX4_isNeeded_0 1 rfl rfl)
theorem dX4_isNeeded_2 : decode cX4_isNeeded 2 = .ok (.getfield 76, 3) := dk_180 0 76 (dk_at dksX4_isNeeded_0 2 rfl rfl)
theorem dX4_isNeeded_5 : decode cX4_isNeeded 5 = .ok (.iconst 1, 1) := dk_4 (dk_at dksX4_isNeeded_0 5 rfl rfl)
theorem dX4_isNeeded_6 : decode cX4_isNeeded 6 = .ok (.iload_n 1, 1) := dk_27 (dk_at dksX4_isNeeded_0 6 rfl rfl)
theorem dX4_isNeeded_7 : decode cX4_isNeeded 7 = .ok (.ishl, 1) := dk_120 (dk_at dksX4_isNeeded_0 7 rfl rfl)
theorem dX4_isNeeded_8 : decode cX4_isNeeded 8 = .ok (.iconst (-1), 1) := dk_2 (dk_at dksX4_isNeeded_0 8 rfl rfl)
theorem dX4_isNeeded_9 : decode cX4_isNeeded 9 = .ok (.ixor, 1) := dk_130 (dk_at dksX4_isNeeded_0 9 rfl rfl)
theorem dX4_isNeeded_10 : decode cX4_isNeeded 10 = .ok (.iand, 1) := dk_126 (dk_at dksX4_isNeeded_0 10 rfl rfl)
theorem dX4_isNeeded_11 : decode cX4_isNeeded 11 = .ok (.invokevirtual 157, 3) := dk_182 0 157 (dk_at dksX4_isNeeded_0 11 rfl rfl)
theorem dX4_isNeeded_14 : decode cX4_isNeeded 14 = .ok (.istore_n 3, 1) := dk_62 (dk_at dksX4_isNeeded_0 14 rfl rfl)
theorem dX4_isNeeded_15 : decode cX4_isNeeded 15 = .ok (.iload_n 3, 1) := dk_29 (dk_at dksX4_isNeeded_0 15 rfl rfl)
theorem dX4_isNeeded_16 : decode cX4_isNeeded 16 = .ok (.iconst (-1), 1) := dk_2 (dk_at dksX4_isNeeded_0 16 rfl rfl)
theorem dX4_isNeeded_17 : decode cX4_isNeeded 17 = .ok (.if_icmp .eq 12, 3) := dk_159 0 12 (dk_at dksX4_isNeeded_0 17 rfl rfl)
theorem dX4_isNeeded_20 : decode cX4_isNeeded 20 = .ok (.aload_n 0, 1) := dk_42 (dk_at dksX4_isNeeded_0 20 rfl rfl)
theorem dX4_isNeeded_21 : decode cX4_isNeeded 21 = .ok (.iload_n 2, 1) := dk_28 (dk_at dksX4_isNeeded_0 21 rfl rfl)
theorem dX4_isNeeded_22 : decode cX4_isNeeded 22 = .ok (.iload_n 3, 1) := dk_29 (dk_at dksX4_isNeeded_0 22 rfl rfl)
theorem dX4_isNeeded_23 : decode cX4_isNeeded 23 = .ok (.invokevirtual 154, 3) := dk_182 0 154 (dk_at dksX4_isNeeded_1 0 rfl rfl)
theorem dX4_isNeeded_26 : decode cX4_isNeeded 26 = .ok (.ifCond .eq 7, 3) := dk_153 0 7 (dk_at dksX4_isNeeded_1 3 rfl rfl)
theorem dX4_isNeeded_29 : decode cX4_isNeeded 29 = .ok (.iconst 1, 1) := dk_4 (dk_at dksX4_isNeeded_1 6 rfl rfl)
theorem dX4_isNeeded_30 : decode cX4_isNeeded 30 = .ok (.goto 4, 3) := dk_167 0 4 (dk_at dksX4_isNeeded_1 7 rfl rfl)
theorem dX4_isNeeded_33 : decode cX4_isNeeded 33 = .ok (.iconst 0, 1) := dk_3 (dk_at dksX4_isNeeded_1 10 rfl rfl)
theorem dX4_isNeeded_34 : decode cX4_isNeeded 34 = .ok (.ireturn, 1) := dk_172 (dk_at dksX4_isNeeded_1 11 rfl rfl)
abbrev cX4_dearest : ByteArray := prog_9_method_50_code
def yX4_dearest : MethodName := ⟨RX4, "dearest", "()I"⟩
theorem dX4_dearest_0 : decode cX4_dearest 0 = .ok (.aload_n 0, 1) := by decide +kernel
theorem dX4_dearest_1 : decode cX4_dearest 1 = .ok (.invokevirtual 183, 3) := by decide +kernel
theorem dX4_dearest_4 : decode cX4_dearest 4 = .ok (.ireturn, 1) := by decide +kernel
abbrev cX4_dearestNow : ByteArray := prog_9_method_49_code
def yX4_dearestNow : MethodName := ⟨RX4, "dearestNow", "()I"⟩
def dkwX4_dearestNow_5 : List UInt8 := [132, 5, 1, 167, 255, 150, 27, 16, 253, 160, 0, 8, 16, 253, 167, 0, 4, 28, 172]
abbrev dktX4_dearestNow_5 : List UInt8 := dkwX4_dearestNow_5 ++ []
def dkwX4_dearestNow_4 : List UInt8 := [167, 0, 4, 28, 61, 21, 4, 154, 0, 9, 28, 21, 5, 160, 0, 8, 21, 6, 167, 0, 4, 29, 62]
abbrev dktX4_dearestNow_4 : List UInt8 := dkwX4_dearestNow_4 ++ dktX4_dearestNow_5
def dkwX4_dearestNow_3 : List UInt8 := [54, 4, 21, 4, 154, 0, 18, 28, 2, 159, 0, 13, 42, 29, 21, 6, 182, 0, 154, 153, 0, 8, 21, 5]
abbrev dktX4_dearestNow_3 : List UInt8 := dkwX4_dearestNow_3 ++ dktX4_dearestNow_4
def dkwX4_dearestNow_2 : List UInt8 := [4, 21, 5, 120, 2, 130, 126, 182, 0, 157, 54, 6, 21, 6, 2, 160, 0, 7, 4, 167, 0, 4, 3]
abbrev dktX4_dearestNow_2 : List UInt8 := dkwX4_dearestNow_2 ++ dktX4_dearestNow_3
def dkwX4_dearestNow_1 : List UInt8 := [27, 158, 0, 99, 27, 21, 5, 122, 4, 126, 4, 160, 0, 83, 21, 4, 154, 0, 78, 42, 42, 180, 0, 76]
abbrev dktX4_dearestNow_1 : List UInt8 := dkwX4_dearestNow_1 ++ dktX4_dearestNow_2
def dkwX4_dearestNow_0 : List UInt8 := [42, 182, 0, 180, 60, 2, 61, 2, 62, 3, 54, 4, 3, 54, 5, 21, 5, 42, 182, 0, 68, 162, 0, 103]
abbrev dktX4_dearestNow_0 : List UInt8 := dkwX4_dearestNow_0 ++ dktX4_dearestNow_1
theorem dksX4_dearestNow_0 : cX4_dearestNow.data.toList.drop 0 = dktX4_dearestNow_0 := by decide +kernel
theorem dksX4_dearestNow_1 : cX4_dearestNow.data.toList.drop 24 = dktX4_dearestNow_1 := dk_seg dksX4_dearestNow_0 24 rfl rfl
theorem dksX4_dearestNow_2 : cX4_dearestNow.data.toList.drop 48 = dktX4_dearestNow_2 := dk_seg dksX4_dearestNow_1 24 rfl rfl
theorem dksX4_dearestNow_3 : cX4_dearestNow.data.toList.drop 71 = dktX4_dearestNow_3 := dk_seg dksX4_dearestNow_2 23 rfl rfl
theorem dksX4_dearestNow_4 : cX4_dearestNow.data.toList.drop 95 = dktX4_dearestNow_4 := dk_seg dksX4_dearestNow_3 24 rfl rfl
theorem dksX4_dearestNow_5 : cX4_dearestNow.data.toList.drop 118 = dktX4_dearestNow_5 := dk_seg dksX4_dearestNow_4 23 rfl rfl
theorem dX4_dearestNow_0 : decode cX4_dearestNow 0 = .ok (.aload_n 0, 1) := dk_42 (dk_at dksX4_dearestNow_0 0 rfl rfl)
theorem dX4_dearestNow_1 : decode cX4_dearestNow 1 = .ok (.invokevirtual 180, 3) := dk_182 0 180 (dk_at dksX4_dearestNow_0 1 rfl rfl)
theorem dX4_dearestNow_4 : decode cX4_dearestNow 4 = .ok (.istore_n 1, 1) := dk_60 (dk_at dksX4_dearestNow_0 4 rfl rfl)
theorem dX4_dearestNow_5 : decode cX4_dearestNow 5 = .ok (.iconst (-1), 1) := dk_2 (dk_at dksX4_dearestNow_0 5 rfl rfl)
theorem dX4_dearestNow_6 : decode cX4_dearestNow 6 = .ok (.istore_n 2, 1) := dk_61 (dk_at dksX4_dearestNow_0 6 rfl rfl)
theorem dX4_dearestNow_7 : decode cX4_dearestNow 7 = .ok (.iconst (-1), 1) := dk_2 (dk_at dksX4_dearestNow_0 7 rfl rfl)
theorem dX4_dearestNow_8 : decode cX4_dearestNow 8 = .ok (.istore_n 3, 1) := dk_62 (dk_at dksX4_dearestNow_0 8 rfl rfl)
theorem dX4_dearestNow_9 : decode cX4_dearestNow 9 = .ok (.iconst 0, 1) := dk_3 (dk_at dksX4_dearestNow_0 9 rfl rfl)
theorem dX4_dearestNow_10 : decode cX4_dearestNow 10 = .ok (.istore 4, 2) := dk_54 4 (dk_at dksX4_dearestNow_0 10 rfl rfl)
theorem dX4_dearestNow_12 : decode cX4_dearestNow 12 = .ok (.iconst 0, 1) := dk_3 (dk_at dksX4_dearestNow_0 12 rfl rfl)
theorem dX4_dearestNow_13 : decode cX4_dearestNow 13 = .ok (.istore 5, 2) := dk_54 5 (dk_at dksX4_dearestNow_0 13 rfl rfl)
theorem dX4_dearestNow_15 : decode cX4_dearestNow 15 = .ok (.iload 5, 2) := dk_21 5 (dk_at dksX4_dearestNow_0 15 rfl rfl)
theorem dX4_dearestNow_17 : decode cX4_dearestNow 17 = .ok (.aload_n 0, 1) := dk_42 (dk_at dksX4_dearestNow_0 17 rfl rfl)
theorem dX4_dearestNow_18 : decode cX4_dearestNow 18 = .ok (.invokevirtual 68, 3) := dk_182 0 68 (dk_at dksX4_dearestNow_0 18 rfl rfl)
theorem dX4_dearestNow_21 : decode cX4_dearestNow 21 = .ok (.if_icmp .ge 103, 3) := dk_162 0 103 (dk_at dksX4_dearestNow_0 21 rfl rfl)
theorem dX4_dearestNow_24 : decode cX4_dearestNow 24 = .ok (.iload_n 1, 1) := dk_27 (dk_at dksX4_dearestNow_1 0 rfl rfl)
theorem dX4_dearestNow_25 : decode cX4_dearestNow 25 = .ok (.ifCond .le 99, 3) := dk_158 0 99 (dk_at dksX4_dearestNow_1 1 rfl rfl)
theorem dX4_dearestNow_28 : decode cX4_dearestNow 28 = .ok (.iload_n 1, 1) := dk_27 (dk_at dksX4_dearestNow_1 4 rfl rfl)
theorem dX4_dearestNow_29 : decode cX4_dearestNow 29 = .ok (.iload 5, 2) := dk_21 5 (dk_at dksX4_dearestNow_1 5 rfl rfl)
theorem dX4_dearestNow_31 : decode cX4_dearestNow 31 = .ok (.ishr, 1) := dk_122 (dk_at dksX4_dearestNow_1 7 rfl rfl)
theorem dX4_dearestNow_32 : decode cX4_dearestNow 32 = .ok (.iconst 1, 1) := dk_4 (dk_at dksX4_dearestNow_1 8 rfl rfl)
theorem dX4_dearestNow_33 : decode cX4_dearestNow 33 = .ok (.iand, 1) := dk_126 (dk_at dksX4_dearestNow_1 9 rfl rfl)
theorem dX4_dearestNow_34 : decode cX4_dearestNow 34 = .ok (.iconst 1, 1) := dk_4 (dk_at dksX4_dearestNow_1 10 rfl rfl)
theorem dX4_dearestNow_35 : decode cX4_dearestNow 35 = .ok (.if_icmp .ne 83, 3) := dk_160 0 83 (dk_at dksX4_dearestNow_1 11 rfl rfl)
theorem dX4_dearestNow_38 : decode cX4_dearestNow 38 = .ok (.iload 4, 2) := dk_21 4 (dk_at dksX4_dearestNow_1 14 rfl rfl)
theorem dX4_dearestNow_40 : decode cX4_dearestNow 40 = .ok (.ifCond .ne 78, 3) := dk_154 0 78 (dk_at dksX4_dearestNow_1 16 rfl rfl)
theorem dX4_dearestNow_43 : decode cX4_dearestNow 43 = .ok (.aload_n 0, 1) := dk_42 (dk_at dksX4_dearestNow_1 19 rfl rfl)
theorem dX4_dearestNow_44 : decode cX4_dearestNow 44 = .ok (.aload_n 0, 1) := dk_42 (dk_at dksX4_dearestNow_1 20 rfl rfl)
theorem dX4_dearestNow_45 : decode cX4_dearestNow 45 = .ok (.getfield 76, 3) := dk_180 0 76 (dk_at dksX4_dearestNow_1 21 rfl rfl)
theorem dX4_dearestNow_48 : decode cX4_dearestNow 48 = .ok (.iconst 1, 1) := dk_4 (dk_at dksX4_dearestNow_2 0 rfl rfl)
theorem dX4_dearestNow_49 : decode cX4_dearestNow 49 = .ok (.iload 5, 2) := dk_21 5 (dk_at dksX4_dearestNow_2 1 rfl rfl)
theorem dX4_dearestNow_51 : decode cX4_dearestNow 51 = .ok (.ishl, 1) := dk_120 (dk_at dksX4_dearestNow_2 3 rfl rfl)
theorem dX4_dearestNow_52 : decode cX4_dearestNow 52 = .ok (.iconst (-1), 1) := dk_2 (dk_at dksX4_dearestNow_2 4 rfl rfl)
theorem dX4_dearestNow_53 : decode cX4_dearestNow 53 = .ok (.ixor, 1) := dk_130 (dk_at dksX4_dearestNow_2 5 rfl rfl)
theorem dX4_dearestNow_54 : decode cX4_dearestNow 54 = .ok (.iand, 1) := dk_126 (dk_at dksX4_dearestNow_2 6 rfl rfl)
theorem dX4_dearestNow_55 : decode cX4_dearestNow 55 = .ok (.invokevirtual 157, 3) := dk_182 0 157 (dk_at dksX4_dearestNow_2 7 rfl rfl)
theorem dX4_dearestNow_58 : decode cX4_dearestNow 58 = .ok (.istore 6, 2) := dk_54 6 (dk_at dksX4_dearestNow_2 10 rfl rfl)
theorem dX4_dearestNow_60 : decode cX4_dearestNow 60 = .ok (.iload 6, 2) := dk_21 6 (dk_at dksX4_dearestNow_2 12 rfl rfl)
theorem dX4_dearestNow_62 : decode cX4_dearestNow 62 = .ok (.iconst (-1), 1) := dk_2 (dk_at dksX4_dearestNow_2 14 rfl rfl)
theorem dX4_dearestNow_63 : decode cX4_dearestNow 63 = .ok (.if_icmp .ne 7, 3) := dk_160 0 7 (dk_at dksX4_dearestNow_2 15 rfl rfl)
theorem dX4_dearestNow_66 : decode cX4_dearestNow 66 = .ok (.iconst 1, 1) := dk_4 (dk_at dksX4_dearestNow_2 18 rfl rfl)
theorem dX4_dearestNow_67 : decode cX4_dearestNow 67 = .ok (.goto 4, 3) := dk_167 0 4 (dk_at dksX4_dearestNow_2 19 rfl rfl)
theorem dX4_dearestNow_70 : decode cX4_dearestNow 70 = .ok (.iconst 0, 1) := dk_3 (dk_at dksX4_dearestNow_2 22 rfl rfl)
theorem dX4_dearestNow_71 : decode cX4_dearestNow 71 = .ok (.istore 4, 2) := dk_54 4 (dk_at dksX4_dearestNow_3 0 rfl rfl)
theorem dX4_dearestNow_73 : decode cX4_dearestNow 73 = .ok (.iload 4, 2) := dk_21 4 (dk_at dksX4_dearestNow_3 2 rfl rfl)
theorem dX4_dearestNow_75 : decode cX4_dearestNow 75 = .ok (.ifCond .ne 18, 3) := dk_154 0 18 (dk_at dksX4_dearestNow_3 4 rfl rfl)
theorem dX4_dearestNow_78 : decode cX4_dearestNow 78 = .ok (.iload_n 2, 1) := dk_28 (dk_at dksX4_dearestNow_3 7 rfl rfl)
theorem dX4_dearestNow_79 : decode cX4_dearestNow 79 = .ok (.iconst (-1), 1) := dk_2 (dk_at dksX4_dearestNow_3 8 rfl rfl)
theorem dX4_dearestNow_80 : decode cX4_dearestNow 80 = .ok (.if_icmp .eq 13, 3) := dk_159 0 13 (dk_at dksX4_dearestNow_3 9 rfl rfl)
theorem dX4_dearestNow_83 : decode cX4_dearestNow 83 = .ok (.aload_n 0, 1) := dk_42 (dk_at dksX4_dearestNow_3 12 rfl rfl)
theorem dX4_dearestNow_84 : decode cX4_dearestNow 84 = .ok (.iload_n 3, 1) := dk_29 (dk_at dksX4_dearestNow_3 13 rfl rfl)
theorem dX4_dearestNow_85 : decode cX4_dearestNow 85 = .ok (.iload 6, 2) := dk_21 6 (dk_at dksX4_dearestNow_3 14 rfl rfl)
theorem dX4_dearestNow_87 : decode cX4_dearestNow 87 = .ok (.invokevirtual 154, 3) := dk_182 0 154 (dk_at dksX4_dearestNow_3 16 rfl rfl)
theorem dX4_dearestNow_90 : decode cX4_dearestNow 90 = .ok (.ifCond .eq 8, 3) := dk_153 0 8 (dk_at dksX4_dearestNow_3 19 rfl rfl)
theorem dX4_dearestNow_93 : decode cX4_dearestNow 93 = .ok (.iload 5, 2) := dk_21 5 (dk_at dksX4_dearestNow_3 22 rfl rfl)
theorem dX4_dearestNow_95 : decode cX4_dearestNow 95 = .ok (.goto 4, 3) := dk_167 0 4 (dk_at dksX4_dearestNow_4 0 rfl rfl)
theorem dX4_dearestNow_98 : decode cX4_dearestNow 98 = .ok (.iload_n 2, 1) := dk_28 (dk_at dksX4_dearestNow_4 3 rfl rfl)
theorem dX4_dearestNow_99 : decode cX4_dearestNow 99 = .ok (.istore_n 2, 1) := dk_61 (dk_at dksX4_dearestNow_4 4 rfl rfl)
theorem dX4_dearestNow_100 : decode cX4_dearestNow 100 = .ok (.iload 4, 2) := dk_21 4 (dk_at dksX4_dearestNow_4 5 rfl rfl)
theorem dX4_dearestNow_102 : decode cX4_dearestNow 102 = .ok (.ifCond .ne 9, 3) := dk_154 0 9 (dk_at dksX4_dearestNow_4 7 rfl rfl)
theorem dX4_dearestNow_105 : decode cX4_dearestNow 105 = .ok (.iload_n 2, 1) := dk_28 (dk_at dksX4_dearestNow_4 10 rfl rfl)
theorem dX4_dearestNow_106 : decode cX4_dearestNow 106 = .ok (.iload 5, 2) := dk_21 5 (dk_at dksX4_dearestNow_4 11 rfl rfl)
theorem dX4_dearestNow_108 : decode cX4_dearestNow 108 = .ok (.if_icmp .ne 8, 3) := dk_160 0 8 (dk_at dksX4_dearestNow_4 13 rfl rfl)
theorem dX4_dearestNow_111 : decode cX4_dearestNow 111 = .ok (.iload 6, 2) := dk_21 6 (dk_at dksX4_dearestNow_4 16 rfl rfl)
theorem dX4_dearestNow_113 : decode cX4_dearestNow 113 = .ok (.goto 4, 3) := dk_167 0 4 (dk_at dksX4_dearestNow_4 18 rfl rfl)
theorem dX4_dearestNow_116 : decode cX4_dearestNow 116 = .ok (.iload_n 3, 1) := dk_29 (dk_at dksX4_dearestNow_4 21 rfl rfl)
theorem dX4_dearestNow_117 : decode cX4_dearestNow 117 = .ok (.istore_n 3, 1) := dk_62 (dk_at dksX4_dearestNow_4 22 rfl rfl)
theorem dX4_dearestNow_118 : decode cX4_dearestNow 118 = .ok (.iinc 5 1, 3) := dk_132 5 1 (dk_at dksX4_dearestNow_5 0 rfl rfl)
theorem dX4_dearestNow_121 : decode cX4_dearestNow 121 = .ok (.goto (-106), 3) := dk_167 255 150 (dk_at dksX4_dearestNow_5 3 rfl rfl)
theorem dX4_dearestNow_124 : decode cX4_dearestNow 124 = .ok (.iload_n 1, 1) := dk_27 (dk_at dksX4_dearestNow_5 6 rfl rfl)
theorem dX4_dearestNow_125 : decode cX4_dearestNow 125 = .ok (.bipush (-3), 2) := dk_16 253 (dk_at dksX4_dearestNow_5 7 rfl rfl)
theorem dX4_dearestNow_127 : decode cX4_dearestNow 127 = .ok (.if_icmp .ne 8, 3) := dk_160 0 8 (dk_at dksX4_dearestNow_5 9 rfl rfl)
theorem dX4_dearestNow_130 : decode cX4_dearestNow 130 = .ok (.bipush (-3), 2) := dk_16 253 (dk_at dksX4_dearestNow_5 12 rfl rfl)
theorem dX4_dearestNow_132 : decode cX4_dearestNow 132 = .ok (.goto 4, 3) := dk_167 0 4 (dk_at dksX4_dearestNow_5 14 rfl rfl)
theorem dX4_dearestNow_135 : decode cX4_dearestNow 135 = .ok (.iload_n 2, 1) := dk_28 (dk_at dksX4_dearestNow_5 17 rfl rfl)
theorem dX4_dearestNow_136 : decode cX4_dearestNow 136 = .ok (.ireturn, 1) := dk_172 (dk_at dksX4_dearestNow_5 18 rfl rfl)
abbrev cX4_gain : ByteArray := prog_9_method_52_code
def yX4_gain : MethodName := ⟨RX4, "gain", "(II)J"⟩
def dkwX4_gain_1 : List UInt8 := [153, 0, 12, 42, 27, 28, 182, 0, 186, 167, 0, 8, 16, 254, 184, 0, 160, 173]
abbrev dktX4_gain_1 : List UInt8 := dkwX4_gain_1 ++ []
def dkwX4_gain_0 : List UInt8 := [42, 27, 182, 0, 72, 153, 0, 29, 42, 27, 182, 0, 174, 154, 0, 21, 28, 3, 4, 184, 0, 64]
abbrev dktX4_gain_0 : List UInt8 := dkwX4_gain_0 ++ dktX4_gain_1
theorem dksX4_gain_0 : cX4_gain.data.toList.drop 0 = dktX4_gain_0 := by decide +kernel
theorem dksX4_gain_1 : cX4_gain.data.toList.drop 22 = dktX4_gain_1 := dk_seg dksX4_gain_0 22 rfl rfl
theorem dX4_gain_0 : decode cX4_gain 0 = .ok (.aload_n 0, 1) := dk_42 (dk_at dksX4_gain_0 0 rfl rfl)
theorem dX4_gain_1 : decode cX4_gain 1 = .ok (.iload_n 1, 1) := dk_27 (dk_at dksX4_gain_0 1 rfl rfl)
theorem dX4_gain_2 : decode cX4_gain 2 = .ok (.invokevirtual 72, 3) := dk_182 0 72 (dk_at dksX4_gain_0 2 rfl rfl)
theorem dX4_gain_5 : decode cX4_gain 5 = .ok (.ifCond .eq 29, 3) := dk_153 0 29 (dk_at dksX4_gain_0 5 rfl rfl)
theorem dX4_gain_8 : decode cX4_gain 8 = .ok (.aload_n 0, 1) := dk_42 (dk_at dksX4_gain_0 8 rfl rfl)
theorem dX4_gain_9 : decode cX4_gain 9 = .ok (.iload_n 1, 1) := dk_27 (dk_at dksX4_gain_0 9 rfl rfl)
theorem dX4_gain_10 : decode cX4_gain 10 = .ok (.invokevirtual 174, 3) := dk_182 0 174 (dk_at dksX4_gain_0 10 rfl rfl)
theorem dX4_gain_13 : decode cX4_gain 13 = .ok (.ifCond .ne 21, 3) := dk_154 0 21 (dk_at dksX4_gain_0 13 rfl rfl)
theorem dX4_gain_16 : decode cX4_gain 16 = .ok (.iload_n 2, 1) := dk_28 (dk_at dksX4_gain_0 16 rfl rfl)
theorem dX4_gain_17 : decode cX4_gain 17 = .ok (.iconst 0, 1) := dk_3 (dk_at dksX4_gain_0 17 rfl rfl)
theorem dX4_gain_18 : decode cX4_gain 18 = .ok (.iconst 1, 1) := dk_4 (dk_at dksX4_gain_0 18 rfl rfl)
theorem dX4_gain_19 : decode cX4_gain 19 = .ok (.invokestatic 64, 3) := dk_184 0 64 (dk_at dksX4_gain_0 19 rfl rfl)
theorem dX4_gain_22 : decode cX4_gain 22 = .ok (.ifCond .eq 12, 3) := dk_153 0 12 (dk_at dksX4_gain_1 0 rfl rfl)
theorem dX4_gain_25 : decode cX4_gain 25 = .ok (.aload_n 0, 1) := dk_42 (dk_at dksX4_gain_1 3 rfl rfl)
theorem dX4_gain_26 : decode cX4_gain 26 = .ok (.iload_n 1, 1) := dk_27 (dk_at dksX4_gain_1 4 rfl rfl)
theorem dX4_gain_27 : decode cX4_gain 27 = .ok (.iload_n 2, 1) := dk_28 (dk_at dksX4_gain_1 5 rfl rfl)
theorem dX4_gain_28 : decode cX4_gain 28 = .ok (.invokevirtual 186, 3) := dk_182 0 186 (dk_at dksX4_gain_1 6 rfl rfl)
theorem dX4_gain_31 : decode cX4_gain 31 = .ok (.goto 8, 3) := dk_167 0 8 (dk_at dksX4_gain_1 9 rfl rfl)
theorem dX4_gain_34 : decode cX4_gain 34 = .ok (.bipush (-2), 2) := dk_16 254 (dk_at dksX4_gain_1 12 rfl rfl)
theorem dX4_gain_36 : decode cX4_gain 36 = .ok (.invokestatic 160, 3) := dk_184 0 160 (dk_at dksX4_gain_1 14 rfl rfl)
theorem dX4_gain_39 : decode cX4_gain 39 = .ok (.lreturn, 1) := dk_173 (dk_at dksX4_gain_1 17 rfl rfl)
abbrev cX4_gainOf : ByteArray := prog_9_method_51_code
def yX4_gainOf : MethodName := ⟨RX4, "gainOf", "(II)J"⟩
def dkwX4_gainOf_3 : List UInt8 := [180, 0, 39, 21, 4, 47, 105, 28, 184, 0, 138, 173]
abbrev dktX4_gainOf_3 : List UInt8 := dkwX4_gainOf_3 ++ []
def dkwX4_gainOf_2 : List UInt8 := [47, 105, 42, 180, 0, 36, 21, 4, 47, 42, 180, 0, 39, 29, 47, 105, 101, 42, 180, 0, 39, 29, 47, 42]
abbrev dktX4_gainOf_2 : List UInt8 := dkwX4_gainOf_2 ++ dktX4_gainOf_3
def dkwX4_gainOf_1 : List UInt8 := [180, 0, 76, 4, 27, 120, 128, 182, 0, 157, 54, 4, 42, 180, 0, 36, 29, 47, 42, 180, 0, 39, 21, 4]
abbrev dktX4_gainOf_1 : List UInt8 := dkwX4_gainOf_1 ++ dktX4_gainOf_2
def dkwX4_gainOf_0 : List UInt8 := [42, 42, 180, 0, 76, 182, 0, 157, 62, 29, 2, 160, 0, 9, 16, 253, 184, 0, 160, 173, 42, 42]
abbrev dktX4_gainOf_0 : List UInt8 := dkwX4_gainOf_0 ++ dktX4_gainOf_1
theorem dksX4_gainOf_0 : cX4_gainOf.data.toList.drop 0 = dktX4_gainOf_0 := by decide +kernel
theorem dksX4_gainOf_1 : cX4_gainOf.data.toList.drop 22 = dktX4_gainOf_1 := dk_seg dksX4_gainOf_0 22 rfl rfl
theorem dksX4_gainOf_2 : cX4_gainOf.data.toList.drop 46 = dktX4_gainOf_2 := dk_seg dksX4_gainOf_1 24 rfl rfl
theorem dksX4_gainOf_3 : cX4_gainOf.data.toList.drop 70 = dktX4_gainOf_3 := dk_seg dksX4_gainOf_2 24 rfl rfl
theorem dX4_gainOf_0 : decode cX4_gainOf 0 = .ok (.aload_n 0, 1) := dk_42 (dk_at dksX4_gainOf_0 0 rfl rfl)
theorem dX4_gainOf_1 : decode cX4_gainOf 1 = .ok (.aload_n 0, 1) := dk_42 (dk_at dksX4_gainOf_0 1 rfl rfl)
theorem dX4_gainOf_2 : decode cX4_gainOf 2 = .ok (.getfield 76, 3) := dk_180 0 76 (dk_at dksX4_gainOf_0 2 rfl rfl)
theorem dX4_gainOf_5 : decode cX4_gainOf 5 = .ok (.invokevirtual 157, 3) := dk_182 0 157 (dk_at dksX4_gainOf_0 5 rfl rfl)
theorem dX4_gainOf_8 : decode cX4_gainOf 8 = .ok (.istore_n 3, 1) := dk_62 (dk_at dksX4_gainOf_0 8 rfl rfl)
theorem dX4_gainOf_9 : decode cX4_gainOf 9 = .ok (.iload_n 3, 1) := dk_29 (dk_at dksX4_gainOf_0 9 rfl rfl)
theorem dX4_gainOf_10 : decode cX4_gainOf 10 = .ok (.iconst (-1), 1) := dk_2 (dk_at dksX4_gainOf_0 10 rfl rfl)
theorem dX4_gainOf_11 : decode cX4_gainOf 11 = .ok (.if_icmp .ne 9, 3) := dk_160 0 9 (dk_at dksX4_gainOf_0 11 rfl rfl)
theorem dX4_gainOf_14 : decode cX4_gainOf 14 = .ok (.bipush (-3), 2) := dk_16 253 (dk_at dksX4_gainOf_0 14 rfl rfl)
theorem dX4_gainOf_16 : decode cX4_gainOf 16 = .ok (.invokestatic 160, 3) := dk_184 0 160 (dk_at dksX4_gainOf_0 16 rfl rfl)
theorem dX4_gainOf_19 : decode cX4_gainOf 19 = .ok (.lreturn, 1) := dk_173 (dk_at dksX4_gainOf_0 19 rfl rfl)
theorem dX4_gainOf_20 : decode cX4_gainOf 20 = .ok (.aload_n 0, 1) := dk_42 (dk_at dksX4_gainOf_0 20 rfl rfl)
theorem dX4_gainOf_21 : decode cX4_gainOf 21 = .ok (.aload_n 0, 1) := dk_42 (dk_at dksX4_gainOf_0 21 rfl rfl)
theorem dX4_gainOf_22 : decode cX4_gainOf 22 = .ok (.getfield 76, 3) := dk_180 0 76 (dk_at dksX4_gainOf_1 0 rfl rfl)
theorem dX4_gainOf_25 : decode cX4_gainOf 25 = .ok (.iconst 1, 1) := dk_4 (dk_at dksX4_gainOf_1 3 rfl rfl)
theorem dX4_gainOf_26 : decode cX4_gainOf 26 = .ok (.iload_n 1, 1) := dk_27 (dk_at dksX4_gainOf_1 4 rfl rfl)
theorem dX4_gainOf_27 : decode cX4_gainOf 27 = .ok (.ishl, 1) := dk_120 (dk_at dksX4_gainOf_1 5 rfl rfl)
theorem dX4_gainOf_28 : decode cX4_gainOf 28 = .ok (.ior, 1) := dk_128 (dk_at dksX4_gainOf_1 6 rfl rfl)
theorem dX4_gainOf_29 : decode cX4_gainOf 29 = .ok (.invokevirtual 157, 3) := dk_182 0 157 (dk_at dksX4_gainOf_1 7 rfl rfl)
theorem dX4_gainOf_32 : decode cX4_gainOf 32 = .ok (.istore 4, 2) := dk_54 4 (dk_at dksX4_gainOf_1 10 rfl rfl)
theorem dX4_gainOf_34 : decode cX4_gainOf 34 = .ok (.aload_n 0, 1) := dk_42 (dk_at dksX4_gainOf_1 12 rfl rfl)
theorem dX4_gainOf_35 : decode cX4_gainOf 35 = .ok (.getfield 36, 3) := dk_180 0 36 (dk_at dksX4_gainOf_1 13 rfl rfl)
theorem dX4_gainOf_38 : decode cX4_gainOf 38 = .ok (.iload_n 3, 1) := dk_29 (dk_at dksX4_gainOf_1 16 rfl rfl)
theorem dX4_gainOf_39 : decode cX4_gainOf 39 = .ok (.laload, 1) := dk_47 (dk_at dksX4_gainOf_1 17 rfl rfl)
theorem dX4_gainOf_40 : decode cX4_gainOf 40 = .ok (.aload_n 0, 1) := dk_42 (dk_at dksX4_gainOf_1 18 rfl rfl)
theorem dX4_gainOf_41 : decode cX4_gainOf 41 = .ok (.getfield 39, 3) := dk_180 0 39 (dk_at dksX4_gainOf_1 19 rfl rfl)
theorem dX4_gainOf_44 : decode cX4_gainOf 44 = .ok (.iload 4, 2) := dk_21 4 (dk_at dksX4_gainOf_1 22 rfl rfl)
theorem dX4_gainOf_46 : decode cX4_gainOf 46 = .ok (.laload, 1) := dk_47 (dk_at dksX4_gainOf_2 0 rfl rfl)
theorem dX4_gainOf_47 : decode cX4_gainOf 47 = .ok (.lmul, 1) := dk_105 (dk_at dksX4_gainOf_2 1 rfl rfl)
theorem dX4_gainOf_48 : decode cX4_gainOf 48 = .ok (.aload_n 0, 1) := dk_42 (dk_at dksX4_gainOf_2 2 rfl rfl)
theorem dX4_gainOf_49 : decode cX4_gainOf 49 = .ok (.getfield 36, 3) := dk_180 0 36 (dk_at dksX4_gainOf_2 3 rfl rfl)
theorem dX4_gainOf_52 : decode cX4_gainOf 52 = .ok (.iload 4, 2) := dk_21 4 (dk_at dksX4_gainOf_2 6 rfl rfl)
theorem dX4_gainOf_54 : decode cX4_gainOf 54 = .ok (.laload, 1) := dk_47 (dk_at dksX4_gainOf_2 8 rfl rfl)
theorem dX4_gainOf_55 : decode cX4_gainOf 55 = .ok (.aload_n 0, 1) := dk_42 (dk_at dksX4_gainOf_2 9 rfl rfl)
theorem dX4_gainOf_56 : decode cX4_gainOf 56 = .ok (.getfield 39, 3) := dk_180 0 39 (dk_at dksX4_gainOf_2 10 rfl rfl)
theorem dX4_gainOf_59 : decode cX4_gainOf 59 = .ok (.iload_n 3, 1) := dk_29 (dk_at dksX4_gainOf_2 13 rfl rfl)
theorem dX4_gainOf_60 : decode cX4_gainOf 60 = .ok (.laload, 1) := dk_47 (dk_at dksX4_gainOf_2 14 rfl rfl)
theorem dX4_gainOf_61 : decode cX4_gainOf 61 = .ok (.lmul, 1) := dk_105 (dk_at dksX4_gainOf_2 15 rfl rfl)
theorem dX4_gainOf_62 : decode cX4_gainOf 62 = .ok (.lsub, 1) := dk_101 (dk_at dksX4_gainOf_2 16 rfl rfl)
theorem dX4_gainOf_63 : decode cX4_gainOf 63 = .ok (.aload_n 0, 1) := dk_42 (dk_at dksX4_gainOf_2 17 rfl rfl)
theorem dX4_gainOf_64 : decode cX4_gainOf 64 = .ok (.getfield 39, 3) := dk_180 0 39 (dk_at dksX4_gainOf_2 18 rfl rfl)
theorem dX4_gainOf_67 : decode cX4_gainOf 67 = .ok (.iload_n 3, 1) := dk_29 (dk_at dksX4_gainOf_2 21 rfl rfl)
theorem dX4_gainOf_68 : decode cX4_gainOf 68 = .ok (.laload, 1) := dk_47 (dk_at dksX4_gainOf_2 22 rfl rfl)
theorem dX4_gainOf_69 : decode cX4_gainOf 69 = .ok (.aload_n 0, 1) := dk_42 (dk_at dksX4_gainOf_2 23 rfl rfl)
theorem dX4_gainOf_70 : decode cX4_gainOf 70 = .ok (.getfield 39, 3) := dk_180 0 39 (dk_at dksX4_gainOf_3 0 rfl rfl)
theorem dX4_gainOf_73 : decode cX4_gainOf 73 = .ok (.iload 4, 2) := dk_21 4 (dk_at dksX4_gainOf_3 3 rfl rfl)
theorem dX4_gainOf_75 : decode cX4_gainOf 75 = .ok (.laload, 1) := dk_47 (dk_at dksX4_gainOf_3 5 rfl rfl)
theorem dX4_gainOf_76 : decode cX4_gainOf 76 = .ok (.lmul, 1) := dk_105 (dk_at dksX4_gainOf_3 6 rfl rfl)
theorem dX4_gainOf_77 : decode cX4_gainOf 77 = .ok (.iload_n 2, 1) := dk_28 (dk_at dksX4_gainOf_3 7 rfl rfl)
theorem dX4_gainOf_78 : decode cX4_gainOf 78 = .ok (.invokestatic 138, 3) := dk_184 0 138 (dk_at dksX4_gainOf_3 8 rfl rfl)
theorem dX4_gainOf_81 : decode cX4_gainOf 81 = .ok (.lreturn, 1) := dk_173 (dk_at dksX4_gainOf_3 11 rfl rfl)
abbrev cX4_grow : ByteArray := prog_9_method_54_code
def yX4_grow : MethodName := ⟨RX4, "grow", "()I"⟩
def dkwX4_grow_2 : List UInt8 := [167, 255, 231, 27, 172]
abbrev dktX4_grow_2 : List UInt8 := dkwX4_grow_2 ++ []
def dkwX4_grow_1 : List UInt8 := [159, 0, 26, 42, 89, 180, 0, 76, 4, 28, 120, 128, 181, 0, 76, 132, 1, 1, 42, 182, 0, 189, 61]
abbrev dktX4_grow_1 : List UInt8 := dkwX4_grow_1 ++ dktX4_grow_2
def dkwX4_grow_0 : List UInt8 := [42, 42, 180, 0, 76, 182, 0, 157, 2, 160, 0, 6, 16, 253, 172, 3, 60, 42, 182, 0, 189, 61, 28, 2]
abbrev dktX4_grow_0 : List UInt8 := dkwX4_grow_0 ++ dktX4_grow_1
theorem dksX4_grow_0 : cX4_grow.data.toList.drop 0 = dktX4_grow_0 := by decide +kernel
theorem dksX4_grow_1 : cX4_grow.data.toList.drop 24 = dktX4_grow_1 := dk_seg dksX4_grow_0 24 rfl rfl
theorem dksX4_grow_2 : cX4_grow.data.toList.drop 47 = dktX4_grow_2 := dk_seg dksX4_grow_1 23 rfl rfl
theorem dX4_grow_0 : decode cX4_grow 0 = .ok (.aload_n 0, 1) := dk_42 (dk_at dksX4_grow_0 0 rfl rfl)
theorem dX4_grow_1 : decode cX4_grow 1 = .ok (.aload_n 0, 1) := dk_42 (dk_at dksX4_grow_0 1 rfl rfl)
theorem dX4_grow_2 : decode cX4_grow 2 = .ok (.getfield 76, 3) := dk_180 0 76 (dk_at dksX4_grow_0 2 rfl rfl)
theorem dX4_grow_5 : decode cX4_grow 5 = .ok (.invokevirtual 157, 3) := dk_182 0 157 (dk_at dksX4_grow_0 5 rfl rfl)
theorem dX4_grow_8 : decode cX4_grow 8 = .ok (.iconst (-1), 1) := dk_2 (dk_at dksX4_grow_0 8 rfl rfl)
theorem dX4_grow_9 : decode cX4_grow 9 = .ok (.if_icmp .ne 6, 3) := dk_160 0 6 (dk_at dksX4_grow_0 9 rfl rfl)
theorem dX4_grow_12 : decode cX4_grow 12 = .ok (.bipush (-3), 2) := dk_16 253 (dk_at dksX4_grow_0 12 rfl rfl)
theorem dX4_grow_14 : decode cX4_grow 14 = .ok (.ireturn, 1) := dk_172 (dk_at dksX4_grow_0 14 rfl rfl)
theorem dX4_grow_15 : decode cX4_grow 15 = .ok (.iconst 0, 1) := dk_3 (dk_at dksX4_grow_0 15 rfl rfl)
theorem dX4_grow_16 : decode cX4_grow 16 = .ok (.istore_n 1, 1) := dk_60 (dk_at dksX4_grow_0 16 rfl rfl)
theorem dX4_grow_17 : decode cX4_grow 17 = .ok (.aload_n 0, 1) := dk_42 (dk_at dksX4_grow_0 17 rfl rfl)
theorem dX4_grow_18 : decode cX4_grow 18 = .ok (.invokevirtual 189, 3) := dk_182 0 189 (dk_at dksX4_grow_0 18 rfl rfl)
theorem dX4_grow_21 : decode cX4_grow 21 = .ok (.istore_n 2, 1) := dk_61 (dk_at dksX4_grow_0 21 rfl rfl)
theorem dX4_grow_22 : decode cX4_grow 22 = .ok (.iload_n 2, 1) := dk_28 (dk_at dksX4_grow_0 22 rfl rfl)
theorem dX4_grow_23 : decode cX4_grow 23 = .ok (.iconst (-1), 1) := dk_2 (dk_at dksX4_grow_0 23 rfl rfl)
theorem dX4_grow_24 : decode cX4_grow 24 = .ok (.if_icmp .eq 26, 3) := dk_159 0 26 (dk_at dksX4_grow_1 0 rfl rfl)
theorem dX4_grow_27 : decode cX4_grow 27 = .ok (.aload_n 0, 1) := dk_42 (dk_at dksX4_grow_1 3 rfl rfl)
theorem dX4_grow_28 : decode cX4_grow 28 = .ok (.dup, 1) := dk_89 (dk_at dksX4_grow_1 4 rfl rfl)
theorem dX4_grow_29 : decode cX4_grow 29 = .ok (.getfield 76, 3) := dk_180 0 76 (dk_at dksX4_grow_1 5 rfl rfl)
theorem dX4_grow_32 : decode cX4_grow 32 = .ok (.iconst 1, 1) := dk_4 (dk_at dksX4_grow_1 8 rfl rfl)
theorem dX4_grow_33 : decode cX4_grow 33 = .ok (.iload_n 2, 1) := dk_28 (dk_at dksX4_grow_1 9 rfl rfl)
theorem dX4_grow_34 : decode cX4_grow 34 = .ok (.ishl, 1) := dk_120 (dk_at dksX4_grow_1 10 rfl rfl)
theorem dX4_grow_35 : decode cX4_grow 35 = .ok (.ior, 1) := dk_128 (dk_at dksX4_grow_1 11 rfl rfl)
theorem dX4_grow_36 : decode cX4_grow 36 = .ok (.putfield 76, 3) := dk_181 0 76 (dk_at dksX4_grow_1 12 rfl rfl)
theorem dX4_grow_39 : decode cX4_grow 39 = .ok (.iinc 1 1, 3) := dk_132 1 1 (dk_at dksX4_grow_1 15 rfl rfl)
theorem dX4_grow_42 : decode cX4_grow 42 = .ok (.aload_n 0, 1) := dk_42 (dk_at dksX4_grow_1 18 rfl rfl)
theorem dX4_grow_43 : decode cX4_grow 43 = .ok (.invokevirtual 189, 3) := dk_182 0 189 (dk_at dksX4_grow_1 19 rfl rfl)
theorem dX4_grow_46 : decode cX4_grow 46 = .ok (.istore_n 2, 1) := dk_61 (dk_at dksX4_grow_1 22 rfl rfl)
theorem dX4_grow_47 : decode cX4_grow 47 = .ok (.goto (-25), 3) := dk_167 255 231 (dk_at dksX4_grow_2 0 rfl rfl)
theorem dX4_grow_50 : decode cX4_grow 50 = .ok (.iload_n 1, 1) := dk_27 (dk_at dksX4_grow_2 3 rfl rfl)
theorem dX4_grow_51 : decode cX4_grow 51 = .ok (.ireturn, 1) := dk_172 (dk_at dksX4_grow_2 4 rfl rfl)
abbrev cX4_growing : ByteArray := prog_9_method_53_code
def yX4_growing : MethodName := ⟨RX4, "growing", "()I"⟩
def dkwX4_growing_3 : List UInt8 := [153, 0, 8, 21, 4, 167, 0, 4, 27, 60, 132, 3, 1, 167, 255, 186, 28, 172]
abbrev dktX4_growing_3 : List UInt8 := dkwX4_growing_3 ++ []
def dkwX4_growing_2 : List UInt8 := [42, 21, 4, 27, 182, 0, 154, 153, 0, 7, 29, 167, 0, 4, 28, 61, 42, 21, 4, 27, 182, 0, 154]
abbrev dktX4_growing_2 : List UInt8 := dkwX4_growing_2 ++ dktX4_growing_3
def dkwX4_growing_1 : List UInt8 := [182, 0, 174, 153, 0, 7, 27, 167, 0, 15, 42, 42, 180, 0, 76, 4, 29, 120, 128, 182, 0, 157, 54, 4]
abbrev dktX4_growing_1 : List UInt8 := dkwX4_growing_1 ++ dktX4_growing_2
def dkwX4_growing_0 : List UInt8 := [42, 42, 180, 0, 76, 182, 0, 157, 60, 2, 61, 3, 62, 29, 42, 182, 0, 68, 162, 0, 68, 42, 29]
abbrev dktX4_growing_0 : List UInt8 := dkwX4_growing_0 ++ dktX4_growing_1
theorem dksX4_growing_0 : cX4_growing.data.toList.drop 0 = dktX4_growing_0 := by decide +kernel
theorem dksX4_growing_1 : cX4_growing.data.toList.drop 23 = dktX4_growing_1 := dk_seg dksX4_growing_0 23 rfl rfl
theorem dksX4_growing_2 : cX4_growing.data.toList.drop 47 = dktX4_growing_2 := dk_seg dksX4_growing_1 24 rfl rfl
theorem dksX4_growing_3 : cX4_growing.data.toList.drop 70 = dktX4_growing_3 := dk_seg dksX4_growing_2 23 rfl rfl
theorem dX4_growing_0 : decode cX4_growing 0 = .ok (.aload_n 0, 1) := dk_42 (dk_at dksX4_growing_0 0 rfl rfl)
theorem dX4_growing_1 : decode cX4_growing 1 = .ok (.aload_n 0, 1) := dk_42 (dk_at dksX4_growing_0 1 rfl rfl)
theorem dX4_growing_2 : decode cX4_growing 2 = .ok (.getfield 76, 3) := dk_180 0 76 (dk_at dksX4_growing_0 2 rfl rfl)
theorem dX4_growing_5 : decode cX4_growing 5 = .ok (.invokevirtual 157, 3) := dk_182 0 157 (dk_at dksX4_growing_0 5 rfl rfl)
theorem dX4_growing_8 : decode cX4_growing 8 = .ok (.istore_n 1, 1) := dk_60 (dk_at dksX4_growing_0 8 rfl rfl)
theorem dX4_growing_9 : decode cX4_growing 9 = .ok (.iconst (-1), 1) := dk_2 (dk_at dksX4_growing_0 9 rfl rfl)
theorem dX4_growing_10 : decode cX4_growing 10 = .ok (.istore_n 2, 1) := dk_61 (dk_at dksX4_growing_0 10 rfl rfl)
theorem dX4_growing_11 : decode cX4_growing 11 = .ok (.iconst 0, 1) := dk_3 (dk_at dksX4_growing_0 11 rfl rfl)
theorem dX4_growing_12 : decode cX4_growing 12 = .ok (.istore_n 3, 1) := dk_62 (dk_at dksX4_growing_0 12 rfl rfl)
theorem dX4_growing_13 : decode cX4_growing 13 = .ok (.iload_n 3, 1) := dk_29 (dk_at dksX4_growing_0 13 rfl rfl)
theorem dX4_growing_14 : decode cX4_growing 14 = .ok (.aload_n 0, 1) := dk_42 (dk_at dksX4_growing_0 14 rfl rfl)
theorem dX4_growing_15 : decode cX4_growing 15 = .ok (.invokevirtual 68, 3) := dk_182 0 68 (dk_at dksX4_growing_0 15 rfl rfl)
theorem dX4_growing_18 : decode cX4_growing 18 = .ok (.if_icmp .ge 68, 3) := dk_162 0 68 (dk_at dksX4_growing_0 18 rfl rfl)
theorem dX4_growing_21 : decode cX4_growing 21 = .ok (.aload_n 0, 1) := dk_42 (dk_at dksX4_growing_0 21 rfl rfl)
theorem dX4_growing_22 : decode cX4_growing 22 = .ok (.iload_n 3, 1) := dk_29 (dk_at dksX4_growing_0 22 rfl rfl)
theorem dX4_growing_23 : decode cX4_growing 23 = .ok (.invokevirtual 174, 3) := dk_182 0 174 (dk_at dksX4_growing_1 0 rfl rfl)
theorem dX4_growing_26 : decode cX4_growing 26 = .ok (.ifCond .eq 7, 3) := dk_153 0 7 (dk_at dksX4_growing_1 3 rfl rfl)
theorem dX4_growing_29 : decode cX4_growing 29 = .ok (.iload_n 1, 1) := dk_27 (dk_at dksX4_growing_1 6 rfl rfl)
theorem dX4_growing_30 : decode cX4_growing 30 = .ok (.goto 15, 3) := dk_167 0 15 (dk_at dksX4_growing_1 7 rfl rfl)
theorem dX4_growing_33 : decode cX4_growing 33 = .ok (.aload_n 0, 1) := dk_42 (dk_at dksX4_growing_1 10 rfl rfl)
theorem dX4_growing_34 : decode cX4_growing 34 = .ok (.aload_n 0, 1) := dk_42 (dk_at dksX4_growing_1 11 rfl rfl)
theorem dX4_growing_35 : decode cX4_growing 35 = .ok (.getfield 76, 3) := dk_180 0 76 (dk_at dksX4_growing_1 12 rfl rfl)
theorem dX4_growing_38 : decode cX4_growing 38 = .ok (.iconst 1, 1) := dk_4 (dk_at dksX4_growing_1 15 rfl rfl)
theorem dX4_growing_39 : decode cX4_growing 39 = .ok (.iload_n 3, 1) := dk_29 (dk_at dksX4_growing_1 16 rfl rfl)
theorem dX4_growing_40 : decode cX4_growing 40 = .ok (.ishl, 1) := dk_120 (dk_at dksX4_growing_1 17 rfl rfl)
theorem dX4_growing_41 : decode cX4_growing 41 = .ok (.ior, 1) := dk_128 (dk_at dksX4_growing_1 18 rfl rfl)
theorem dX4_growing_42 : decode cX4_growing 42 = .ok (.invokevirtual 157, 3) := dk_182 0 157 (dk_at dksX4_growing_1 19 rfl rfl)
theorem dX4_growing_45 : decode cX4_growing 45 = .ok (.istore 4, 2) := dk_54 4 (dk_at dksX4_growing_1 22 rfl rfl)
theorem dX4_growing_47 : decode cX4_growing 47 = .ok (.aload_n 0, 1) := dk_42 (dk_at dksX4_growing_2 0 rfl rfl)
theorem dX4_growing_48 : decode cX4_growing 48 = .ok (.iload 4, 2) := dk_21 4 (dk_at dksX4_growing_2 1 rfl rfl)
theorem dX4_growing_50 : decode cX4_growing 50 = .ok (.iload_n 1, 1) := dk_27 (dk_at dksX4_growing_2 3 rfl rfl)
theorem dX4_growing_51 : decode cX4_growing 51 = .ok (.invokevirtual 154, 3) := dk_182 0 154 (dk_at dksX4_growing_2 4 rfl rfl)
theorem dX4_growing_54 : decode cX4_growing 54 = .ok (.ifCond .eq 7, 3) := dk_153 0 7 (dk_at dksX4_growing_2 7 rfl rfl)
theorem dX4_growing_57 : decode cX4_growing 57 = .ok (.iload_n 3, 1) := dk_29 (dk_at dksX4_growing_2 10 rfl rfl)
theorem dX4_growing_58 : decode cX4_growing 58 = .ok (.goto 4, 3) := dk_167 0 4 (dk_at dksX4_growing_2 11 rfl rfl)
theorem dX4_growing_61 : decode cX4_growing 61 = .ok (.iload_n 2, 1) := dk_28 (dk_at dksX4_growing_2 14 rfl rfl)
theorem dX4_growing_62 : decode cX4_growing 62 = .ok (.istore_n 2, 1) := dk_61 (dk_at dksX4_growing_2 15 rfl rfl)
theorem dX4_growing_63 : decode cX4_growing 63 = .ok (.aload_n 0, 1) := dk_42 (dk_at dksX4_growing_2 16 rfl rfl)
theorem dX4_growing_64 : decode cX4_growing 64 = .ok (.iload 4, 2) := dk_21 4 (dk_at dksX4_growing_2 17 rfl rfl)
theorem dX4_growing_66 : decode cX4_growing 66 = .ok (.iload_n 1, 1) := dk_27 (dk_at dksX4_growing_2 19 rfl rfl)
theorem dX4_growing_67 : decode cX4_growing 67 = .ok (.invokevirtual 154, 3) := dk_182 0 154 (dk_at dksX4_growing_2 20 rfl rfl)
theorem dX4_growing_70 : decode cX4_growing 70 = .ok (.ifCond .eq 8, 3) := dk_153 0 8 (dk_at dksX4_growing_3 0 rfl rfl)
theorem dX4_growing_73 : decode cX4_growing 73 = .ok (.iload 4, 2) := dk_21 4 (dk_at dksX4_growing_3 3 rfl rfl)
theorem dX4_growing_75 : decode cX4_growing 75 = .ok (.goto 4, 3) := dk_167 0 4 (dk_at dksX4_growing_3 5 rfl rfl)
theorem dX4_growing_78 : decode cX4_growing 78 = .ok (.iload_n 1, 1) := dk_27 (dk_at dksX4_growing_3 8 rfl rfl)
theorem dX4_growing_79 : decode cX4_growing 79 = .ok (.istore_n 1, 1) := dk_60 (dk_at dksX4_growing_3 9 rfl rfl)
theorem dX4_growing_80 : decode cX4_growing 80 = .ok (.iinc 3 1, 3) := dk_132 3 1 (dk_at dksX4_growing_3 10 rfl rfl)
theorem dX4_growing_83 : decode cX4_growing 83 = .ok (.goto (-70), 3) := dk_167 255 186 (dk_at dksX4_growing_3 13 rfl rfl)
theorem dX4_growing_86 : decode cX4_growing 86 = .ok (.iload_n 2, 1) := dk_28 (dk_at dksX4_growing_3 16 rfl rfl)
theorem dX4_growing_87 : decode cX4_growing 87 = .ok (.ireturn, 1) := dk_172 (dk_at dksX4_growing_3 17 rfl rfl)
abbrev cX4_prune : ByteArray := prog_9_method_55_code
def yX4_prune : MethodName := ⟨RX4, "prune", "()I"⟩
def dkwX4_prune_1 : List UInt8 := [61, 42, 27, 181, 0, 76, 28, 27, 184, 0, 145, 100, 172]
abbrev dktX4_prune_1 : List UInt8 := dkwX4_prune_1 ++ []
def dkwX4_prune_0 : List UInt8 := [42, 42, 180, 0, 76, 182, 0, 157, 60, 27, 2, 160, 0, 6, 16, 253, 172, 42, 180, 0, 76, 184, 0, 145]
abbrev dktX4_prune_0 : List UInt8 := dkwX4_prune_0 ++ dktX4_prune_1
theorem dksX4_prune_0 : cX4_prune.data.toList.drop 0 = dktX4_prune_0 := by decide +kernel
theorem dksX4_prune_1 : cX4_prune.data.toList.drop 24 = dktX4_prune_1 := dk_seg dksX4_prune_0 24 rfl rfl
theorem dX4_prune_0 : decode cX4_prune 0 = .ok (.aload_n 0, 1) := dk_42 (dk_at dksX4_prune_0 0 rfl rfl)
theorem dX4_prune_1 : decode cX4_prune 1 = .ok (.aload_n 0, 1) := dk_42 (dk_at dksX4_prune_0 1 rfl rfl)
theorem dX4_prune_2 : decode cX4_prune 2 = .ok (.getfield 76, 3) := dk_180 0 76 (dk_at dksX4_prune_0 2 rfl rfl)
theorem dX4_prune_5 : decode cX4_prune 5 = .ok (.invokevirtual 157, 3) := dk_182 0 157 (dk_at dksX4_prune_0 5 rfl rfl)
theorem dX4_prune_8 : decode cX4_prune 8 = .ok (.istore_n 1, 1) := dk_60 (dk_at dksX4_prune_0 8 rfl rfl)
theorem dX4_prune_9 : decode cX4_prune 9 = .ok (.iload_n 1, 1) := dk_27 (dk_at dksX4_prune_0 9 rfl rfl)
theorem dX4_prune_10 : decode cX4_prune 10 = .ok (.iconst (-1), 1) := dk_2 (dk_at dksX4_prune_0 10 rfl rfl)
theorem dX4_prune_11 : decode cX4_prune 11 = .ok (.if_icmp .ne 6, 3) := dk_160 0 6 (dk_at dksX4_prune_0 11 rfl rfl)
theorem dX4_prune_14 : decode cX4_prune 14 = .ok (.bipush (-3), 2) := dk_16 253 (dk_at dksX4_prune_0 14 rfl rfl)
theorem dX4_prune_16 : decode cX4_prune 16 = .ok (.ireturn, 1) := dk_172 (dk_at dksX4_prune_0 16 rfl rfl)
theorem dX4_prune_17 : decode cX4_prune 17 = .ok (.aload_n 0, 1) := dk_42 (dk_at dksX4_prune_0 17 rfl rfl)
theorem dX4_prune_18 : decode cX4_prune 18 = .ok (.getfield 76, 3) := dk_180 0 76 (dk_at dksX4_prune_0 18 rfl rfl)
theorem dX4_prune_21 : decode cX4_prune 21 = .ok (.invokestatic 145, 3) := dk_184 0 145 (dk_at dksX4_prune_0 21 rfl rfl)
theorem dX4_prune_24 : decode cX4_prune 24 = .ok (.istore_n 2, 1) := dk_61 (dk_at dksX4_prune_1 0 rfl rfl)
theorem dX4_prune_25 : decode cX4_prune 25 = .ok (.aload_n 0, 1) := dk_42 (dk_at dksX4_prune_1 1 rfl rfl)
theorem dX4_prune_26 : decode cX4_prune 26 = .ok (.iload_n 1, 1) := dk_27 (dk_at dksX4_prune_1 2 rfl rfl)
theorem dX4_prune_27 : decode cX4_prune 27 = .ok (.putfield 76, 3) := dk_181 0 76 (dk_at dksX4_prune_1 3 rfl rfl)
theorem dX4_prune_30 : decode cX4_prune 30 = .ok (.iload_n 2, 1) := dk_28 (dk_at dksX4_prune_1 6 rfl rfl)
theorem dX4_prune_31 : decode cX4_prune 31 = .ok (.iload_n 1, 1) := dk_27 (dk_at dksX4_prune_1 7 rfl rfl)
theorem dX4_prune_32 : decode cX4_prune 32 = .ok (.invokestatic 145, 3) := dk_184 0 145 (dk_at dksX4_prune_1 8 rfl rfl)
theorem dX4_prune_35 : decode cX4_prune 35 = .ok (.isub, 1) := dk_100 (dk_at dksX4_prune_1 11 rfl rfl)
theorem dX4_prune_36 : decode cX4_prune 36 = .ok (.ireturn, 1) := dk_172 (dk_at dksX4_prune_1 12 rfl rfl)
abbrev cX4_would : ByteArray := prog_9_method_57_code
def yX4_would : MethodName := ⟨RX4, "would", "(IIII)J"⟩
def dkwX4_would_2 : List UInt8 := [21, 4, 182, 0, 192, 167, 0, 8, 16, 254, 184, 0, 160, 173]
abbrev dktX4_would_2 : List UInt8 := dkwX4_would_2 ++ []
def dkwX4_would_1 : List UInt8 := [184, 0, 64, 153, 0, 28, 21, 4, 3, 4, 184, 0, 64, 153, 0, 18, 42, 5, 27, 104, 28, 96, 29]
abbrev dktX4_would_1 : List UInt8 := dkwX4_would_1 ++ dktX4_would_2
def dkwX4_would_0 : List UInt8 := [42, 27, 182, 0, 94, 153, 0, 48, 28, 3, 4, 184, 0, 64, 153, 0, 39, 29, 16, 247, 16, 9]
abbrev dktX4_would_0 : List UInt8 := dkwX4_would_0 ++ dktX4_would_1
theorem dksX4_would_0 : cX4_would.data.toList.drop 0 = dktX4_would_0 := by decide +kernel
theorem dksX4_would_1 : cX4_would.data.toList.drop 22 = dktX4_would_1 := dk_seg dksX4_would_0 22 rfl rfl
theorem dksX4_would_2 : cX4_would.data.toList.drop 45 = dktX4_would_2 := dk_seg dksX4_would_1 23 rfl rfl
theorem dX4_would_0 : decode cX4_would 0 = .ok (.aload_n 0, 1) := dk_42 (dk_at dksX4_would_0 0 rfl rfl)
theorem dX4_would_1 : decode cX4_would 1 = .ok (.iload_n 1, 1) := dk_27 (dk_at dksX4_would_0 1 rfl rfl)
theorem dX4_would_2 : decode cX4_would 2 = .ok (.invokevirtual 94, 3) := dk_182 0 94 (dk_at dksX4_would_0 2 rfl rfl)
theorem dX4_would_5 : decode cX4_would 5 = .ok (.ifCond .eq 48, 3) := dk_153 0 48 (dk_at dksX4_would_0 5 rfl rfl)
theorem dX4_would_8 : decode cX4_would 8 = .ok (.iload_n 2, 1) := dk_28 (dk_at dksX4_would_0 8 rfl rfl)
theorem dX4_would_9 : decode cX4_would 9 = .ok (.iconst 0, 1) := dk_3 (dk_at dksX4_would_0 9 rfl rfl)
theorem dX4_would_10 : decode cX4_would 10 = .ok (.iconst 1, 1) := dk_4 (dk_at dksX4_would_0 10 rfl rfl)
theorem dX4_would_11 : decode cX4_would 11 = .ok (.invokestatic 64, 3) := dk_184 0 64 (dk_at dksX4_would_0 11 rfl rfl)
theorem dX4_would_14 : decode cX4_would 14 = .ok (.ifCond .eq 39, 3) := dk_153 0 39 (dk_at dksX4_would_0 14 rfl rfl)
theorem dX4_would_17 : decode cX4_would 17 = .ok (.iload_n 3, 1) := dk_29 (dk_at dksX4_would_0 17 rfl rfl)
theorem dX4_would_18 : decode cX4_would 18 = .ok (.bipush (-9), 2) := dk_16 247 (dk_at dksX4_would_0 18 rfl rfl)
theorem dX4_would_20 : decode cX4_would 20 = .ok (.bipush 9, 2) := dk_16 9 (dk_at dksX4_would_0 20 rfl rfl)
theorem dX4_would_22 : decode cX4_would 22 = .ok (.invokestatic 64, 3) := dk_184 0 64 (dk_at dksX4_would_1 0 rfl rfl)
theorem dX4_would_25 : decode cX4_would 25 = .ok (.ifCond .eq 28, 3) := dk_153 0 28 (dk_at dksX4_would_1 3 rfl rfl)
theorem dX4_would_28 : decode cX4_would 28 = .ok (.iload 4, 2) := dk_21 4 (dk_at dksX4_would_1 6 rfl rfl)
theorem dX4_would_30 : decode cX4_would 30 = .ok (.iconst 0, 1) := dk_3 (dk_at dksX4_would_1 8 rfl rfl)
theorem dX4_would_31 : decode cX4_would 31 = .ok (.iconst 1, 1) := dk_4 (dk_at dksX4_would_1 9 rfl rfl)
theorem dX4_would_32 : decode cX4_would 32 = .ok (.invokestatic 64, 3) := dk_184 0 64 (dk_at dksX4_would_1 10 rfl rfl)
theorem dX4_would_35 : decode cX4_would 35 = .ok (.ifCond .eq 18, 3) := dk_153 0 18 (dk_at dksX4_would_1 13 rfl rfl)
theorem dX4_would_38 : decode cX4_would 38 = .ok (.aload_n 0, 1) := dk_42 (dk_at dksX4_would_1 16 rfl rfl)
theorem dX4_would_39 : decode cX4_would 39 = .ok (.iconst 2, 1) := dk_5 (dk_at dksX4_would_1 17 rfl rfl)
theorem dX4_would_40 : decode cX4_would 40 = .ok (.iload_n 1, 1) := dk_27 (dk_at dksX4_would_1 18 rfl rfl)
theorem dX4_would_41 : decode cX4_would 41 = .ok (.imul, 1) := dk_104 (dk_at dksX4_would_1 19 rfl rfl)
theorem dX4_would_42 : decode cX4_would 42 = .ok (.iload_n 2, 1) := dk_28 (dk_at dksX4_would_1 20 rfl rfl)
theorem dX4_would_43 : decode cX4_would 43 = .ok (.iadd, 1) := dk_96 (dk_at dksX4_would_1 21 rfl rfl)
theorem dX4_would_44 : decode cX4_would 44 = .ok (.iload_n 3, 1) := dk_29 (dk_at dksX4_would_1 22 rfl rfl)
theorem dX4_would_45 : decode cX4_would 45 = .ok (.iload 4, 2) := dk_21 4 (dk_at dksX4_would_2 0 rfl rfl)
theorem dX4_would_47 : decode cX4_would 47 = .ok (.invokevirtual 192, 3) := dk_182 0 192 (dk_at dksX4_would_2 2 rfl rfl)
theorem dX4_would_50 : decode cX4_would 50 = .ok (.goto 8, 3) := dk_167 0 8 (dk_at dksX4_would_2 5 rfl rfl)
theorem dX4_would_53 : decode cX4_would 53 = .ok (.bipush (-2), 2) := dk_16 254 (dk_at dksX4_would_2 8 rfl rfl)
theorem dX4_would_55 : decode cX4_would 55 = .ok (.invokestatic 160, 3) := dk_184 0 160 (dk_at dksX4_would_2 10 rfl rfl)
theorem dX4_would_58 : decode cX4_would 58 = .ok (.lreturn, 1) := dk_173 (dk_at dksX4_would_2 13 rfl rfl)
abbrev cX4_wouldBe : ByteArray := prog_9_method_56_code
def yX4_wouldBe : MethodName := ⟨RX4, "wouldBe", "(III)J"⟩
def dkwX4_wouldBe_2 : List UInt8 := [173]
abbrev dktX4_wouldBe_2 : List UInt8 := dkwX4_wouldBe_2 ++ []
def dkwX4_wouldBe_1 : List UInt8 := [180, 0, 76, 29, 182, 0, 164, 55, 5, 42, 180, 0, 19, 27, 21, 4, 79, 42, 3, 181, 0, 90, 22, 5]
abbrev dktX4_wouldBe_1 : List UInt8 := dkwX4_wouldBe_1 ++ dktX4_wouldBe_2
def dkwX4_wouldBe_0 : List UInt8 := [42, 180, 0, 19, 27, 46, 54, 4, 42, 180, 0, 19, 27, 28, 79, 42, 3, 181, 0, 90, 42, 42]
abbrev dktX4_wouldBe_0 : List UInt8 := dkwX4_wouldBe_0 ++ dktX4_wouldBe_1
theorem dksX4_wouldBe_0 : cX4_wouldBe.data.toList.drop 0 = dktX4_wouldBe_0 := by decide +kernel
theorem dksX4_wouldBe_1 : cX4_wouldBe.data.toList.drop 22 = dktX4_wouldBe_1 := dk_seg dksX4_wouldBe_0 22 rfl rfl
theorem dksX4_wouldBe_2 : cX4_wouldBe.data.toList.drop 46 = dktX4_wouldBe_2 := dk_seg dksX4_wouldBe_1 24 rfl rfl
theorem dX4_wouldBe_0 : decode cX4_wouldBe 0 = .ok (.aload_n 0, 1) := dk_42 (dk_at dksX4_wouldBe_0 0 rfl rfl)
theorem dX4_wouldBe_1 : decode cX4_wouldBe 1 = .ok (.getfield 19, 3) := dk_180 0 19 (dk_at dksX4_wouldBe_0 1 rfl rfl)
theorem dX4_wouldBe_4 : decode cX4_wouldBe 4 = .ok (.iload_n 1, 1) := dk_27 (dk_at dksX4_wouldBe_0 4 rfl rfl)
theorem dX4_wouldBe_5 : decode cX4_wouldBe 5 = .ok (.iaload, 1) := dk_46 (dk_at dksX4_wouldBe_0 5 rfl rfl)
theorem dX4_wouldBe_6 : decode cX4_wouldBe 6 = .ok (.istore 4, 2) := dk_54 4 (dk_at dksX4_wouldBe_0 6 rfl rfl)
theorem dX4_wouldBe_8 : decode cX4_wouldBe 8 = .ok (.aload_n 0, 1) := dk_42 (dk_at dksX4_wouldBe_0 8 rfl rfl)
theorem dX4_wouldBe_9 : decode cX4_wouldBe 9 = .ok (.getfield 19, 3) := dk_180 0 19 (dk_at dksX4_wouldBe_0 9 rfl rfl)
theorem dX4_wouldBe_12 : decode cX4_wouldBe 12 = .ok (.iload_n 1, 1) := dk_27 (dk_at dksX4_wouldBe_0 12 rfl rfl)
theorem dX4_wouldBe_13 : decode cX4_wouldBe 13 = .ok (.iload_n 2, 1) := dk_28 (dk_at dksX4_wouldBe_0 13 rfl rfl)
theorem dX4_wouldBe_14 : decode cX4_wouldBe 14 = .ok (.iastore, 1) := dk_79 (dk_at dksX4_wouldBe_0 14 rfl rfl)
theorem dX4_wouldBe_15 : decode cX4_wouldBe 15 = .ok (.aload_n 0, 1) := dk_42 (dk_at dksX4_wouldBe_0 15 rfl rfl)
theorem dX4_wouldBe_16 : decode cX4_wouldBe 16 = .ok (.iconst 0, 1) := dk_3 (dk_at dksX4_wouldBe_0 16 rfl rfl)
theorem dX4_wouldBe_17 : decode cX4_wouldBe 17 = .ok (.putfield 90, 3) := dk_181 0 90 (dk_at dksX4_wouldBe_0 17 rfl rfl)
theorem dX4_wouldBe_20 : decode cX4_wouldBe 20 = .ok (.aload_n 0, 1) := dk_42 (dk_at dksX4_wouldBe_0 20 rfl rfl)
theorem dX4_wouldBe_21 : decode cX4_wouldBe 21 = .ok (.aload_n 0, 1) := dk_42 (dk_at dksX4_wouldBe_0 21 rfl rfl)
theorem dX4_wouldBe_22 : decode cX4_wouldBe 22 = .ok (.getfield 76, 3) := dk_180 0 76 (dk_at dksX4_wouldBe_1 0 rfl rfl)
theorem dX4_wouldBe_25 : decode cX4_wouldBe 25 = .ok (.iload_n 3, 1) := dk_29 (dk_at dksX4_wouldBe_1 3 rfl rfl)
theorem dX4_wouldBe_26 : decode cX4_wouldBe 26 = .ok (.invokevirtual 164, 3) := dk_182 0 164 (dk_at dksX4_wouldBe_1 4 rfl rfl)
theorem dX4_wouldBe_29 : decode cX4_wouldBe 29 = .ok (.lstore 5, 2) := dk_55 5 (dk_at dksX4_wouldBe_1 7 rfl rfl)
theorem dX4_wouldBe_31 : decode cX4_wouldBe 31 = .ok (.aload_n 0, 1) := dk_42 (dk_at dksX4_wouldBe_1 9 rfl rfl)
theorem dX4_wouldBe_32 : decode cX4_wouldBe 32 = .ok (.getfield 19, 3) := dk_180 0 19 (dk_at dksX4_wouldBe_1 10 rfl rfl)
theorem dX4_wouldBe_35 : decode cX4_wouldBe 35 = .ok (.iload_n 1, 1) := dk_27 (dk_at dksX4_wouldBe_1 13 rfl rfl)
theorem dX4_wouldBe_36 : decode cX4_wouldBe 36 = .ok (.iload 4, 2) := dk_21 4 (dk_at dksX4_wouldBe_1 14 rfl rfl)
theorem dX4_wouldBe_38 : decode cX4_wouldBe 38 = .ok (.iastore, 1) := dk_79 (dk_at dksX4_wouldBe_1 16 rfl rfl)
theorem dX4_wouldBe_39 : decode cX4_wouldBe 39 = .ok (.aload_n 0, 1) := dk_42 (dk_at dksX4_wouldBe_1 17 rfl rfl)
theorem dX4_wouldBe_40 : decode cX4_wouldBe 40 = .ok (.iconst 0, 1) := dk_3 (dk_at dksX4_wouldBe_1 18 rfl rfl)
theorem dX4_wouldBe_41 : decode cX4_wouldBe 41 = .ok (.putfield 90, 3) := dk_181 0 90 (dk_at dksX4_wouldBe_1 19 rfl rfl)
theorem dX4_wouldBe_44 : decode cX4_wouldBe 44 = .ok (.lload 5, 2) := dk_22 5 (dk_at dksX4_wouldBe_1 22 rfl rfl)
theorem dX4_wouldBe_46 : decode cX4_wouldBe 46 = .ok (.lreturn, 1) := dk_173 (dk_at dksX4_wouldBe_2 0 rfl rfl)
abbrev cX4_shift : ByteArray := prog_9_method_58_code
def yX4_shift : MethodName := ⟨RX4, "shift", "(III)I"⟩
def dkwX4_shift_2 : List UInt8 := [180, 0, 22, 5, 27, 104, 28, 96, 29, 79, 21, 4, 172]
abbrev dktX4_shift_2 : List UInt8 := dkwX4_shift_2 ++ []
def dkwX4_shift_1 : List UInt8 := [184, 0, 64, 154, 0, 6, 18, 97, 172, 42, 180, 0, 22, 5, 27, 104, 28, 96, 46, 54, 4, 42]
abbrev dktX4_shift_1 : List UInt8 := dkwX4_shift_1 ++ dktX4_shift_2
def dkwX4_shift_0 : List UInt8 := [42, 27, 182, 0, 94, 153, 0, 25, 28, 3, 4, 184, 0, 64, 153, 0, 16, 29, 17, 252, 25, 17, 3, 231]
abbrev dktX4_shift_0 : List UInt8 := dkwX4_shift_0 ++ dktX4_shift_1
theorem dksX4_shift_0 : cX4_shift.data.toList.drop 0 = dktX4_shift_0 := by decide +kernel
theorem dksX4_shift_1 : cX4_shift.data.toList.drop 24 = dktX4_shift_1 := dk_seg dksX4_shift_0 24 rfl rfl
theorem dksX4_shift_2 : cX4_shift.data.toList.drop 46 = dktX4_shift_2 := dk_seg dksX4_shift_1 22 rfl rfl
theorem dX4_shift_0 : decode cX4_shift 0 = .ok (.aload_n 0, 1) := dk_42 (dk_at dksX4_shift_0 0 rfl rfl)
theorem dX4_shift_1 : decode cX4_shift 1 = .ok (.iload_n 1, 1) := dk_27 (dk_at dksX4_shift_0 1 rfl rfl)
theorem dX4_shift_2 : decode cX4_shift 2 = .ok (.invokevirtual 94, 3) := dk_182 0 94 (dk_at dksX4_shift_0 2 rfl rfl)
theorem dX4_shift_5 : decode cX4_shift 5 = .ok (.ifCond .eq 25, 3) := dk_153 0 25 (dk_at dksX4_shift_0 5 rfl rfl)
theorem dX4_shift_8 : decode cX4_shift 8 = .ok (.iload_n 2, 1) := dk_28 (dk_at dksX4_shift_0 8 rfl rfl)
theorem dX4_shift_9 : decode cX4_shift 9 = .ok (.iconst 0, 1) := dk_3 (dk_at dksX4_shift_0 9 rfl rfl)
theorem dX4_shift_10 : decode cX4_shift 10 = .ok (.iconst 1, 1) := dk_4 (dk_at dksX4_shift_0 10 rfl rfl)
theorem dX4_shift_11 : decode cX4_shift 11 = .ok (.invokestatic 64, 3) := dk_184 0 64 (dk_at dksX4_shift_0 11 rfl rfl)
theorem dX4_shift_14 : decode cX4_shift 14 = .ok (.ifCond .eq 16, 3) := dk_153 0 16 (dk_at dksX4_shift_0 14 rfl rfl)
theorem dX4_shift_17 : decode cX4_shift 17 = .ok (.iload_n 3, 1) := dk_29 (dk_at dksX4_shift_0 17 rfl rfl)
theorem dX4_shift_18 : decode cX4_shift 18 = .ok (.sipush (-999), 3) := dk_17 252 25 (dk_at dksX4_shift_0 18 rfl rfl)
theorem dX4_shift_21 : decode cX4_shift 21 = .ok (.sipush 999, 3) := dk_17 3 231 (dk_at dksX4_shift_0 21 rfl rfl)
theorem dX4_shift_24 : decode cX4_shift 24 = .ok (.invokestatic 64, 3) := dk_184 0 64 (dk_at dksX4_shift_1 0 rfl rfl)
theorem dX4_shift_27 : decode cX4_shift 27 = .ok (.ifCond .ne 6, 3) := dk_154 0 6 (dk_at dksX4_shift_1 3 rfl rfl)
theorem dX4_shift_30 : decode cX4_shift 30 = .ok (.ldc 97, 2) := dk_18 97 (dk_at dksX4_shift_1 6 rfl rfl)
theorem dX4_shift_32 : decode cX4_shift 32 = .ok (.ireturn, 1) := dk_172 (dk_at dksX4_shift_1 8 rfl rfl)
theorem dX4_shift_33 : decode cX4_shift 33 = .ok (.aload_n 0, 1) := dk_42 (dk_at dksX4_shift_1 9 rfl rfl)
theorem dX4_shift_34 : decode cX4_shift 34 = .ok (.getfield 22, 3) := dk_180 0 22 (dk_at dksX4_shift_1 10 rfl rfl)
theorem dX4_shift_37 : decode cX4_shift 37 = .ok (.iconst 2, 1) := dk_5 (dk_at dksX4_shift_1 13 rfl rfl)
theorem dX4_shift_38 : decode cX4_shift 38 = .ok (.iload_n 1, 1) := dk_27 (dk_at dksX4_shift_1 14 rfl rfl)
theorem dX4_shift_39 : decode cX4_shift 39 = .ok (.imul, 1) := dk_104 (dk_at dksX4_shift_1 15 rfl rfl)
theorem dX4_shift_40 : decode cX4_shift 40 = .ok (.iload_n 2, 1) := dk_28 (dk_at dksX4_shift_1 16 rfl rfl)
theorem dX4_shift_41 : decode cX4_shift 41 = .ok (.iadd, 1) := dk_96 (dk_at dksX4_shift_1 17 rfl rfl)
theorem dX4_shift_42 : decode cX4_shift 42 = .ok (.iaload, 1) := dk_46 (dk_at dksX4_shift_1 18 rfl rfl)
theorem dX4_shift_43 : decode cX4_shift 43 = .ok (.istore 4, 2) := dk_54 4 (dk_at dksX4_shift_1 19 rfl rfl)
theorem dX4_shift_45 : decode cX4_shift 45 = .ok (.aload_n 0, 1) := dk_42 (dk_at dksX4_shift_1 21 rfl rfl)
theorem dX4_shift_46 : decode cX4_shift 46 = .ok (.getfield 22, 3) := dk_180 0 22 (dk_at dksX4_shift_2 0 rfl rfl)
theorem dX4_shift_49 : decode cX4_shift 49 = .ok (.iconst 2, 1) := dk_5 (dk_at dksX4_shift_2 3 rfl rfl)
theorem dX4_shift_50 : decode cX4_shift 50 = .ok (.iload_n 1, 1) := dk_27 (dk_at dksX4_shift_2 4 rfl rfl)
theorem dX4_shift_51 : decode cX4_shift 51 = .ok (.imul, 1) := dk_104 (dk_at dksX4_shift_2 5 rfl rfl)
theorem dX4_shift_52 : decode cX4_shift 52 = .ok (.iload_n 2, 1) := dk_28 (dk_at dksX4_shift_2 6 rfl rfl)
theorem dX4_shift_53 : decode cX4_shift 53 = .ok (.iadd, 1) := dk_96 (dk_at dksX4_shift_2 7 rfl rfl)
theorem dX4_shift_54 : decode cX4_shift 54 = .ok (.iload_n 3, 1) := dk_29 (dk_at dksX4_shift_2 8 rfl rfl)
theorem dX4_shift_55 : decode cX4_shift 55 = .ok (.iastore, 1) := dk_79 (dk_at dksX4_shift_2 9 rfl rfl)
theorem dX4_shift_56 : decode cX4_shift 56 = .ok (.iload 4, 2) := dk_21 4 (dk_at dksX4_shift_2 10 rfl rfl)
theorem dX4_shift_58 : decode cX4_shift 58 = .ok (.ireturn, 1) := dk_172 (dk_at dksX4_shift_2 12 rfl rfl)
abbrev cX4_stretch : ByteArray := prog_9_method_61_code
def yX4_stretch : MethodName := ⟨RX4, "stretch", "(II)J"⟩
def dkwX4_stretch_1 : List UInt8 := [20, 0, 202, 28, 184, 0, 138, 167, 0, 8, 16, 254, 184, 0, 160, 173]
abbrev dktX4_stretch_1 : List UInt8 := dkwX4_stretch_1 ++ []
def dkwX4_stretch_0 : List UInt8 := [42, 27, 182, 0, 72, 153, 0, 28, 28, 3, 4, 184, 0, 64, 153, 0, 19, 42, 27, 182, 0, 199, 133]
abbrev dktX4_stretch_0 : List UInt8 := dkwX4_stretch_0 ++ dktX4_stretch_1
theorem dksX4_stretch_0 : cX4_stretch.data.toList.drop 0 = dktX4_stretch_0 := by decide +kernel
theorem dksX4_stretch_1 : cX4_stretch.data.toList.drop 23 = dktX4_stretch_1 := dk_seg dksX4_stretch_0 23 rfl rfl
theorem dX4_stretch_0 : decode cX4_stretch 0 = .ok (.aload_n 0, 1) := dk_42 (dk_at dksX4_stretch_0 0 rfl rfl)
theorem dX4_stretch_1 : decode cX4_stretch 1 = .ok (.iload_n 1, 1) := dk_27 (dk_at dksX4_stretch_0 1 rfl rfl)
theorem dX4_stretch_2 : decode cX4_stretch 2 = .ok (.invokevirtual 72, 3) := dk_182 0 72 (dk_at dksX4_stretch_0 2 rfl rfl)
theorem dX4_stretch_5 : decode cX4_stretch 5 = .ok (.ifCond .eq 28, 3) := dk_153 0 28 (dk_at dksX4_stretch_0 5 rfl rfl)
theorem dX4_stretch_8 : decode cX4_stretch 8 = .ok (.iload_n 2, 1) := dk_28 (dk_at dksX4_stretch_0 8 rfl rfl)
theorem dX4_stretch_9 : decode cX4_stretch 9 = .ok (.iconst 0, 1) := dk_3 (dk_at dksX4_stretch_0 9 rfl rfl)
theorem dX4_stretch_10 : decode cX4_stretch 10 = .ok (.iconst 1, 1) := dk_4 (dk_at dksX4_stretch_0 10 rfl rfl)
theorem dX4_stretch_11 : decode cX4_stretch 11 = .ok (.invokestatic 64, 3) := dk_184 0 64 (dk_at dksX4_stretch_0 11 rfl rfl)
theorem dX4_stretch_14 : decode cX4_stretch 14 = .ok (.ifCond .eq 19, 3) := dk_153 0 19 (dk_at dksX4_stretch_0 14 rfl rfl)
theorem dX4_stretch_17 : decode cX4_stretch 17 = .ok (.aload_n 0, 1) := dk_42 (dk_at dksX4_stretch_0 17 rfl rfl)
theorem dX4_stretch_18 : decode cX4_stretch 18 = .ok (.iload_n 1, 1) := dk_27 (dk_at dksX4_stretch_0 18 rfl rfl)
theorem dX4_stretch_19 : decode cX4_stretch 19 = .ok (.invokevirtual 199, 3) := dk_182 0 199 (dk_at dksX4_stretch_0 19 rfl rfl)
theorem dX4_stretch_22 : decode cX4_stretch 22 = .ok (.i2l, 1) := dk_133 (dk_at dksX4_stretch_0 22 rfl rfl)
theorem dX4_stretch_23 : decode cX4_stretch 23 = .ok (.ldc2_w 202, 3) := dk_20 0 202 (dk_at dksX4_stretch_1 0 rfl rfl)
theorem dX4_stretch_26 : decode cX4_stretch 26 = .ok (.iload_n 2, 1) := dk_28 (dk_at dksX4_stretch_1 3 rfl rfl)
theorem dX4_stretch_27 : decode cX4_stretch 27 = .ok (.invokestatic 138, 3) := dk_184 0 138 (dk_at dksX4_stretch_1 4 rfl rfl)
theorem dX4_stretch_30 : decode cX4_stretch 30 = .ok (.goto 8, 3) := dk_167 0 8 (dk_at dksX4_stretch_1 7 rfl rfl)
theorem dX4_stretch_33 : decode cX4_stretch 33 = .ok (.bipush (-2), 2) := dk_16 254 (dk_at dksX4_stretch_1 10 rfl rfl)
theorem dX4_stretch_35 : decode cX4_stretch 35 = .ok (.invokestatic 160, 3) := dk_184 0 160 (dk_at dksX4_stretch_1 12 rfl rfl)
theorem dX4_stretch_38 : decode cX4_stretch 38 = .ok (.lreturn, 1) := dk_173 (dk_at dksX4_stretch_1 15 rfl rfl)
abbrev cX4_stretchOf : ByteArray := prog_9_method_60_code
def yX4_stretchOf : MethodName := ⟨RX4, "stretchOf", "(I)I"⟩
def dkwX4_stretchOf_2 : List UInt8 := [167, 255, 213, 28, 172]
abbrev dktX4_stretchOf_2 : List UInt8 := dkwX4_stretchOf_2 ++ []
def dkwX4_stretchOf_1 : List UInt8 := [27, 184, 0, 83, 104, 29, 96, 182, 0, 196, 100, 42, 27, 29, 182, 0, 86, 104, 96, 61, 132, 3, 1]
abbrev dktX4_stretchOf_1 : List UInt8 := dkwX4_stretchOf_1 ++ dktX4_stretchOf_2
def dkwX4_stretchOf_0 : List UInt8 := [3, 61, 3, 62, 29, 5, 162, 0, 44, 28, 42, 5, 27, 184, 0, 79, 104, 29, 96, 182, 0, 196, 42, 5]
abbrev dktX4_stretchOf_0 : List UInt8 := dkwX4_stretchOf_0 ++ dktX4_stretchOf_1
theorem dksX4_stretchOf_0 : cX4_stretchOf.data.toList.drop 0 = dktX4_stretchOf_0 := by decide +kernel
theorem dksX4_stretchOf_1 : cX4_stretchOf.data.toList.drop 24 = dktX4_stretchOf_1 := dk_seg dksX4_stretchOf_0 24 rfl rfl
theorem dksX4_stretchOf_2 : cX4_stretchOf.data.toList.drop 47 = dktX4_stretchOf_2 := dk_seg dksX4_stretchOf_1 23 rfl rfl
theorem dX4_stretchOf_0 : decode cX4_stretchOf 0 = .ok (.iconst 0, 1) := dk_3 (dk_at dksX4_stretchOf_0 0 rfl rfl)
theorem dX4_stretchOf_1 : decode cX4_stretchOf 1 = .ok (.istore_n 2, 1) := dk_61 (dk_at dksX4_stretchOf_0 1 rfl rfl)
theorem dX4_stretchOf_2 : decode cX4_stretchOf 2 = .ok (.iconst 0, 1) := dk_3 (dk_at dksX4_stretchOf_0 2 rfl rfl)
theorem dX4_stretchOf_3 : decode cX4_stretchOf 3 = .ok (.istore_n 3, 1) := dk_62 (dk_at dksX4_stretchOf_0 3 rfl rfl)
theorem dX4_stretchOf_4 : decode cX4_stretchOf 4 = .ok (.iload_n 3, 1) := dk_29 (dk_at dksX4_stretchOf_0 4 rfl rfl)
theorem dX4_stretchOf_5 : decode cX4_stretchOf 5 = .ok (.iconst 2, 1) := dk_5 (dk_at dksX4_stretchOf_0 5 rfl rfl)
theorem dX4_stretchOf_6 : decode cX4_stretchOf 6 = .ok (.if_icmp .ge 44, 3) := dk_162 0 44 (dk_at dksX4_stretchOf_0 6 rfl rfl)
theorem dX4_stretchOf_9 : decode cX4_stretchOf 9 = .ok (.iload_n 2, 1) := dk_28 (dk_at dksX4_stretchOf_0 9 rfl rfl)
theorem dX4_stretchOf_10 : decode cX4_stretchOf 10 = .ok (.aload_n 0, 1) := dk_42 (dk_at dksX4_stretchOf_0 10 rfl rfl)
theorem dX4_stretchOf_11 : decode cX4_stretchOf 11 = .ok (.iconst 2, 1) := dk_5 (dk_at dksX4_stretchOf_0 11 rfl rfl)
theorem dX4_stretchOf_12 : decode cX4_stretchOf 12 = .ok (.iload_n 1, 1) := dk_27 (dk_at dksX4_stretchOf_0 12 rfl rfl)
theorem dX4_stretchOf_13 : decode cX4_stretchOf 13 = .ok (.invokestatic 79, 3) := dk_184 0 79 (dk_at dksX4_stretchOf_0 13 rfl rfl)
theorem dX4_stretchOf_16 : decode cX4_stretchOf 16 = .ok (.imul, 1) := dk_104 (dk_at dksX4_stretchOf_0 16 rfl rfl)
theorem dX4_stretchOf_17 : decode cX4_stretchOf 17 = .ok (.iload_n 3, 1) := dk_29 (dk_at dksX4_stretchOf_0 17 rfl rfl)
theorem dX4_stretchOf_18 : decode cX4_stretchOf 18 = .ok (.iadd, 1) := dk_96 (dk_at dksX4_stretchOf_0 18 rfl rfl)
theorem dX4_stretchOf_19 : decode cX4_stretchOf 19 = .ok (.invokevirtual 196, 3) := dk_182 0 196 (dk_at dksX4_stretchOf_0 19 rfl rfl)
theorem dX4_stretchOf_22 : decode cX4_stretchOf 22 = .ok (.aload_n 0, 1) := dk_42 (dk_at dksX4_stretchOf_0 22 rfl rfl)
theorem dX4_stretchOf_23 : decode cX4_stretchOf 23 = .ok (.iconst 2, 1) := dk_5 (dk_at dksX4_stretchOf_0 23 rfl rfl)
theorem dX4_stretchOf_24 : decode cX4_stretchOf 24 = .ok (.iload_n 1, 1) := dk_27 (dk_at dksX4_stretchOf_1 0 rfl rfl)
theorem dX4_stretchOf_25 : decode cX4_stretchOf 25 = .ok (.invokestatic 83, 3) := dk_184 0 83 (dk_at dksX4_stretchOf_1 1 rfl rfl)
theorem dX4_stretchOf_28 : decode cX4_stretchOf 28 = .ok (.imul, 1) := dk_104 (dk_at dksX4_stretchOf_1 4 rfl rfl)
theorem dX4_stretchOf_29 : decode cX4_stretchOf 29 = .ok (.iload_n 3, 1) := dk_29 (dk_at dksX4_stretchOf_1 5 rfl rfl)
theorem dX4_stretchOf_30 : decode cX4_stretchOf 30 = .ok (.iadd, 1) := dk_96 (dk_at dksX4_stretchOf_1 6 rfl rfl)
theorem dX4_stretchOf_31 : decode cX4_stretchOf 31 = .ok (.invokevirtual 196, 3) := dk_182 0 196 (dk_at dksX4_stretchOf_1 7 rfl rfl)
theorem dX4_stretchOf_34 : decode cX4_stretchOf 34 = .ok (.isub, 1) := dk_100 (dk_at dksX4_stretchOf_1 10 rfl rfl)
theorem dX4_stretchOf_35 : decode cX4_stretchOf 35 = .ok (.aload_n 0, 1) := dk_42 (dk_at dksX4_stretchOf_1 11 rfl rfl)
theorem dX4_stretchOf_36 : decode cX4_stretchOf 36 = .ok (.iload_n 1, 1) := dk_27 (dk_at dksX4_stretchOf_1 12 rfl rfl)
theorem dX4_stretchOf_37 : decode cX4_stretchOf 37 = .ok (.iload_n 3, 1) := dk_29 (dk_at dksX4_stretchOf_1 13 rfl rfl)
theorem dX4_stretchOf_38 : decode cX4_stretchOf 38 = .ok (.invokevirtual 86, 3) := dk_182 0 86 (dk_at dksX4_stretchOf_1 14 rfl rfl)
theorem dX4_stretchOf_41 : decode cX4_stretchOf 41 = .ok (.imul, 1) := dk_104 (dk_at dksX4_stretchOf_1 17 rfl rfl)
theorem dX4_stretchOf_42 : decode cX4_stretchOf 42 = .ok (.iadd, 1) := dk_96 (dk_at dksX4_stretchOf_1 18 rfl rfl)
theorem dX4_stretchOf_43 : decode cX4_stretchOf 43 = .ok (.istore_n 2, 1) := dk_61 (dk_at dksX4_stretchOf_1 19 rfl rfl)
theorem dX4_stretchOf_44 : decode cX4_stretchOf 44 = .ok (.iinc 3 1, 3) := dk_132 3 1 (dk_at dksX4_stretchOf_1 20 rfl rfl)
theorem dX4_stretchOf_47 : decode cX4_stretchOf 47 = .ok (.goto (-43), 3) := dk_167 255 213 (dk_at dksX4_stretchOf_2 0 rfl rfl)
theorem dX4_stretchOf_50 : decode cX4_stretchOf 50 = .ok (.iload_n 2, 1) := dk_28 (dk_at dksX4_stretchOf_2 3 rfl rfl)
theorem dX4_stretchOf_51 : decode cX4_stretchOf 51 = .ok (.ireturn, 1) := dk_172 (dk_at dksX4_stretchOf_2 4 rfl rfl)
abbrev cX4_shiftAt : ByteArray := prog_9_method_59_code
def yX4_shiftAt : MethodName := ⟨RX4, "shiftAt", "(I)I"⟩
def dkwX4_shiftAt_0 : List UInt8 := [42, 27, 182, 0, 131, 153, 0, 12, 42, 180, 0, 22, 27, 46, 167, 0, 4, 3, 172]
abbrev dktX4_shiftAt_0 : List UInt8 := dkwX4_shiftAt_0 ++ []
theorem dksX4_shiftAt_0 : cX4_shiftAt.data.toList.drop 0 = dktX4_shiftAt_0 := by decide +kernel
theorem dX4_shiftAt_0 : decode cX4_shiftAt 0 = .ok (.aload_n 0, 1) := dk_42 (dk_at dksX4_shiftAt_0 0 rfl rfl)
theorem dX4_shiftAt_1 : decode cX4_shiftAt 1 = .ok (.iload_n 1, 1) := dk_27 (dk_at dksX4_shiftAt_0 1 rfl rfl)
theorem dX4_shiftAt_2 : decode cX4_shiftAt 2 = .ok (.invokevirtual 131, 3) := dk_182 0 131 (dk_at dksX4_shiftAt_0 2 rfl rfl)
theorem dX4_shiftAt_5 : decode cX4_shiftAt 5 = .ok (.ifCond .eq 12, 3) := dk_153 0 12 (dk_at dksX4_shiftAt_0 5 rfl rfl)
theorem dX4_shiftAt_8 : decode cX4_shiftAt 8 = .ok (.aload_n 0, 1) := dk_42 (dk_at dksX4_shiftAt_0 8 rfl rfl)
theorem dX4_shiftAt_9 : decode cX4_shiftAt 9 = .ok (.getfield 22, 3) := dk_180 0 22 (dk_at dksX4_shiftAt_0 9 rfl rfl)
theorem dX4_shiftAt_12 : decode cX4_shiftAt 12 = .ok (.iload_n 1, 1) := dk_27 (dk_at dksX4_shiftAt_0 12 rfl rfl)
theorem dX4_shiftAt_13 : decode cX4_shiftAt 13 = .ok (.iaload, 1) := dk_46 (dk_at dksX4_shiftAt_0 13 rfl rfl)
theorem dX4_shiftAt_14 : decode cX4_shiftAt 14 = .ok (.goto 4, 3) := dk_167 0 4 (dk_at dksX4_shiftAt_0 14 rfl rfl)
theorem dX4_shiftAt_17 : decode cX4_shiftAt 17 = .ok (.iconst 0, 1) := dk_3 (dk_at dksX4_shiftAt_0 17 rfl rfl)
theorem dX4_shiftAt_18 : decode cX4_shiftAt 18 = .ok (.ireturn, 1) := dk_172 (dk_at dksX4_shiftAt_0 18 rfl rfl)
abbrev cX4_work : ByteArray := prog_9_method_63_code
def yX4_work : MethodName := ⟨RX4, "work", "(I)J"⟩
def dkwX4_work_1 : List UInt8 := [16, 254, 184, 0, 160, 173]
abbrev dktX4_work_1 : List UInt8 := dkwX4_work_1 ++ []
def dkwX4_work_0 : List UInt8 := [27, 3, 4, 184, 0, 64, 153, 0, 18, 42, 182, 0, 204, 133, 20, 0, 202, 27, 184, 0, 138, 167, 0, 8]
abbrev dktX4_work_0 : List UInt8 := dkwX4_work_0 ++ dktX4_work_1
theorem dksX4_work_0 : cX4_work.data.toList.drop 0 = dktX4_work_0 := by decide +kernel
theorem dksX4_work_1 : cX4_work.data.toList.drop 24 = dktX4_work_1 := dk_seg dksX4_work_0 24 rfl rfl
theorem dX4_work_0 : decode cX4_work 0 = .ok (.iload_n 1, 1) := dk_27 (dk_at dksX4_work_0 0 rfl rfl)
theorem dX4_work_1 : decode cX4_work 1 = .ok (.iconst 0, 1) := dk_3 (dk_at dksX4_work_0 1 rfl rfl)
theorem dX4_work_2 : decode cX4_work 2 = .ok (.iconst 1, 1) := dk_4 (dk_at dksX4_work_0 2 rfl rfl)
theorem dX4_work_3 : decode cX4_work 3 = .ok (.invokestatic 64, 3) := dk_184 0 64 (dk_at dksX4_work_0 3 rfl rfl)
theorem dX4_work_6 : decode cX4_work 6 = .ok (.ifCond .eq 18, 3) := dk_153 0 18 (dk_at dksX4_work_0 6 rfl rfl)
theorem dX4_work_9 : decode cX4_work 9 = .ok (.aload_n 0, 1) := dk_42 (dk_at dksX4_work_0 9 rfl rfl)
theorem dX4_work_10 : decode cX4_work 10 = .ok (.invokevirtual 204, 3) := dk_182 0 204 (dk_at dksX4_work_0 10 rfl rfl)
theorem dX4_work_13 : decode cX4_work 13 = .ok (.i2l, 1) := dk_133 (dk_at dksX4_work_0 13 rfl rfl)
theorem dX4_work_14 : decode cX4_work 14 = .ok (.ldc2_w 202, 3) := dk_20 0 202 (dk_at dksX4_work_0 14 rfl rfl)
theorem dX4_work_17 : decode cX4_work 17 = .ok (.iload_n 1, 1) := dk_27 (dk_at dksX4_work_0 17 rfl rfl)
theorem dX4_work_18 : decode cX4_work 18 = .ok (.invokestatic 138, 3) := dk_184 0 138 (dk_at dksX4_work_0 18 rfl rfl)
theorem dX4_work_21 : decode cX4_work 21 = .ok (.goto 8, 3) := dk_167 0 8 (dk_at dksX4_work_0 21 rfl rfl)
theorem dX4_work_24 : decode cX4_work 24 = .ok (.bipush (-2), 2) := dk_16 254 (dk_at dksX4_work_1 0 rfl rfl)
theorem dX4_work_26 : decode cX4_work 26 = .ok (.invokestatic 160, 3) := dk_184 0 160 (dk_at dksX4_work_1 2 rfl rfl)
theorem dX4_work_29 : decode cX4_work 29 = .ok (.lreturn, 1) := dk_173 (dk_at dksX4_work_1 5 rfl rfl)
abbrev cX4_workNow : ByteArray := prog_9_method_62_code
def yX4_workNow : MethodName := ⟨RX4, "workNow", "()I"⟩
def dkwX4_workNow_1 : List UInt8 := [46, 42, 180, 0, 22, 28, 46, 104, 167, 0, 4, 3, 96, 60, 132, 2, 1, 167, 255, 219, 27, 172]
abbrev dktX4_workNow_1 : List UInt8 := dkwX4_workNow_1 ++ []
def dkwX4_workNow_0 : List UInt8 := [3, 60, 3, 61, 28, 16, 10, 162, 0, 37, 27, 42, 28, 182, 0, 131, 153, 0, 19, 42, 180, 0, 19, 28]
abbrev dktX4_workNow_0 : List UInt8 := dkwX4_workNow_0 ++ dktX4_workNow_1
theorem dksX4_workNow_0 : cX4_workNow.data.toList.drop 0 = dktX4_workNow_0 := by decide +kernel
theorem dksX4_workNow_1 : cX4_workNow.data.toList.drop 24 = dktX4_workNow_1 := dk_seg dksX4_workNow_0 24 rfl rfl
theorem dX4_workNow_0 : decode cX4_workNow 0 = .ok (.iconst 0, 1) := dk_3 (dk_at dksX4_workNow_0 0 rfl rfl)
theorem dX4_workNow_1 : decode cX4_workNow 1 = .ok (.istore_n 1, 1) := dk_60 (dk_at dksX4_workNow_0 1 rfl rfl)
theorem dX4_workNow_2 : decode cX4_workNow 2 = .ok (.iconst 0, 1) := dk_3 (dk_at dksX4_workNow_0 2 rfl rfl)
theorem dX4_workNow_3 : decode cX4_workNow 3 = .ok (.istore_n 2, 1) := dk_61 (dk_at dksX4_workNow_0 3 rfl rfl)
theorem dX4_workNow_4 : decode cX4_workNow 4 = .ok (.iload_n 2, 1) := dk_28 (dk_at dksX4_workNow_0 4 rfl rfl)
theorem dX4_workNow_5 : decode cX4_workNow 5 = .ok (.bipush 10, 2) := dk_16 10 (dk_at dksX4_workNow_0 5 rfl rfl)
theorem dX4_workNow_7 : decode cX4_workNow 7 = .ok (.if_icmp .ge 37, 3) := dk_162 0 37 (dk_at dksX4_workNow_0 7 rfl rfl)
theorem dX4_workNow_10 : decode cX4_workNow 10 = .ok (.iload_n 1, 1) := dk_27 (dk_at dksX4_workNow_0 10 rfl rfl)
theorem dX4_workNow_11 : decode cX4_workNow 11 = .ok (.aload_n 0, 1) := dk_42 (dk_at dksX4_workNow_0 11 rfl rfl)
theorem dX4_workNow_12 : decode cX4_workNow 12 = .ok (.iload_n 2, 1) := dk_28 (dk_at dksX4_workNow_0 12 rfl rfl)
theorem dX4_workNow_13 : decode cX4_workNow 13 = .ok (.invokevirtual 131, 3) := dk_182 0 131 (dk_at dksX4_workNow_0 13 rfl rfl)
theorem dX4_workNow_16 : decode cX4_workNow 16 = .ok (.ifCond .eq 19, 3) := dk_153 0 19 (dk_at dksX4_workNow_0 16 rfl rfl)
theorem dX4_workNow_19 : decode cX4_workNow 19 = .ok (.aload_n 0, 1) := dk_42 (dk_at dksX4_workNow_0 19 rfl rfl)
theorem dX4_workNow_20 : decode cX4_workNow 20 = .ok (.getfield 19, 3) := dk_180 0 19 (dk_at dksX4_workNow_0 20 rfl rfl)
theorem dX4_workNow_23 : decode cX4_workNow 23 = .ok (.iload_n 2, 1) := dk_28 (dk_at dksX4_workNow_0 23 rfl rfl)
theorem dX4_workNow_24 : decode cX4_workNow 24 = .ok (.iaload, 1) := dk_46 (dk_at dksX4_workNow_1 0 rfl rfl)
theorem dX4_workNow_25 : decode cX4_workNow 25 = .ok (.aload_n 0, 1) := dk_42 (dk_at dksX4_workNow_1 1 rfl rfl)
theorem dX4_workNow_26 : decode cX4_workNow 26 = .ok (.getfield 22, 3) := dk_180 0 22 (dk_at dksX4_workNow_1 2 rfl rfl)
theorem dX4_workNow_29 : decode cX4_workNow 29 = .ok (.iload_n 2, 1) := dk_28 (dk_at dksX4_workNow_1 5 rfl rfl)
theorem dX4_workNow_30 : decode cX4_workNow 30 = .ok (.iaload, 1) := dk_46 (dk_at dksX4_workNow_1 6 rfl rfl)
theorem dX4_workNow_31 : decode cX4_workNow 31 = .ok (.imul, 1) := dk_104 (dk_at dksX4_workNow_1 7 rfl rfl)
theorem dX4_workNow_32 : decode cX4_workNow 32 = .ok (.goto 4, 3) := dk_167 0 4 (dk_at dksX4_workNow_1 8 rfl rfl)
theorem dX4_workNow_35 : decode cX4_workNow 35 = .ok (.iconst 0, 1) := dk_3 (dk_at dksX4_workNow_1 11 rfl rfl)
theorem dX4_workNow_36 : decode cX4_workNow 36 = .ok (.iadd, 1) := dk_96 (dk_at dksX4_workNow_1 12 rfl rfl)
theorem dX4_workNow_37 : decode cX4_workNow 37 = .ok (.istore_n 1, 1) := dk_60 (dk_at dksX4_workNow_1 13 rfl rfl)
theorem dX4_workNow_38 : decode cX4_workNow 38 = .ok (.iinc 2 1, 3) := dk_132 2 1 (dk_at dksX4_workNow_1 14 rfl rfl)
theorem dX4_workNow_41 : decode cX4_workNow 41 = .ok (.goto (-37), 3) := dk_167 255 219 (dk_at dksX4_workNow_1 17 rfl rfl)
theorem dX4_workNow_44 : decode cX4_workNow 44 = .ok (.iload_n 1, 1) := dk_27 (dk_at dksX4_workNow_1 20 rfl rfl)
theorem dX4_workNow_45 : decode cX4_workNow 45 = .ok (.ireturn, 1) := dk_172 (dk_at dksX4_workNow_1 21 rfl rfl)
abbrev cX4_proves : ByteArray := prog_9_method_65_code
def yX4_proves : MethodName := ⟨RX4, "proves", "()I"⟩
theorem dX4_proves_0 : decode cX4_proves 0 = .ok (.aload_n 0, 1) := by decide +kernel
theorem dX4_proves_1 : decode cX4_proves 1 = .ok (.invokevirtual 207, 3) := by decide +kernel
theorem dX4_proves_4 : decode cX4_proves 4 = .ok (.ireturn, 1) := by decide +kernel
abbrev cX4_provesNow : ByteArray := prog_9_method_64_code
def yX4_provesNow : MethodName := ⟨RX4, "provesNow", "()I"⟩
def dkwX4_provesNow_4 : List UInt8 := [105, 148, 154, 0, 7, 5, 167, 0, 4, 4, 172]
abbrev dktX4_provesNow_4 : List UInt8 := dkwX4_provesNow_4 ++ []
def dkwX4_provesNow_3 : List UInt8 := [159, 0, 33, 42, 182, 0, 204, 133, 42, 180, 0, 39, 27, 47, 105, 20, 0, 202, 42, 180, 0, 36, 27, 47]
abbrev dktX4_provesNow_3 : List UInt8 := dkwX4_provesNow_3 ++ dktX4_provesNow_4
def dkwX4_provesNow_2 : List UInt8 := [164, 0, 5, 3, 172, 132, 1, 1, 167, 255, 204, 42, 42, 180, 0, 76, 182, 0, 157, 60, 27, 2]
abbrev dktX4_provesNow_2 : List UInt8 := dkwX4_provesNow_2 ++ dktX4_provesNow_3
def dkwX4_provesNow_1 : List UInt8 := [28, 16, 12, 42, 27, 182, 0, 111, 104, 163, 0, 16, 28, 116, 16, 12, 42, 27, 182, 0, 111, 104]
abbrev dktX4_provesNow_1 : List UInt8 := dkwX4_provesNow_1 ++ dktX4_provesNow_2
def dkwX4_provesNow_0 : List UInt8 := [3, 60, 27, 42, 182, 0, 68, 162, 0, 50, 42, 27, 182, 0, 199, 61, 42, 27, 182, 0, 174, 153, 0, 30]
abbrev dktX4_provesNow_0 : List UInt8 := dkwX4_provesNow_0 ++ dktX4_provesNow_1
theorem dksX4_provesNow_0 : cX4_provesNow.data.toList.drop 0 = dktX4_provesNow_0 := by decide +kernel
theorem dksX4_provesNow_1 : cX4_provesNow.data.toList.drop 24 = dktX4_provesNow_1 := dk_seg dksX4_provesNow_0 24 rfl rfl
theorem dksX4_provesNow_2 : cX4_provesNow.data.toList.drop 46 = dktX4_provesNow_2 := dk_seg dksX4_provesNow_1 22 rfl rfl
theorem dksX4_provesNow_3 : cX4_provesNow.data.toList.drop 68 = dktX4_provesNow_3 := dk_seg dksX4_provesNow_2 22 rfl rfl
theorem dksX4_provesNow_4 : cX4_provesNow.data.toList.drop 92 = dktX4_provesNow_4 := dk_seg dksX4_provesNow_3 24 rfl rfl
theorem dX4_provesNow_0 : decode cX4_provesNow 0 = .ok (.iconst 0, 1) := dk_3 (dk_at dksX4_provesNow_0 0 rfl rfl)
theorem dX4_provesNow_1 : decode cX4_provesNow 1 = .ok (.istore_n 1, 1) := dk_60 (dk_at dksX4_provesNow_0 1 rfl rfl)
theorem dX4_provesNow_2 : decode cX4_provesNow 2 = .ok (.iload_n 1, 1) := dk_27 (dk_at dksX4_provesNow_0 2 rfl rfl)
theorem dX4_provesNow_3 : decode cX4_provesNow 3 = .ok (.aload_n 0, 1) := dk_42 (dk_at dksX4_provesNow_0 3 rfl rfl)
theorem dX4_provesNow_4 : decode cX4_provesNow 4 = .ok (.invokevirtual 68, 3) := dk_182 0 68 (dk_at dksX4_provesNow_0 4 rfl rfl)
theorem dX4_provesNow_7 : decode cX4_provesNow 7 = .ok (.if_icmp .ge 50, 3) := dk_162 0 50 (dk_at dksX4_provesNow_0 7 rfl rfl)
theorem dX4_provesNow_10 : decode cX4_provesNow 10 = .ok (.aload_n 0, 1) := dk_42 (dk_at dksX4_provesNow_0 10 rfl rfl)
theorem dX4_provesNow_11 : decode cX4_provesNow 11 = .ok (.iload_n 1, 1) := dk_27 (dk_at dksX4_provesNow_0 11 rfl rfl)
theorem dX4_provesNow_12 : decode cX4_provesNow 12 = .ok (.invokevirtual 199, 3) := dk_182 0 199 (dk_at dksX4_provesNow_0 12 rfl rfl)
theorem dX4_provesNow_15 : decode cX4_provesNow 15 = .ok (.istore_n 2, 1) := dk_61 (dk_at dksX4_provesNow_0 15 rfl rfl)
theorem dX4_provesNow_16 : decode cX4_provesNow 16 = .ok (.aload_n 0, 1) := dk_42 (dk_at dksX4_provesNow_0 16 rfl rfl)
theorem dX4_provesNow_17 : decode cX4_provesNow 17 = .ok (.iload_n 1, 1) := dk_27 (dk_at dksX4_provesNow_0 17 rfl rfl)
theorem dX4_provesNow_18 : decode cX4_provesNow 18 = .ok (.invokevirtual 174, 3) := dk_182 0 174 (dk_at dksX4_provesNow_0 18 rfl rfl)
theorem dX4_provesNow_21 : decode cX4_provesNow 21 = .ok (.ifCond .eq 30, 3) := dk_153 0 30 (dk_at dksX4_provesNow_0 21 rfl rfl)
theorem dX4_provesNow_24 : decode cX4_provesNow 24 = .ok (.iload_n 2, 1) := dk_28 (dk_at dksX4_provesNow_1 0 rfl rfl)
theorem dX4_provesNow_25 : decode cX4_provesNow 25 = .ok (.bipush 12, 2) := dk_16 12 (dk_at dksX4_provesNow_1 1 rfl rfl)
theorem dX4_provesNow_27 : decode cX4_provesNow 27 = .ok (.aload_n 0, 1) := dk_42 (dk_at dksX4_provesNow_1 3 rfl rfl)
theorem dX4_provesNow_28 : decode cX4_provesNow 28 = .ok (.iload_n 1, 1) := dk_27 (dk_at dksX4_provesNow_1 4 rfl rfl)
theorem dX4_provesNow_29 : decode cX4_provesNow 29 = .ok (.invokevirtual 111, 3) := dk_182 0 111 (dk_at dksX4_provesNow_1 5 rfl rfl)
theorem dX4_provesNow_32 : decode cX4_provesNow 32 = .ok (.imul, 1) := dk_104 (dk_at dksX4_provesNow_1 8 rfl rfl)
theorem dX4_provesNow_33 : decode cX4_provesNow 33 = .ok (.if_icmp .gt 16, 3) := dk_163 0 16 (dk_at dksX4_provesNow_1 9 rfl rfl)
theorem dX4_provesNow_36 : decode cX4_provesNow 36 = .ok (.iload_n 2, 1) := dk_28 (dk_at dksX4_provesNow_1 12 rfl rfl)
theorem dX4_provesNow_37 : decode cX4_provesNow 37 = .ok (.ineg, 1) := dk_116 (dk_at dksX4_provesNow_1 13 rfl rfl)
theorem dX4_provesNow_38 : decode cX4_provesNow 38 = .ok (.bipush 12, 2) := dk_16 12 (dk_at dksX4_provesNow_1 14 rfl rfl)
theorem dX4_provesNow_40 : decode cX4_provesNow 40 = .ok (.aload_n 0, 1) := dk_42 (dk_at dksX4_provesNow_1 16 rfl rfl)
theorem dX4_provesNow_41 : decode cX4_provesNow 41 = .ok (.iload_n 1, 1) := dk_27 (dk_at dksX4_provesNow_1 17 rfl rfl)
theorem dX4_provesNow_42 : decode cX4_provesNow 42 = .ok (.invokevirtual 111, 3) := dk_182 0 111 (dk_at dksX4_provesNow_1 18 rfl rfl)
theorem dX4_provesNow_45 : decode cX4_provesNow 45 = .ok (.imul, 1) := dk_104 (dk_at dksX4_provesNow_1 21 rfl rfl)
theorem dX4_provesNow_46 : decode cX4_provesNow 46 = .ok (.if_icmp .le 5, 3) := dk_164 0 5 (dk_at dksX4_provesNow_2 0 rfl rfl)
theorem dX4_provesNow_49 : decode cX4_provesNow 49 = .ok (.iconst 0, 1) := dk_3 (dk_at dksX4_provesNow_2 3 rfl rfl)
theorem dX4_provesNow_50 : decode cX4_provesNow 50 = .ok (.ireturn, 1) := dk_172 (dk_at dksX4_provesNow_2 4 rfl rfl)
theorem dX4_provesNow_51 : decode cX4_provesNow 51 = .ok (.iinc 1 1, 3) := dk_132 1 1 (dk_at dksX4_provesNow_2 5 rfl rfl)
theorem dX4_provesNow_54 : decode cX4_provesNow 54 = .ok (.goto (-52), 3) := dk_167 255 204 (dk_at dksX4_provesNow_2 8 rfl rfl)
theorem dX4_provesNow_57 : decode cX4_provesNow 57 = .ok (.aload_n 0, 1) := dk_42 (dk_at dksX4_provesNow_2 11 rfl rfl)
theorem dX4_provesNow_58 : decode cX4_provesNow 58 = .ok (.aload_n 0, 1) := dk_42 (dk_at dksX4_provesNow_2 12 rfl rfl)
theorem dX4_provesNow_59 : decode cX4_provesNow 59 = .ok (.getfield 76, 3) := dk_180 0 76 (dk_at dksX4_provesNow_2 13 rfl rfl)
theorem dX4_provesNow_62 : decode cX4_provesNow 62 = .ok (.invokevirtual 157, 3) := dk_182 0 157 (dk_at dksX4_provesNow_2 16 rfl rfl)
theorem dX4_provesNow_65 : decode cX4_provesNow 65 = .ok (.istore_n 1, 1) := dk_60 (dk_at dksX4_provesNow_2 19 rfl rfl)
theorem dX4_provesNow_66 : decode cX4_provesNow 66 = .ok (.iload_n 1, 1) := dk_27 (dk_at dksX4_provesNow_2 20 rfl rfl)
theorem dX4_provesNow_67 : decode cX4_provesNow 67 = .ok (.iconst (-1), 1) := dk_2 (dk_at dksX4_provesNow_2 21 rfl rfl)
theorem dX4_provesNow_68 : decode cX4_provesNow 68 = .ok (.if_icmp .eq 33, 3) := dk_159 0 33 (dk_at dksX4_provesNow_3 0 rfl rfl)
theorem dX4_provesNow_71 : decode cX4_provesNow 71 = .ok (.aload_n 0, 1) := dk_42 (dk_at dksX4_provesNow_3 3 rfl rfl)
theorem dX4_provesNow_72 : decode cX4_provesNow 72 = .ok (.invokevirtual 204, 3) := dk_182 0 204 (dk_at dksX4_provesNow_3 4 rfl rfl)
theorem dX4_provesNow_75 : decode cX4_provesNow 75 = .ok (.i2l, 1) := dk_133 (dk_at dksX4_provesNow_3 7 rfl rfl)
theorem dX4_provesNow_76 : decode cX4_provesNow 76 = .ok (.aload_n 0, 1) := dk_42 (dk_at dksX4_provesNow_3 8 rfl rfl)
theorem dX4_provesNow_77 : decode cX4_provesNow 77 = .ok (.getfield 39, 3) := dk_180 0 39 (dk_at dksX4_provesNow_3 9 rfl rfl)
theorem dX4_provesNow_80 : decode cX4_provesNow 80 = .ok (.iload_n 1, 1) := dk_27 (dk_at dksX4_provesNow_3 12 rfl rfl)
theorem dX4_provesNow_81 : decode cX4_provesNow 81 = .ok (.laload, 1) := dk_47 (dk_at dksX4_provesNow_3 13 rfl rfl)
theorem dX4_provesNow_82 : decode cX4_provesNow 82 = .ok (.lmul, 1) := dk_105 (dk_at dksX4_provesNow_3 14 rfl rfl)
theorem dX4_provesNow_83 : decode cX4_provesNow 83 = .ok (.ldc2_w 202, 3) := dk_20 0 202 (dk_at dksX4_provesNow_3 15 rfl rfl)
theorem dX4_provesNow_86 : decode cX4_provesNow 86 = .ok (.aload_n 0, 1) := dk_42 (dk_at dksX4_provesNow_3 18 rfl rfl)
theorem dX4_provesNow_87 : decode cX4_provesNow 87 = .ok (.getfield 36, 3) := dk_180 0 36 (dk_at dksX4_provesNow_3 19 rfl rfl)
theorem dX4_provesNow_90 : decode cX4_provesNow 90 = .ok (.iload_n 1, 1) := dk_27 (dk_at dksX4_provesNow_3 22 rfl rfl)
theorem dX4_provesNow_91 : decode cX4_provesNow 91 = .ok (.laload, 1) := dk_47 (dk_at dksX4_provesNow_3 23 rfl rfl)
theorem dX4_provesNow_92 : decode cX4_provesNow 92 = .ok (.lmul, 1) := dk_105 (dk_at dksX4_provesNow_4 0 rfl rfl)
theorem dX4_provesNow_93 : decode cX4_provesNow 93 = .ok (.lcmp, 1) := dk_148 (dk_at dksX4_provesNow_4 1 rfl rfl)
theorem dX4_provesNow_94 : decode cX4_provesNow 94 = .ok (.ifCond .ne 7, 3) := dk_154 0 7 (dk_at dksX4_provesNow_4 2 rfl rfl)
theorem dX4_provesNow_97 : decode cX4_provesNow 97 = .ok (.iconst 2, 1) := dk_5 (dk_at dksX4_provesNow_4 5 rfl rfl)
theorem dX4_provesNow_98 : decode cX4_provesNow 98 = .ok (.goto 4, 3) := dk_167 0 4 (dk_at dksX4_provesNow_4 6 rfl rfl)
theorem dX4_provesNow_101 : decode cX4_provesNow 101 = .ok (.iconst 1, 1) := dk_4 (dk_at dksX4_provesNow_4 9 rfl rfl)
theorem dX4_provesNow_102 : decode cX4_provesNow 102 = .ok (.ireturn, 1) := dk_172 (dk_at dksX4_provesNow_4 10 rfl rfl)
abbrev cX4_cross : ByteArray := prog_9_method_70_code
def yX4_cross : MethodName := ⟨RX4, "cross", "(II)I"⟩
def dkwX4_cross_1 : List UInt8 := [2, 160, 0, 8, 16, 253, 167, 0, 9, 42, 27, 28, 182, 0, 225, 172]
abbrev dktX4_cross_1 : List UInt8 := dkwX4_cross_1 ++ []
def dkwX4_cross_0 : List UInt8 := [27, 155, 0, 12, 28, 3, 8, 184, 0, 64, 154, 0, 6, 16, 254, 172, 42, 42, 180, 0, 76, 182, 0, 157]
abbrev dktX4_cross_0 : List UInt8 := dkwX4_cross_0 ++ dktX4_cross_1
theorem dksX4_cross_0 : cX4_cross.data.toList.drop 0 = dktX4_cross_0 := by decide +kernel
theorem dksX4_cross_1 : cX4_cross.data.toList.drop 24 = dktX4_cross_1 := dk_seg dksX4_cross_0 24 rfl rfl
theorem dX4_cross_0 : decode cX4_cross 0 = .ok (.iload_n 1, 1) := dk_27 (dk_at dksX4_cross_0 0 rfl rfl)
theorem dX4_cross_1 : decode cX4_cross 1 = .ok (.ifCond .lt 12, 3) := dk_155 0 12 (dk_at dksX4_cross_0 1 rfl rfl)
theorem dX4_cross_4 : decode cX4_cross 4 = .ok (.iload_n 2, 1) := dk_28 (dk_at dksX4_cross_0 4 rfl rfl)
theorem dX4_cross_5 : decode cX4_cross 5 = .ok (.iconst 0, 1) := dk_3 (dk_at dksX4_cross_0 5 rfl rfl)
theorem dX4_cross_6 : decode cX4_cross 6 = .ok (.iconst 5, 1) := dk_8 (dk_at dksX4_cross_0 6 rfl rfl)
theorem dX4_cross_7 : decode cX4_cross 7 = .ok (.invokestatic 64, 3) := dk_184 0 64 (dk_at dksX4_cross_0 7 rfl rfl)
theorem dX4_cross_10 : decode cX4_cross 10 = .ok (.ifCond .ne 6, 3) := dk_154 0 6 (dk_at dksX4_cross_0 10 rfl rfl)
theorem dX4_cross_13 : decode cX4_cross 13 = .ok (.bipush (-2), 2) := dk_16 254 (dk_at dksX4_cross_0 13 rfl rfl)
theorem dX4_cross_15 : decode cX4_cross 15 = .ok (.ireturn, 1) := dk_172 (dk_at dksX4_cross_0 15 rfl rfl)
theorem dX4_cross_16 : decode cX4_cross 16 = .ok (.aload_n 0, 1) := dk_42 (dk_at dksX4_cross_0 16 rfl rfl)
theorem dX4_cross_17 : decode cX4_cross 17 = .ok (.aload_n 0, 1) := dk_42 (dk_at dksX4_cross_0 17 rfl rfl)
theorem dX4_cross_18 : decode cX4_cross 18 = .ok (.getfield 76, 3) := dk_180 0 76 (dk_at dksX4_cross_0 18 rfl rfl)
theorem dX4_cross_21 : decode cX4_cross 21 = .ok (.invokevirtual 157, 3) := dk_182 0 157 (dk_at dksX4_cross_0 21 rfl rfl)
theorem dX4_cross_24 : decode cX4_cross 24 = .ok (.iconst (-1), 1) := dk_2 (dk_at dksX4_cross_1 0 rfl rfl)
theorem dX4_cross_25 : decode cX4_cross 25 = .ok (.if_icmp .ne 8, 3) := dk_160 0 8 (dk_at dksX4_cross_1 1 rfl rfl)
theorem dX4_cross_28 : decode cX4_cross 28 = .ok (.bipush (-3), 2) := dk_16 253 (dk_at dksX4_cross_1 4 rfl rfl)
theorem dX4_cross_30 : decode cX4_cross 30 = .ok (.goto 9, 3) := dk_167 0 9 (dk_at dksX4_cross_1 6 rfl rfl)
theorem dX4_cross_33 : decode cX4_cross 33 = .ok (.aload_n 0, 1) := dk_42 (dk_at dksX4_cross_1 9 rfl rfl)
theorem dX4_cross_34 : decode cX4_cross 34 = .ok (.iload_n 1, 1) := dk_27 (dk_at dksX4_cross_1 10 rfl rfl)
theorem dX4_cross_35 : decode cX4_cross 35 = .ok (.iload_n 2, 1) := dk_28 (dk_at dksX4_cross_1 11 rfl rfl)
theorem dX4_cross_36 : decode cX4_cross 36 = .ok (.invokevirtual 225, 3) := dk_182 0 225 (dk_at dksX4_cross_1 12 rfl rfl)
theorem dX4_cross_39 : decode cX4_cross 39 = .ok (.ireturn, 1) := dk_172 (dk_at dksX4_cross_1 15 rfl rfl)
abbrev cX4_crossOf : ByteArray := prog_9_method_69_code
def yX4_crossOf : MethodName := ⟨RX4, "crossOf", "(II)I"⟩
def dkwX4_crossOf_5 : List UInt8 := [104, 96, 133, 42, 180, 0, 210, 133, 28, 5, 112, 184, 0, 138, 136, 172]
abbrev dktX4_crossOf_5 : List UInt8 := dkwX4_crossOf_5 ++ []
def dkwX4_crossOf_4 : List UInt8 := [180, 0, 210, 104, 42, 180, 0, 213, 42, 21, 4, 28, 7, 162, 0, 7, 3, 167, 0, 4, 4, 182, 0, 86]
abbrev dktX4_crossOf_4 : List UInt8 := dkwX4_crossOf_4 ++ dktX4_crossOf_5
def dkwX4_crossOf_3 : List UInt8 := [21, 4, 184, 0, 83, 46, 167, 0, 13, 42, 180, 0, 13, 21, 4, 184, 0, 83, 46, 54, 6, 21, 6, 42]
abbrev dktX4_crossOf_3 : List UInt8 := dkwX4_crossOf_3 ++ dktX4_crossOf_4
def dkwX4_crossOf_2 : List UInt8 := [162, 0, 15, 28, 154, 0, 8, 21, 4, 167, 0, 5, 21, 5, 172, 28, 7, 162, 0, 16, 42, 180, 0, 7]
abbrev dktX4_crossOf_2 : List UInt8 := dkwX4_crossOf_2 ++ dktX4_crossOf_3
def dkwX4_crossOf_1 : List UInt8 := [16, 16, 108, 54, 4, 29, 16, 16, 112, 54, 5, 42, 21, 4, 21, 5, 182, 0, 219, 87, 28, 5]
abbrev dktX4_crossOf_1 : List UInt8 := dkwX4_crossOf_1 ++ dktX4_crossOf_2
def dkwX4_crossOf_0 : List UInt8 := [42, 27, 42, 42, 180, 0, 76, 182, 0, 157, 182, 0, 222, 62, 29, 2, 160, 0, 6, 16, 254, 172, 29]
abbrev dktX4_crossOf_0 : List UInt8 := dkwX4_crossOf_0 ++ dktX4_crossOf_1
theorem dksX4_crossOf_0 : cX4_crossOf.data.toList.drop 0 = dktX4_crossOf_0 := by decide +kernel
theorem dksX4_crossOf_1 : cX4_crossOf.data.toList.drop 23 = dktX4_crossOf_1 := dk_seg dksX4_crossOf_0 23 rfl rfl
theorem dksX4_crossOf_2 : cX4_crossOf.data.toList.drop 45 = dktX4_crossOf_2 := dk_seg dksX4_crossOf_1 22 rfl rfl
theorem dksX4_crossOf_3 : cX4_crossOf.data.toList.drop 69 = dktX4_crossOf_3 := dk_seg dksX4_crossOf_2 24 rfl rfl
theorem dksX4_crossOf_4 : cX4_crossOf.data.toList.drop 93 = dktX4_crossOf_4 := dk_seg dksX4_crossOf_3 24 rfl rfl
theorem dksX4_crossOf_5 : cX4_crossOf.data.toList.drop 117 = dktX4_crossOf_5 := dk_seg dksX4_crossOf_4 24 rfl rfl
theorem dX4_crossOf_0 : decode cX4_crossOf 0 = .ok (.aload_n 0, 1) := dk_42 (dk_at dksX4_crossOf_0 0 rfl rfl)
theorem dX4_crossOf_1 : decode cX4_crossOf 1 = .ok (.iload_n 1, 1) := dk_27 (dk_at dksX4_crossOf_0 1 rfl rfl)
theorem dX4_crossOf_2 : decode cX4_crossOf 2 = .ok (.aload_n 0, 1) := dk_42 (dk_at dksX4_crossOf_0 2 rfl rfl)
theorem dX4_crossOf_3 : decode cX4_crossOf 3 = .ok (.aload_n 0, 1) := dk_42 (dk_at dksX4_crossOf_0 3 rfl rfl)
theorem dX4_crossOf_4 : decode cX4_crossOf 4 = .ok (.getfield 76, 3) := dk_180 0 76 (dk_at dksX4_crossOf_0 4 rfl rfl)
theorem dX4_crossOf_7 : decode cX4_crossOf 7 = .ok (.invokevirtual 157, 3) := dk_182 0 157 (dk_at dksX4_crossOf_0 7 rfl rfl)
theorem dX4_crossOf_10 : decode cX4_crossOf 10 = .ok (.invokevirtual 222, 3) := dk_182 0 222 (dk_at dksX4_crossOf_0 10 rfl rfl)
theorem dX4_crossOf_13 : decode cX4_crossOf 13 = .ok (.istore_n 3, 1) := dk_62 (dk_at dksX4_crossOf_0 13 rfl rfl)
theorem dX4_crossOf_14 : decode cX4_crossOf 14 = .ok (.iload_n 3, 1) := dk_29 (dk_at dksX4_crossOf_0 14 rfl rfl)
theorem dX4_crossOf_15 : decode cX4_crossOf 15 = .ok (.iconst (-1), 1) := dk_2 (dk_at dksX4_crossOf_0 15 rfl rfl)
theorem dX4_crossOf_16 : decode cX4_crossOf 16 = .ok (.if_icmp .ne 6, 3) := dk_160 0 6 (dk_at dksX4_crossOf_0 16 rfl rfl)
theorem dX4_crossOf_19 : decode cX4_crossOf 19 = .ok (.bipush (-2), 2) := dk_16 254 (dk_at dksX4_crossOf_0 19 rfl rfl)
theorem dX4_crossOf_21 : decode cX4_crossOf 21 = .ok (.ireturn, 1) := dk_172 (dk_at dksX4_crossOf_0 21 rfl rfl)
theorem dX4_crossOf_22 : decode cX4_crossOf 22 = .ok (.iload_n 3, 1) := dk_29 (dk_at dksX4_crossOf_0 22 rfl rfl)
theorem dX4_crossOf_23 : decode cX4_crossOf 23 = .ok (.bipush 16, 2) := dk_16 16 (dk_at dksX4_crossOf_1 0 rfl rfl)
theorem dX4_crossOf_25 : decode cX4_crossOf 25 = .ok (.idiv, 1) := dk_108 (dk_at dksX4_crossOf_1 2 rfl rfl)
theorem dX4_crossOf_26 : decode cX4_crossOf 26 = .ok (.istore 4, 2) := dk_54 4 (dk_at dksX4_crossOf_1 3 rfl rfl)
theorem dX4_crossOf_28 : decode cX4_crossOf 28 = .ok (.iload_n 3, 1) := dk_29 (dk_at dksX4_crossOf_1 5 rfl rfl)
theorem dX4_crossOf_29 : decode cX4_crossOf 29 = .ok (.bipush 16, 2) := dk_16 16 (dk_at dksX4_crossOf_1 6 rfl rfl)
theorem dX4_crossOf_31 : decode cX4_crossOf 31 = .ok (.irem, 1) := dk_112 (dk_at dksX4_crossOf_1 8 rfl rfl)
theorem dX4_crossOf_32 : decode cX4_crossOf 32 = .ok (.istore 5, 2) := dk_54 5 (dk_at dksX4_crossOf_1 9 rfl rfl)
theorem dX4_crossOf_34 : decode cX4_crossOf 34 = .ok (.aload_n 0, 1) := dk_42 (dk_at dksX4_crossOf_1 11 rfl rfl)
theorem dX4_crossOf_35 : decode cX4_crossOf 35 = .ok (.iload 4, 2) := dk_21 4 (dk_at dksX4_crossOf_1 12 rfl rfl)
theorem dX4_crossOf_37 : decode cX4_crossOf 37 = .ok (.iload 5, 2) := dk_21 5 (dk_at dksX4_crossOf_1 14 rfl rfl)
theorem dX4_crossOf_39 : decode cX4_crossOf 39 = .ok (.invokevirtual 219, 3) := dk_182 0 219 (dk_at dksX4_crossOf_1 16 rfl rfl)
theorem dX4_crossOf_42 : decode cX4_crossOf 42 = .ok (.pop, 1) := dk_87 (dk_at dksX4_crossOf_1 19 rfl rfl)
theorem dX4_crossOf_43 : decode cX4_crossOf 43 = .ok (.iload_n 2, 1) := dk_28 (dk_at dksX4_crossOf_1 20 rfl rfl)
theorem dX4_crossOf_44 : decode cX4_crossOf 44 = .ok (.iconst 2, 1) := dk_5 (dk_at dksX4_crossOf_1 21 rfl rfl)
theorem dX4_crossOf_45 : decode cX4_crossOf 45 = .ok (.if_icmp .ge 15, 3) := dk_162 0 15 (dk_at dksX4_crossOf_2 0 rfl rfl)
theorem dX4_crossOf_48 : decode cX4_crossOf 48 = .ok (.iload_n 2, 1) := dk_28 (dk_at dksX4_crossOf_2 3 rfl rfl)
theorem dX4_crossOf_49 : decode cX4_crossOf 49 = .ok (.ifCond .ne 8, 3) := dk_154 0 8 (dk_at dksX4_crossOf_2 4 rfl rfl)
theorem dX4_crossOf_52 : decode cX4_crossOf 52 = .ok (.iload 4, 2) := dk_21 4 (dk_at dksX4_crossOf_2 7 rfl rfl)
theorem dX4_crossOf_54 : decode cX4_crossOf 54 = .ok (.goto 5, 3) := dk_167 0 5 (dk_at dksX4_crossOf_2 9 rfl rfl)
theorem dX4_crossOf_57 : decode cX4_crossOf 57 = .ok (.iload 5, 2) := dk_21 5 (dk_at dksX4_crossOf_2 12 rfl rfl)
theorem dX4_crossOf_59 : decode cX4_crossOf 59 = .ok (.ireturn, 1) := dk_172 (dk_at dksX4_crossOf_2 14 rfl rfl)
theorem dX4_crossOf_60 : decode cX4_crossOf 60 = .ok (.iload_n 2, 1) := dk_28 (dk_at dksX4_crossOf_2 15 rfl rfl)
theorem dX4_crossOf_61 : decode cX4_crossOf 61 = .ok (.iconst 4, 1) := dk_7 (dk_at dksX4_crossOf_2 16 rfl rfl)
theorem dX4_crossOf_62 : decode cX4_crossOf 62 = .ok (.if_icmp .ge 16, 3) := dk_162 0 16 (dk_at dksX4_crossOf_2 17 rfl rfl)
theorem dX4_crossOf_65 : decode cX4_crossOf 65 = .ok (.aload_n 0, 1) := dk_42 (dk_at dksX4_crossOf_2 20 rfl rfl)
theorem dX4_crossOf_66 : decode cX4_crossOf 66 = .ok (.getfield 7, 3) := dk_180 0 7 (dk_at dksX4_crossOf_2 21 rfl rfl)
theorem dX4_crossOf_69 : decode cX4_crossOf 69 = .ok (.iload 4, 2) := dk_21 4 (dk_at dksX4_crossOf_3 0 rfl rfl)
theorem dX4_crossOf_71 : decode cX4_crossOf 71 = .ok (.invokestatic 83, 3) := dk_184 0 83 (dk_at dksX4_crossOf_3 2 rfl rfl)
theorem dX4_crossOf_74 : decode cX4_crossOf 74 = .ok (.iaload, 1) := dk_46 (dk_at dksX4_crossOf_3 5 rfl rfl)
theorem dX4_crossOf_75 : decode cX4_crossOf 75 = .ok (.goto 13, 3) := dk_167 0 13 (dk_at dksX4_crossOf_3 6 rfl rfl)
theorem dX4_crossOf_78 : decode cX4_crossOf 78 = .ok (.aload_n 0, 1) := dk_42 (dk_at dksX4_crossOf_3 9 rfl rfl)
theorem dX4_crossOf_79 : decode cX4_crossOf 79 = .ok (.getfield 13, 3) := dk_180 0 13 (dk_at dksX4_crossOf_3 10 rfl rfl)
theorem dX4_crossOf_82 : decode cX4_crossOf 82 = .ok (.iload 4, 2) := dk_21 4 (dk_at dksX4_crossOf_3 13 rfl rfl)
theorem dX4_crossOf_84 : decode cX4_crossOf 84 = .ok (.invokestatic 83, 3) := dk_184 0 83 (dk_at dksX4_crossOf_3 15 rfl rfl)
theorem dX4_crossOf_87 : decode cX4_crossOf 87 = .ok (.iaload, 1) := dk_46 (dk_at dksX4_crossOf_3 18 rfl rfl)
theorem dX4_crossOf_88 : decode cX4_crossOf 88 = .ok (.istore 6, 2) := dk_54 6 (dk_at dksX4_crossOf_3 19 rfl rfl)
theorem dX4_crossOf_90 : decode cX4_crossOf 90 = .ok (.iload 6, 2) := dk_21 6 (dk_at dksX4_crossOf_3 21 rfl rfl)
theorem dX4_crossOf_92 : decode cX4_crossOf 92 = .ok (.aload_n 0, 1) := dk_42 (dk_at dksX4_crossOf_3 23 rfl rfl)
theorem dX4_crossOf_93 : decode cX4_crossOf 93 = .ok (.getfield 210, 3) := dk_180 0 210 (dk_at dksX4_crossOf_4 0 rfl rfl)
theorem dX4_crossOf_96 : decode cX4_crossOf 96 = .ok (.imul, 1) := dk_104 (dk_at dksX4_crossOf_4 3 rfl rfl)
theorem dX4_crossOf_97 : decode cX4_crossOf 97 = .ok (.aload_n 0, 1) := dk_42 (dk_at dksX4_crossOf_4 4 rfl rfl)
theorem dX4_crossOf_98 : decode cX4_crossOf 98 = .ok (.getfield 213, 3) := dk_180 0 213 (dk_at dksX4_crossOf_4 5 rfl rfl)
theorem dX4_crossOf_101 : decode cX4_crossOf 101 = .ok (.aload_n 0, 1) := dk_42 (dk_at dksX4_crossOf_4 8 rfl rfl)
theorem dX4_crossOf_102 : decode cX4_crossOf 102 = .ok (.iload 4, 2) := dk_21 4 (dk_at dksX4_crossOf_4 9 rfl rfl)
theorem dX4_crossOf_104 : decode cX4_crossOf 104 = .ok (.iload_n 2, 1) := dk_28 (dk_at dksX4_crossOf_4 11 rfl rfl)
theorem dX4_crossOf_105 : decode cX4_crossOf 105 = .ok (.iconst 4, 1) := dk_7 (dk_at dksX4_crossOf_4 12 rfl rfl)
theorem dX4_crossOf_106 : decode cX4_crossOf 106 = .ok (.if_icmp .ge 7, 3) := dk_162 0 7 (dk_at dksX4_crossOf_4 13 rfl rfl)
theorem dX4_crossOf_109 : decode cX4_crossOf 109 = .ok (.iconst 0, 1) := dk_3 (dk_at dksX4_crossOf_4 16 rfl rfl)
theorem dX4_crossOf_110 : decode cX4_crossOf 110 = .ok (.goto 4, 3) := dk_167 0 4 (dk_at dksX4_crossOf_4 17 rfl rfl)
theorem dX4_crossOf_113 : decode cX4_crossOf 113 = .ok (.iconst 1, 1) := dk_4 (dk_at dksX4_crossOf_4 20 rfl rfl)
theorem dX4_crossOf_114 : decode cX4_crossOf 114 = .ok (.invokevirtual 86, 3) := dk_182 0 86 (dk_at dksX4_crossOf_4 21 rfl rfl)
theorem dX4_crossOf_117 : decode cX4_crossOf 117 = .ok (.imul, 1) := dk_104 (dk_at dksX4_crossOf_5 0 rfl rfl)
theorem dX4_crossOf_118 : decode cX4_crossOf 118 = .ok (.iadd, 1) := dk_96 (dk_at dksX4_crossOf_5 1 rfl rfl)
theorem dX4_crossOf_119 : decode cX4_crossOf 119 = .ok (.i2l, 1) := dk_133 (dk_at dksX4_crossOf_5 2 rfl rfl)
theorem dX4_crossOf_120 : decode cX4_crossOf 120 = .ok (.aload_n 0, 1) := dk_42 (dk_at dksX4_crossOf_5 3 rfl rfl)
theorem dX4_crossOf_121 : decode cX4_crossOf 121 = .ok (.getfield 210, 3) := dk_180 0 210 (dk_at dksX4_crossOf_5 4 rfl rfl)
theorem dX4_crossOf_124 : decode cX4_crossOf 124 = .ok (.i2l, 1) := dk_133 (dk_at dksX4_crossOf_5 7 rfl rfl)
theorem dX4_crossOf_125 : decode cX4_crossOf 125 = .ok (.iload_n 2, 1) := dk_28 (dk_at dksX4_crossOf_5 8 rfl rfl)
theorem dX4_crossOf_126 : decode cX4_crossOf 126 = .ok (.iconst 2, 1) := dk_5 (dk_at dksX4_crossOf_5 9 rfl rfl)
theorem dX4_crossOf_127 : decode cX4_crossOf 127 = .ok (.irem, 1) := dk_112 (dk_at dksX4_crossOf_5 10 rfl rfl)
theorem dX4_crossOf_128 : decode cX4_crossOf 128 = .ok (.invokestatic 138, 3) := dk_184 0 138 (dk_at dksX4_crossOf_5 11 rfl rfl)
theorem dX4_crossOf_131 : decode cX4_crossOf 131 = .ok (.l2i, 1) := dk_136 (dk_at dksX4_crossOf_5 14 rfl rfl)
theorem dX4_crossOf_132 : decode cX4_crossOf 132 = .ok (.ireturn, 1) := dk_172 (dk_at dksX4_crossOf_5 15 rfl rfl)
abbrev cX4_crossing : ByteArray := prog_9_method_67_code
def yX4_crossing : MethodName := ⟨RX4, "crossing", "(II)I"⟩
def dkwX4_crossing_5 : List UInt8 := [167, 255, 148, 21, 4, 172]
abbrev dktX4_crossing_5 : List UInt8 := dkwX4_crossing_5 ++ []
def dkwX4_crossing_4 : List UInt8 := [29, 21, 7, 153, 0, 7, 4, 167, 0, 4, 3, 100, 62, 132, 6, 1, 167, 255, 169, 132, 5, 1]
abbrev dktX4_crossing_4 : List UInt8 := dkwX4_crossing_4 ++ dktX4_crossing_5
def dkwX4_crossing_3 : List UInt8 := [21, 7, 153, 0, 18, 29, 154, 0, 14, 16, 16, 21, 5, 104, 21, 6, 96, 167, 0, 5, 21, 4, 54, 4]
abbrev dktX4_crossing_3 : List UInt8 := dkwX4_crossing_3 ++ dktX4_crossing_4
def dkwX4_crossing_2 : List UInt8 := [126, 4, 160, 0, 18, 42, 21, 5, 21, 6, 182, 0, 219, 153, 0, 7, 4, 167, 0, 4, 3, 54, 7]
abbrev dktX4_crossing_2 : List UInt8 := dkwX4_crossing_2 ++ dktX4_crossing_3
def dkwX4_crossing_1 : List UInt8 := [21, 6, 42, 182, 0, 68, 162, 0, 84, 28, 21, 5, 122, 4, 126, 4, 160, 0, 28, 28, 21, 6, 122, 4]
abbrev dktX4_crossing_1 : List UInt8 := dkwX4_crossing_1 ++ dktX4_crossing_2
def dkwX4_crossing_0 : List UInt8 := [27, 62, 2, 54, 4, 3, 54, 5, 21, 5, 42, 182, 0, 68, 162, 0, 105, 21, 5, 4, 96, 54, 6]
abbrev dktX4_crossing_0 : List UInt8 := dkwX4_crossing_0 ++ dktX4_crossing_1
theorem dksX4_crossing_0 : cX4_crossing.data.toList.drop 0 = dktX4_crossing_0 := by decide +kernel
theorem dksX4_crossing_1 : cX4_crossing.data.toList.drop 23 = dktX4_crossing_1 := dk_seg dksX4_crossing_0 23 rfl rfl
theorem dksX4_crossing_2 : cX4_crossing.data.toList.drop 47 = dktX4_crossing_2 := dk_seg dksX4_crossing_1 24 rfl rfl
theorem dksX4_crossing_3 : cX4_crossing.data.toList.drop 70 = dktX4_crossing_3 := dk_seg dksX4_crossing_2 23 rfl rfl
theorem dksX4_crossing_4 : cX4_crossing.data.toList.drop 94 = dktX4_crossing_4 := dk_seg dksX4_crossing_3 24 rfl rfl
theorem dksX4_crossing_5 : cX4_crossing.data.toList.drop 116 = dktX4_crossing_5 := dk_seg dksX4_crossing_4 22 rfl rfl
theorem dX4_crossing_0 : decode cX4_crossing 0 = .ok (.iload_n 1, 1) := dk_27 (dk_at dksX4_crossing_0 0 rfl rfl)
theorem dX4_crossing_1 : decode cX4_crossing 1 = .ok (.istore_n 3, 1) := dk_62 (dk_at dksX4_crossing_0 1 rfl rfl)
theorem dX4_crossing_2 : decode cX4_crossing 2 = .ok (.iconst (-1), 1) := dk_2 (dk_at dksX4_crossing_0 2 rfl rfl)
theorem dX4_crossing_3 : decode cX4_crossing 3 = .ok (.istore 4, 2) := dk_54 4 (dk_at dksX4_crossing_0 3 rfl rfl)
theorem dX4_crossing_5 : decode cX4_crossing 5 = .ok (.iconst 0, 1) := dk_3 (dk_at dksX4_crossing_0 5 rfl rfl)
theorem dX4_crossing_6 : decode cX4_crossing 6 = .ok (.istore 5, 2) := dk_54 5 (dk_at dksX4_crossing_0 6 rfl rfl)
theorem dX4_crossing_8 : decode cX4_crossing 8 = .ok (.iload 5, 2) := dk_21 5 (dk_at dksX4_crossing_0 8 rfl rfl)
theorem dX4_crossing_10 : decode cX4_crossing 10 = .ok (.aload_n 0, 1) := dk_42 (dk_at dksX4_crossing_0 10 rfl rfl)
theorem dX4_crossing_11 : decode cX4_crossing 11 = .ok (.invokevirtual 68, 3) := dk_182 0 68 (dk_at dksX4_crossing_0 11 rfl rfl)
theorem dX4_crossing_14 : decode cX4_crossing 14 = .ok (.if_icmp .ge 105, 3) := dk_162 0 105 (dk_at dksX4_crossing_0 14 rfl rfl)
theorem dX4_crossing_17 : decode cX4_crossing 17 = .ok (.iload 5, 2) := dk_21 5 (dk_at dksX4_crossing_0 17 rfl rfl)
theorem dX4_crossing_19 : decode cX4_crossing 19 = .ok (.iconst 1, 1) := dk_4 (dk_at dksX4_crossing_0 19 rfl rfl)
theorem dX4_crossing_20 : decode cX4_crossing 20 = .ok (.iadd, 1) := dk_96 (dk_at dksX4_crossing_0 20 rfl rfl)
theorem dX4_crossing_21 : decode cX4_crossing 21 = .ok (.istore 6, 2) := dk_54 6 (dk_at dksX4_crossing_0 21 rfl rfl)
theorem dX4_crossing_23 : decode cX4_crossing 23 = .ok (.iload 6, 2) := dk_21 6 (dk_at dksX4_crossing_1 0 rfl rfl)
theorem dX4_crossing_25 : decode cX4_crossing 25 = .ok (.aload_n 0, 1) := dk_42 (dk_at dksX4_crossing_1 2 rfl rfl)
theorem dX4_crossing_26 : decode cX4_crossing 26 = .ok (.invokevirtual 68, 3) := dk_182 0 68 (dk_at dksX4_crossing_1 3 rfl rfl)
theorem dX4_crossing_29 : decode cX4_crossing 29 = .ok (.if_icmp .ge 84, 3) := dk_162 0 84 (dk_at dksX4_crossing_1 6 rfl rfl)
theorem dX4_crossing_32 : decode cX4_crossing 32 = .ok (.iload_n 2, 1) := dk_28 (dk_at dksX4_crossing_1 9 rfl rfl)
theorem dX4_crossing_33 : decode cX4_crossing 33 = .ok (.iload 5, 2) := dk_21 5 (dk_at dksX4_crossing_1 10 rfl rfl)
theorem dX4_crossing_35 : decode cX4_crossing 35 = .ok (.ishr, 1) := dk_122 (dk_at dksX4_crossing_1 12 rfl rfl)
theorem dX4_crossing_36 : decode cX4_crossing 36 = .ok (.iconst 1, 1) := dk_4 (dk_at dksX4_crossing_1 13 rfl rfl)
theorem dX4_crossing_37 : decode cX4_crossing 37 = .ok (.iand, 1) := dk_126 (dk_at dksX4_crossing_1 14 rfl rfl)
theorem dX4_crossing_38 : decode cX4_crossing 38 = .ok (.iconst 1, 1) := dk_4 (dk_at dksX4_crossing_1 15 rfl rfl)
theorem dX4_crossing_39 : decode cX4_crossing 39 = .ok (.if_icmp .ne 28, 3) := dk_160 0 28 (dk_at dksX4_crossing_1 16 rfl rfl)
theorem dX4_crossing_42 : decode cX4_crossing 42 = .ok (.iload_n 2, 1) := dk_28 (dk_at dksX4_crossing_1 19 rfl rfl)
theorem dX4_crossing_43 : decode cX4_crossing 43 = .ok (.iload 6, 2) := dk_21 6 (dk_at dksX4_crossing_1 20 rfl rfl)
theorem dX4_crossing_45 : decode cX4_crossing 45 = .ok (.ishr, 1) := dk_122 (dk_at dksX4_crossing_1 22 rfl rfl)
theorem dX4_crossing_46 : decode cX4_crossing 46 = .ok (.iconst 1, 1) := dk_4 (dk_at dksX4_crossing_1 23 rfl rfl)
theorem dX4_crossing_47 : decode cX4_crossing 47 = .ok (.iand, 1) := dk_126 (dk_at dksX4_crossing_2 0 rfl rfl)
theorem dX4_crossing_48 : decode cX4_crossing 48 = .ok (.iconst 1, 1) := dk_4 (dk_at dksX4_crossing_2 1 rfl rfl)
theorem dX4_crossing_49 : decode cX4_crossing 49 = .ok (.if_icmp .ne 18, 3) := dk_160 0 18 (dk_at dksX4_crossing_2 2 rfl rfl)
theorem dX4_crossing_52 : decode cX4_crossing 52 = .ok (.aload_n 0, 1) := dk_42 (dk_at dksX4_crossing_2 5 rfl rfl)
theorem dX4_crossing_53 : decode cX4_crossing 53 = .ok (.iload 5, 2) := dk_21 5 (dk_at dksX4_crossing_2 6 rfl rfl)
theorem dX4_crossing_55 : decode cX4_crossing 55 = .ok (.iload 6, 2) := dk_21 6 (dk_at dksX4_crossing_2 8 rfl rfl)
theorem dX4_crossing_57 : decode cX4_crossing 57 = .ok (.invokevirtual 219, 3) := dk_182 0 219 (dk_at dksX4_crossing_2 10 rfl rfl)
theorem dX4_crossing_60 : decode cX4_crossing 60 = .ok (.ifCond .eq 7, 3) := dk_153 0 7 (dk_at dksX4_crossing_2 13 rfl rfl)
theorem dX4_crossing_63 : decode cX4_crossing 63 = .ok (.iconst 1, 1) := dk_4 (dk_at dksX4_crossing_2 16 rfl rfl)
theorem dX4_crossing_64 : decode cX4_crossing 64 = .ok (.goto 4, 3) := dk_167 0 4 (dk_at dksX4_crossing_2 17 rfl rfl)
theorem dX4_crossing_67 : decode cX4_crossing 67 = .ok (.iconst 0, 1) := dk_3 (dk_at dksX4_crossing_2 20 rfl rfl)
theorem dX4_crossing_68 : decode cX4_crossing 68 = .ok (.istore 7, 2) := dk_54 7 (dk_at dksX4_crossing_2 21 rfl rfl)
theorem dX4_crossing_70 : decode cX4_crossing 70 = .ok (.iload 7, 2) := dk_21 7 (dk_at dksX4_crossing_3 0 rfl rfl)
theorem dX4_crossing_72 : decode cX4_crossing 72 = .ok (.ifCond .eq 18, 3) := dk_153 0 18 (dk_at dksX4_crossing_3 2 rfl rfl)
theorem dX4_crossing_75 : decode cX4_crossing 75 = .ok (.iload_n 3, 1) := dk_29 (dk_at dksX4_crossing_3 5 rfl rfl)
theorem dX4_crossing_76 : decode cX4_crossing 76 = .ok (.ifCond .ne 14, 3) := dk_154 0 14 (dk_at dksX4_crossing_3 6 rfl rfl)
theorem dX4_crossing_79 : decode cX4_crossing 79 = .ok (.bipush 16, 2) := dk_16 16 (dk_at dksX4_crossing_3 9 rfl rfl)
theorem dX4_crossing_81 : decode cX4_crossing 81 = .ok (.iload 5, 2) := dk_21 5 (dk_at dksX4_crossing_3 11 rfl rfl)
theorem dX4_crossing_83 : decode cX4_crossing 83 = .ok (.imul, 1) := dk_104 (dk_at dksX4_crossing_3 13 rfl rfl)
theorem dX4_crossing_84 : decode cX4_crossing 84 = .ok (.iload 6, 2) := dk_21 6 (dk_at dksX4_crossing_3 14 rfl rfl)
theorem dX4_crossing_86 : decode cX4_crossing 86 = .ok (.iadd, 1) := dk_96 (dk_at dksX4_crossing_3 16 rfl rfl)
theorem dX4_crossing_87 : decode cX4_crossing 87 = .ok (.goto 5, 3) := dk_167 0 5 (dk_at dksX4_crossing_3 17 rfl rfl)
theorem dX4_crossing_90 : decode cX4_crossing 90 = .ok (.iload 4, 2) := dk_21 4 (dk_at dksX4_crossing_3 20 rfl rfl)
theorem dX4_crossing_92 : decode cX4_crossing 92 = .ok (.istore 4, 2) := dk_54 4 (dk_at dksX4_crossing_3 22 rfl rfl)
theorem dX4_crossing_94 : decode cX4_crossing 94 = .ok (.iload_n 3, 1) := dk_29 (dk_at dksX4_crossing_4 0 rfl rfl)
theorem dX4_crossing_95 : decode cX4_crossing 95 = .ok (.iload 7, 2) := dk_21 7 (dk_at dksX4_crossing_4 1 rfl rfl)
theorem dX4_crossing_97 : decode cX4_crossing 97 = .ok (.ifCond .eq 7, 3) := dk_153 0 7 (dk_at dksX4_crossing_4 3 rfl rfl)
theorem dX4_crossing_100 : decode cX4_crossing 100 = .ok (.iconst 1, 1) := dk_4 (dk_at dksX4_crossing_4 6 rfl rfl)
theorem dX4_crossing_101 : decode cX4_crossing 101 = .ok (.goto 4, 3) := dk_167 0 4 (dk_at dksX4_crossing_4 7 rfl rfl)
theorem dX4_crossing_104 : decode cX4_crossing 104 = .ok (.iconst 0, 1) := dk_3 (dk_at dksX4_crossing_4 10 rfl rfl)
theorem dX4_crossing_105 : decode cX4_crossing 105 = .ok (.isub, 1) := dk_100 (dk_at dksX4_crossing_4 11 rfl rfl)
theorem dX4_crossing_106 : decode cX4_crossing 106 = .ok (.istore_n 3, 1) := dk_62 (dk_at dksX4_crossing_4 12 rfl rfl)
theorem dX4_crossing_107 : decode cX4_crossing 107 = .ok (.iinc 6 1, 3) := dk_132 6 1 (dk_at dksX4_crossing_4 13 rfl rfl)
theorem dX4_crossing_110 : decode cX4_crossing 110 = .ok (.goto (-87), 3) := dk_167 255 169 (dk_at dksX4_crossing_4 16 rfl rfl)
theorem dX4_crossing_113 : decode cX4_crossing 113 = .ok (.iinc 5 1, 3) := dk_132 5 1 (dk_at dksX4_crossing_4 19 rfl rfl)
theorem dX4_crossing_116 : decode cX4_crossing 116 = .ok (.goto (-108), 3) := dk_167 255 148 (dk_at dksX4_crossing_5 0 rfl rfl)
theorem dX4_crossing_119 : decode cX4_crossing 119 = .ok (.iload 4, 2) := dk_21 4 (dk_at dksX4_crossing_5 3 rfl rfl)
theorem dX4_crossing_121 : decode cX4_crossing 121 = .ok (.ireturn, 1) := dk_172 (dk_at dksX4_crossing_5 5 rfl rfl)
abbrev cX4_isCross : ByteArray := prog_9_method_66_code
def yX4_isCross : MethodName := ⟨RX4, "isCross", "(II)Z"⟩
def dkwX4_isCross_10 : List UInt8 := [4, 42, 180, 0, 210, 4, 100, 184, 0, 64, 153, 0, 7, 4, 167, 0, 4, 3, 172]
abbrev dktX4_isCross_10 : List UInt8 := dkwX4_isCross_10 ++ []
def dkwX4_isCross_9 : List UInt8 := [153, 0, 41, 42, 180, 0, 213, 4, 42, 180, 0, 210, 4, 100, 184, 0, 64, 153, 0, 24, 42, 180, 0, 216]
abbrev dktX4_isCross_9 : List UInt8 := dkwX4_isCross_9 ++ dktX4_isCross_10
def dkwX4_isCross_8 : List UInt8 := [21, 5, 42, 27, 3, 182, 0, 86, 104, 100, 104, 181, 0, 216, 29, 153, 0, 48, 42, 180, 0, 210]
abbrev dktX4_isCross_8 : List UInt8 := dkwX4_isCross_8 ++ dktX4_isCross_9
def dkwX4_isCross_7 : List UInt8 := [28, 3, 182, 0, 86, 104, 100, 104, 181, 0, 213, 42, 21, 6, 21, 4, 42, 27, 4, 182, 0, 86, 104]
abbrev dktX4_isCross_7 : List UInt8 := dkwX4_isCross_7 ++ dktX4_isCross_8
def dkwX4_isCross_6 : List UInt8 := [180, 0, 210, 21, 6, 104, 181, 0, 210, 42, 21, 6, 21, 4, 42, 28, 4, 182, 0, 86, 104, 21, 5, 42]
abbrev dktX4_isCross_6 : List UInt8 := dkwX4_isCross_6 ++ dktX4_isCross_7
def dkwX4_isCross_5 : List UInt8 := [182, 0, 86, 104, 100, 181, 0, 210, 42, 180, 0, 210, 156, 0, 7, 2, 167, 0, 4, 4, 54, 6, 42, 89]
abbrev dktX4_isCross_5 : List UInt8 := dkwX4_isCross_5 ++ dktX4_isCross_6
def dkwX4_isCross_4 : List UInt8 := [42, 27, 3, 182, 0, 86, 42, 28, 4, 182, 0, 86, 104, 42, 27, 4, 182, 0, 86, 42, 28, 3]
abbrev dktX4_isCross_4 : List UInt8 := dkwX4_isCross_4 ++ dktX4_isCross_5
def dkwX4_isCross_3 : List UInt8 := [54, 4, 42, 180, 0, 13, 28, 184, 0, 83, 46, 42, 180, 0, 13, 27, 184, 0, 83, 46, 100, 54, 5, 42]
abbrev dktX4_isCross_3 : List UInt8 := dkwX4_isCross_3 ++ dktX4_isCross_4
def dkwX4_isCross_2 : List UInt8 := [167, 0, 4, 3, 62, 42, 180, 0, 7, 28, 184, 0, 83, 46, 42, 180, 0, 7, 27, 184, 0, 83, 46, 100]
abbrev dktX4_isCross_2 : List UInt8 := dkwX4_isCross_2 ++ dktX4_isCross_3
def dkwX4_isCross_1 : List UInt8 := [184, 0, 79, 28, 184, 0, 83, 159, 0, 18, 27, 184, 0, 79, 28, 184, 0, 79, 159, 0, 7, 4]
abbrev dktX4_isCross_1 : List UInt8 := dkwX4_isCross_1 ++ dktX4_isCross_2
def dkwX4_isCross_0 : List UInt8 := [27, 184, 0, 83, 28, 184, 0, 83, 159, 0, 40, 27, 184, 0, 83, 28, 184, 0, 79, 159, 0, 29, 27]
abbrev dktX4_isCross_0 : List UInt8 := dkwX4_isCross_0 ++ dktX4_isCross_1
theorem dksX4_isCross_0 : cX4_isCross.data.toList.drop 0 = dktX4_isCross_0 := by decide +kernel
theorem dksX4_isCross_1 : cX4_isCross.data.toList.drop 23 = dktX4_isCross_1 := dk_seg dksX4_isCross_0 23 rfl rfl
theorem dksX4_isCross_2 : cX4_isCross.data.toList.drop 45 = dktX4_isCross_2 := dk_seg dksX4_isCross_1 22 rfl rfl
theorem dksX4_isCross_3 : cX4_isCross.data.toList.drop 69 = dktX4_isCross_3 := dk_seg dksX4_isCross_2 24 rfl rfl
theorem dksX4_isCross_4 : cX4_isCross.data.toList.drop 93 = dktX4_isCross_4 := dk_seg dksX4_isCross_3 24 rfl rfl
theorem dksX4_isCross_5 : cX4_isCross.data.toList.drop 115 = dktX4_isCross_5 := dk_seg dksX4_isCross_4 22 rfl rfl
theorem dksX4_isCross_6 : cX4_isCross.data.toList.drop 139 = dktX4_isCross_6 := dk_seg dksX4_isCross_5 24 rfl rfl
theorem dksX4_isCross_7 : cX4_isCross.data.toList.drop 163 = dktX4_isCross_7 := dk_seg dksX4_isCross_6 24 rfl rfl
theorem dksX4_isCross_8 : cX4_isCross.data.toList.drop 186 = dktX4_isCross_8 := dk_seg dksX4_isCross_7 23 rfl rfl
theorem dksX4_isCross_9 : cX4_isCross.data.toList.drop 208 = dktX4_isCross_9 := dk_seg dksX4_isCross_8 22 rfl rfl
theorem dksX4_isCross_10 : cX4_isCross.data.toList.drop 232 = dktX4_isCross_10 := dk_seg dksX4_isCross_9 24 rfl rfl
theorem dX4_isCross_0 : decode cX4_isCross 0 = .ok (.iload_n 1, 1) := dk_27 (dk_at dksX4_isCross_0 0 rfl rfl)
theorem dX4_isCross_1 : decode cX4_isCross 1 = .ok (.invokestatic 83, 3) := dk_184 0 83 (dk_at dksX4_isCross_0 1 rfl rfl)
theorem dX4_isCross_4 : decode cX4_isCross 4 = .ok (.iload_n 2, 1) := dk_28 (dk_at dksX4_isCross_0 4 rfl rfl)
theorem dX4_isCross_5 : decode cX4_isCross 5 = .ok (.invokestatic 83, 3) := dk_184 0 83 (dk_at dksX4_isCross_0 5 rfl rfl)
theorem dX4_isCross_8 : decode cX4_isCross 8 = .ok (.if_icmp .eq 40, 3) := dk_159 0 40 (dk_at dksX4_isCross_0 8 rfl rfl)
theorem dX4_isCross_11 : decode cX4_isCross 11 = .ok (.iload_n 1, 1) := dk_27 (dk_at dksX4_isCross_0 11 rfl rfl)
theorem dX4_isCross_12 : decode cX4_isCross 12 = .ok (.invokestatic 83, 3) := dk_184 0 83 (dk_at dksX4_isCross_0 12 rfl rfl)
theorem dX4_isCross_15 : decode cX4_isCross 15 = .ok (.iload_n 2, 1) := dk_28 (dk_at dksX4_isCross_0 15 rfl rfl)
theorem dX4_isCross_16 : decode cX4_isCross 16 = .ok (.invokestatic 79, 3) := dk_184 0 79 (dk_at dksX4_isCross_0 16 rfl rfl)
theorem dX4_isCross_19 : decode cX4_isCross 19 = .ok (.if_icmp .eq 29, 3) := dk_159 0 29 (dk_at dksX4_isCross_0 19 rfl rfl)
theorem dX4_isCross_22 : decode cX4_isCross 22 = .ok (.iload_n 1, 1) := dk_27 (dk_at dksX4_isCross_0 22 rfl rfl)
theorem dX4_isCross_23 : decode cX4_isCross 23 = .ok (.invokestatic 79, 3) := dk_184 0 79 (dk_at dksX4_isCross_1 0 rfl rfl)
theorem dX4_isCross_26 : decode cX4_isCross 26 = .ok (.iload_n 2, 1) := dk_28 (dk_at dksX4_isCross_1 3 rfl rfl)
theorem dX4_isCross_27 : decode cX4_isCross 27 = .ok (.invokestatic 83, 3) := dk_184 0 83 (dk_at dksX4_isCross_1 4 rfl rfl)
theorem dX4_isCross_30 : decode cX4_isCross 30 = .ok (.if_icmp .eq 18, 3) := dk_159 0 18 (dk_at dksX4_isCross_1 7 rfl rfl)
theorem dX4_isCross_33 : decode cX4_isCross 33 = .ok (.iload_n 1, 1) := dk_27 (dk_at dksX4_isCross_1 10 rfl rfl)
theorem dX4_isCross_34 : decode cX4_isCross 34 = .ok (.invokestatic 79, 3) := dk_184 0 79 (dk_at dksX4_isCross_1 11 rfl rfl)
theorem dX4_isCross_37 : decode cX4_isCross 37 = .ok (.iload_n 2, 1) := dk_28 (dk_at dksX4_isCross_1 14 rfl rfl)
theorem dX4_isCross_38 : decode cX4_isCross 38 = .ok (.invokestatic 79, 3) := dk_184 0 79 (dk_at dksX4_isCross_1 15 rfl rfl)
theorem dX4_isCross_41 : decode cX4_isCross 41 = .ok (.if_icmp .eq 7, 3) := dk_159 0 7 (dk_at dksX4_isCross_1 18 rfl rfl)
theorem dX4_isCross_44 : decode cX4_isCross 44 = .ok (.iconst 1, 1) := dk_4 (dk_at dksX4_isCross_1 21 rfl rfl)
theorem dX4_isCross_45 : decode cX4_isCross 45 = .ok (.goto 4, 3) := dk_167 0 4 (dk_at dksX4_isCross_2 0 rfl rfl)
theorem dX4_isCross_48 : decode cX4_isCross 48 = .ok (.iconst 0, 1) := dk_3 (dk_at dksX4_isCross_2 3 rfl rfl)
theorem dX4_isCross_49 : decode cX4_isCross 49 = .ok (.istore_n 3, 1) := dk_62 (dk_at dksX4_isCross_2 4 rfl rfl)
theorem dX4_isCross_50 : decode cX4_isCross 50 = .ok (.aload_n 0, 1) := dk_42 (dk_at dksX4_isCross_2 5 rfl rfl)
theorem dX4_isCross_51 : decode cX4_isCross 51 = .ok (.getfield 7, 3) := dk_180 0 7 (dk_at dksX4_isCross_2 6 rfl rfl)
theorem dX4_isCross_54 : decode cX4_isCross 54 = .ok (.iload_n 2, 1) := dk_28 (dk_at dksX4_isCross_2 9 rfl rfl)
theorem dX4_isCross_55 : decode cX4_isCross 55 = .ok (.invokestatic 83, 3) := dk_184 0 83 (dk_at dksX4_isCross_2 10 rfl rfl)
theorem dX4_isCross_58 : decode cX4_isCross 58 = .ok (.iaload, 1) := dk_46 (dk_at dksX4_isCross_2 13 rfl rfl)
theorem dX4_isCross_59 : decode cX4_isCross 59 = .ok (.aload_n 0, 1) := dk_42 (dk_at dksX4_isCross_2 14 rfl rfl)
theorem dX4_isCross_60 : decode cX4_isCross 60 = .ok (.getfield 7, 3) := dk_180 0 7 (dk_at dksX4_isCross_2 15 rfl rfl)
theorem dX4_isCross_63 : decode cX4_isCross 63 = .ok (.iload_n 1, 1) := dk_27 (dk_at dksX4_isCross_2 18 rfl rfl)
theorem dX4_isCross_64 : decode cX4_isCross 64 = .ok (.invokestatic 83, 3) := dk_184 0 83 (dk_at dksX4_isCross_2 19 rfl rfl)
theorem dX4_isCross_67 : decode cX4_isCross 67 = .ok (.iaload, 1) := dk_46 (dk_at dksX4_isCross_2 22 rfl rfl)
theorem dX4_isCross_68 : decode cX4_isCross 68 = .ok (.isub, 1) := dk_100 (dk_at dksX4_isCross_2 23 rfl rfl)
theorem dX4_isCross_69 : decode cX4_isCross 69 = .ok (.istore 4, 2) := dk_54 4 (dk_at dksX4_isCross_3 0 rfl rfl)
theorem dX4_isCross_71 : decode cX4_isCross 71 = .ok (.aload_n 0, 1) := dk_42 (dk_at dksX4_isCross_3 2 rfl rfl)
theorem dX4_isCross_72 : decode cX4_isCross 72 = .ok (.getfield 13, 3) := dk_180 0 13 (dk_at dksX4_isCross_3 3 rfl rfl)
theorem dX4_isCross_75 : decode cX4_isCross 75 = .ok (.iload_n 2, 1) := dk_28 (dk_at dksX4_isCross_3 6 rfl rfl)
theorem dX4_isCross_76 : decode cX4_isCross 76 = .ok (.invokestatic 83, 3) := dk_184 0 83 (dk_at dksX4_isCross_3 7 rfl rfl)
theorem dX4_isCross_79 : decode cX4_isCross 79 = .ok (.iaload, 1) := dk_46 (dk_at dksX4_isCross_3 10 rfl rfl)
theorem dX4_isCross_80 : decode cX4_isCross 80 = .ok (.aload_n 0, 1) := dk_42 (dk_at dksX4_isCross_3 11 rfl rfl)
theorem dX4_isCross_81 : decode cX4_isCross 81 = .ok (.getfield 13, 3) := dk_180 0 13 (dk_at dksX4_isCross_3 12 rfl rfl)
theorem dX4_isCross_84 : decode cX4_isCross 84 = .ok (.iload_n 1, 1) := dk_27 (dk_at dksX4_isCross_3 15 rfl rfl)
theorem dX4_isCross_85 : decode cX4_isCross 85 = .ok (.invokestatic 83, 3) := dk_184 0 83 (dk_at dksX4_isCross_3 16 rfl rfl)
theorem dX4_isCross_88 : decode cX4_isCross 88 = .ok (.iaload, 1) := dk_46 (dk_at dksX4_isCross_3 19 rfl rfl)
theorem dX4_isCross_89 : decode cX4_isCross 89 = .ok (.isub, 1) := dk_100 (dk_at dksX4_isCross_3 20 rfl rfl)
theorem dX4_isCross_90 : decode cX4_isCross 90 = .ok (.istore 5, 2) := dk_54 5 (dk_at dksX4_isCross_3 21 rfl rfl)
theorem dX4_isCross_92 : decode cX4_isCross 92 = .ok (.aload_n 0, 1) := dk_42 (dk_at dksX4_isCross_3 23 rfl rfl)
theorem dX4_isCross_93 : decode cX4_isCross 93 = .ok (.aload_n 0, 1) := dk_42 (dk_at dksX4_isCross_4 0 rfl rfl)
theorem dX4_isCross_94 : decode cX4_isCross 94 = .ok (.iload_n 1, 1) := dk_27 (dk_at dksX4_isCross_4 1 rfl rfl)
theorem dX4_isCross_95 : decode cX4_isCross 95 = .ok (.iconst 0, 1) := dk_3 (dk_at dksX4_isCross_4 2 rfl rfl)
theorem dX4_isCross_96 : decode cX4_isCross 96 = .ok (.invokevirtual 86, 3) := dk_182 0 86 (dk_at dksX4_isCross_4 3 rfl rfl)
theorem dX4_isCross_99 : decode cX4_isCross 99 = .ok (.aload_n 0, 1) := dk_42 (dk_at dksX4_isCross_4 6 rfl rfl)
theorem dX4_isCross_100 : decode cX4_isCross 100 = .ok (.iload_n 2, 1) := dk_28 (dk_at dksX4_isCross_4 7 rfl rfl)
theorem dX4_isCross_101 : decode cX4_isCross 101 = .ok (.iconst 1, 1) := dk_4 (dk_at dksX4_isCross_4 8 rfl rfl)
theorem dX4_isCross_102 : decode cX4_isCross 102 = .ok (.invokevirtual 86, 3) := dk_182 0 86 (dk_at dksX4_isCross_4 9 rfl rfl)
theorem dX4_isCross_105 : decode cX4_isCross 105 = .ok (.imul, 1) := dk_104 (dk_at dksX4_isCross_4 12 rfl rfl)
theorem dX4_isCross_106 : decode cX4_isCross 106 = .ok (.aload_n 0, 1) := dk_42 (dk_at dksX4_isCross_4 13 rfl rfl)
theorem dX4_isCross_107 : decode cX4_isCross 107 = .ok (.iload_n 1, 1) := dk_27 (dk_at dksX4_isCross_4 14 rfl rfl)
theorem dX4_isCross_108 : decode cX4_isCross 108 = .ok (.iconst 1, 1) := dk_4 (dk_at dksX4_isCross_4 15 rfl rfl)
theorem dX4_isCross_109 : decode cX4_isCross 109 = .ok (.invokevirtual 86, 3) := dk_182 0 86 (dk_at dksX4_isCross_4 16 rfl rfl)
theorem dX4_isCross_112 : decode cX4_isCross 112 = .ok (.aload_n 0, 1) := dk_42 (dk_at dksX4_isCross_4 19 rfl rfl)
theorem dX4_isCross_113 : decode cX4_isCross 113 = .ok (.iload_n 2, 1) := dk_28 (dk_at dksX4_isCross_4 20 rfl rfl)
theorem dX4_isCross_114 : decode cX4_isCross 114 = .ok (.iconst 0, 1) := dk_3 (dk_at dksX4_isCross_4 21 rfl rfl)
theorem dX4_isCross_115 : decode cX4_isCross 115 = .ok (.invokevirtual 86, 3) := dk_182 0 86 (dk_at dksX4_isCross_5 0 rfl rfl)
theorem dX4_isCross_118 : decode cX4_isCross 118 = .ok (.imul, 1) := dk_104 (dk_at dksX4_isCross_5 3 rfl rfl)
theorem dX4_isCross_119 : decode cX4_isCross 119 = .ok (.isub, 1) := dk_100 (dk_at dksX4_isCross_5 4 rfl rfl)
theorem dX4_isCross_120 : decode cX4_isCross 120 = .ok (.putfield 210, 3) := dk_181 0 210 (dk_at dksX4_isCross_5 5 rfl rfl)
theorem dX4_isCross_123 : decode cX4_isCross 123 = .ok (.aload_n 0, 1) := dk_42 (dk_at dksX4_isCross_5 8 rfl rfl)
theorem dX4_isCross_124 : decode cX4_isCross 124 = .ok (.getfield 210, 3) := dk_180 0 210 (dk_at dksX4_isCross_5 9 rfl rfl)
theorem dX4_isCross_127 : decode cX4_isCross 127 = .ok (.ifCond .ge 7, 3) := dk_156 0 7 (dk_at dksX4_isCross_5 12 rfl rfl)
theorem dX4_isCross_130 : decode cX4_isCross 130 = .ok (.iconst (-1), 1) := dk_2 (dk_at dksX4_isCross_5 15 rfl rfl)
theorem dX4_isCross_131 : decode cX4_isCross 131 = .ok (.goto 4, 3) := dk_167 0 4 (dk_at dksX4_isCross_5 16 rfl rfl)
theorem dX4_isCross_134 : decode cX4_isCross 134 = .ok (.iconst 1, 1) := dk_4 (dk_at dksX4_isCross_5 19 rfl rfl)
theorem dX4_isCross_135 : decode cX4_isCross 135 = .ok (.istore 6, 2) := dk_54 6 (dk_at dksX4_isCross_5 20 rfl rfl)
theorem dX4_isCross_137 : decode cX4_isCross 137 = .ok (.aload_n 0, 1) := dk_42 (dk_at dksX4_isCross_5 22 rfl rfl)
theorem dX4_isCross_138 : decode cX4_isCross 138 = .ok (.dup, 1) := dk_89 (dk_at dksX4_isCross_5 23 rfl rfl)
theorem dX4_isCross_139 : decode cX4_isCross 139 = .ok (.getfield 210, 3) := dk_180 0 210 (dk_at dksX4_isCross_6 0 rfl rfl)
theorem dX4_isCross_142 : decode cX4_isCross 142 = .ok (.iload 6, 2) := dk_21 6 (dk_at dksX4_isCross_6 3 rfl rfl)
theorem dX4_isCross_144 : decode cX4_isCross 144 = .ok (.imul, 1) := dk_104 (dk_at dksX4_isCross_6 5 rfl rfl)
theorem dX4_isCross_145 : decode cX4_isCross 145 = .ok (.putfield 210, 3) := dk_181 0 210 (dk_at dksX4_isCross_6 6 rfl rfl)
theorem dX4_isCross_148 : decode cX4_isCross 148 = .ok (.aload_n 0, 1) := dk_42 (dk_at dksX4_isCross_6 9 rfl rfl)
theorem dX4_isCross_149 : decode cX4_isCross 149 = .ok (.iload 6, 2) := dk_21 6 (dk_at dksX4_isCross_6 10 rfl rfl)
theorem dX4_isCross_151 : decode cX4_isCross 151 = .ok (.iload 4, 2) := dk_21 4 (dk_at dksX4_isCross_6 12 rfl rfl)
theorem dX4_isCross_153 : decode cX4_isCross 153 = .ok (.aload_n 0, 1) := dk_42 (dk_at dksX4_isCross_6 14 rfl rfl)
theorem dX4_isCross_154 : decode cX4_isCross 154 = .ok (.iload_n 2, 1) := dk_28 (dk_at dksX4_isCross_6 15 rfl rfl)
theorem dX4_isCross_155 : decode cX4_isCross 155 = .ok (.iconst 1, 1) := dk_4 (dk_at dksX4_isCross_6 16 rfl rfl)
theorem dX4_isCross_156 : decode cX4_isCross 156 = .ok (.invokevirtual 86, 3) := dk_182 0 86 (dk_at dksX4_isCross_6 17 rfl rfl)
theorem dX4_isCross_159 : decode cX4_isCross 159 = .ok (.imul, 1) := dk_104 (dk_at dksX4_isCross_6 20 rfl rfl)
theorem dX4_isCross_160 : decode cX4_isCross 160 = .ok (.iload 5, 2) := dk_21 5 (dk_at dksX4_isCross_6 21 rfl rfl)
theorem dX4_isCross_162 : decode cX4_isCross 162 = .ok (.aload_n 0, 1) := dk_42 (dk_at dksX4_isCross_6 23 rfl rfl)
theorem dX4_isCross_163 : decode cX4_isCross 163 = .ok (.iload_n 2, 1) := dk_28 (dk_at dksX4_isCross_7 0 rfl rfl)
theorem dX4_isCross_164 : decode cX4_isCross 164 = .ok (.iconst 0, 1) := dk_3 (dk_at dksX4_isCross_7 1 rfl rfl)
theorem dX4_isCross_165 : decode cX4_isCross 165 = .ok (.invokevirtual 86, 3) := dk_182 0 86 (dk_at dksX4_isCross_7 2 rfl rfl)
theorem dX4_isCross_168 : decode cX4_isCross 168 = .ok (.imul, 1) := dk_104 (dk_at dksX4_isCross_7 5 rfl rfl)
theorem dX4_isCross_169 : decode cX4_isCross 169 = .ok (.isub, 1) := dk_100 (dk_at dksX4_isCross_7 6 rfl rfl)
theorem dX4_isCross_170 : decode cX4_isCross 170 = .ok (.imul, 1) := dk_104 (dk_at dksX4_isCross_7 7 rfl rfl)
theorem dX4_isCross_171 : decode cX4_isCross 171 = .ok (.putfield 213, 3) := dk_181 0 213 (dk_at dksX4_isCross_7 8 rfl rfl)
theorem dX4_isCross_174 : decode cX4_isCross 174 = .ok (.aload_n 0, 1) := dk_42 (dk_at dksX4_isCross_7 11 rfl rfl)
theorem dX4_isCross_175 : decode cX4_isCross 175 = .ok (.iload 6, 2) := dk_21 6 (dk_at dksX4_isCross_7 12 rfl rfl)
theorem dX4_isCross_177 : decode cX4_isCross 177 = .ok (.iload 4, 2) := dk_21 4 (dk_at dksX4_isCross_7 14 rfl rfl)
theorem dX4_isCross_179 : decode cX4_isCross 179 = .ok (.aload_n 0, 1) := dk_42 (dk_at dksX4_isCross_7 16 rfl rfl)
theorem dX4_isCross_180 : decode cX4_isCross 180 = .ok (.iload_n 1, 1) := dk_27 (dk_at dksX4_isCross_7 17 rfl rfl)
theorem dX4_isCross_181 : decode cX4_isCross 181 = .ok (.iconst 1, 1) := dk_4 (dk_at dksX4_isCross_7 18 rfl rfl)
theorem dX4_isCross_182 : decode cX4_isCross 182 = .ok (.invokevirtual 86, 3) := dk_182 0 86 (dk_at dksX4_isCross_7 19 rfl rfl)
theorem dX4_isCross_185 : decode cX4_isCross 185 = .ok (.imul, 1) := dk_104 (dk_at dksX4_isCross_7 22 rfl rfl)
theorem dX4_isCross_186 : decode cX4_isCross 186 = .ok (.iload 5, 2) := dk_21 5 (dk_at dksX4_isCross_8 0 rfl rfl)
theorem dX4_isCross_188 : decode cX4_isCross 188 = .ok (.aload_n 0, 1) := dk_42 (dk_at dksX4_isCross_8 2 rfl rfl)
theorem dX4_isCross_189 : decode cX4_isCross 189 = .ok (.iload_n 1, 1) := dk_27 (dk_at dksX4_isCross_8 3 rfl rfl)
theorem dX4_isCross_190 : decode cX4_isCross 190 = .ok (.iconst 0, 1) := dk_3 (dk_at dksX4_isCross_8 4 rfl rfl)
theorem dX4_isCross_191 : decode cX4_isCross 191 = .ok (.invokevirtual 86, 3) := dk_182 0 86 (dk_at dksX4_isCross_8 5 rfl rfl)
theorem dX4_isCross_194 : decode cX4_isCross 194 = .ok (.imul, 1) := dk_104 (dk_at dksX4_isCross_8 8 rfl rfl)
theorem dX4_isCross_195 : decode cX4_isCross 195 = .ok (.isub, 1) := dk_100 (dk_at dksX4_isCross_8 9 rfl rfl)
theorem dX4_isCross_196 : decode cX4_isCross 196 = .ok (.imul, 1) := dk_104 (dk_at dksX4_isCross_8 10 rfl rfl)
theorem dX4_isCross_197 : decode cX4_isCross 197 = .ok (.putfield 216, 3) := dk_181 0 216 (dk_at dksX4_isCross_8 11 rfl rfl)
theorem dX4_isCross_200 : decode cX4_isCross 200 = .ok (.iload_n 3, 1) := dk_29 (dk_at dksX4_isCross_8 14 rfl rfl)
theorem dX4_isCross_201 : decode cX4_isCross 201 = .ok (.ifCond .eq 48, 3) := dk_153 0 48 (dk_at dksX4_isCross_8 15 rfl rfl)
theorem dX4_isCross_204 : decode cX4_isCross 204 = .ok (.aload_n 0, 1) := dk_42 (dk_at dksX4_isCross_8 18 rfl rfl)
theorem dX4_isCross_205 : decode cX4_isCross 205 = .ok (.getfield 210, 3) := dk_180 0 210 (dk_at dksX4_isCross_8 19 rfl rfl)
theorem dX4_isCross_208 : decode cX4_isCross 208 = .ok (.ifCond .eq 41, 3) := dk_153 0 41 (dk_at dksX4_isCross_9 0 rfl rfl)
theorem dX4_isCross_211 : decode cX4_isCross 211 = .ok (.aload_n 0, 1) := dk_42 (dk_at dksX4_isCross_9 3 rfl rfl)
theorem dX4_isCross_212 : decode cX4_isCross 212 = .ok (.getfield 213, 3) := dk_180 0 213 (dk_at dksX4_isCross_9 4 rfl rfl)
theorem dX4_isCross_215 : decode cX4_isCross 215 = .ok (.iconst 1, 1) := dk_4 (dk_at dksX4_isCross_9 7 rfl rfl)
theorem dX4_isCross_216 : decode cX4_isCross 216 = .ok (.aload_n 0, 1) := dk_42 (dk_at dksX4_isCross_9 8 rfl rfl)
theorem dX4_isCross_217 : decode cX4_isCross 217 = .ok (.getfield 210, 3) := dk_180 0 210 (dk_at dksX4_isCross_9 9 rfl rfl)
theorem dX4_isCross_220 : decode cX4_isCross 220 = .ok (.iconst 1, 1) := dk_4 (dk_at dksX4_isCross_9 12 rfl rfl)
theorem dX4_isCross_221 : decode cX4_isCross 221 = .ok (.isub, 1) := dk_100 (dk_at dksX4_isCross_9 13 rfl rfl)
theorem dX4_isCross_222 : decode cX4_isCross 222 = .ok (.invokestatic 64, 3) := dk_184 0 64 (dk_at dksX4_isCross_9 14 rfl rfl)
theorem dX4_isCross_225 : decode cX4_isCross 225 = .ok (.ifCond .eq 24, 3) := dk_153 0 24 (dk_at dksX4_isCross_9 17 rfl rfl)
theorem dX4_isCross_228 : decode cX4_isCross 228 = .ok (.aload_n 0, 1) := dk_42 (dk_at dksX4_isCross_9 20 rfl rfl)
theorem dX4_isCross_229 : decode cX4_isCross 229 = .ok (.getfield 216, 3) := dk_180 0 216 (dk_at dksX4_isCross_9 21 rfl rfl)
theorem dX4_isCross_232 : decode cX4_isCross 232 = .ok (.iconst 1, 1) := dk_4 (dk_at dksX4_isCross_10 0 rfl rfl)
theorem dX4_isCross_233 : decode cX4_isCross 233 = .ok (.aload_n 0, 1) := dk_42 (dk_at dksX4_isCross_10 1 rfl rfl)
theorem dX4_isCross_234 : decode cX4_isCross 234 = .ok (.getfield 210, 3) := dk_180 0 210 (dk_at dksX4_isCross_10 2 rfl rfl)
theorem dX4_isCross_237 : decode cX4_isCross 237 = .ok (.iconst 1, 1) := dk_4 (dk_at dksX4_isCross_10 5 rfl rfl)
theorem dX4_isCross_238 : decode cX4_isCross 238 = .ok (.isub, 1) := dk_100 (dk_at dksX4_isCross_10 6 rfl rfl)
theorem dX4_isCross_239 : decode cX4_isCross 239 = .ok (.invokestatic 64, 3) := dk_184 0 64 (dk_at dksX4_isCross_10 7 rfl rfl)
theorem dX4_isCross_242 : decode cX4_isCross 242 = .ok (.ifCond .eq 7, 3) := dk_153 0 7 (dk_at dksX4_isCross_10 10 rfl rfl)
theorem dX4_isCross_245 : decode cX4_isCross 245 = .ok (.iconst 1, 1) := dk_4 (dk_at dksX4_isCross_10 13 rfl rfl)
theorem dX4_isCross_246 : decode cX4_isCross 246 = .ok (.goto 4, 3) := dk_167 0 4 (dk_at dksX4_isCross_10 14 rfl rfl)
theorem dX4_isCross_249 : decode cX4_isCross 249 = .ok (.iconst 0, 1) := dk_3 (dk_at dksX4_isCross_10 17 rfl rfl)
theorem dX4_isCross_250 : decode cX4_isCross 250 = .ok (.ireturn, 1) := dk_172 (dk_at dksX4_isCross_10 18 rfl rfl)
abbrev cX4_sheet : ByteArray := prog_9_method_73_code
def yX4_sheet : MethodName := ⟨RX4, "sheet", "(III)I"⟩
def dkwX4_sheet_3 : List UInt8 := [21, 4, 9, 80, 132, 4, 1, 167, 255, 233, 29, 172]
abbrev dktX4_sheet_3 : List UInt8 := dkwX4_sheet_3 ++ []
def dkwX4_sheet_2 : List UInt8 := [79, 16, 40, 27, 104, 54, 4, 21, 4, 16, 40, 27, 104, 16, 40, 96, 162, 0, 17, 42, 180, 0, 48]
abbrev dktX4_sheet_2 : List UInt8 := dkwX4_sheet_2 ++ dktX4_sheet_3
def dkwX4_sheet_1 : List UInt8 := [172, 29, 156, 0, 9, 42, 8, 182, 0, 101, 172, 42, 180, 0, 42, 27, 28, 79, 42, 180, 0, 45, 27, 29]
abbrev dktX4_sheet_1 : List UInt8 := dkwX4_sheet_1 ++ dktX4_sheet_2
def dkwX4_sheet_0 : List UInt8 := [27, 184, 0, 98, 153, 0, 18, 28, 3, 4, 184, 0, 64, 153, 0, 9, 29, 16, 40, 164, 0, 6, 16, 254]
abbrev dktX4_sheet_0 : List UInt8 := dkwX4_sheet_0 ++ dktX4_sheet_1
theorem dksX4_sheet_0 : cX4_sheet.data.toList.drop 0 = dktX4_sheet_0 := by decide +kernel
theorem dksX4_sheet_1 : cX4_sheet.data.toList.drop 24 = dktX4_sheet_1 := dk_seg dksX4_sheet_0 24 rfl rfl
theorem dksX4_sheet_2 : cX4_sheet.data.toList.drop 48 = dktX4_sheet_2 := dk_seg dksX4_sheet_1 24 rfl rfl
theorem dksX4_sheet_3 : cX4_sheet.data.toList.drop 71 = dktX4_sheet_3 := dk_seg dksX4_sheet_2 23 rfl rfl
theorem dX4_sheet_0 : decode cX4_sheet 0 = .ok (.iload_n 1, 1) := dk_27 (dk_at dksX4_sheet_0 0 rfl rfl)
theorem dX4_sheet_1 : decode cX4_sheet 1 = .ok (.invokestatic 98, 3) := dk_184 0 98 (dk_at dksX4_sheet_0 1 rfl rfl)
theorem dX4_sheet_4 : decode cX4_sheet 4 = .ok (.ifCond .eq 18, 3) := dk_153 0 18 (dk_at dksX4_sheet_0 4 rfl rfl)
theorem dX4_sheet_7 : decode cX4_sheet 7 = .ok (.iload_n 2, 1) := dk_28 (dk_at dksX4_sheet_0 7 rfl rfl)
theorem dX4_sheet_8 : decode cX4_sheet 8 = .ok (.iconst 0, 1) := dk_3 (dk_at dksX4_sheet_0 8 rfl rfl)
theorem dX4_sheet_9 : decode cX4_sheet 9 = .ok (.iconst 1, 1) := dk_4 (dk_at dksX4_sheet_0 9 rfl rfl)
theorem dX4_sheet_10 : decode cX4_sheet 10 = .ok (.invokestatic 64, 3) := dk_184 0 64 (dk_at dksX4_sheet_0 10 rfl rfl)
theorem dX4_sheet_13 : decode cX4_sheet 13 = .ok (.ifCond .eq 9, 3) := dk_153 0 9 (dk_at dksX4_sheet_0 13 rfl rfl)
theorem dX4_sheet_16 : decode cX4_sheet 16 = .ok (.iload_n 3, 1) := dk_29 (dk_at dksX4_sheet_0 16 rfl rfl)
theorem dX4_sheet_17 : decode cX4_sheet 17 = .ok (.bipush 40, 2) := dk_16 40 (dk_at dksX4_sheet_0 17 rfl rfl)
theorem dX4_sheet_19 : decode cX4_sheet 19 = .ok (.if_icmp .le 6, 3) := dk_164 0 6 (dk_at dksX4_sheet_0 19 rfl rfl)
theorem dX4_sheet_22 : decode cX4_sheet 22 = .ok (.bipush (-2), 2) := dk_16 254 (dk_at dksX4_sheet_0 22 rfl rfl)
theorem dX4_sheet_24 : decode cX4_sheet 24 = .ok (.ireturn, 1) := dk_172 (dk_at dksX4_sheet_1 0 rfl rfl)
theorem dX4_sheet_25 : decode cX4_sheet 25 = .ok (.iload_n 3, 1) := dk_29 (dk_at dksX4_sheet_1 1 rfl rfl)
theorem dX4_sheet_26 : decode cX4_sheet 26 = .ok (.ifCond .ge 9, 3) := dk_156 0 9 (dk_at dksX4_sheet_1 2 rfl rfl)
theorem dX4_sheet_29 : decode cX4_sheet 29 = .ok (.aload_n 0, 1) := dk_42 (dk_at dksX4_sheet_1 5 rfl rfl)
theorem dX4_sheet_30 : decode cX4_sheet 30 = .ok (.iconst 5, 1) := dk_8 (dk_at dksX4_sheet_1 6 rfl rfl)
theorem dX4_sheet_31 : decode cX4_sheet 31 = .ok (.invokevirtual 101, 3) := dk_182 0 101 (dk_at dksX4_sheet_1 7 rfl rfl)
theorem dX4_sheet_34 : decode cX4_sheet 34 = .ok (.ireturn, 1) := dk_172 (dk_at dksX4_sheet_1 10 rfl rfl)
theorem dX4_sheet_35 : decode cX4_sheet 35 = .ok (.aload_n 0, 1) := dk_42 (dk_at dksX4_sheet_1 11 rfl rfl)
theorem dX4_sheet_36 : decode cX4_sheet 36 = .ok (.getfield 42, 3) := dk_180 0 42 (dk_at dksX4_sheet_1 12 rfl rfl)
theorem dX4_sheet_39 : decode cX4_sheet 39 = .ok (.iload_n 1, 1) := dk_27 (dk_at dksX4_sheet_1 15 rfl rfl)
theorem dX4_sheet_40 : decode cX4_sheet 40 = .ok (.iload_n 2, 1) := dk_28 (dk_at dksX4_sheet_1 16 rfl rfl)
theorem dX4_sheet_41 : decode cX4_sheet 41 = .ok (.iastore, 1) := dk_79 (dk_at dksX4_sheet_1 17 rfl rfl)
theorem dX4_sheet_42 : decode cX4_sheet 42 = .ok (.aload_n 0, 1) := dk_42 (dk_at dksX4_sheet_1 18 rfl rfl)
theorem dX4_sheet_43 : decode cX4_sheet 43 = .ok (.getfield 45, 3) := dk_180 0 45 (dk_at dksX4_sheet_1 19 rfl rfl)
theorem dX4_sheet_46 : decode cX4_sheet 46 = .ok (.iload_n 1, 1) := dk_27 (dk_at dksX4_sheet_1 22 rfl rfl)
theorem dX4_sheet_47 : decode cX4_sheet 47 = .ok (.iload_n 3, 1) := dk_29 (dk_at dksX4_sheet_1 23 rfl rfl)
theorem dX4_sheet_48 : decode cX4_sheet 48 = .ok (.iastore, 1) := dk_79 (dk_at dksX4_sheet_2 0 rfl rfl)
theorem dX4_sheet_49 : decode cX4_sheet 49 = .ok (.bipush 40, 2) := dk_16 40 (dk_at dksX4_sheet_2 1 rfl rfl)
theorem dX4_sheet_51 : decode cX4_sheet 51 = .ok (.iload_n 1, 1) := dk_27 (dk_at dksX4_sheet_2 3 rfl rfl)
theorem dX4_sheet_52 : decode cX4_sheet 52 = .ok (.imul, 1) := dk_104 (dk_at dksX4_sheet_2 4 rfl rfl)
theorem dX4_sheet_53 : decode cX4_sheet 53 = .ok (.istore 4, 2) := dk_54 4 (dk_at dksX4_sheet_2 5 rfl rfl)
theorem dX4_sheet_55 : decode cX4_sheet 55 = .ok (.iload 4, 2) := dk_21 4 (dk_at dksX4_sheet_2 7 rfl rfl)
theorem dX4_sheet_57 : decode cX4_sheet 57 = .ok (.bipush 40, 2) := dk_16 40 (dk_at dksX4_sheet_2 9 rfl rfl)
theorem dX4_sheet_59 : decode cX4_sheet 59 = .ok (.iload_n 1, 1) := dk_27 (dk_at dksX4_sheet_2 11 rfl rfl)
theorem dX4_sheet_60 : decode cX4_sheet 60 = .ok (.imul, 1) := dk_104 (dk_at dksX4_sheet_2 12 rfl rfl)
theorem dX4_sheet_61 : decode cX4_sheet 61 = .ok (.bipush 40, 2) := dk_16 40 (dk_at dksX4_sheet_2 13 rfl rfl)
theorem dX4_sheet_63 : decode cX4_sheet 63 = .ok (.iadd, 1) := dk_96 (dk_at dksX4_sheet_2 15 rfl rfl)
theorem dX4_sheet_64 : decode cX4_sheet 64 = .ok (.if_icmp .ge 17, 3) := dk_162 0 17 (dk_at dksX4_sheet_2 16 rfl rfl)
theorem dX4_sheet_67 : decode cX4_sheet 67 = .ok (.aload_n 0, 1) := dk_42 (dk_at dksX4_sheet_2 19 rfl rfl)
theorem dX4_sheet_68 : decode cX4_sheet 68 = .ok (.getfield 48, 3) := dk_180 0 48 (dk_at dksX4_sheet_2 20 rfl rfl)
theorem dX4_sheet_71 : decode cX4_sheet 71 = .ok (.iload 4, 2) := dk_21 4 (dk_at dksX4_sheet_3 0 rfl rfl)
theorem dX4_sheet_73 : decode cX4_sheet 73 = .ok (.lconst 0, 1) := dk_9 (dk_at dksX4_sheet_3 2 rfl rfl)
theorem dX4_sheet_74 : decode cX4_sheet 74 = .ok (.lastore, 1) := dk_80 (dk_at dksX4_sheet_3 3 rfl rfl)
theorem dX4_sheet_75 : decode cX4_sheet 75 = .ok (.iinc 4 1, 3) := dk_132 4 1 (dk_at dksX4_sheet_3 4 rfl rfl)
theorem dX4_sheet_78 : decode cX4_sheet 78 = .ok (.goto (-23), 3) := dk_167 255 233 (dk_at dksX4_sheet_3 7 rfl rfl)
theorem dX4_sheet_81 : decode cX4_sheet 81 = .ok (.iload_n 3, 1) := dk_29 (dk_at dksX4_sheet_3 10 rfl rfl)
theorem dX4_sheet_82 : decode cX4_sheet 82 = .ok (.ireturn, 1) := dk_172 (dk_at dksX4_sheet_3 11 rfl rfl)
abbrev cX4_lose : ByteArray := prog_9_method_74_code
def yX4_lose : MethodName := ⟨RX4, "lose", "(I)I"⟩
def dkwX4_lose_1 : List UInt8 := [182, 0, 101, 172, 42, 180, 0, 42, 27, 2, 79, 42, 180, 0, 45, 27, 46, 172]
abbrev dktX4_lose_1 : List UInt8 := dkwX4_lose_1 ++ []
def dkwX4_lose_0 : List UInt8 := [27, 184, 0, 98, 154, 0, 6, 16, 254, 172, 42, 180, 0, 42, 27, 46, 2, 160, 0, 9, 42, 4]
abbrev dktX4_lose_0 : List UInt8 := dkwX4_lose_0 ++ dktX4_lose_1
theorem dksX4_lose_0 : cX4_lose.data.toList.drop 0 = dktX4_lose_0 := by decide +kernel
theorem dksX4_lose_1 : cX4_lose.data.toList.drop 22 = dktX4_lose_1 := dk_seg dksX4_lose_0 22 rfl rfl
theorem dX4_lose_0 : decode cX4_lose 0 = .ok (.iload_n 1, 1) := dk_27 (dk_at dksX4_lose_0 0 rfl rfl)
theorem dX4_lose_1 : decode cX4_lose 1 = .ok (.invokestatic 98, 3) := dk_184 0 98 (dk_at dksX4_lose_0 1 rfl rfl)
theorem dX4_lose_4 : decode cX4_lose 4 = .ok (.ifCond .ne 6, 3) := dk_154 0 6 (dk_at dksX4_lose_0 4 rfl rfl)
theorem dX4_lose_7 : decode cX4_lose 7 = .ok (.bipush (-2), 2) := dk_16 254 (dk_at dksX4_lose_0 7 rfl rfl)
theorem dX4_lose_9 : decode cX4_lose 9 = .ok (.ireturn, 1) := dk_172 (dk_at dksX4_lose_0 9 rfl rfl)
theorem dX4_lose_10 : decode cX4_lose 10 = .ok (.aload_n 0, 1) := dk_42 (dk_at dksX4_lose_0 10 rfl rfl)
theorem dX4_lose_11 : decode cX4_lose 11 = .ok (.getfield 42, 3) := dk_180 0 42 (dk_at dksX4_lose_0 11 rfl rfl)
theorem dX4_lose_14 : decode cX4_lose 14 = .ok (.iload_n 1, 1) := dk_27 (dk_at dksX4_lose_0 14 rfl rfl)
theorem dX4_lose_15 : decode cX4_lose 15 = .ok (.iaload, 1) := dk_46 (dk_at dksX4_lose_0 15 rfl rfl)
theorem dX4_lose_16 : decode cX4_lose 16 = .ok (.iconst (-1), 1) := dk_2 (dk_at dksX4_lose_0 16 rfl rfl)
theorem dX4_lose_17 : decode cX4_lose 17 = .ok (.if_icmp .ne 9, 3) := dk_160 0 9 (dk_at dksX4_lose_0 17 rfl rfl)
theorem dX4_lose_20 : decode cX4_lose 20 = .ok (.aload_n 0, 1) := dk_42 (dk_at dksX4_lose_0 20 rfl rfl)
theorem dX4_lose_21 : decode cX4_lose 21 = .ok (.iconst 1, 1) := dk_4 (dk_at dksX4_lose_0 21 rfl rfl)
theorem dX4_lose_22 : decode cX4_lose 22 = .ok (.invokevirtual 101, 3) := dk_182 0 101 (dk_at dksX4_lose_1 0 rfl rfl)
theorem dX4_lose_25 : decode cX4_lose 25 = .ok (.ireturn, 1) := dk_172 (dk_at dksX4_lose_1 3 rfl rfl)
theorem dX4_lose_26 : decode cX4_lose 26 = .ok (.aload_n 0, 1) := dk_42 (dk_at dksX4_lose_1 4 rfl rfl)
theorem dX4_lose_27 : decode cX4_lose 27 = .ok (.getfield 42, 3) := dk_180 0 42 (dk_at dksX4_lose_1 5 rfl rfl)
theorem dX4_lose_30 : decode cX4_lose 30 = .ok (.iload_n 1, 1) := dk_27 (dk_at dksX4_lose_1 8 rfl rfl)
theorem dX4_lose_31 : decode cX4_lose 31 = .ok (.iconst (-1), 1) := dk_2 (dk_at dksX4_lose_1 9 rfl rfl)
theorem dX4_lose_32 : decode cX4_lose 32 = .ok (.iastore, 1) := dk_79 (dk_at dksX4_lose_1 10 rfl rfl)
theorem dX4_lose_33 : decode cX4_lose 33 = .ok (.aload_n 0, 1) := dk_42 (dk_at dksX4_lose_1 11 rfl rfl)
theorem dX4_lose_34 : decode cX4_lose 34 = .ok (.getfield 45, 3) := dk_180 0 45 (dk_at dksX4_lose_1 12 rfl rfl)
theorem dX4_lose_37 : decode cX4_lose 37 = .ok (.iload_n 1, 1) := dk_27 (dk_at dksX4_lose_1 15 rfl rfl)
theorem dX4_lose_38 : decode cX4_lose 38 = .ok (.iaload, 1) := dk_46 (dk_at dksX4_lose_1 16 rfl rfl)
theorem dX4_lose_39 : decode cX4_lose 39 = .ok (.ireturn, 1) := dk_172 (dk_at dksX4_lose_1 17 rfl rfl)
abbrev cX4_put : ByteArray := prog_9_method_75_code
def yX4_put : MethodName := ⟨RX4, "put", "(IIII)I"⟩
def dkwX4_put_6 : List UInt8 := [167, 0, 6, 21, 4, 133, 80, 4, 172]
abbrev dktX4_put_6 : List UInt8 := dkwX4_put_6 ++ []
def dkwX4_put_5 : List UInt8 := [16, 40, 27, 104, 29, 96, 28, 4, 160, 0, 17, 21, 4, 133, 21, 4, 133, 105, 21, 4, 133, 105]
abbrev dktX4_put_5 : List UInt8 := dkwX4_put_5 ++ dktX4_put_6
def dkwX4_put_4 : List UInt8 := [16, 6, 167, 0, 4, 3, 54, 6, 21, 6, 158, 0, 10, 42, 21, 6, 182, 0, 101, 172, 42, 180, 0, 48]
abbrev dktX4_put_4 : List UInt8 := dkwX4_put_4 ++ dktX4_put_5
def dkwX4_put_3 : List UInt8 := [3, 42, 180, 0, 45, 27, 46, 4, 100, 184, 0, 64, 154, 0, 7, 5, 167, 0, 14, 21, 5, 153, 0, 8]
abbrev dktX4_put_3 : List UInt8 := dkwX4_put_3 ++ dktX4_put_4
def dkwX4_put_2 : List UInt8 := [46, 2, 160, 0, 7, 4, 167, 0, 48, 42, 180, 0, 42, 27, 46, 28, 159, 0, 7, 6, 167, 0, 34, 29]
abbrev dktX4_put_2 : List UInt8 := dkwX4_put_2 ++ dktX4_put_3
def dkwX4_put_1 : List UInt8 := [21, 4, 18, 231, 18, 232, 184, 0, 64, 154, 0, 7, 4, 167, 0, 4, 3, 54, 5, 42, 180, 0, 42, 27]
abbrev dktX4_put_1 : List UInt8 := dkwX4_put_1 ++ dktX4_put_2
def dkwX4_put_0 : List UInt8 := [27, 184, 0, 98, 153, 0, 12, 28, 3, 4, 184, 0, 64, 154, 0, 6, 16, 254, 172, 28, 4, 160, 0, 19]
abbrev dktX4_put_0 : List UInt8 := dkwX4_put_0 ++ dktX4_put_1
theorem dksX4_put_0 : cX4_put.data.toList.drop 0 = dktX4_put_0 := by decide +kernel
theorem dksX4_put_1 : cX4_put.data.toList.drop 24 = dktX4_put_1 := dk_seg dksX4_put_0 24 rfl rfl
theorem dksX4_put_2 : cX4_put.data.toList.drop 48 = dktX4_put_2 := dk_seg dksX4_put_1 24 rfl rfl
theorem dksX4_put_3 : cX4_put.data.toList.drop 72 = dktX4_put_3 := dk_seg dksX4_put_2 24 rfl rfl
theorem dksX4_put_4 : cX4_put.data.toList.drop 96 = dktX4_put_4 := dk_seg dksX4_put_3 24 rfl rfl
theorem dksX4_put_5 : cX4_put.data.toList.drop 120 = dktX4_put_5 := dk_seg dksX4_put_4 24 rfl rfl
theorem dksX4_put_6 : cX4_put.data.toList.drop 142 = dktX4_put_6 := dk_seg dksX4_put_5 22 rfl rfl
theorem dX4_put_0 : decode cX4_put 0 = .ok (.iload_n 1, 1) := dk_27 (dk_at dksX4_put_0 0 rfl rfl)
theorem dX4_put_1 : decode cX4_put 1 = .ok (.invokestatic 98, 3) := dk_184 0 98 (dk_at dksX4_put_0 1 rfl rfl)
theorem dX4_put_4 : decode cX4_put 4 = .ok (.ifCond .eq 12, 3) := dk_153 0 12 (dk_at dksX4_put_0 4 rfl rfl)
theorem dX4_put_7 : decode cX4_put 7 = .ok (.iload_n 2, 1) := dk_28 (dk_at dksX4_put_0 7 rfl rfl)
theorem dX4_put_8 : decode cX4_put 8 = .ok (.iconst 0, 1) := dk_3 (dk_at dksX4_put_0 8 rfl rfl)
theorem dX4_put_9 : decode cX4_put 9 = .ok (.iconst 1, 1) := dk_4 (dk_at dksX4_put_0 9 rfl rfl)
theorem dX4_put_10 : decode cX4_put 10 = .ok (.invokestatic 64, 3) := dk_184 0 64 (dk_at dksX4_put_0 10 rfl rfl)
theorem dX4_put_13 : decode cX4_put 13 = .ok (.ifCond .ne 6, 3) := dk_154 0 6 (dk_at dksX4_put_0 13 rfl rfl)
theorem dX4_put_16 : decode cX4_put 16 = .ok (.bipush (-2), 2) := dk_16 254 (dk_at dksX4_put_0 16 rfl rfl)
theorem dX4_put_18 : decode cX4_put 18 = .ok (.ireturn, 1) := dk_172 (dk_at dksX4_put_0 18 rfl rfl)
theorem dX4_put_19 : decode cX4_put 19 = .ok (.iload_n 2, 1) := dk_28 (dk_at dksX4_put_0 19 rfl rfl)
theorem dX4_put_20 : decode cX4_put 20 = .ok (.iconst 1, 1) := dk_4 (dk_at dksX4_put_0 20 rfl rfl)
theorem dX4_put_21 : decode cX4_put 21 = .ok (.if_icmp .ne 19, 3) := dk_160 0 19 (dk_at dksX4_put_0 21 rfl rfl)
theorem dX4_put_24 : decode cX4_put 24 = .ok (.iload 4, 2) := dk_21 4 (dk_at dksX4_put_1 0 rfl rfl)
theorem dX4_put_26 : decode cX4_put 26 = .ok (.ldc 231, 2) := dk_18 231 (dk_at dksX4_put_1 2 rfl rfl)
theorem dX4_put_28 : decode cX4_put 28 = .ok (.ldc 232, 2) := dk_18 232 (dk_at dksX4_put_1 4 rfl rfl)
theorem dX4_put_30 : decode cX4_put 30 = .ok (.invokestatic 64, 3) := dk_184 0 64 (dk_at dksX4_put_1 6 rfl rfl)
theorem dX4_put_33 : decode cX4_put 33 = .ok (.ifCond .ne 7, 3) := dk_154 0 7 (dk_at dksX4_put_1 9 rfl rfl)
theorem dX4_put_36 : decode cX4_put 36 = .ok (.iconst 1, 1) := dk_4 (dk_at dksX4_put_1 12 rfl rfl)
theorem dX4_put_37 : decode cX4_put 37 = .ok (.goto 4, 3) := dk_167 0 4 (dk_at dksX4_put_1 13 rfl rfl)
theorem dX4_put_40 : decode cX4_put 40 = .ok (.iconst 0, 1) := dk_3 (dk_at dksX4_put_1 16 rfl rfl)
theorem dX4_put_41 : decode cX4_put 41 = .ok (.istore 5, 2) := dk_54 5 (dk_at dksX4_put_1 17 rfl rfl)
theorem dX4_put_43 : decode cX4_put 43 = .ok (.aload_n 0, 1) := dk_42 (dk_at dksX4_put_1 19 rfl rfl)
theorem dX4_put_44 : decode cX4_put 44 = .ok (.getfield 42, 3) := dk_180 0 42 (dk_at dksX4_put_1 20 rfl rfl)
theorem dX4_put_47 : decode cX4_put 47 = .ok (.iload_n 1, 1) := dk_27 (dk_at dksX4_put_1 23 rfl rfl)
theorem dX4_put_48 : decode cX4_put 48 = .ok (.iaload, 1) := dk_46 (dk_at dksX4_put_2 0 rfl rfl)
theorem dX4_put_49 : decode cX4_put 49 = .ok (.iconst (-1), 1) := dk_2 (dk_at dksX4_put_2 1 rfl rfl)
theorem dX4_put_50 : decode cX4_put 50 = .ok (.if_icmp .ne 7, 3) := dk_160 0 7 (dk_at dksX4_put_2 2 rfl rfl)
theorem dX4_put_53 : decode cX4_put 53 = .ok (.iconst 1, 1) := dk_4 (dk_at dksX4_put_2 5 rfl rfl)
theorem dX4_put_54 : decode cX4_put 54 = .ok (.goto 48, 3) := dk_167 0 48 (dk_at dksX4_put_2 6 rfl rfl)
theorem dX4_put_57 : decode cX4_put 57 = .ok (.aload_n 0, 1) := dk_42 (dk_at dksX4_put_2 9 rfl rfl)
theorem dX4_put_58 : decode cX4_put 58 = .ok (.getfield 42, 3) := dk_180 0 42 (dk_at dksX4_put_2 10 rfl rfl)
theorem dX4_put_61 : decode cX4_put 61 = .ok (.iload_n 1, 1) := dk_27 (dk_at dksX4_put_2 13 rfl rfl)
theorem dX4_put_62 : decode cX4_put 62 = .ok (.iaload, 1) := dk_46 (dk_at dksX4_put_2 14 rfl rfl)
theorem dX4_put_63 : decode cX4_put 63 = .ok (.iload_n 2, 1) := dk_28 (dk_at dksX4_put_2 15 rfl rfl)
theorem dX4_put_64 : decode cX4_put 64 = .ok (.if_icmp .eq 7, 3) := dk_159 0 7 (dk_at dksX4_put_2 16 rfl rfl)
theorem dX4_put_67 : decode cX4_put 67 = .ok (.iconst 3, 1) := dk_6 (dk_at dksX4_put_2 19 rfl rfl)
theorem dX4_put_68 : decode cX4_put 68 = .ok (.goto 34, 3) := dk_167 0 34 (dk_at dksX4_put_2 20 rfl rfl)
theorem dX4_put_71 : decode cX4_put 71 = .ok (.iload_n 3, 1) := dk_29 (dk_at dksX4_put_2 23 rfl rfl)
theorem dX4_put_72 : decode cX4_put 72 = .ok (.iconst 0, 1) := dk_3 (dk_at dksX4_put_3 0 rfl rfl)
theorem dX4_put_73 : decode cX4_put 73 = .ok (.aload_n 0, 1) := dk_42 (dk_at dksX4_put_3 1 rfl rfl)
theorem dX4_put_74 : decode cX4_put 74 = .ok (.getfield 45, 3) := dk_180 0 45 (dk_at dksX4_put_3 2 rfl rfl)
theorem dX4_put_77 : decode cX4_put 77 = .ok (.iload_n 1, 1) := dk_27 (dk_at dksX4_put_3 5 rfl rfl)
theorem dX4_put_78 : decode cX4_put 78 = .ok (.iaload, 1) := dk_46 (dk_at dksX4_put_3 6 rfl rfl)
theorem dX4_put_79 : decode cX4_put 79 = .ok (.iconst 1, 1) := dk_4 (dk_at dksX4_put_3 7 rfl rfl)
theorem dX4_put_80 : decode cX4_put 80 = .ok (.isub, 1) := dk_100 (dk_at dksX4_put_3 8 rfl rfl)
theorem dX4_put_81 : decode cX4_put 81 = .ok (.invokestatic 64, 3) := dk_184 0 64 (dk_at dksX4_put_3 9 rfl rfl)
theorem dX4_put_84 : decode cX4_put 84 = .ok (.ifCond .ne 7, 3) := dk_154 0 7 (dk_at dksX4_put_3 12 rfl rfl)
theorem dX4_put_87 : decode cX4_put 87 = .ok (.iconst 2, 1) := dk_5 (dk_at dksX4_put_3 15 rfl rfl)
theorem dX4_put_88 : decode cX4_put 88 = .ok (.goto 14, 3) := dk_167 0 14 (dk_at dksX4_put_3 16 rfl rfl)
theorem dX4_put_91 : decode cX4_put 91 = .ok (.iload 5, 2) := dk_21 5 (dk_at dksX4_put_3 19 rfl rfl)
theorem dX4_put_93 : decode cX4_put 93 = .ok (.ifCond .eq 8, 3) := dk_153 0 8 (dk_at dksX4_put_3 21 rfl rfl)
theorem dX4_put_96 : decode cX4_put 96 = .ok (.bipush 6, 2) := dk_16 6 (dk_at dksX4_put_4 0 rfl rfl)
theorem dX4_put_98 : decode cX4_put 98 = .ok (.goto 4, 3) := dk_167 0 4 (dk_at dksX4_put_4 2 rfl rfl)
theorem dX4_put_101 : decode cX4_put 101 = .ok (.iconst 0, 1) := dk_3 (dk_at dksX4_put_4 5 rfl rfl)
theorem dX4_put_102 : decode cX4_put 102 = .ok (.istore 6, 2) := dk_54 6 (dk_at dksX4_put_4 6 rfl rfl)
theorem dX4_put_104 : decode cX4_put 104 = .ok (.iload 6, 2) := dk_21 6 (dk_at dksX4_put_4 8 rfl rfl)
theorem dX4_put_106 : decode cX4_put 106 = .ok (.ifCond .le 10, 3) := dk_158 0 10 (dk_at dksX4_put_4 10 rfl rfl)
theorem dX4_put_109 : decode cX4_put 109 = .ok (.aload_n 0, 1) := dk_42 (dk_at dksX4_put_4 13 rfl rfl)
theorem dX4_put_110 : decode cX4_put 110 = .ok (.iload 6, 2) := dk_21 6 (dk_at dksX4_put_4 14 rfl rfl)
theorem dX4_put_112 : decode cX4_put 112 = .ok (.invokevirtual 101, 3) := dk_182 0 101 (dk_at dksX4_put_4 16 rfl rfl)
theorem dX4_put_115 : decode cX4_put 115 = .ok (.ireturn, 1) := dk_172 (dk_at dksX4_put_4 19 rfl rfl)
theorem dX4_put_116 : decode cX4_put 116 = .ok (.aload_n 0, 1) := dk_42 (dk_at dksX4_put_4 20 rfl rfl)
theorem dX4_put_117 : decode cX4_put 117 = .ok (.getfield 48, 3) := dk_180 0 48 (dk_at dksX4_put_4 21 rfl rfl)
theorem dX4_put_120 : decode cX4_put 120 = .ok (.bipush 40, 2) := dk_16 40 (dk_at dksX4_put_5 0 rfl rfl)
theorem dX4_put_122 : decode cX4_put 122 = .ok (.iload_n 1, 1) := dk_27 (dk_at dksX4_put_5 2 rfl rfl)
theorem dX4_put_123 : decode cX4_put 123 = .ok (.imul, 1) := dk_104 (dk_at dksX4_put_5 3 rfl rfl)
theorem dX4_put_124 : decode cX4_put 124 = .ok (.iload_n 3, 1) := dk_29 (dk_at dksX4_put_5 4 rfl rfl)
theorem dX4_put_125 : decode cX4_put 125 = .ok (.iadd, 1) := dk_96 (dk_at dksX4_put_5 5 rfl rfl)
theorem dX4_put_126 : decode cX4_put 126 = .ok (.iload_n 2, 1) := dk_28 (dk_at dksX4_put_5 6 rfl rfl)
theorem dX4_put_127 : decode cX4_put 127 = .ok (.iconst 1, 1) := dk_4 (dk_at dksX4_put_5 7 rfl rfl)
theorem dX4_put_128 : decode cX4_put 128 = .ok (.if_icmp .ne 17, 3) := dk_160 0 17 (dk_at dksX4_put_5 8 rfl rfl)
theorem dX4_put_131 : decode cX4_put 131 = .ok (.iload 4, 2) := dk_21 4 (dk_at dksX4_put_5 11 rfl rfl)
theorem dX4_put_133 : decode cX4_put 133 = .ok (.i2l, 1) := dk_133 (dk_at dksX4_put_5 13 rfl rfl)
theorem dX4_put_134 : decode cX4_put 134 = .ok (.iload 4, 2) := dk_21 4 (dk_at dksX4_put_5 14 rfl rfl)
theorem dX4_put_136 : decode cX4_put 136 = .ok (.i2l, 1) := dk_133 (dk_at dksX4_put_5 16 rfl rfl)
theorem dX4_put_137 : decode cX4_put 137 = .ok (.lmul, 1) := dk_105 (dk_at dksX4_put_5 17 rfl rfl)
theorem dX4_put_138 : decode cX4_put 138 = .ok (.iload 4, 2) := dk_21 4 (dk_at dksX4_put_5 18 rfl rfl)
theorem dX4_put_140 : decode cX4_put 140 = .ok (.i2l, 1) := dk_133 (dk_at dksX4_put_5 20 rfl rfl)
theorem dX4_put_141 : decode cX4_put 141 = .ok (.lmul, 1) := dk_105 (dk_at dksX4_put_5 21 rfl rfl)
theorem dX4_put_142 : decode cX4_put 142 = .ok (.goto 6, 3) := dk_167 0 6 (dk_at dksX4_put_6 0 rfl rfl)
theorem dX4_put_145 : decode cX4_put 145 = .ok (.iload 4, 2) := dk_21 4 (dk_at dksX4_put_6 3 rfl rfl)
theorem dX4_put_147 : decode cX4_put 147 = .ok (.i2l, 1) := dk_133 (dk_at dksX4_put_6 5 rfl rfl)
theorem dX4_put_148 : decode cX4_put 148 = .ok (.lastore, 1) := dk_80 (dk_at dksX4_put_6 6 rfl rfl)
theorem dX4_put_149 : decode cX4_put 149 = .ok (.iconst 1, 1) := dk_4 (dk_at dksX4_put_6 7 rfl rfl)
theorem dX4_put_150 : decode cX4_put 150 = .ok (.ireturn, 1) := dk_172 (dk_at dksX4_put_6 8 rfl rfl)
abbrev cX4_get : ByteArray := prog_9_method_76_code
def yX4_get : MethodName := ⟨RX4, "get", "(II)J"⟩
def dkwX4_get_3 : List UInt8 := [28, 96, 47, 173]
abbrev dktX4_get_3 : List UInt8 := dkwX4_get_3 ++ []
def dkwX4_get_2 : List UInt8 := [62, 29, 158, 0, 14, 42, 29, 182, 0, 101, 184, 0, 160, 167, 0, 14, 42, 180, 0, 48, 16, 40, 27, 104]
abbrev dktX4_get_2 : List UInt8 := dkwX4_get_2 ++ dktX4_get_3
def dkwX4_get_1 : List UInt8 := [167, 0, 24, 28, 3, 42, 180, 0, 45, 27, 46, 4, 100, 184, 0, 64, 153, 0, 7, 3, 167, 0, 4, 5]
abbrev dktX4_get_1 : List UInt8 := dkwX4_get_1 ++ dktX4_get_2
def dkwX4_get_0 : List UInt8 := [27, 184, 0, 98, 154, 0, 9, 16, 254, 184, 0, 160, 173, 42, 180, 0, 42, 27, 46, 2, 160, 0, 7, 4]
abbrev dktX4_get_0 : List UInt8 := dkwX4_get_0 ++ dktX4_get_1
theorem dksX4_get_0 : cX4_get.data.toList.drop 0 = dktX4_get_0 := by decide +kernel
theorem dksX4_get_1 : cX4_get.data.toList.drop 24 = dktX4_get_1 := dk_seg dksX4_get_0 24 rfl rfl
theorem dksX4_get_2 : cX4_get.data.toList.drop 48 = dktX4_get_2 := dk_seg dksX4_get_1 24 rfl rfl
theorem dksX4_get_3 : cX4_get.data.toList.drop 72 = dktX4_get_3 := dk_seg dksX4_get_2 24 rfl rfl
theorem dX4_get_0 : decode cX4_get 0 = .ok (.iload_n 1, 1) := dk_27 (dk_at dksX4_get_0 0 rfl rfl)
theorem dX4_get_1 : decode cX4_get 1 = .ok (.invokestatic 98, 3) := dk_184 0 98 (dk_at dksX4_get_0 1 rfl rfl)
theorem dX4_get_4 : decode cX4_get 4 = .ok (.ifCond .ne 9, 3) := dk_154 0 9 (dk_at dksX4_get_0 4 rfl rfl)
theorem dX4_get_7 : decode cX4_get 7 = .ok (.bipush (-2), 2) := dk_16 254 (dk_at dksX4_get_0 7 rfl rfl)
theorem dX4_get_9 : decode cX4_get 9 = .ok (.invokestatic 160, 3) := dk_184 0 160 (dk_at dksX4_get_0 9 rfl rfl)
theorem dX4_get_12 : decode cX4_get 12 = .ok (.lreturn, 1) := dk_173 (dk_at dksX4_get_0 12 rfl rfl)
theorem dX4_get_13 : decode cX4_get 13 = .ok (.aload_n 0, 1) := dk_42 (dk_at dksX4_get_0 13 rfl rfl)
theorem dX4_get_14 : decode cX4_get 14 = .ok (.getfield 42, 3) := dk_180 0 42 (dk_at dksX4_get_0 14 rfl rfl)
theorem dX4_get_17 : decode cX4_get 17 = .ok (.iload_n 1, 1) := dk_27 (dk_at dksX4_get_0 17 rfl rfl)
theorem dX4_get_18 : decode cX4_get 18 = .ok (.iaload, 1) := dk_46 (dk_at dksX4_get_0 18 rfl rfl)
theorem dX4_get_19 : decode cX4_get 19 = .ok (.iconst (-1), 1) := dk_2 (dk_at dksX4_get_0 19 rfl rfl)
theorem dX4_get_20 : decode cX4_get 20 = .ok (.if_icmp .ne 7, 3) := dk_160 0 7 (dk_at dksX4_get_0 20 rfl rfl)
theorem dX4_get_23 : decode cX4_get 23 = .ok (.iconst 1, 1) := dk_4 (dk_at dksX4_get_0 23 rfl rfl)
theorem dX4_get_24 : decode cX4_get 24 = .ok (.goto 24, 3) := dk_167 0 24 (dk_at dksX4_get_1 0 rfl rfl)
theorem dX4_get_27 : decode cX4_get 27 = .ok (.iload_n 2, 1) := dk_28 (dk_at dksX4_get_1 3 rfl rfl)
theorem dX4_get_28 : decode cX4_get 28 = .ok (.iconst 0, 1) := dk_3 (dk_at dksX4_get_1 4 rfl rfl)
theorem dX4_get_29 : decode cX4_get 29 = .ok (.aload_n 0, 1) := dk_42 (dk_at dksX4_get_1 5 rfl rfl)
theorem dX4_get_30 : decode cX4_get 30 = .ok (.getfield 45, 3) := dk_180 0 45 (dk_at dksX4_get_1 6 rfl rfl)
theorem dX4_get_33 : decode cX4_get 33 = .ok (.iload_n 1, 1) := dk_27 (dk_at dksX4_get_1 9 rfl rfl)
theorem dX4_get_34 : decode cX4_get 34 = .ok (.iaload, 1) := dk_46 (dk_at dksX4_get_1 10 rfl rfl)
theorem dX4_get_35 : decode cX4_get 35 = .ok (.iconst 1, 1) := dk_4 (dk_at dksX4_get_1 11 rfl rfl)
theorem dX4_get_36 : decode cX4_get 36 = .ok (.isub, 1) := dk_100 (dk_at dksX4_get_1 12 rfl rfl)
theorem dX4_get_37 : decode cX4_get 37 = .ok (.invokestatic 64, 3) := dk_184 0 64 (dk_at dksX4_get_1 13 rfl rfl)
theorem dX4_get_40 : decode cX4_get 40 = .ok (.ifCond .eq 7, 3) := dk_153 0 7 (dk_at dksX4_get_1 16 rfl rfl)
theorem dX4_get_43 : decode cX4_get 43 = .ok (.iconst 0, 1) := dk_3 (dk_at dksX4_get_1 19 rfl rfl)
theorem dX4_get_44 : decode cX4_get 44 = .ok (.goto 4, 3) := dk_167 0 4 (dk_at dksX4_get_1 20 rfl rfl)
theorem dX4_get_47 : decode cX4_get 47 = .ok (.iconst 2, 1) := dk_5 (dk_at dksX4_get_1 23 rfl rfl)
theorem dX4_get_48 : decode cX4_get 48 = .ok (.istore_n 3, 1) := dk_62 (dk_at dksX4_get_2 0 rfl rfl)
theorem dX4_get_49 : decode cX4_get 49 = .ok (.iload_n 3, 1) := dk_29 (dk_at dksX4_get_2 1 rfl rfl)
theorem dX4_get_50 : decode cX4_get 50 = .ok (.ifCond .le 14, 3) := dk_158 0 14 (dk_at dksX4_get_2 2 rfl rfl)
theorem dX4_get_53 : decode cX4_get 53 = .ok (.aload_n 0, 1) := dk_42 (dk_at dksX4_get_2 5 rfl rfl)
theorem dX4_get_54 : decode cX4_get 54 = .ok (.iload_n 3, 1) := dk_29 (dk_at dksX4_get_2 6 rfl rfl)
theorem dX4_get_55 : decode cX4_get 55 = .ok (.invokevirtual 101, 3) := dk_182 0 101 (dk_at dksX4_get_2 7 rfl rfl)
theorem dX4_get_58 : decode cX4_get 58 = .ok (.invokestatic 160, 3) := dk_184 0 160 (dk_at dksX4_get_2 10 rfl rfl)
theorem dX4_get_61 : decode cX4_get 61 = .ok (.goto 14, 3) := dk_167 0 14 (dk_at dksX4_get_2 13 rfl rfl)
theorem dX4_get_64 : decode cX4_get 64 = .ok (.aload_n 0, 1) := dk_42 (dk_at dksX4_get_2 16 rfl rfl)
theorem dX4_get_65 : decode cX4_get 65 = .ok (.getfield 48, 3) := dk_180 0 48 (dk_at dksX4_get_2 17 rfl rfl)
theorem dX4_get_68 : decode cX4_get 68 = .ok (.bipush 40, 2) := dk_16 40 (dk_at dksX4_get_2 20 rfl rfl)
theorem dX4_get_70 : decode cX4_get 70 = .ok (.iload_n 1, 1) := dk_27 (dk_at dksX4_get_2 22 rfl rfl)
theorem dX4_get_71 : decode cX4_get 71 = .ok (.imul, 1) := dk_104 (dk_at dksX4_get_2 23 rfl rfl)
theorem dX4_get_72 : decode cX4_get 72 = .ok (.iload_n 2, 1) := dk_28 (dk_at dksX4_get_3 0 rfl rfl)
theorem dX4_get_73 : decode cX4_get 73 = .ok (.iadd, 1) := dk_96 (dk_at dksX4_get_3 1 rfl rfl)
theorem dX4_get_74 : decode cX4_get 74 = .ok (.laload, 1) := dk_47 (dk_at dksX4_get_3 2 rfl rfl)
theorem dX4_get_75 : decode cX4_get 75 = .ok (.lreturn, 1) := dk_173 (dk_at dksX4_get_3 3 rfl rfl)
abbrev cX4_copy : ByteArray := prog_9_method_77_code
def yX4_copy : MethodName := ⟨RX4, "copy", "(IIIII)I"⟩
def dkwX4_copy_8 : List UInt8 := [80, 132, 6, 1, 167, 255, 224, 4, 172]
abbrev dktX4_copy_8 : List UInt8 := dkwX4_copy_8 ++ []
def dkwX4_copy_7 : List UInt8 := [162, 0, 31, 42, 180, 0, 48, 16, 40, 29, 104, 21, 4, 96, 21, 6, 96, 42, 180, 0, 51, 21, 6, 47]
abbrev dktX4_copy_7 : List UInt8 := dkwX4_copy_7 ++ dktX4_copy_8
def dkwX4_copy_6 : List UInt8 := [16, 40, 27, 104, 28, 96, 21, 6, 96, 47, 80, 132, 6, 1, 167, 255, 225, 3, 54, 6, 21, 6, 21, 5]
abbrev dktX4_copy_6 : List UInt8 := dkwX4_copy_6 ++ dktX4_copy_7
def dkwX4_copy_5 : List UInt8 := [182, 0, 101, 172, 3, 54, 6, 21, 6, 21, 5, 162, 0, 30, 42, 180, 0, 51, 21, 6, 42, 180, 0, 48]
abbrev dktX4_copy_5 : List UInt8 := dkwX4_copy_5 ++ dktX4_copy_6
def dkwX4_copy_4 : List UInt8 := [157, 0, 21, 21, 4, 133, 21, 5, 133, 97, 42, 180, 0, 45, 29, 46, 133, 148, 158, 0, 9, 42, 5]
abbrev dktX4_copy_4 : List UInt8 := dkwX4_copy_4 ++ dktX4_copy_5
def dkwX4_copy_3 : List UInt8 := [155, 0, 43, 21, 5, 155, 0, 38, 28, 133, 21, 5, 133, 97, 42, 180, 0, 45, 27, 46, 133, 148]
abbrev dktX4_copy_3 : List UInt8 := dkwX4_copy_3 ++ dktX4_copy_4
def dkwX4_copy_2 : List UInt8 := [46, 42, 180, 0, 42, 29, 46, 159, 0, 9, 42, 7, 182, 0, 101, 172, 28, 155, 0, 48, 21, 4]
abbrev dktX4_copy_2 : List UInt8 := dkwX4_copy_2 ++ dktX4_copy_3
def dkwX4_copy_1 : List UInt8 := [159, 0, 13, 42, 180, 0, 42, 29, 46, 2, 160, 0, 9, 42, 4, 182, 0, 101, 172, 42, 180, 0, 42, 27]
abbrev dktX4_copy_1 : List UInt8 := dkwX4_copy_1 ++ dktX4_copy_2
def dkwX4_copy_0 : List UInt8 := [27, 184, 0, 98, 153, 0, 10, 29, 184, 0, 98, 154, 0, 6, 16, 254, 172, 42, 180, 0, 42, 27, 46, 2]
abbrev dktX4_copy_0 : List UInt8 := dkwX4_copy_0 ++ dktX4_copy_1
theorem dksX4_copy_0 : cX4_copy.data.toList.drop 0 = dktX4_copy_0 := by decide +kernel
theorem dksX4_copy_1 : cX4_copy.data.toList.drop 24 = dktX4_copy_1 := dk_seg dksX4_copy_0 24 rfl rfl
theorem dksX4_copy_2 : cX4_copy.data.toList.drop 48 = dktX4_copy_2 := dk_seg dksX4_copy_1 24 rfl rfl
theorem dksX4_copy_3 : cX4_copy.data.toList.drop 70 = dktX4_copy_3 := dk_seg dksX4_copy_2 22 rfl rfl
theorem dksX4_copy_4 : cX4_copy.data.toList.drop 92 = dktX4_copy_4 := dk_seg dksX4_copy_3 22 rfl rfl
theorem dksX4_copy_5 : cX4_copy.data.toList.drop 115 = dktX4_copy_5 := dk_seg dksX4_copy_4 23 rfl rfl
theorem dksX4_copy_6 : cX4_copy.data.toList.drop 139 = dktX4_copy_6 := dk_seg dksX4_copy_5 24 rfl rfl
theorem dksX4_copy_7 : cX4_copy.data.toList.drop 163 = dktX4_copy_7 := dk_seg dksX4_copy_6 24 rfl rfl
theorem dksX4_copy_8 : cX4_copy.data.toList.drop 187 = dktX4_copy_8 := dk_seg dksX4_copy_7 24 rfl rfl
theorem dX4_copy_0 : decode cX4_copy 0 = .ok (.iload_n 1, 1) := dk_27 (dk_at dksX4_copy_0 0 rfl rfl)
theorem dX4_copy_1 : decode cX4_copy 1 = .ok (.invokestatic 98, 3) := dk_184 0 98 (dk_at dksX4_copy_0 1 rfl rfl)
theorem dX4_copy_4 : decode cX4_copy 4 = .ok (.ifCond .eq 10, 3) := dk_153 0 10 (dk_at dksX4_copy_0 4 rfl rfl)
theorem dX4_copy_7 : decode cX4_copy 7 = .ok (.iload_n 3, 1) := dk_29 (dk_at dksX4_copy_0 7 rfl rfl)
theorem dX4_copy_8 : decode cX4_copy 8 = .ok (.invokestatic 98, 3) := dk_184 0 98 (dk_at dksX4_copy_0 8 rfl rfl)
theorem dX4_copy_11 : decode cX4_copy 11 = .ok (.ifCond .ne 6, 3) := dk_154 0 6 (dk_at dksX4_copy_0 11 rfl rfl)
theorem dX4_copy_14 : decode cX4_copy 14 = .ok (.bipush (-2), 2) := dk_16 254 (dk_at dksX4_copy_0 14 rfl rfl)
theorem dX4_copy_16 : decode cX4_copy 16 = .ok (.ireturn, 1) := dk_172 (dk_at dksX4_copy_0 16 rfl rfl)
theorem dX4_copy_17 : decode cX4_copy 17 = .ok (.aload_n 0, 1) := dk_42 (dk_at dksX4_copy_0 17 rfl rfl)
theorem dX4_copy_18 : decode cX4_copy 18 = .ok (.getfield 42, 3) := dk_180 0 42 (dk_at dksX4_copy_0 18 rfl rfl)
theorem dX4_copy_21 : decode cX4_copy 21 = .ok (.iload_n 1, 1) := dk_27 (dk_at dksX4_copy_0 21 rfl rfl)
theorem dX4_copy_22 : decode cX4_copy 22 = .ok (.iaload, 1) := dk_46 (dk_at dksX4_copy_0 22 rfl rfl)
theorem dX4_copy_23 : decode cX4_copy 23 = .ok (.iconst (-1), 1) := dk_2 (dk_at dksX4_copy_0 23 rfl rfl)
theorem dX4_copy_24 : decode cX4_copy 24 = .ok (.if_icmp .eq 13, 3) := dk_159 0 13 (dk_at dksX4_copy_1 0 rfl rfl)
theorem dX4_copy_27 : decode cX4_copy 27 = .ok (.aload_n 0, 1) := dk_42 (dk_at dksX4_copy_1 3 rfl rfl)
theorem dX4_copy_28 : decode cX4_copy 28 = .ok (.getfield 42, 3) := dk_180 0 42 (dk_at dksX4_copy_1 4 rfl rfl)
theorem dX4_copy_31 : decode cX4_copy 31 = .ok (.iload_n 3, 1) := dk_29 (dk_at dksX4_copy_1 7 rfl rfl)
theorem dX4_copy_32 : decode cX4_copy 32 = .ok (.iaload, 1) := dk_46 (dk_at dksX4_copy_1 8 rfl rfl)
theorem dX4_copy_33 : decode cX4_copy 33 = .ok (.iconst (-1), 1) := dk_2 (dk_at dksX4_copy_1 9 rfl rfl)
theorem dX4_copy_34 : decode cX4_copy 34 = .ok (.if_icmp .ne 9, 3) := dk_160 0 9 (dk_at dksX4_copy_1 10 rfl rfl)
theorem dX4_copy_37 : decode cX4_copy 37 = .ok (.aload_n 0, 1) := dk_42 (dk_at dksX4_copy_1 13 rfl rfl)
theorem dX4_copy_38 : decode cX4_copy 38 = .ok (.iconst 1, 1) := dk_4 (dk_at dksX4_copy_1 14 rfl rfl)
theorem dX4_copy_39 : decode cX4_copy 39 = .ok (.invokevirtual 101, 3) := dk_182 0 101 (dk_at dksX4_copy_1 15 rfl rfl)
theorem dX4_copy_42 : decode cX4_copy 42 = .ok (.ireturn, 1) := dk_172 (dk_at dksX4_copy_1 18 rfl rfl)
theorem dX4_copy_43 : decode cX4_copy 43 = .ok (.aload_n 0, 1) := dk_42 (dk_at dksX4_copy_1 19 rfl rfl)
theorem dX4_copy_44 : decode cX4_copy 44 = .ok (.getfield 42, 3) := dk_180 0 42 (dk_at dksX4_copy_1 20 rfl rfl)
theorem dX4_copy_47 : decode cX4_copy 47 = .ok (.iload_n 1, 1) := dk_27 (dk_at dksX4_copy_1 23 rfl rfl)
theorem dX4_copy_48 : decode cX4_copy 48 = .ok (.iaload, 1) := dk_46 (dk_at dksX4_copy_2 0 rfl rfl)
theorem dX4_copy_49 : decode cX4_copy 49 = .ok (.aload_n 0, 1) := dk_42 (dk_at dksX4_copy_2 1 rfl rfl)
theorem dX4_copy_50 : decode cX4_copy 50 = .ok (.getfield 42, 3) := dk_180 0 42 (dk_at dksX4_copy_2 2 rfl rfl)
theorem dX4_copy_53 : decode cX4_copy 53 = .ok (.iload_n 3, 1) := dk_29 (dk_at dksX4_copy_2 5 rfl rfl)
theorem dX4_copy_54 : decode cX4_copy 54 = .ok (.iaload, 1) := dk_46 (dk_at dksX4_copy_2 6 rfl rfl)
theorem dX4_copy_55 : decode cX4_copy 55 = .ok (.if_icmp .eq 9, 3) := dk_159 0 9 (dk_at dksX4_copy_2 7 rfl rfl)
theorem dX4_copy_58 : decode cX4_copy 58 = .ok (.aload_n 0, 1) := dk_42 (dk_at dksX4_copy_2 10 rfl rfl)
theorem dX4_copy_59 : decode cX4_copy 59 = .ok (.iconst 4, 1) := dk_7 (dk_at dksX4_copy_2 11 rfl rfl)
theorem dX4_copy_60 : decode cX4_copy 60 = .ok (.invokevirtual 101, 3) := dk_182 0 101 (dk_at dksX4_copy_2 12 rfl rfl)
theorem dX4_copy_63 : decode cX4_copy 63 = .ok (.ireturn, 1) := dk_172 (dk_at dksX4_copy_2 15 rfl rfl)
theorem dX4_copy_64 : decode cX4_copy 64 = .ok (.iload_n 2, 1) := dk_28 (dk_at dksX4_copy_2 16 rfl rfl)
theorem dX4_copy_65 : decode cX4_copy 65 = .ok (.ifCond .lt 48, 3) := dk_155 0 48 (dk_at dksX4_copy_2 17 rfl rfl)
theorem dX4_copy_68 : decode cX4_copy 68 = .ok (.iload 4, 2) := dk_21 4 (dk_at dksX4_copy_2 20 rfl rfl)
theorem dX4_copy_70 : decode cX4_copy 70 = .ok (.ifCond .lt 43, 3) := dk_155 0 43 (dk_at dksX4_copy_3 0 rfl rfl)
theorem dX4_copy_73 : decode cX4_copy 73 = .ok (.iload 5, 2) := dk_21 5 (dk_at dksX4_copy_3 3 rfl rfl)
theorem dX4_copy_75 : decode cX4_copy 75 = .ok (.ifCond .lt 38, 3) := dk_155 0 38 (dk_at dksX4_copy_3 5 rfl rfl)
theorem dX4_copy_78 : decode cX4_copy 78 = .ok (.iload_n 2, 1) := dk_28 (dk_at dksX4_copy_3 8 rfl rfl)
theorem dX4_copy_79 : decode cX4_copy 79 = .ok (.i2l, 1) := dk_133 (dk_at dksX4_copy_3 9 rfl rfl)
theorem dX4_copy_80 : decode cX4_copy 80 = .ok (.iload 5, 2) := dk_21 5 (dk_at dksX4_copy_3 10 rfl rfl)
theorem dX4_copy_82 : decode cX4_copy 82 = .ok (.i2l, 1) := dk_133 (dk_at dksX4_copy_3 12 rfl rfl)
theorem dX4_copy_83 : decode cX4_copy 83 = .ok (.ladd, 1) := dk_97 (dk_at dksX4_copy_3 13 rfl rfl)
theorem dX4_copy_84 : decode cX4_copy 84 = .ok (.aload_n 0, 1) := dk_42 (dk_at dksX4_copy_3 14 rfl rfl)
theorem dX4_copy_85 : decode cX4_copy 85 = .ok (.getfield 45, 3) := dk_180 0 45 (dk_at dksX4_copy_3 15 rfl rfl)
theorem dX4_copy_88 : decode cX4_copy 88 = .ok (.iload_n 1, 1) := dk_27 (dk_at dksX4_copy_3 18 rfl rfl)
theorem dX4_copy_89 : decode cX4_copy 89 = .ok (.iaload, 1) := dk_46 (dk_at dksX4_copy_3 19 rfl rfl)
theorem dX4_copy_90 : decode cX4_copy 90 = .ok (.i2l, 1) := dk_133 (dk_at dksX4_copy_3 20 rfl rfl)
theorem dX4_copy_91 : decode cX4_copy 91 = .ok (.lcmp, 1) := dk_148 (dk_at dksX4_copy_3 21 rfl rfl)
theorem dX4_copy_92 : decode cX4_copy 92 = .ok (.ifCond .gt 21, 3) := dk_157 0 21 (dk_at dksX4_copy_4 0 rfl rfl)
theorem dX4_copy_95 : decode cX4_copy 95 = .ok (.iload 4, 2) := dk_21 4 (dk_at dksX4_copy_4 3 rfl rfl)
theorem dX4_copy_97 : decode cX4_copy 97 = .ok (.i2l, 1) := dk_133 (dk_at dksX4_copy_4 5 rfl rfl)
theorem dX4_copy_98 : decode cX4_copy 98 = .ok (.iload 5, 2) := dk_21 5 (dk_at dksX4_copy_4 6 rfl rfl)
theorem dX4_copy_100 : decode cX4_copy 100 = .ok (.i2l, 1) := dk_133 (dk_at dksX4_copy_4 8 rfl rfl)
theorem dX4_copy_101 : decode cX4_copy 101 = .ok (.ladd, 1) := dk_97 (dk_at dksX4_copy_4 9 rfl rfl)
theorem dX4_copy_102 : decode cX4_copy 102 = .ok (.aload_n 0, 1) := dk_42 (dk_at dksX4_copy_4 10 rfl rfl)
theorem dX4_copy_103 : decode cX4_copy 103 = .ok (.getfield 45, 3) := dk_180 0 45 (dk_at dksX4_copy_4 11 rfl rfl)
theorem dX4_copy_106 : decode cX4_copy 106 = .ok (.iload_n 3, 1) := dk_29 (dk_at dksX4_copy_4 14 rfl rfl)
theorem dX4_copy_107 : decode cX4_copy 107 = .ok (.iaload, 1) := dk_46 (dk_at dksX4_copy_4 15 rfl rfl)
theorem dX4_copy_108 : decode cX4_copy 108 = .ok (.i2l, 1) := dk_133 (dk_at dksX4_copy_4 16 rfl rfl)
theorem dX4_copy_109 : decode cX4_copy 109 = .ok (.lcmp, 1) := dk_148 (dk_at dksX4_copy_4 17 rfl rfl)
theorem dX4_copy_110 : decode cX4_copy 110 = .ok (.ifCond .le 9, 3) := dk_158 0 9 (dk_at dksX4_copy_4 18 rfl rfl)
theorem dX4_copy_113 : decode cX4_copy 113 = .ok (.aload_n 0, 1) := dk_42 (dk_at dksX4_copy_4 21 rfl rfl)
theorem dX4_copy_114 : decode cX4_copy 114 = .ok (.iconst 2, 1) := dk_5 (dk_at dksX4_copy_4 22 rfl rfl)
theorem dX4_copy_115 : decode cX4_copy 115 = .ok (.invokevirtual 101, 3) := dk_182 0 101 (dk_at dksX4_copy_5 0 rfl rfl)
theorem dX4_copy_118 : decode cX4_copy 118 = .ok (.ireturn, 1) := dk_172 (dk_at dksX4_copy_5 3 rfl rfl)
theorem dX4_copy_119 : decode cX4_copy 119 = .ok (.iconst 0, 1) := dk_3 (dk_at dksX4_copy_5 4 rfl rfl)
theorem dX4_copy_120 : decode cX4_copy 120 = .ok (.istore 6, 2) := dk_54 6 (dk_at dksX4_copy_5 5 rfl rfl)
theorem dX4_copy_122 : decode cX4_copy 122 = .ok (.iload 6, 2) := dk_21 6 (dk_at dksX4_copy_5 7 rfl rfl)
theorem dX4_copy_124 : decode cX4_copy 124 = .ok (.iload 5, 2) := dk_21 5 (dk_at dksX4_copy_5 9 rfl rfl)
theorem dX4_copy_126 : decode cX4_copy 126 = .ok (.if_icmp .ge 30, 3) := dk_162 0 30 (dk_at dksX4_copy_5 11 rfl rfl)
theorem dX4_copy_129 : decode cX4_copy 129 = .ok (.aload_n 0, 1) := dk_42 (dk_at dksX4_copy_5 14 rfl rfl)
theorem dX4_copy_130 : decode cX4_copy 130 = .ok (.getfield 51, 3) := dk_180 0 51 (dk_at dksX4_copy_5 15 rfl rfl)
theorem dX4_copy_133 : decode cX4_copy 133 = .ok (.iload 6, 2) := dk_21 6 (dk_at dksX4_copy_5 18 rfl rfl)
theorem dX4_copy_135 : decode cX4_copy 135 = .ok (.aload_n 0, 1) := dk_42 (dk_at dksX4_copy_5 20 rfl rfl)
theorem dX4_copy_136 : decode cX4_copy 136 = .ok (.getfield 48, 3) := dk_180 0 48 (dk_at dksX4_copy_5 21 rfl rfl)
theorem dX4_copy_139 : decode cX4_copy 139 = .ok (.bipush 40, 2) := dk_16 40 (dk_at dksX4_copy_6 0 rfl rfl)
theorem dX4_copy_141 : decode cX4_copy 141 = .ok (.iload_n 1, 1) := dk_27 (dk_at dksX4_copy_6 2 rfl rfl)
theorem dX4_copy_142 : decode cX4_copy 142 = .ok (.imul, 1) := dk_104 (dk_at dksX4_copy_6 3 rfl rfl)
theorem dX4_copy_143 : decode cX4_copy 143 = .ok (.iload_n 2, 1) := dk_28 (dk_at dksX4_copy_6 4 rfl rfl)
theorem dX4_copy_144 : decode cX4_copy 144 = .ok (.iadd, 1) := dk_96 (dk_at dksX4_copy_6 5 rfl rfl)
theorem dX4_copy_145 : decode cX4_copy 145 = .ok (.iload 6, 2) := dk_21 6 (dk_at dksX4_copy_6 6 rfl rfl)
theorem dX4_copy_147 : decode cX4_copy 147 = .ok (.iadd, 1) := dk_96 (dk_at dksX4_copy_6 8 rfl rfl)
theorem dX4_copy_148 : decode cX4_copy 148 = .ok (.laload, 1) := dk_47 (dk_at dksX4_copy_6 9 rfl rfl)
theorem dX4_copy_149 : decode cX4_copy 149 = .ok (.lastore, 1) := dk_80 (dk_at dksX4_copy_6 10 rfl rfl)
theorem dX4_copy_150 : decode cX4_copy 150 = .ok (.iinc 6 1, 3) := dk_132 6 1 (dk_at dksX4_copy_6 11 rfl rfl)
theorem dX4_copy_153 : decode cX4_copy 153 = .ok (.goto (-31), 3) := dk_167 255 225 (dk_at dksX4_copy_6 14 rfl rfl)
theorem dX4_copy_156 : decode cX4_copy 156 = .ok (.iconst 0, 1) := dk_3 (dk_at dksX4_copy_6 17 rfl rfl)
theorem dX4_copy_157 : decode cX4_copy 157 = .ok (.istore 6, 2) := dk_54 6 (dk_at dksX4_copy_6 18 rfl rfl)
theorem dX4_copy_159 : decode cX4_copy 159 = .ok (.iload 6, 2) := dk_21 6 (dk_at dksX4_copy_6 20 rfl rfl)
theorem dX4_copy_161 : decode cX4_copy 161 = .ok (.iload 5, 2) := dk_21 5 (dk_at dksX4_copy_6 22 rfl rfl)
theorem dX4_copy_163 : decode cX4_copy 163 = .ok (.if_icmp .ge 31, 3) := dk_162 0 31 (dk_at dksX4_copy_7 0 rfl rfl)
theorem dX4_copy_166 : decode cX4_copy 166 = .ok (.aload_n 0, 1) := dk_42 (dk_at dksX4_copy_7 3 rfl rfl)
theorem dX4_copy_167 : decode cX4_copy 167 = .ok (.getfield 48, 3) := dk_180 0 48 (dk_at dksX4_copy_7 4 rfl rfl)
theorem dX4_copy_170 : decode cX4_copy 170 = .ok (.bipush 40, 2) := dk_16 40 (dk_at dksX4_copy_7 7 rfl rfl)
theorem dX4_copy_172 : decode cX4_copy 172 = .ok (.iload_n 3, 1) := dk_29 (dk_at dksX4_copy_7 9 rfl rfl)
theorem dX4_copy_173 : decode cX4_copy 173 = .ok (.imul, 1) := dk_104 (dk_at dksX4_copy_7 10 rfl rfl)
theorem dX4_copy_174 : decode cX4_copy 174 = .ok (.iload 4, 2) := dk_21 4 (dk_at dksX4_copy_7 11 rfl rfl)
theorem dX4_copy_176 : decode cX4_copy 176 = .ok (.iadd, 1) := dk_96 (dk_at dksX4_copy_7 13 rfl rfl)
theorem dX4_copy_177 : decode cX4_copy 177 = .ok (.iload 6, 2) := dk_21 6 (dk_at dksX4_copy_7 14 rfl rfl)
theorem dX4_copy_179 : decode cX4_copy 179 = .ok (.iadd, 1) := dk_96 (dk_at dksX4_copy_7 16 rfl rfl)
theorem dX4_copy_180 : decode cX4_copy 180 = .ok (.aload_n 0, 1) := dk_42 (dk_at dksX4_copy_7 17 rfl rfl)
theorem dX4_copy_181 : decode cX4_copy 181 = .ok (.getfield 51, 3) := dk_180 0 51 (dk_at dksX4_copy_7 18 rfl rfl)
theorem dX4_copy_184 : decode cX4_copy 184 = .ok (.iload 6, 2) := dk_21 6 (dk_at dksX4_copy_7 21 rfl rfl)
theorem dX4_copy_186 : decode cX4_copy 186 = .ok (.laload, 1) := dk_47 (dk_at dksX4_copy_7 23 rfl rfl)
theorem dX4_copy_187 : decode cX4_copy 187 = .ok (.lastore, 1) := dk_80 (dk_at dksX4_copy_8 0 rfl rfl)
theorem dX4_copy_188 : decode cX4_copy 188 = .ok (.iinc 6 1, 3) := dk_132 6 1 (dk_at dksX4_copy_8 1 rfl rfl)
theorem dX4_copy_191 : decode cX4_copy 191 = .ok (.goto (-32), 3) := dk_167 255 224 (dk_at dksX4_copy_8 4 rfl rfl)
theorem dX4_copy_194 : decode cX4_copy 194 = .ok (.iconst 1, 1) := dk_4 (dk_at dksX4_copy_8 7 rfl rfl)
theorem dX4_copy_195 : decode cX4_copy 195 = .ok (.ireturn, 1) := dk_172 (dk_at dksX4_copy_8 8 rfl rfl)
abbrev cX4_write : ByteArray := prog_9_method_78_code
def yX4_write : MethodName := ⟨RX4, "write", "(I)I"⟩
def dkwX4_write_4 : List UInt8 := [33, 136, 133, 167, 0, 4, 33, 80, 132, 2, 1, 167, 255, 195, 28, 172]
abbrev dktX4_write_4 : List UInt8 := dkwX4_write_4 ++ []
def dkwX4_write_3 : List UInt8 := [112, 182, 0, 171, 66, 42, 180, 0, 48, 16, 40, 27, 104, 28, 96, 42, 180, 0, 42, 27, 46, 154, 0, 9]
abbrev dktX4_write_3 : List UInt8 := dkwX4_write_3 ++ dktX4_write_4
def dkwX4_write_2 : List UInt8 := [180, 0, 45, 27, 46, 162, 0, 57, 28, 5, 42, 182, 0, 68, 104, 162, 0, 47, 42, 28, 5, 108, 28, 5]
abbrev dktX4_write_2 : List UInt8 := dkwX4_write_2 ++ dktX4_write_3
def dkwX4_write_1 : List UInt8 := [182, 0, 101, 172, 42, 42, 180, 0, 76, 182, 0, 157, 2, 160, 0, 6, 16, 253, 172, 3, 61, 28, 42]
abbrev dktX4_write_1 : List UInt8 := dkwX4_write_1 ++ dktX4_write_2
def dkwX4_write_0 : List UInt8 := [27, 184, 0, 98, 154, 0, 6, 16, 254, 172, 42, 180, 0, 42, 27, 46, 2, 160, 0, 9, 42, 4]
abbrev dktX4_write_0 : List UInt8 := dkwX4_write_0 ++ dktX4_write_1
theorem dksX4_write_0 : cX4_write.data.toList.drop 0 = dktX4_write_0 := by decide +kernel
theorem dksX4_write_1 : cX4_write.data.toList.drop 22 = dktX4_write_1 := dk_seg dksX4_write_0 22 rfl rfl
theorem dksX4_write_2 : cX4_write.data.toList.drop 45 = dktX4_write_2 := dk_seg dksX4_write_1 23 rfl rfl
theorem dksX4_write_3 : cX4_write.data.toList.drop 69 = dktX4_write_3 := dk_seg dksX4_write_2 24 rfl rfl
theorem dksX4_write_4 : cX4_write.data.toList.drop 93 = dktX4_write_4 := dk_seg dksX4_write_3 24 rfl rfl
theorem dX4_write_0 : decode cX4_write 0 = .ok (.iload_n 1, 1) := dk_27 (dk_at dksX4_write_0 0 rfl rfl)
theorem dX4_write_1 : decode cX4_write 1 = .ok (.invokestatic 98, 3) := dk_184 0 98 (dk_at dksX4_write_0 1 rfl rfl)
theorem dX4_write_4 : decode cX4_write 4 = .ok (.ifCond .ne 6, 3) := dk_154 0 6 (dk_at dksX4_write_0 4 rfl rfl)
theorem dX4_write_7 : decode cX4_write 7 = .ok (.bipush (-2), 2) := dk_16 254 (dk_at dksX4_write_0 7 rfl rfl)
theorem dX4_write_9 : decode cX4_write 9 = .ok (.ireturn, 1) := dk_172 (dk_at dksX4_write_0 9 rfl rfl)
theorem dX4_write_10 : decode cX4_write 10 = .ok (.aload_n 0, 1) := dk_42 (dk_at dksX4_write_0 10 rfl rfl)
theorem dX4_write_11 : decode cX4_write 11 = .ok (.getfield 42, 3) := dk_180 0 42 (dk_at dksX4_write_0 11 rfl rfl)
theorem dX4_write_14 : decode cX4_write 14 = .ok (.iload_n 1, 1) := dk_27 (dk_at dksX4_write_0 14 rfl rfl)
theorem dX4_write_15 : decode cX4_write 15 = .ok (.iaload, 1) := dk_46 (dk_at dksX4_write_0 15 rfl rfl)
theorem dX4_write_16 : decode cX4_write 16 = .ok (.iconst (-1), 1) := dk_2 (dk_at dksX4_write_0 16 rfl rfl)
theorem dX4_write_17 : decode cX4_write 17 = .ok (.if_icmp .ne 9, 3) := dk_160 0 9 (dk_at dksX4_write_0 17 rfl rfl)
theorem dX4_write_20 : decode cX4_write 20 = .ok (.aload_n 0, 1) := dk_42 (dk_at dksX4_write_0 20 rfl rfl)
theorem dX4_write_21 : decode cX4_write 21 = .ok (.iconst 1, 1) := dk_4 (dk_at dksX4_write_0 21 rfl rfl)
theorem dX4_write_22 : decode cX4_write 22 = .ok (.invokevirtual 101, 3) := dk_182 0 101 (dk_at dksX4_write_1 0 rfl rfl)
theorem dX4_write_25 : decode cX4_write 25 = .ok (.ireturn, 1) := dk_172 (dk_at dksX4_write_1 3 rfl rfl)
theorem dX4_write_26 : decode cX4_write 26 = .ok (.aload_n 0, 1) := dk_42 (dk_at dksX4_write_1 4 rfl rfl)
theorem dX4_write_27 : decode cX4_write 27 = .ok (.aload_n 0, 1) := dk_42 (dk_at dksX4_write_1 5 rfl rfl)
theorem dX4_write_28 : decode cX4_write 28 = .ok (.getfield 76, 3) := dk_180 0 76 (dk_at dksX4_write_1 6 rfl rfl)
theorem dX4_write_31 : decode cX4_write 31 = .ok (.invokevirtual 157, 3) := dk_182 0 157 (dk_at dksX4_write_1 9 rfl rfl)
theorem dX4_write_34 : decode cX4_write 34 = .ok (.iconst (-1), 1) := dk_2 (dk_at dksX4_write_1 12 rfl rfl)
theorem dX4_write_35 : decode cX4_write 35 = .ok (.if_icmp .ne 6, 3) := dk_160 0 6 (dk_at dksX4_write_1 13 rfl rfl)
theorem dX4_write_38 : decode cX4_write 38 = .ok (.bipush (-3), 2) := dk_16 253 (dk_at dksX4_write_1 16 rfl rfl)
theorem dX4_write_40 : decode cX4_write 40 = .ok (.ireturn, 1) := dk_172 (dk_at dksX4_write_1 18 rfl rfl)
theorem dX4_write_41 : decode cX4_write 41 = .ok (.iconst 0, 1) := dk_3 (dk_at dksX4_write_1 19 rfl rfl)
theorem dX4_write_42 : decode cX4_write 42 = .ok (.istore_n 2, 1) := dk_61 (dk_at dksX4_write_1 20 rfl rfl)
theorem dX4_write_43 : decode cX4_write 43 = .ok (.iload_n 2, 1) := dk_28 (dk_at dksX4_write_1 21 rfl rfl)
theorem dX4_write_44 : decode cX4_write 44 = .ok (.aload_n 0, 1) := dk_42 (dk_at dksX4_write_1 22 rfl rfl)
theorem dX4_write_45 : decode cX4_write 45 = .ok (.getfield 45, 3) := dk_180 0 45 (dk_at dksX4_write_2 0 rfl rfl)
theorem dX4_write_48 : decode cX4_write 48 = .ok (.iload_n 1, 1) := dk_27 (dk_at dksX4_write_2 3 rfl rfl)
theorem dX4_write_49 : decode cX4_write 49 = .ok (.iaload, 1) := dk_46 (dk_at dksX4_write_2 4 rfl rfl)
theorem dX4_write_50 : decode cX4_write 50 = .ok (.if_icmp .ge 57, 3) := dk_162 0 57 (dk_at dksX4_write_2 5 rfl rfl)
theorem dX4_write_53 : decode cX4_write 53 = .ok (.iload_n 2, 1) := dk_28 (dk_at dksX4_write_2 8 rfl rfl)
theorem dX4_write_54 : decode cX4_write 54 = .ok (.iconst 2, 1) := dk_5 (dk_at dksX4_write_2 9 rfl rfl)
theorem dX4_write_55 : decode cX4_write 55 = .ok (.aload_n 0, 1) := dk_42 (dk_at dksX4_write_2 10 rfl rfl)
theorem dX4_write_56 : decode cX4_write 56 = .ok (.invokevirtual 68, 3) := dk_182 0 68 (dk_at dksX4_write_2 11 rfl rfl)
theorem dX4_write_59 : decode cX4_write 59 = .ok (.imul, 1) := dk_104 (dk_at dksX4_write_2 14 rfl rfl)
theorem dX4_write_60 : decode cX4_write 60 = .ok (.if_icmp .ge 47, 3) := dk_162 0 47 (dk_at dksX4_write_2 15 rfl rfl)
theorem dX4_write_63 : decode cX4_write 63 = .ok (.aload_n 0, 1) := dk_42 (dk_at dksX4_write_2 18 rfl rfl)
theorem dX4_write_64 : decode cX4_write 64 = .ok (.iload_n 2, 1) := dk_28 (dk_at dksX4_write_2 19 rfl rfl)
theorem dX4_write_65 : decode cX4_write 65 = .ok (.iconst 2, 1) := dk_5 (dk_at dksX4_write_2 20 rfl rfl)
theorem dX4_write_66 : decode cX4_write 66 = .ok (.idiv, 1) := dk_108 (dk_at dksX4_write_2 21 rfl rfl)
theorem dX4_write_67 : decode cX4_write 67 = .ok (.iload_n 2, 1) := dk_28 (dk_at dksX4_write_2 22 rfl rfl)
theorem dX4_write_68 : decode cX4_write 68 = .ok (.iconst 2, 1) := dk_5 (dk_at dksX4_write_2 23 rfl rfl)
theorem dX4_write_69 : decode cX4_write 69 = .ok (.irem, 1) := dk_112 (dk_at dksX4_write_3 0 rfl rfl)
theorem dX4_write_70 : decode cX4_write 70 = .ok (.invokevirtual 171, 3) := dk_182 0 171 (dk_at dksX4_write_3 1 rfl rfl)
theorem dX4_write_73 : decode cX4_write 73 = .ok (.lstore_n 3, 1) := dk_66 (dk_at dksX4_write_3 4 rfl rfl)
theorem dX4_write_74 : decode cX4_write 74 = .ok (.aload_n 0, 1) := dk_42 (dk_at dksX4_write_3 5 rfl rfl)
theorem dX4_write_75 : decode cX4_write 75 = .ok (.getfield 48, 3) := dk_180 0 48 (dk_at dksX4_write_3 6 rfl rfl)
theorem dX4_write_78 : decode cX4_write 78 = .ok (.bipush 40, 2) := dk_16 40 (dk_at dksX4_write_3 9 rfl rfl)
theorem dX4_write_80 : decode cX4_write 80 = .ok (.iload_n 1, 1) := dk_27 (dk_at dksX4_write_3 11 rfl rfl)
theorem dX4_write_81 : decode cX4_write 81 = .ok (.imul, 1) := dk_104 (dk_at dksX4_write_3 12 rfl rfl)
theorem dX4_write_82 : decode cX4_write 82 = .ok (.iload_n 2, 1) := dk_28 (dk_at dksX4_write_3 13 rfl rfl)
theorem dX4_write_83 : decode cX4_write 83 = .ok (.iadd, 1) := dk_96 (dk_at dksX4_write_3 14 rfl rfl)
theorem dX4_write_84 : decode cX4_write 84 = .ok (.aload_n 0, 1) := dk_42 (dk_at dksX4_write_3 15 rfl rfl)
theorem dX4_write_85 : decode cX4_write 85 = .ok (.getfield 42, 3) := dk_180 0 42 (dk_at dksX4_write_3 16 rfl rfl)
theorem dX4_write_88 : decode cX4_write 88 = .ok (.iload_n 1, 1) := dk_27 (dk_at dksX4_write_3 19 rfl rfl)
theorem dX4_write_89 : decode cX4_write 89 = .ok (.iaload, 1) := dk_46 (dk_at dksX4_write_3 20 rfl rfl)
theorem dX4_write_90 : decode cX4_write 90 = .ok (.ifCond .ne 9, 3) := dk_154 0 9 (dk_at dksX4_write_3 21 rfl rfl)
theorem dX4_write_93 : decode cX4_write 93 = .ok (.lload_n 3, 1) := dk_33 (dk_at dksX4_write_4 0 rfl rfl)
theorem dX4_write_94 : decode cX4_write 94 = .ok (.l2i, 1) := dk_136 (dk_at dksX4_write_4 1 rfl rfl)
theorem dX4_write_95 : decode cX4_write 95 = .ok (.i2l, 1) := dk_133 (dk_at dksX4_write_4 2 rfl rfl)
theorem dX4_write_96 : decode cX4_write 96 = .ok (.goto 4, 3) := dk_167 0 4 (dk_at dksX4_write_4 3 rfl rfl)
theorem dX4_write_99 : decode cX4_write 99 = .ok (.lload_n 3, 1) := dk_33 (dk_at dksX4_write_4 6 rfl rfl)
theorem dX4_write_100 : decode cX4_write 100 = .ok (.lastore, 1) := dk_80 (dk_at dksX4_write_4 7 rfl rfl)
theorem dX4_write_101 : decode cX4_write 101 = .ok (.iinc 2 1, 3) := dk_132 2 1 (dk_at dksX4_write_4 8 rfl rfl)
theorem dX4_write_104 : decode cX4_write 104 = .ok (.goto (-61), 3) := dk_167 255 195 (dk_at dksX4_write_4 11 rfl rfl)
theorem dX4_write_107 : decode cX4_write 107 = .ok (.iload_n 2, 1) := dk_28 (dk_at dksX4_write_4 14 rfl rfl)
theorem dX4_write_108 : decode cX4_write 108 = .ok (.ireturn, 1) := dk_172 (dk_at dksX4_write_4 15 rfl rfl)
abbrev cX4_count : ByteArray := prog_9_method_80_code
def yX4_count : MethodName := ⟨RX4, "count", "(I)I"⟩
def dkwX4_count_5 : List UInt8 := [180, 0, 228, 172, 16, 254, 172]
abbrev dktX4_count_5 : List UInt8 := dkwX4_count_5 ++ []
def dkwX4_count_4 : List UInt8 := [172, 28, 2, 160, 0, 7, 3, 167, 0, 4, 4, 172, 42, 182, 0, 236, 172, 42, 182, 0, 207, 172, 42]
abbrev dktX4_count_4 : List UInt8 := dkwX4_count_4 ++ dktX4_count_5
def dkwX4_count_3 : List UInt8 := [167, 0, 7, 28, 184, 0, 145, 172, 28, 2, 160, 0, 7, 2, 167, 0, 10, 42, 182, 0, 180, 184, 0, 145]
abbrev dktX4_count_3 : List UInt8 := dkwX4_count_3 ++ dktX4_count_4
def dkwX4_count_2 : List UInt8 := [42, 180, 0, 60, 172, 42, 180, 0, 76, 184, 0, 145, 172, 42, 182, 0, 233, 172, 28, 2, 160, 0, 7, 2]
abbrev dktX4_count_2 : List UInt8 := dkwX4_count_2 ++ dktX4_count_3
def dkwX4_count_1 : List UInt8 := [170, 0, 0, 0, 0, 125, 0, 0, 0, 0, 0, 0, 0, 8, 0, 0, 0, 50, 0, 0, 0, 55, 0, 0, 0, 63, 0, 0, 0, 68, 0, 0, 0, 82, 0, 0, 0, 99, 0, 0, 0, 110, 0, 0, 0, 115, 0, 0, 0, 120]
abbrev dktX4_count_1 : List UInt8 := dkwX4_count_1 ++ dktX4_count_2
def dkwX4_count_0 : List UInt8 := [42, 42, 180, 0, 76, 182, 0, 157, 61, 27]
abbrev dktX4_count_0 : List UInt8 := dkwX4_count_0 ++ dktX4_count_1
theorem dksX4_count_0 : cX4_count.data.toList.drop 0 = dktX4_count_0 := by decide +kernel
theorem dksX4_count_1 : cX4_count.data.toList.drop 10 = dktX4_count_1 := dk_seg dksX4_count_0 10 rfl rfl
theorem dksX4_count_2 : cX4_count.data.toList.drop 60 = dktX4_count_2 := dk_seg dksX4_count_1 50 rfl rfl
theorem dksX4_count_3 : cX4_count.data.toList.drop 84 = dktX4_count_3 := dk_seg dksX4_count_2 24 rfl rfl
theorem dksX4_count_4 : cX4_count.data.toList.drop 108 = dktX4_count_4 := dk_seg dksX4_count_3 24 rfl rfl
theorem dksX4_count_5 : cX4_count.data.toList.drop 131 = dktX4_count_5 := dk_seg dksX4_count_4 23 rfl rfl
theorem dX4_count_0 : decode cX4_count 0 = .ok (.aload_n 0, 1) := dk_42 (dk_at dksX4_count_0 0 rfl rfl)
theorem dX4_count_1 : decode cX4_count 1 = .ok (.aload_n 0, 1) := dk_42 (dk_at dksX4_count_0 1 rfl rfl)
theorem dX4_count_2 : decode cX4_count 2 = .ok (.getfield 76, 3) := dk_180 0 76 (dk_at dksX4_count_0 2 rfl rfl)
theorem dX4_count_5 : decode cX4_count 5 = .ok (.invokevirtual 157, 3) := dk_182 0 157 (dk_at dksX4_count_0 5 rfl rfl)
theorem dX4_count_8 : decode cX4_count 8 = .ok (.istore_n 2, 1) := dk_61 (dk_at dksX4_count_0 8 rfl rfl)
theorem dX4_count_9 : decode cX4_count 9 = .ok (.iload_n 1, 1) := dk_27 (dk_at dksX4_count_0 9 rfl rfl)
theorem dX4_count_10 : decode cX4_count 10 = .ok (.tableswitch 125 0 8 #[50, 55, 63, 68, 82, 99, 110, 115, 120], 50) := by decide +kernel
theorem dX4_count_60 : decode cX4_count 60 = .ok (.aload_n 0, 1) := dk_42 (dk_at dksX4_count_2 0 rfl rfl)
theorem dX4_count_61 : decode cX4_count 61 = .ok (.getfield 60, 3) := dk_180 0 60 (dk_at dksX4_count_2 1 rfl rfl)
theorem dX4_count_64 : decode cX4_count 64 = .ok (.ireturn, 1) := dk_172 (dk_at dksX4_count_2 4 rfl rfl)
theorem dX4_count_65 : decode cX4_count 65 = .ok (.aload_n 0, 1) := dk_42 (dk_at dksX4_count_2 5 rfl rfl)
theorem dX4_count_66 : decode cX4_count 66 = .ok (.getfield 76, 3) := dk_180 0 76 (dk_at dksX4_count_2 6 rfl rfl)
theorem dX4_count_69 : decode cX4_count 69 = .ok (.invokestatic 145, 3) := dk_184 0 145 (dk_at dksX4_count_2 9 rfl rfl)
theorem dX4_count_72 : decode cX4_count 72 = .ok (.ireturn, 1) := dk_172 (dk_at dksX4_count_2 12 rfl rfl)
theorem dX4_count_73 : decode cX4_count 73 = .ok (.aload_n 0, 1) := dk_42 (dk_at dksX4_count_2 13 rfl rfl)
theorem dX4_count_74 : decode cX4_count 74 = .ok (.invokevirtual 233, 3) := dk_182 0 233 (dk_at dksX4_count_2 14 rfl rfl)
theorem dX4_count_77 : decode cX4_count 77 = .ok (.ireturn, 1) := dk_172 (dk_at dksX4_count_2 17 rfl rfl)
theorem dX4_count_78 : decode cX4_count 78 = .ok (.iload_n 2, 1) := dk_28 (dk_at dksX4_count_2 18 rfl rfl)
theorem dX4_count_79 : decode cX4_count 79 = .ok (.iconst (-1), 1) := dk_2 (dk_at dksX4_count_2 19 rfl rfl)
theorem dX4_count_80 : decode cX4_count 80 = .ok (.if_icmp .ne 7, 3) := dk_160 0 7 (dk_at dksX4_count_2 20 rfl rfl)
theorem dX4_count_83 : decode cX4_count 83 = .ok (.iconst (-1), 1) := dk_2 (dk_at dksX4_count_2 23 rfl rfl)
theorem dX4_count_84 : decode cX4_count 84 = .ok (.goto 7, 3) := dk_167 0 7 (dk_at dksX4_count_3 0 rfl rfl)
theorem dX4_count_87 : decode cX4_count 87 = .ok (.iload_n 2, 1) := dk_28 (dk_at dksX4_count_3 3 rfl rfl)
theorem dX4_count_88 : decode cX4_count 88 = .ok (.invokestatic 145, 3) := dk_184 0 145 (dk_at dksX4_count_3 4 rfl rfl)
theorem dX4_count_91 : decode cX4_count 91 = .ok (.ireturn, 1) := dk_172 (dk_at dksX4_count_3 7 rfl rfl)
theorem dX4_count_92 : decode cX4_count 92 = .ok (.iload_n 2, 1) := dk_28 (dk_at dksX4_count_3 8 rfl rfl)
theorem dX4_count_93 : decode cX4_count 93 = .ok (.iconst (-1), 1) := dk_2 (dk_at dksX4_count_3 9 rfl rfl)
theorem dX4_count_94 : decode cX4_count 94 = .ok (.if_icmp .ne 7, 3) := dk_160 0 7 (dk_at dksX4_count_3 10 rfl rfl)
theorem dX4_count_97 : decode cX4_count 97 = .ok (.iconst (-1), 1) := dk_2 (dk_at dksX4_count_3 13 rfl rfl)
theorem dX4_count_98 : decode cX4_count 98 = .ok (.goto 10, 3) := dk_167 0 10 (dk_at dksX4_count_3 14 rfl rfl)
theorem dX4_count_101 : decode cX4_count 101 = .ok (.aload_n 0, 1) := dk_42 (dk_at dksX4_count_3 17 rfl rfl)
theorem dX4_count_102 : decode cX4_count 102 = .ok (.invokevirtual 180, 3) := dk_182 0 180 (dk_at dksX4_count_3 18 rfl rfl)
theorem dX4_count_105 : decode cX4_count 105 = .ok (.invokestatic 145, 3) := dk_184 0 145 (dk_at dksX4_count_3 21 rfl rfl)
theorem dX4_count_108 : decode cX4_count 108 = .ok (.ireturn, 1) := dk_172 (dk_at dksX4_count_4 0 rfl rfl)
theorem dX4_count_109 : decode cX4_count 109 = .ok (.iload_n 2, 1) := dk_28 (dk_at dksX4_count_4 1 rfl rfl)
theorem dX4_count_110 : decode cX4_count 110 = .ok (.iconst (-1), 1) := dk_2 (dk_at dksX4_count_4 2 rfl rfl)
theorem dX4_count_111 : decode cX4_count 111 = .ok (.if_icmp .ne 7, 3) := dk_160 0 7 (dk_at dksX4_count_4 3 rfl rfl)
theorem dX4_count_114 : decode cX4_count 114 = .ok (.iconst 0, 1) := dk_3 (dk_at dksX4_count_4 6 rfl rfl)
theorem dX4_count_115 : decode cX4_count 115 = .ok (.goto 4, 3) := dk_167 0 4 (dk_at dksX4_count_4 7 rfl rfl)
theorem dX4_count_118 : decode cX4_count 118 = .ok (.iconst 1, 1) := dk_4 (dk_at dksX4_count_4 10 rfl rfl)
theorem dX4_count_119 : decode cX4_count 119 = .ok (.ireturn, 1) := dk_172 (dk_at dksX4_count_4 11 rfl rfl)
theorem dX4_count_120 : decode cX4_count 120 = .ok (.aload_n 0, 1) := dk_42 (dk_at dksX4_count_4 12 rfl rfl)
theorem dX4_count_121 : decode cX4_count 121 = .ok (.invokevirtual 236, 3) := dk_182 0 236 (dk_at dksX4_count_4 13 rfl rfl)
theorem dX4_count_124 : decode cX4_count 124 = .ok (.ireturn, 1) := dk_172 (dk_at dksX4_count_4 16 rfl rfl)
theorem dX4_count_125 : decode cX4_count 125 = .ok (.aload_n 0, 1) := dk_42 (dk_at dksX4_count_4 17 rfl rfl)
theorem dX4_count_126 : decode cX4_count 126 = .ok (.invokevirtual 207, 3) := dk_182 0 207 (dk_at dksX4_count_4 18 rfl rfl)
theorem dX4_count_129 : decode cX4_count 129 = .ok (.ireturn, 1) := dk_172 (dk_at dksX4_count_4 21 rfl rfl)
theorem dX4_count_130 : decode cX4_count 130 = .ok (.aload_n 0, 1) := dk_42 (dk_at dksX4_count_4 22 rfl rfl)
theorem dX4_count_131 : decode cX4_count 131 = .ok (.getfield 228, 3) := dk_180 0 228 (dk_at dksX4_count_5 0 rfl rfl)
theorem dX4_count_134 : decode cX4_count 134 = .ok (.ireturn, 1) := dk_172 (dk_at dksX4_count_5 3 rfl rfl)
theorem dX4_count_135 : decode cX4_count 135 = .ok (.bipush (-2), 2) := dk_16 254 (dk_at dksX4_count_5 4 rfl rfl)
theorem dX4_count_137 : decode cX4_count 137 = .ok (.ireturn, 1) := dk_172 (dk_at dksX4_count_5 6 rfl rfl)
abbrev cX4_ways : ByteArray := prog_9_method_79_code
def yX4_ways : MethodName := ⟨RX4, "ways", "()I"⟩
def dkwX4_ways_1 : List UInt8 := [96, 60, 132, 2, 1, 167, 255, 231, 27, 172]
abbrev dktX4_ways_1 : List UInt8 := dkwX4_ways_1 ++ []
def dkwX4_ways_0 : List UInt8 := [3, 60, 3, 61, 28, 16, 10, 162, 0, 25, 27, 42, 28, 182, 0, 131, 153, 0, 7, 4, 167, 0, 4, 3]
abbrev dktX4_ways_0 : List UInt8 := dkwX4_ways_0 ++ dktX4_ways_1
theorem dksX4_ways_0 : cX4_ways.data.toList.drop 0 = dktX4_ways_0 := by decide +kernel
theorem dksX4_ways_1 : cX4_ways.data.toList.drop 24 = dktX4_ways_1 := dk_seg dksX4_ways_0 24 rfl rfl
theorem dX4_ways_0 : decode cX4_ways 0 = .ok (.iconst 0, 1) := dk_3 (dk_at dksX4_ways_0 0 rfl rfl)
theorem dX4_ways_1 : decode cX4_ways 1 = .ok (.istore_n 1, 1) := dk_60 (dk_at dksX4_ways_0 1 rfl rfl)
theorem dX4_ways_2 : decode cX4_ways 2 = .ok (.iconst 0, 1) := dk_3 (dk_at dksX4_ways_0 2 rfl rfl)
theorem dX4_ways_3 : decode cX4_ways 3 = .ok (.istore_n 2, 1) := dk_61 (dk_at dksX4_ways_0 3 rfl rfl)
theorem dX4_ways_4 : decode cX4_ways 4 = .ok (.iload_n 2, 1) := dk_28 (dk_at dksX4_ways_0 4 rfl rfl)
theorem dX4_ways_5 : decode cX4_ways 5 = .ok (.bipush 10, 2) := dk_16 10 (dk_at dksX4_ways_0 5 rfl rfl)
theorem dX4_ways_7 : decode cX4_ways 7 = .ok (.if_icmp .ge 25, 3) := dk_162 0 25 (dk_at dksX4_ways_0 7 rfl rfl)
theorem dX4_ways_10 : decode cX4_ways 10 = .ok (.iload_n 1, 1) := dk_27 (dk_at dksX4_ways_0 10 rfl rfl)
theorem dX4_ways_11 : decode cX4_ways 11 = .ok (.aload_n 0, 1) := dk_42 (dk_at dksX4_ways_0 11 rfl rfl)
theorem dX4_ways_12 : decode cX4_ways 12 = .ok (.iload_n 2, 1) := dk_28 (dk_at dksX4_ways_0 12 rfl rfl)
theorem dX4_ways_13 : decode cX4_ways 13 = .ok (.invokevirtual 131, 3) := dk_182 0 131 (dk_at dksX4_ways_0 13 rfl rfl)
theorem dX4_ways_16 : decode cX4_ways 16 = .ok (.ifCond .eq 7, 3) := dk_153 0 7 (dk_at dksX4_ways_0 16 rfl rfl)
theorem dX4_ways_19 : decode cX4_ways 19 = .ok (.iconst 1, 1) := dk_4 (dk_at dksX4_ways_0 19 rfl rfl)
theorem dX4_ways_20 : decode cX4_ways 20 = .ok (.goto 4, 3) := dk_167 0 4 (dk_at dksX4_ways_0 20 rfl rfl)
theorem dX4_ways_23 : decode cX4_ways 23 = .ok (.iconst 0, 1) := dk_3 (dk_at dksX4_ways_0 23 rfl rfl)
theorem dX4_ways_24 : decode cX4_ways 24 = .ok (.iadd, 1) := dk_96 (dk_at dksX4_ways_1 0 rfl rfl)
theorem dX4_ways_25 : decode cX4_ways 25 = .ok (.istore_n 1, 1) := dk_60 (dk_at dksX4_ways_1 1 rfl rfl)
theorem dX4_ways_26 : decode cX4_ways 26 = .ok (.iinc 2 1, 3) := dk_132 2 1 (dk_at dksX4_ways_1 2 rfl rfl)
theorem dX4_ways_29 : decode cX4_ways 29 = .ok (.goto (-25), 3) := dk_167 255 231 (dk_at dksX4_ways_1 5 rfl rfl)
theorem dX4_ways_32 : decode cX4_ways 32 = .ok (.iload_n 1, 1) := dk_27 (dk_at dksX4_ways_1 8 rfl rfl)
theorem dX4_ways_33 : decode cX4_ways 33 = .ok (.ireturn, 1) := dk_172 (dk_at dksX4_ways_1 9 rfl rfl)
abbrev cX4_crossings : ByteArray := prog_9_method_68_code
def yX4_crossings : MethodName := ⟨RX4, "crossings", "()I"⟩
def dkwX4_crossings_1 : List UInt8 := [159, 0, 9, 132, 2, 1, 167, 255, 238, 27, 2, 160, 0, 7, 2, 167, 0, 4, 28, 172]
abbrev dktX4_crossings_1 : List UInt8 := dkwX4_crossings_1 ++ []
def dkwX4_crossings_0 : List UInt8 := [42, 42, 180, 0, 76, 182, 0, 157, 60, 3, 61, 27, 2, 159, 0, 19, 42, 28, 27, 182, 0, 222, 2]
abbrev dktX4_crossings_0 : List UInt8 := dkwX4_crossings_0 ++ dktX4_crossings_1
theorem dksX4_crossings_0 : cX4_crossings.data.toList.drop 0 = dktX4_crossings_0 := by decide +kernel
theorem dksX4_crossings_1 : cX4_crossings.data.toList.drop 23 = dktX4_crossings_1 := dk_seg dksX4_crossings_0 23 rfl rfl
theorem dX4_crossings_0 : decode cX4_crossings 0 = .ok (.aload_n 0, 1) := dk_42 (dk_at dksX4_crossings_0 0 rfl rfl)
theorem dX4_crossings_1 : decode cX4_crossings 1 = .ok (.aload_n 0, 1) := dk_42 (dk_at dksX4_crossings_0 1 rfl rfl)
theorem dX4_crossings_2 : decode cX4_crossings 2 = .ok (.getfield 76, 3) := dk_180 0 76 (dk_at dksX4_crossings_0 2 rfl rfl)
theorem dX4_crossings_5 : decode cX4_crossings 5 = .ok (.invokevirtual 157, 3) := dk_182 0 157 (dk_at dksX4_crossings_0 5 rfl rfl)
theorem dX4_crossings_8 : decode cX4_crossings 8 = .ok (.istore_n 1, 1) := dk_60 (dk_at dksX4_crossings_0 8 rfl rfl)
theorem dX4_crossings_9 : decode cX4_crossings 9 = .ok (.iconst 0, 1) := dk_3 (dk_at dksX4_crossings_0 9 rfl rfl)
theorem dX4_crossings_10 : decode cX4_crossings 10 = .ok (.istore_n 2, 1) := dk_61 (dk_at dksX4_crossings_0 10 rfl rfl)
theorem dX4_crossings_11 : decode cX4_crossings 11 = .ok (.iload_n 1, 1) := dk_27 (dk_at dksX4_crossings_0 11 rfl rfl)
theorem dX4_crossings_12 : decode cX4_crossings 12 = .ok (.iconst (-1), 1) := dk_2 (dk_at dksX4_crossings_0 12 rfl rfl)
theorem dX4_crossings_13 : decode cX4_crossings 13 = .ok (.if_icmp .eq 19, 3) := dk_159 0 19 (dk_at dksX4_crossings_0 13 rfl rfl)
theorem dX4_crossings_16 : decode cX4_crossings 16 = .ok (.aload_n 0, 1) := dk_42 (dk_at dksX4_crossings_0 16 rfl rfl)
theorem dX4_crossings_17 : decode cX4_crossings 17 = .ok (.iload_n 2, 1) := dk_28 (dk_at dksX4_crossings_0 17 rfl rfl)
theorem dX4_crossings_18 : decode cX4_crossings 18 = .ok (.iload_n 1, 1) := dk_27 (dk_at dksX4_crossings_0 18 rfl rfl)
theorem dX4_crossings_19 : decode cX4_crossings 19 = .ok (.invokevirtual 222, 3) := dk_182 0 222 (dk_at dksX4_crossings_0 19 rfl rfl)
theorem dX4_crossings_22 : decode cX4_crossings 22 = .ok (.iconst (-1), 1) := dk_2 (dk_at dksX4_crossings_0 22 rfl rfl)
theorem dX4_crossings_23 : decode cX4_crossings 23 = .ok (.if_icmp .eq 9, 3) := dk_159 0 9 (dk_at dksX4_crossings_1 0 rfl rfl)
theorem dX4_crossings_26 : decode cX4_crossings 26 = .ok (.iinc 2 1, 3) := dk_132 2 1 (dk_at dksX4_crossings_1 3 rfl rfl)
theorem dX4_crossings_29 : decode cX4_crossings 29 = .ok (.goto (-18), 3) := dk_167 255 238 (dk_at dksX4_crossings_1 6 rfl rfl)
theorem dX4_crossings_32 : decode cX4_crossings 32 = .ok (.iload_n 1, 1) := dk_27 (dk_at dksX4_crossings_1 9 rfl rfl)
theorem dX4_crossings_33 : decode cX4_crossings 33 = .ok (.iconst (-1), 1) := dk_2 (dk_at dksX4_crossings_1 10 rfl rfl)
theorem dX4_crossings_34 : decode cX4_crossings 34 = .ok (.if_icmp .ne 7, 3) := dk_160 0 7 (dk_at dksX4_crossings_1 11 rfl rfl)
theorem dX4_crossings_37 : decode cX4_crossings 37 = .ok (.iconst (-1), 1) := dk_2 (dk_at dksX4_crossings_1 14 rfl rfl)
theorem dX4_crossings_38 : decode cX4_crossings 38 = .ok (.goto 4, 3) := dk_167 0 4 (dk_at dksX4_crossings_1 15 rfl rfl)
theorem dX4_crossings_41 : decode cX4_crossings 41 = .ok (.iload_n 2, 1) := dk_28 (dk_at dksX4_crossings_1 18 rfl rfl)
theorem dX4_crossings_42 : decode cX4_crossings 42 = .ok (.ireturn, 1) := dk_172 (dk_at dksX4_crossings_1 19 rfl rfl)
abbrev cX4_digest : ByteArray := prog_9_method_82_code
def yX4_digest : MethodName := ⟨RX4, "digest", "()J"⟩
def dkwX4_digest_11 : List UInt8 := [173]
abbrev dktX4_digest_11 : List UInt8 := dkwX4_digest_11 ++ []
def dkwX4_digest_10 : List UInt8 := [42, 21, 4, 21, 5, 182, 0, 225, 133, 97, 64, 132, 5, 1, 167, 255, 230, 132, 4, 1, 167, 255, 215, 31]
abbrev dktX4_digest_10 : List UInt8 := dkwX4_digest_10 ++ dktX4_digest_11
def dkwX4_digest_9 : List UInt8 := [3, 54, 4, 21, 4, 29, 162, 0, 41, 3, 54, 5, 21, 5, 16, 6, 162, 0, 25, 20, 0, 239, 31, 105]
abbrev dktX4_digest_9 : List UInt8 := dkwX4_digest_9 ++ dktX4_digest_10
def dkwX4_digest_8 : List UInt8 := [42, 3, 182, 1, 6, 97, 64, 20, 0, 239, 31, 105, 42, 4, 182, 1, 6, 97, 64, 42, 182, 0, 236, 62]
abbrev dktX4_digest_8 : List UInt8 := dkwX4_digest_8 ++ dktX4_digest_9
def dkwX4_digest_7 : List UInt8 := [182, 0, 68, 162, 0, 16, 42, 31, 29, 182, 1, 2, 64, 132, 3, 1, 167, 255, 238, 20, 0, 239, 31, 105]
abbrev dktX4_digest_7 : List UInt8 := dkwX4_digest_7 ++ dktX4_digest_8
def dkwX4_digest_6 : List UInt8 := [21, 4, 182, 0, 108, 133, 97, 64, 132, 4, 1, 167, 255, 231, 132, 3, 1, 167, 255, 214, 3, 62, 29, 42]
abbrev dktX4_digest_6 : List UInt8 := dkwX4_digest_6 ++ dktX4_digest_7
def dkwX4_digest_5 : List UInt8 := [180, 0, 60, 162, 0, 40, 3, 54, 4, 21, 4, 16, 7, 162, 0, 24, 20, 0, 239, 31, 105, 42, 29]
abbrev dktX4_digest_5 : List UInt8 := dkwX4_digest_5 ++ dktX4_digest_6
def dkwX4_digest_4 : List UInt8 := [182, 0, 180, 133, 97, 64, 20, 0, 239, 31, 105, 42, 182, 0, 183, 133, 97, 64, 3, 62, 29, 42]
abbrev dktX4_digest_4 : List UInt8 := dkwX4_digest_4 ++ dktX4_digest_5
def dkwX4_digest_3 : List UInt8 := [182, 0, 255, 133, 97, 64, 20, 0, 239, 31, 105, 42, 182, 0, 168, 133, 97, 64, 20, 0, 239, 31, 105, 42]
abbrev dktX4_digest_3 : List UInt8 := dkwX4_digest_3 ++ dktX4_digest_4
def dkwX4_digest_2 : List UInt8 := [20, 0, 239, 31, 105, 42, 42, 180, 0, 76, 4, 182, 0, 164, 97, 64, 20, 0, 239, 31, 105, 42]
abbrev dktX4_digest_2 : List UInt8 := dkwX4_digest_2 ++ dktX4_digest_3
def dkwX4_digest_1 : List UInt8 := [64, 132, 3, 1, 167, 255, 234, 20, 0, 239, 31, 105, 42, 42, 180, 0, 76, 3, 182, 0, 164, 97, 64]
abbrev dktX4_digest_1 : List UInt8 := dkwX4_digest_1 ++ dktX4_digest_2
def dkwX4_digest_0 : List UInt8 := [20, 0, 250, 64, 3, 62, 29, 16, 8, 162, 0, 22, 20, 0, 239, 31, 105, 42, 29, 182, 0, 252, 133, 97]
abbrev dktX4_digest_0 : List UInt8 := dkwX4_digest_0 ++ dktX4_digest_1
theorem dksX4_digest_0 : cX4_digest.data.toList.drop 0 = dktX4_digest_0 := by decide +kernel
theorem dksX4_digest_1 : cX4_digest.data.toList.drop 24 = dktX4_digest_1 := dk_seg dksX4_digest_0 24 rfl rfl
theorem dksX4_digest_2 : cX4_digest.data.toList.drop 47 = dktX4_digest_2 := dk_seg dksX4_digest_1 23 rfl rfl
theorem dksX4_digest_3 : cX4_digest.data.toList.drop 69 = dktX4_digest_3 := dk_seg dksX4_digest_2 22 rfl rfl
theorem dksX4_digest_4 : cX4_digest.data.toList.drop 93 = dktX4_digest_4 := dk_seg dksX4_digest_3 24 rfl rfl
theorem dksX4_digest_5 : cX4_digest.data.toList.drop 115 = dktX4_digest_5 := dk_seg dksX4_digest_4 22 rfl rfl
theorem dksX4_digest_6 : cX4_digest.data.toList.drop 138 = dktX4_digest_6 := dk_seg dksX4_digest_5 23 rfl rfl
theorem dksX4_digest_7 : cX4_digest.data.toList.drop 162 = dktX4_digest_7 := dk_seg dksX4_digest_6 24 rfl rfl
theorem dksX4_digest_8 : cX4_digest.data.toList.drop 186 = dktX4_digest_8 := dk_seg dksX4_digest_7 24 rfl rfl
theorem dksX4_digest_9 : cX4_digest.data.toList.drop 210 = dktX4_digest_9 := dk_seg dksX4_digest_8 24 rfl rfl
theorem dksX4_digest_10 : cX4_digest.data.toList.drop 234 = dktX4_digest_10 := dk_seg dksX4_digest_9 24 rfl rfl
theorem dksX4_digest_11 : cX4_digest.data.toList.drop 258 = dktX4_digest_11 := dk_seg dksX4_digest_10 24 rfl rfl
theorem dX4_digest_0 : decode cX4_digest 0 = .ok (.ldc2_w 250, 3) := dk_20 0 250 (dk_at dksX4_digest_0 0 rfl rfl)
theorem dX4_digest_3 : decode cX4_digest 3 = .ok (.lstore_n 1, 1) := dk_64 (dk_at dksX4_digest_0 3 rfl rfl)
theorem dX4_digest_4 : decode cX4_digest 4 = .ok (.iconst 0, 1) := dk_3 (dk_at dksX4_digest_0 4 rfl rfl)
theorem dX4_digest_5 : decode cX4_digest 5 = .ok (.istore_n 3, 1) := dk_62 (dk_at dksX4_digest_0 5 rfl rfl)
theorem dX4_digest_6 : decode cX4_digest 6 = .ok (.iload_n 3, 1) := dk_29 (dk_at dksX4_digest_0 6 rfl rfl)
theorem dX4_digest_7 : decode cX4_digest 7 = .ok (.bipush 8, 2) := dk_16 8 (dk_at dksX4_digest_0 7 rfl rfl)
theorem dX4_digest_9 : decode cX4_digest 9 = .ok (.if_icmp .ge 22, 3) := dk_162 0 22 (dk_at dksX4_digest_0 9 rfl rfl)
theorem dX4_digest_12 : decode cX4_digest 12 = .ok (.ldc2_w 239, 3) := dk_20 0 239 (dk_at dksX4_digest_0 12 rfl rfl)
theorem dX4_digest_15 : decode cX4_digest 15 = .ok (.lload_n 1, 1) := dk_31 (dk_at dksX4_digest_0 15 rfl rfl)
theorem dX4_digest_16 : decode cX4_digest 16 = .ok (.lmul, 1) := dk_105 (dk_at dksX4_digest_0 16 rfl rfl)
theorem dX4_digest_17 : decode cX4_digest 17 = .ok (.aload_n 0, 1) := dk_42 (dk_at dksX4_digest_0 17 rfl rfl)
theorem dX4_digest_18 : decode cX4_digest 18 = .ok (.iload_n 3, 1) := dk_29 (dk_at dksX4_digest_0 18 rfl rfl)
theorem dX4_digest_19 : decode cX4_digest 19 = .ok (.invokevirtual 252, 3) := dk_182 0 252 (dk_at dksX4_digest_0 19 rfl rfl)
theorem dX4_digest_22 : decode cX4_digest 22 = .ok (.i2l, 1) := dk_133 (dk_at dksX4_digest_0 22 rfl rfl)
theorem dX4_digest_23 : decode cX4_digest 23 = .ok (.ladd, 1) := dk_97 (dk_at dksX4_digest_0 23 rfl rfl)
theorem dX4_digest_24 : decode cX4_digest 24 = .ok (.lstore_n 1, 1) := dk_64 (dk_at dksX4_digest_1 0 rfl rfl)
theorem dX4_digest_25 : decode cX4_digest 25 = .ok (.iinc 3 1, 3) := dk_132 3 1 (dk_at dksX4_digest_1 1 rfl rfl)
theorem dX4_digest_28 : decode cX4_digest 28 = .ok (.goto (-22), 3) := dk_167 255 234 (dk_at dksX4_digest_1 4 rfl rfl)
theorem dX4_digest_31 : decode cX4_digest 31 = .ok (.ldc2_w 239, 3) := dk_20 0 239 (dk_at dksX4_digest_1 7 rfl rfl)
theorem dX4_digest_34 : decode cX4_digest 34 = .ok (.lload_n 1, 1) := dk_31 (dk_at dksX4_digest_1 10 rfl rfl)
theorem dX4_digest_35 : decode cX4_digest 35 = .ok (.lmul, 1) := dk_105 (dk_at dksX4_digest_1 11 rfl rfl)
theorem dX4_digest_36 : decode cX4_digest 36 = .ok (.aload_n 0, 1) := dk_42 (dk_at dksX4_digest_1 12 rfl rfl)
theorem dX4_digest_37 : decode cX4_digest 37 = .ok (.aload_n 0, 1) := dk_42 (dk_at dksX4_digest_1 13 rfl rfl)
theorem dX4_digest_38 : decode cX4_digest 38 = .ok (.getfield 76, 3) := dk_180 0 76 (dk_at dksX4_digest_1 14 rfl rfl)
theorem dX4_digest_41 : decode cX4_digest 41 = .ok (.iconst 0, 1) := dk_3 (dk_at dksX4_digest_1 17 rfl rfl)
theorem dX4_digest_42 : decode cX4_digest 42 = .ok (.invokevirtual 164, 3) := dk_182 0 164 (dk_at dksX4_digest_1 18 rfl rfl)
theorem dX4_digest_45 : decode cX4_digest 45 = .ok (.ladd, 1) := dk_97 (dk_at dksX4_digest_1 21 rfl rfl)
theorem dX4_digest_46 : decode cX4_digest 46 = .ok (.lstore_n 1, 1) := dk_64 (dk_at dksX4_digest_1 22 rfl rfl)
theorem dX4_digest_47 : decode cX4_digest 47 = .ok (.ldc2_w 239, 3) := dk_20 0 239 (dk_at dksX4_digest_2 0 rfl rfl)
theorem dX4_digest_50 : decode cX4_digest 50 = .ok (.lload_n 1, 1) := dk_31 (dk_at dksX4_digest_2 3 rfl rfl)
theorem dX4_digest_51 : decode cX4_digest 51 = .ok (.lmul, 1) := dk_105 (dk_at dksX4_digest_2 4 rfl rfl)
theorem dX4_digest_52 : decode cX4_digest 52 = .ok (.aload_n 0, 1) := dk_42 (dk_at dksX4_digest_2 5 rfl rfl)
theorem dX4_digest_53 : decode cX4_digest 53 = .ok (.aload_n 0, 1) := dk_42 (dk_at dksX4_digest_2 6 rfl rfl)
theorem dX4_digest_54 : decode cX4_digest 54 = .ok (.getfield 76, 3) := dk_180 0 76 (dk_at dksX4_digest_2 7 rfl rfl)
theorem dX4_digest_57 : decode cX4_digest 57 = .ok (.iconst 1, 1) := dk_4 (dk_at dksX4_digest_2 10 rfl rfl)
theorem dX4_digest_58 : decode cX4_digest 58 = .ok (.invokevirtual 164, 3) := dk_182 0 164 (dk_at dksX4_digest_2 11 rfl rfl)
theorem dX4_digest_61 : decode cX4_digest 61 = .ok (.ladd, 1) := dk_97 (dk_at dksX4_digest_2 14 rfl rfl)
theorem dX4_digest_62 : decode cX4_digest 62 = .ok (.lstore_n 1, 1) := dk_64 (dk_at dksX4_digest_2 15 rfl rfl)
theorem dX4_digest_63 : decode cX4_digest 63 = .ok (.ldc2_w 239, 3) := dk_20 0 239 (dk_at dksX4_digest_2 16 rfl rfl)
theorem dX4_digest_66 : decode cX4_digest 66 = .ok (.lload_n 1, 1) := dk_31 (dk_at dksX4_digest_2 19 rfl rfl)
theorem dX4_digest_67 : decode cX4_digest 67 = .ok (.lmul, 1) := dk_105 (dk_at dksX4_digest_2 20 rfl rfl)
theorem dX4_digest_68 : decode cX4_digest 68 = .ok (.aload_n 0, 1) := dk_42 (dk_at dksX4_digest_2 21 rfl rfl)
theorem dX4_digest_69 : decode cX4_digest 69 = .ok (.invokevirtual 255, 3) := dk_182 0 255 (dk_at dksX4_digest_3 0 rfl rfl)
theorem dX4_digest_72 : decode cX4_digest 72 = .ok (.i2l, 1) := dk_133 (dk_at dksX4_digest_3 3 rfl rfl)
theorem dX4_digest_73 : decode cX4_digest 73 = .ok (.ladd, 1) := dk_97 (dk_at dksX4_digest_3 4 rfl rfl)
theorem dX4_digest_74 : decode cX4_digest 74 = .ok (.lstore_n 1, 1) := dk_64 (dk_at dksX4_digest_3 5 rfl rfl)
theorem dX4_digest_75 : decode cX4_digest 75 = .ok (.ldc2_w 239, 3) := dk_20 0 239 (dk_at dksX4_digest_3 6 rfl rfl)
theorem dX4_digest_78 : decode cX4_digest 78 = .ok (.lload_n 1, 1) := dk_31 (dk_at dksX4_digest_3 9 rfl rfl)
theorem dX4_digest_79 : decode cX4_digest 79 = .ok (.lmul, 1) := dk_105 (dk_at dksX4_digest_3 10 rfl rfl)
theorem dX4_digest_80 : decode cX4_digest 80 = .ok (.aload_n 0, 1) := dk_42 (dk_at dksX4_digest_3 11 rfl rfl)
theorem dX4_digest_81 : decode cX4_digest 81 = .ok (.invokevirtual 168, 3) := dk_182 0 168 (dk_at dksX4_digest_3 12 rfl rfl)
theorem dX4_digest_84 : decode cX4_digest 84 = .ok (.i2l, 1) := dk_133 (dk_at dksX4_digest_3 15 rfl rfl)
theorem dX4_digest_85 : decode cX4_digest 85 = .ok (.ladd, 1) := dk_97 (dk_at dksX4_digest_3 16 rfl rfl)
theorem dX4_digest_86 : decode cX4_digest 86 = .ok (.lstore_n 1, 1) := dk_64 (dk_at dksX4_digest_3 17 rfl rfl)
theorem dX4_digest_87 : decode cX4_digest 87 = .ok (.ldc2_w 239, 3) := dk_20 0 239 (dk_at dksX4_digest_3 18 rfl rfl)
theorem dX4_digest_90 : decode cX4_digest 90 = .ok (.lload_n 1, 1) := dk_31 (dk_at dksX4_digest_3 21 rfl rfl)
theorem dX4_digest_91 : decode cX4_digest 91 = .ok (.lmul, 1) := dk_105 (dk_at dksX4_digest_3 22 rfl rfl)
theorem dX4_digest_92 : decode cX4_digest 92 = .ok (.aload_n 0, 1) := dk_42 (dk_at dksX4_digest_3 23 rfl rfl)
theorem dX4_digest_93 : decode cX4_digest 93 = .ok (.invokevirtual 180, 3) := dk_182 0 180 (dk_at dksX4_digest_4 0 rfl rfl)
theorem dX4_digest_96 : decode cX4_digest 96 = .ok (.i2l, 1) := dk_133 (dk_at dksX4_digest_4 3 rfl rfl)
theorem dX4_digest_97 : decode cX4_digest 97 = .ok (.ladd, 1) := dk_97 (dk_at dksX4_digest_4 4 rfl rfl)
theorem dX4_digest_98 : decode cX4_digest 98 = .ok (.lstore_n 1, 1) := dk_64 (dk_at dksX4_digest_4 5 rfl rfl)
theorem dX4_digest_99 : decode cX4_digest 99 = .ok (.ldc2_w 239, 3) := dk_20 0 239 (dk_at dksX4_digest_4 6 rfl rfl)
theorem dX4_digest_102 : decode cX4_digest 102 = .ok (.lload_n 1, 1) := dk_31 (dk_at dksX4_digest_4 9 rfl rfl)
theorem dX4_digest_103 : decode cX4_digest 103 = .ok (.lmul, 1) := dk_105 (dk_at dksX4_digest_4 10 rfl rfl)
theorem dX4_digest_104 : decode cX4_digest 104 = .ok (.aload_n 0, 1) := dk_42 (dk_at dksX4_digest_4 11 rfl rfl)
theorem dX4_digest_105 : decode cX4_digest 105 = .ok (.invokevirtual 183, 3) := dk_182 0 183 (dk_at dksX4_digest_4 12 rfl rfl)
theorem dX4_digest_108 : decode cX4_digest 108 = .ok (.i2l, 1) := dk_133 (dk_at dksX4_digest_4 15 rfl rfl)
theorem dX4_digest_109 : decode cX4_digest 109 = .ok (.ladd, 1) := dk_97 (dk_at dksX4_digest_4 16 rfl rfl)
theorem dX4_digest_110 : decode cX4_digest 110 = .ok (.lstore_n 1, 1) := dk_64 (dk_at dksX4_digest_4 17 rfl rfl)
theorem dX4_digest_111 : decode cX4_digest 111 = .ok (.iconst 0, 1) := dk_3 (dk_at dksX4_digest_4 18 rfl rfl)
theorem dX4_digest_112 : decode cX4_digest 112 = .ok (.istore_n 3, 1) := dk_62 (dk_at dksX4_digest_4 19 rfl rfl)
theorem dX4_digest_113 : decode cX4_digest 113 = .ok (.iload_n 3, 1) := dk_29 (dk_at dksX4_digest_4 20 rfl rfl)
theorem dX4_digest_114 : decode cX4_digest 114 = .ok (.aload_n 0, 1) := dk_42 (dk_at dksX4_digest_4 21 rfl rfl)
theorem dX4_digest_115 : decode cX4_digest 115 = .ok (.getfield 60, 3) := dk_180 0 60 (dk_at dksX4_digest_5 0 rfl rfl)
theorem dX4_digest_118 : decode cX4_digest 118 = .ok (.if_icmp .ge 40, 3) := dk_162 0 40 (dk_at dksX4_digest_5 3 rfl rfl)
theorem dX4_digest_121 : decode cX4_digest 121 = .ok (.iconst 0, 1) := dk_3 (dk_at dksX4_digest_5 6 rfl rfl)
theorem dX4_digest_122 : decode cX4_digest 122 = .ok (.istore 4, 2) := dk_54 4 (dk_at dksX4_digest_5 7 rfl rfl)
theorem dX4_digest_124 : decode cX4_digest 124 = .ok (.iload 4, 2) := dk_21 4 (dk_at dksX4_digest_5 9 rfl rfl)
theorem dX4_digest_126 : decode cX4_digest 126 = .ok (.bipush 7, 2) := dk_16 7 (dk_at dksX4_digest_5 11 rfl rfl)
theorem dX4_digest_128 : decode cX4_digest 128 = .ok (.if_icmp .ge 24, 3) := dk_162 0 24 (dk_at dksX4_digest_5 13 rfl rfl)
theorem dX4_digest_131 : decode cX4_digest 131 = .ok (.ldc2_w 239, 3) := dk_20 0 239 (dk_at dksX4_digest_5 16 rfl rfl)
theorem dX4_digest_134 : decode cX4_digest 134 = .ok (.lload_n 1, 1) := dk_31 (dk_at dksX4_digest_5 19 rfl rfl)
theorem dX4_digest_135 : decode cX4_digest 135 = .ok (.lmul, 1) := dk_105 (dk_at dksX4_digest_5 20 rfl rfl)
theorem dX4_digest_136 : decode cX4_digest 136 = .ok (.aload_n 0, 1) := dk_42 (dk_at dksX4_digest_5 21 rfl rfl)
theorem dX4_digest_137 : decode cX4_digest 137 = .ok (.iload_n 3, 1) := dk_29 (dk_at dksX4_digest_5 22 rfl rfl)
theorem dX4_digest_138 : decode cX4_digest 138 = .ok (.iload 4, 2) := dk_21 4 (dk_at dksX4_digest_6 0 rfl rfl)
theorem dX4_digest_140 : decode cX4_digest 140 = .ok (.invokevirtual 108, 3) := dk_182 0 108 (dk_at dksX4_digest_6 2 rfl rfl)
theorem dX4_digest_143 : decode cX4_digest 143 = .ok (.i2l, 1) := dk_133 (dk_at dksX4_digest_6 5 rfl rfl)
theorem dX4_digest_144 : decode cX4_digest 144 = .ok (.ladd, 1) := dk_97 (dk_at dksX4_digest_6 6 rfl rfl)
theorem dX4_digest_145 : decode cX4_digest 145 = .ok (.lstore_n 1, 1) := dk_64 (dk_at dksX4_digest_6 7 rfl rfl)
theorem dX4_digest_146 : decode cX4_digest 146 = .ok (.iinc 4 1, 3) := dk_132 4 1 (dk_at dksX4_digest_6 8 rfl rfl)
theorem dX4_digest_149 : decode cX4_digest 149 = .ok (.goto (-25), 3) := dk_167 255 231 (dk_at dksX4_digest_6 11 rfl rfl)
theorem dX4_digest_152 : decode cX4_digest 152 = .ok (.iinc 3 1, 3) := dk_132 3 1 (dk_at dksX4_digest_6 14 rfl rfl)
theorem dX4_digest_155 : decode cX4_digest 155 = .ok (.goto (-42), 3) := dk_167 255 214 (dk_at dksX4_digest_6 17 rfl rfl)
theorem dX4_digest_158 : decode cX4_digest 158 = .ok (.iconst 0, 1) := dk_3 (dk_at dksX4_digest_6 20 rfl rfl)
theorem dX4_digest_159 : decode cX4_digest 159 = .ok (.istore_n 3, 1) := dk_62 (dk_at dksX4_digest_6 21 rfl rfl)
theorem dX4_digest_160 : decode cX4_digest 160 = .ok (.iload_n 3, 1) := dk_29 (dk_at dksX4_digest_6 22 rfl rfl)
theorem dX4_digest_161 : decode cX4_digest 161 = .ok (.aload_n 0, 1) := dk_42 (dk_at dksX4_digest_6 23 rfl rfl)
theorem dX4_digest_162 : decode cX4_digest 162 = .ok (.invokevirtual 68, 3) := dk_182 0 68 (dk_at dksX4_digest_7 0 rfl rfl)
theorem dX4_digest_165 : decode cX4_digest 165 = .ok (.if_icmp .ge 16, 3) := dk_162 0 16 (dk_at dksX4_digest_7 3 rfl rfl)
theorem dX4_digest_168 : decode cX4_digest 168 = .ok (.aload_n 0, 1) := dk_42 (dk_at dksX4_digest_7 6 rfl rfl)
theorem dX4_digest_169 : decode cX4_digest 169 = .ok (.lload_n 1, 1) := dk_31 (dk_at dksX4_digest_7 7 rfl rfl)
theorem dX4_digest_170 : decode cX4_digest 170 = .ok (.iload_n 3, 1) := dk_29 (dk_at dksX4_digest_7 8 rfl rfl)
theorem dX4_digest_171 : decode cX4_digest 171 = .ok (.invokevirtual 258, 3) := dk_182 1 2 (dk_at dksX4_digest_7 9 rfl rfl)
theorem dX4_digest_174 : decode cX4_digest 174 = .ok (.lstore_n 1, 1) := dk_64 (dk_at dksX4_digest_7 12 rfl rfl)
theorem dX4_digest_175 : decode cX4_digest 175 = .ok (.iinc 3 1, 3) := dk_132 3 1 (dk_at dksX4_digest_7 13 rfl rfl)
theorem dX4_digest_178 : decode cX4_digest 178 = .ok (.goto (-18), 3) := dk_167 255 238 (dk_at dksX4_digest_7 16 rfl rfl)
theorem dX4_digest_181 : decode cX4_digest 181 = .ok (.ldc2_w 239, 3) := dk_20 0 239 (dk_at dksX4_digest_7 19 rfl rfl)
theorem dX4_digest_184 : decode cX4_digest 184 = .ok (.lload_n 1, 1) := dk_31 (dk_at dksX4_digest_7 22 rfl rfl)
theorem dX4_digest_185 : decode cX4_digest 185 = .ok (.lmul, 1) := dk_105 (dk_at dksX4_digest_7 23 rfl rfl)
theorem dX4_digest_186 : decode cX4_digest 186 = .ok (.aload_n 0, 1) := dk_42 (dk_at dksX4_digest_8 0 rfl rfl)
theorem dX4_digest_187 : decode cX4_digest 187 = .ok (.iconst 0, 1) := dk_3 (dk_at dksX4_digest_8 1 rfl rfl)
theorem dX4_digest_188 : decode cX4_digest 188 = .ok (.invokevirtual 262, 3) := dk_182 1 6 (dk_at dksX4_digest_8 2 rfl rfl)
theorem dX4_digest_191 : decode cX4_digest 191 = .ok (.ladd, 1) := dk_97 (dk_at dksX4_digest_8 5 rfl rfl)
theorem dX4_digest_192 : decode cX4_digest 192 = .ok (.lstore_n 1, 1) := dk_64 (dk_at dksX4_digest_8 6 rfl rfl)
theorem dX4_digest_193 : decode cX4_digest 193 = .ok (.ldc2_w 239, 3) := dk_20 0 239 (dk_at dksX4_digest_8 7 rfl rfl)
theorem dX4_digest_196 : decode cX4_digest 196 = .ok (.lload_n 1, 1) := dk_31 (dk_at dksX4_digest_8 10 rfl rfl)
theorem dX4_digest_197 : decode cX4_digest 197 = .ok (.lmul, 1) := dk_105 (dk_at dksX4_digest_8 11 rfl rfl)
theorem dX4_digest_198 : decode cX4_digest 198 = .ok (.aload_n 0, 1) := dk_42 (dk_at dksX4_digest_8 12 rfl rfl)
theorem dX4_digest_199 : decode cX4_digest 199 = .ok (.iconst 1, 1) := dk_4 (dk_at dksX4_digest_8 13 rfl rfl)
theorem dX4_digest_200 : decode cX4_digest 200 = .ok (.invokevirtual 262, 3) := dk_182 1 6 (dk_at dksX4_digest_8 14 rfl rfl)
theorem dX4_digest_203 : decode cX4_digest 203 = .ok (.ladd, 1) := dk_97 (dk_at dksX4_digest_8 17 rfl rfl)
theorem dX4_digest_204 : decode cX4_digest 204 = .ok (.lstore_n 1, 1) := dk_64 (dk_at dksX4_digest_8 18 rfl rfl)
theorem dX4_digest_205 : decode cX4_digest 205 = .ok (.aload_n 0, 1) := dk_42 (dk_at dksX4_digest_8 19 rfl rfl)
theorem dX4_digest_206 : decode cX4_digest 206 = .ok (.invokevirtual 236, 3) := dk_182 0 236 (dk_at dksX4_digest_8 20 rfl rfl)
theorem dX4_digest_209 : decode cX4_digest 209 = .ok (.istore_n 3, 1) := dk_62 (dk_at dksX4_digest_8 23 rfl rfl)
theorem dX4_digest_210 : decode cX4_digest 210 = .ok (.iconst 0, 1) := dk_3 (dk_at dksX4_digest_9 0 rfl rfl)
theorem dX4_digest_211 : decode cX4_digest 211 = .ok (.istore 4, 2) := dk_54 4 (dk_at dksX4_digest_9 1 rfl rfl)
theorem dX4_digest_213 : decode cX4_digest 213 = .ok (.iload 4, 2) := dk_21 4 (dk_at dksX4_digest_9 3 rfl rfl)
theorem dX4_digest_215 : decode cX4_digest 215 = .ok (.iload_n 3, 1) := dk_29 (dk_at dksX4_digest_9 5 rfl rfl)
theorem dX4_digest_216 : decode cX4_digest 216 = .ok (.if_icmp .ge 41, 3) := dk_162 0 41 (dk_at dksX4_digest_9 6 rfl rfl)
theorem dX4_digest_219 : decode cX4_digest 219 = .ok (.iconst 0, 1) := dk_3 (dk_at dksX4_digest_9 9 rfl rfl)
theorem dX4_digest_220 : decode cX4_digest 220 = .ok (.istore 5, 2) := dk_54 5 (dk_at dksX4_digest_9 10 rfl rfl)
theorem dX4_digest_222 : decode cX4_digest 222 = .ok (.iload 5, 2) := dk_21 5 (dk_at dksX4_digest_9 12 rfl rfl)
theorem dX4_digest_224 : decode cX4_digest 224 = .ok (.bipush 6, 2) := dk_16 6 (dk_at dksX4_digest_9 14 rfl rfl)
theorem dX4_digest_226 : decode cX4_digest 226 = .ok (.if_icmp .ge 25, 3) := dk_162 0 25 (dk_at dksX4_digest_9 16 rfl rfl)
theorem dX4_digest_229 : decode cX4_digest 229 = .ok (.ldc2_w 239, 3) := dk_20 0 239 (dk_at dksX4_digest_9 19 rfl rfl)
theorem dX4_digest_232 : decode cX4_digest 232 = .ok (.lload_n 1, 1) := dk_31 (dk_at dksX4_digest_9 22 rfl rfl)
theorem dX4_digest_233 : decode cX4_digest 233 = .ok (.lmul, 1) := dk_105 (dk_at dksX4_digest_9 23 rfl rfl)
theorem dX4_digest_234 : decode cX4_digest 234 = .ok (.aload_n 0, 1) := dk_42 (dk_at dksX4_digest_10 0 rfl rfl)
theorem dX4_digest_235 : decode cX4_digest 235 = .ok (.iload 4, 2) := dk_21 4 (dk_at dksX4_digest_10 1 rfl rfl)
theorem dX4_digest_237 : decode cX4_digest 237 = .ok (.iload 5, 2) := dk_21 5 (dk_at dksX4_digest_10 3 rfl rfl)
theorem dX4_digest_239 : decode cX4_digest 239 = .ok (.invokevirtual 225, 3) := dk_182 0 225 (dk_at dksX4_digest_10 5 rfl rfl)
theorem dX4_digest_242 : decode cX4_digest 242 = .ok (.i2l, 1) := dk_133 (dk_at dksX4_digest_10 8 rfl rfl)
theorem dX4_digest_243 : decode cX4_digest 243 = .ok (.ladd, 1) := dk_97 (dk_at dksX4_digest_10 9 rfl rfl)
theorem dX4_digest_244 : decode cX4_digest 244 = .ok (.lstore_n 1, 1) := dk_64 (dk_at dksX4_digest_10 10 rfl rfl)
theorem dX4_digest_245 : decode cX4_digest 245 = .ok (.iinc 5 1, 3) := dk_132 5 1 (dk_at dksX4_digest_10 11 rfl rfl)
theorem dX4_digest_248 : decode cX4_digest 248 = .ok (.goto (-26), 3) := dk_167 255 230 (dk_at dksX4_digest_10 14 rfl rfl)
theorem dX4_digest_251 : decode cX4_digest 251 = .ok (.iinc 4 1, 3) := dk_132 4 1 (dk_at dksX4_digest_10 17 rfl rfl)
theorem dX4_digest_254 : decode cX4_digest 254 = .ok (.goto (-41), 3) := dk_167 255 215 (dk_at dksX4_digest_10 20 rfl rfl)
theorem dX4_digest_257 : decode cX4_digest 257 = .ok (.lload_n 1, 1) := dk_31 (dk_at dksX4_digest_10 23 rfl rfl)
theorem dX4_digest_258 : decode cX4_digest 258 = .ok (.lreturn, 1) := dk_173 (dk_at dksX4_digest_11 0 rfl rfl)
abbrev cX4_pairDigest : ByteArray := prog_9_method_81_code
def yX4_pairDigest : MethodName := ⟨RX4, "pairDigest", "(JI)J"⟩
def dkwX4_pairDigest_7 : List UInt8 := [20, 0, 239, 22, 4, 105, 42, 29, 4, 182, 0, 186, 97, 173]
abbrev dktX4_pairDigest_7 : List UInt8 := dkwX4_pairDigest_7 ++ []
def dkwX4_pairDigest_6 : List UInt8 := [29, 182, 0, 247, 133, 97, 173, 20, 0, 239, 22, 4, 105, 42, 29, 3, 182, 0, 186, 97, 55, 4]
abbrev dktX4_pairDigest_6 : List UInt8 := dkwX4_pairDigest_6 ++ dktX4_pairDigest_7
def dkwX4_pairDigest_5 : List UInt8 := [55, 4, 20, 0, 239, 22, 4, 105, 42, 29, 4, 182, 0, 244, 97, 55, 4, 20, 0, 239, 22, 4, 105, 42]
abbrev dktX4_pairDigest_5 : List UInt8 := dkwX4_pairDigest_5 ++ dktX4_pairDigest_6
def dkwX4_pairDigest_4 : List UInt8 := [97, 55, 4, 42, 29, 182, 0, 174, 153, 0, 47, 20, 0, 239, 22, 4, 105, 42, 29, 3, 182, 0, 244, 97]
abbrev dktX4_pairDigest_4 : List UInt8 := dkwX4_pairDigest_4 ++ dktX4_pairDigest_5
def dkwX4_pairDigest_3 : List UInt8 := [22, 4, 105, 42, 29, 3, 182, 0, 241, 97, 55, 4, 20, 0, 239, 22, 4, 105, 42, 29, 4, 182, 0, 241]
abbrev dktX4_pairDigest_3 : List UInt8 := dkwX4_pairDigest_3 ++ dktX4_pairDigest_4
def dkwX4_pairDigest_2 : List UInt8 := [182, 0, 171, 97, 55, 4, 20, 0, 239, 22, 4, 105, 42, 29, 4, 182, 0, 171, 97, 55, 4, 20, 0, 239]
abbrev dktX4_pairDigest_2 : List UInt8 := dkwX4_pairDigest_2 ++ dktX4_pairDigest_3
def dkwX4_pairDigest_1 : List UInt8 := [182, 0, 114, 133, 97, 55, 4, 132, 6, 1, 167, 255, 230, 20, 0, 239, 22, 4, 105, 42, 29, 3]
abbrev dktX4_pairDigest_1 : List UInt8 := dkwX4_pairDigest_1 ++ dktX4_pairDigest_2
def dkwX4_pairDigest_0 : List UInt8 := [31, 55, 4, 3, 54, 6, 21, 6, 7, 162, 0, 26, 20, 0, 239, 22, 4, 105, 42, 29, 21, 6]
abbrev dktX4_pairDigest_0 : List UInt8 := dkwX4_pairDigest_0 ++ dktX4_pairDigest_1
theorem dksX4_pairDigest_0 : cX4_pairDigest.data.toList.drop 0 = dktX4_pairDigest_0 := by decide +kernel
theorem dksX4_pairDigest_1 : cX4_pairDigest.data.toList.drop 22 = dktX4_pairDigest_1 := dk_seg dksX4_pairDigest_0 22 rfl rfl
theorem dksX4_pairDigest_2 : cX4_pairDigest.data.toList.drop 44 = dktX4_pairDigest_2 := dk_seg dksX4_pairDigest_1 22 rfl rfl
theorem dksX4_pairDigest_3 : cX4_pairDigest.data.toList.drop 68 = dktX4_pairDigest_3 := dk_seg dksX4_pairDigest_2 24 rfl rfl
theorem dksX4_pairDigest_4 : cX4_pairDigest.data.toList.drop 92 = dktX4_pairDigest_4 := dk_seg dksX4_pairDigest_3 24 rfl rfl
theorem dksX4_pairDigest_5 : cX4_pairDigest.data.toList.drop 116 = dktX4_pairDigest_5 := dk_seg dksX4_pairDigest_4 24 rfl rfl
theorem dksX4_pairDigest_6 : cX4_pairDigest.data.toList.drop 140 = dktX4_pairDigest_6 := dk_seg dksX4_pairDigest_5 24 rfl rfl
theorem dksX4_pairDigest_7 : cX4_pairDigest.data.toList.drop 162 = dktX4_pairDigest_7 := dk_seg dksX4_pairDigest_6 22 rfl rfl
theorem dX4_pairDigest_0 : decode cX4_pairDigest 0 = .ok (.lload_n 1, 1) := dk_31 (dk_at dksX4_pairDigest_0 0 rfl rfl)
theorem dX4_pairDigest_1 : decode cX4_pairDigest 1 = .ok (.lstore 4, 2) := dk_55 4 (dk_at dksX4_pairDigest_0 1 rfl rfl)
theorem dX4_pairDigest_3 : decode cX4_pairDigest 3 = .ok (.iconst 0, 1) := dk_3 (dk_at dksX4_pairDigest_0 3 rfl rfl)
theorem dX4_pairDigest_4 : decode cX4_pairDigest 4 = .ok (.istore 6, 2) := dk_54 6 (dk_at dksX4_pairDigest_0 4 rfl rfl)
theorem dX4_pairDigest_6 : decode cX4_pairDigest 6 = .ok (.iload 6, 2) := dk_21 6 (dk_at dksX4_pairDigest_0 6 rfl rfl)
theorem dX4_pairDigest_8 : decode cX4_pairDigest 8 = .ok (.iconst 4, 1) := dk_7 (dk_at dksX4_pairDigest_0 8 rfl rfl)
theorem dX4_pairDigest_9 : decode cX4_pairDigest 9 = .ok (.if_icmp .ge 26, 3) := dk_162 0 26 (dk_at dksX4_pairDigest_0 9 rfl rfl)
theorem dX4_pairDigest_12 : decode cX4_pairDigest 12 = .ok (.ldc2_w 239, 3) := dk_20 0 239 (dk_at dksX4_pairDigest_0 12 rfl rfl)
theorem dX4_pairDigest_15 : decode cX4_pairDigest 15 = .ok (.lload 4, 2) := dk_22 4 (dk_at dksX4_pairDigest_0 15 rfl rfl)
theorem dX4_pairDigest_17 : decode cX4_pairDigest 17 = .ok (.lmul, 1) := dk_105 (dk_at dksX4_pairDigest_0 17 rfl rfl)
theorem dX4_pairDigest_18 : decode cX4_pairDigest 18 = .ok (.aload_n 0, 1) := dk_42 (dk_at dksX4_pairDigest_0 18 rfl rfl)
theorem dX4_pairDigest_19 : decode cX4_pairDigest 19 = .ok (.iload_n 3, 1) := dk_29 (dk_at dksX4_pairDigest_0 19 rfl rfl)
theorem dX4_pairDigest_20 : decode cX4_pairDigest 20 = .ok (.iload 6, 2) := dk_21 6 (dk_at dksX4_pairDigest_0 20 rfl rfl)
theorem dX4_pairDigest_22 : decode cX4_pairDigest 22 = .ok (.invokevirtual 114, 3) := dk_182 0 114 (dk_at dksX4_pairDigest_1 0 rfl rfl)
theorem dX4_pairDigest_25 : decode cX4_pairDigest 25 = .ok (.i2l, 1) := dk_133 (dk_at dksX4_pairDigest_1 3 rfl rfl)
theorem dX4_pairDigest_26 : decode cX4_pairDigest 26 = .ok (.ladd, 1) := dk_97 (dk_at dksX4_pairDigest_1 4 rfl rfl)
theorem dX4_pairDigest_27 : decode cX4_pairDigest 27 = .ok (.lstore 4, 2) := dk_55 4 (dk_at dksX4_pairDigest_1 5 rfl rfl)
theorem dX4_pairDigest_29 : decode cX4_pairDigest 29 = .ok (.iinc 6 1, 3) := dk_132 6 1 (dk_at dksX4_pairDigest_1 7 rfl rfl)
theorem dX4_pairDigest_32 : decode cX4_pairDigest 32 = .ok (.goto (-26), 3) := dk_167 255 230 (dk_at dksX4_pairDigest_1 10 rfl rfl)
theorem dX4_pairDigest_35 : decode cX4_pairDigest 35 = .ok (.ldc2_w 239, 3) := dk_20 0 239 (dk_at dksX4_pairDigest_1 13 rfl rfl)
theorem dX4_pairDigest_38 : decode cX4_pairDigest 38 = .ok (.lload 4, 2) := dk_22 4 (dk_at dksX4_pairDigest_1 16 rfl rfl)
theorem dX4_pairDigest_40 : decode cX4_pairDigest 40 = .ok (.lmul, 1) := dk_105 (dk_at dksX4_pairDigest_1 18 rfl rfl)
theorem dX4_pairDigest_41 : decode cX4_pairDigest 41 = .ok (.aload_n 0, 1) := dk_42 (dk_at dksX4_pairDigest_1 19 rfl rfl)
theorem dX4_pairDigest_42 : decode cX4_pairDigest 42 = .ok (.iload_n 3, 1) := dk_29 (dk_at dksX4_pairDigest_1 20 rfl rfl)
theorem dX4_pairDigest_43 : decode cX4_pairDigest 43 = .ok (.iconst 0, 1) := dk_3 (dk_at dksX4_pairDigest_1 21 rfl rfl)
theorem dX4_pairDigest_44 : decode cX4_pairDigest 44 = .ok (.invokevirtual 171, 3) := dk_182 0 171 (dk_at dksX4_pairDigest_2 0 rfl rfl)
theorem dX4_pairDigest_47 : decode cX4_pairDigest 47 = .ok (.ladd, 1) := dk_97 (dk_at dksX4_pairDigest_2 3 rfl rfl)
theorem dX4_pairDigest_48 : decode cX4_pairDigest 48 = .ok (.lstore 4, 2) := dk_55 4 (dk_at dksX4_pairDigest_2 4 rfl rfl)
theorem dX4_pairDigest_50 : decode cX4_pairDigest 50 = .ok (.ldc2_w 239, 3) := dk_20 0 239 (dk_at dksX4_pairDigest_2 6 rfl rfl)
theorem dX4_pairDigest_53 : decode cX4_pairDigest 53 = .ok (.lload 4, 2) := dk_22 4 (dk_at dksX4_pairDigest_2 9 rfl rfl)
theorem dX4_pairDigest_55 : decode cX4_pairDigest 55 = .ok (.lmul, 1) := dk_105 (dk_at dksX4_pairDigest_2 11 rfl rfl)
theorem dX4_pairDigest_56 : decode cX4_pairDigest 56 = .ok (.aload_n 0, 1) := dk_42 (dk_at dksX4_pairDigest_2 12 rfl rfl)
theorem dX4_pairDigest_57 : decode cX4_pairDigest 57 = .ok (.iload_n 3, 1) := dk_29 (dk_at dksX4_pairDigest_2 13 rfl rfl)
theorem dX4_pairDigest_58 : decode cX4_pairDigest 58 = .ok (.iconst 1, 1) := dk_4 (dk_at dksX4_pairDigest_2 14 rfl rfl)
theorem dX4_pairDigest_59 : decode cX4_pairDigest 59 = .ok (.invokevirtual 171, 3) := dk_182 0 171 (dk_at dksX4_pairDigest_2 15 rfl rfl)
theorem dX4_pairDigest_62 : decode cX4_pairDigest 62 = .ok (.ladd, 1) := dk_97 (dk_at dksX4_pairDigest_2 18 rfl rfl)
theorem dX4_pairDigest_63 : decode cX4_pairDigest 63 = .ok (.lstore 4, 2) := dk_55 4 (dk_at dksX4_pairDigest_2 19 rfl rfl)
theorem dX4_pairDigest_65 : decode cX4_pairDigest 65 = .ok (.ldc2_w 239, 3) := dk_20 0 239 (dk_at dksX4_pairDigest_2 21 rfl rfl)
theorem dX4_pairDigest_68 : decode cX4_pairDigest 68 = .ok (.lload 4, 2) := dk_22 4 (dk_at dksX4_pairDigest_3 0 rfl rfl)
theorem dX4_pairDigest_70 : decode cX4_pairDigest 70 = .ok (.lmul, 1) := dk_105 (dk_at dksX4_pairDigest_3 2 rfl rfl)
theorem dX4_pairDigest_71 : decode cX4_pairDigest 71 = .ok (.aload_n 0, 1) := dk_42 (dk_at dksX4_pairDigest_3 3 rfl rfl)
theorem dX4_pairDigest_72 : decode cX4_pairDigest 72 = .ok (.iload_n 3, 1) := dk_29 (dk_at dksX4_pairDigest_3 4 rfl rfl)
theorem dX4_pairDigest_73 : decode cX4_pairDigest 73 = .ok (.iconst 0, 1) := dk_3 (dk_at dksX4_pairDigest_3 5 rfl rfl)
theorem dX4_pairDigest_74 : decode cX4_pairDigest 74 = .ok (.invokevirtual 241, 3) := dk_182 0 241 (dk_at dksX4_pairDigest_3 6 rfl rfl)
theorem dX4_pairDigest_77 : decode cX4_pairDigest 77 = .ok (.ladd, 1) := dk_97 (dk_at dksX4_pairDigest_3 9 rfl rfl)
theorem dX4_pairDigest_78 : decode cX4_pairDigest 78 = .ok (.lstore 4, 2) := dk_55 4 (dk_at dksX4_pairDigest_3 10 rfl rfl)
theorem dX4_pairDigest_80 : decode cX4_pairDigest 80 = .ok (.ldc2_w 239, 3) := dk_20 0 239 (dk_at dksX4_pairDigest_3 12 rfl rfl)
theorem dX4_pairDigest_83 : decode cX4_pairDigest 83 = .ok (.lload 4, 2) := dk_22 4 (dk_at dksX4_pairDigest_3 15 rfl rfl)
theorem dX4_pairDigest_85 : decode cX4_pairDigest 85 = .ok (.lmul, 1) := dk_105 (dk_at dksX4_pairDigest_3 17 rfl rfl)
theorem dX4_pairDigest_86 : decode cX4_pairDigest 86 = .ok (.aload_n 0, 1) := dk_42 (dk_at dksX4_pairDigest_3 18 rfl rfl)
theorem dX4_pairDigest_87 : decode cX4_pairDigest 87 = .ok (.iload_n 3, 1) := dk_29 (dk_at dksX4_pairDigest_3 19 rfl rfl)
theorem dX4_pairDigest_88 : decode cX4_pairDigest 88 = .ok (.iconst 1, 1) := dk_4 (dk_at dksX4_pairDigest_3 20 rfl rfl)
theorem dX4_pairDigest_89 : decode cX4_pairDigest 89 = .ok (.invokevirtual 241, 3) := dk_182 0 241 (dk_at dksX4_pairDigest_3 21 rfl rfl)
theorem dX4_pairDigest_92 : decode cX4_pairDigest 92 = .ok (.ladd, 1) := dk_97 (dk_at dksX4_pairDigest_4 0 rfl rfl)
theorem dX4_pairDigest_93 : decode cX4_pairDigest 93 = .ok (.lstore 4, 2) := dk_55 4 (dk_at dksX4_pairDigest_4 1 rfl rfl)
theorem dX4_pairDigest_95 : decode cX4_pairDigest 95 = .ok (.aload_n 0, 1) := dk_42 (dk_at dksX4_pairDigest_4 3 rfl rfl)
theorem dX4_pairDigest_96 : decode cX4_pairDigest 96 = .ok (.iload_n 3, 1) := dk_29 (dk_at dksX4_pairDigest_4 4 rfl rfl)
theorem dX4_pairDigest_97 : decode cX4_pairDigest 97 = .ok (.invokevirtual 174, 3) := dk_182 0 174 (dk_at dksX4_pairDigest_4 5 rfl rfl)
theorem dX4_pairDigest_100 : decode cX4_pairDigest 100 = .ok (.ifCond .eq 47, 3) := dk_153 0 47 (dk_at dksX4_pairDigest_4 8 rfl rfl)
theorem dX4_pairDigest_103 : decode cX4_pairDigest 103 = .ok (.ldc2_w 239, 3) := dk_20 0 239 (dk_at dksX4_pairDigest_4 11 rfl rfl)
theorem dX4_pairDigest_106 : decode cX4_pairDigest 106 = .ok (.lload 4, 2) := dk_22 4 (dk_at dksX4_pairDigest_4 14 rfl rfl)
theorem dX4_pairDigest_108 : decode cX4_pairDigest 108 = .ok (.lmul, 1) := dk_105 (dk_at dksX4_pairDigest_4 16 rfl rfl)
theorem dX4_pairDigest_109 : decode cX4_pairDigest 109 = .ok (.aload_n 0, 1) := dk_42 (dk_at dksX4_pairDigest_4 17 rfl rfl)
theorem dX4_pairDigest_110 : decode cX4_pairDigest 110 = .ok (.iload_n 3, 1) := dk_29 (dk_at dksX4_pairDigest_4 18 rfl rfl)
theorem dX4_pairDigest_111 : decode cX4_pairDigest 111 = .ok (.iconst 0, 1) := dk_3 (dk_at dksX4_pairDigest_4 19 rfl rfl)
theorem dX4_pairDigest_112 : decode cX4_pairDigest 112 = .ok (.invokevirtual 244, 3) := dk_182 0 244 (dk_at dksX4_pairDigest_4 20 rfl rfl)
theorem dX4_pairDigest_115 : decode cX4_pairDigest 115 = .ok (.ladd, 1) := dk_97 (dk_at dksX4_pairDigest_4 23 rfl rfl)
theorem dX4_pairDigest_116 : decode cX4_pairDigest 116 = .ok (.lstore 4, 2) := dk_55 4 (dk_at dksX4_pairDigest_5 0 rfl rfl)
theorem dX4_pairDigest_118 : decode cX4_pairDigest 118 = .ok (.ldc2_w 239, 3) := dk_20 0 239 (dk_at dksX4_pairDigest_5 2 rfl rfl)
theorem dX4_pairDigest_121 : decode cX4_pairDigest 121 = .ok (.lload 4, 2) := dk_22 4 (dk_at dksX4_pairDigest_5 5 rfl rfl)
theorem dX4_pairDigest_123 : decode cX4_pairDigest 123 = .ok (.lmul, 1) := dk_105 (dk_at dksX4_pairDigest_5 7 rfl rfl)
theorem dX4_pairDigest_124 : decode cX4_pairDigest 124 = .ok (.aload_n 0, 1) := dk_42 (dk_at dksX4_pairDigest_5 8 rfl rfl)
theorem dX4_pairDigest_125 : decode cX4_pairDigest 125 = .ok (.iload_n 3, 1) := dk_29 (dk_at dksX4_pairDigest_5 9 rfl rfl)
theorem dX4_pairDigest_126 : decode cX4_pairDigest 126 = .ok (.iconst 1, 1) := dk_4 (dk_at dksX4_pairDigest_5 10 rfl rfl)
theorem dX4_pairDigest_127 : decode cX4_pairDigest 127 = .ok (.invokevirtual 244, 3) := dk_182 0 244 (dk_at dksX4_pairDigest_5 11 rfl rfl)
theorem dX4_pairDigest_130 : decode cX4_pairDigest 130 = .ok (.ladd, 1) := dk_97 (dk_at dksX4_pairDigest_5 14 rfl rfl)
theorem dX4_pairDigest_131 : decode cX4_pairDigest 131 = .ok (.lstore 4, 2) := dk_55 4 (dk_at dksX4_pairDigest_5 15 rfl rfl)
theorem dX4_pairDigest_133 : decode cX4_pairDigest 133 = .ok (.ldc2_w 239, 3) := dk_20 0 239 (dk_at dksX4_pairDigest_5 17 rfl rfl)
theorem dX4_pairDigest_136 : decode cX4_pairDigest 136 = .ok (.lload 4, 2) := dk_22 4 (dk_at dksX4_pairDigest_5 20 rfl rfl)
theorem dX4_pairDigest_138 : decode cX4_pairDigest 138 = .ok (.lmul, 1) := dk_105 (dk_at dksX4_pairDigest_5 22 rfl rfl)
theorem dX4_pairDigest_139 : decode cX4_pairDigest 139 = .ok (.aload_n 0, 1) := dk_42 (dk_at dksX4_pairDigest_5 23 rfl rfl)
theorem dX4_pairDigest_140 : decode cX4_pairDigest 140 = .ok (.iload_n 3, 1) := dk_29 (dk_at dksX4_pairDigest_6 0 rfl rfl)
theorem dX4_pairDigest_141 : decode cX4_pairDigest 141 = .ok (.invokevirtual 247, 3) := dk_182 0 247 (dk_at dksX4_pairDigest_6 1 rfl rfl)
theorem dX4_pairDigest_144 : decode cX4_pairDigest 144 = .ok (.i2l, 1) := dk_133 (dk_at dksX4_pairDigest_6 4 rfl rfl)
theorem dX4_pairDigest_145 : decode cX4_pairDigest 145 = .ok (.ladd, 1) := dk_97 (dk_at dksX4_pairDigest_6 5 rfl rfl)
theorem dX4_pairDigest_146 : decode cX4_pairDigest 146 = .ok (.lreturn, 1) := dk_173 (dk_at dksX4_pairDigest_6 6 rfl rfl)
theorem dX4_pairDigest_147 : decode cX4_pairDigest 147 = .ok (.ldc2_w 239, 3) := dk_20 0 239 (dk_at dksX4_pairDigest_6 7 rfl rfl)
theorem dX4_pairDigest_150 : decode cX4_pairDigest 150 = .ok (.lload 4, 2) := dk_22 4 (dk_at dksX4_pairDigest_6 10 rfl rfl)
theorem dX4_pairDigest_152 : decode cX4_pairDigest 152 = .ok (.lmul, 1) := dk_105 (dk_at dksX4_pairDigest_6 12 rfl rfl)
theorem dX4_pairDigest_153 : decode cX4_pairDigest 153 = .ok (.aload_n 0, 1) := dk_42 (dk_at dksX4_pairDigest_6 13 rfl rfl)
theorem dX4_pairDigest_154 : decode cX4_pairDigest 154 = .ok (.iload_n 3, 1) := dk_29 (dk_at dksX4_pairDigest_6 14 rfl rfl)
theorem dX4_pairDigest_155 : decode cX4_pairDigest 155 = .ok (.iconst 0, 1) := dk_3 (dk_at dksX4_pairDigest_6 15 rfl rfl)
theorem dX4_pairDigest_156 : decode cX4_pairDigest 156 = .ok (.invokevirtual 186, 3) := dk_182 0 186 (dk_at dksX4_pairDigest_6 16 rfl rfl)
theorem dX4_pairDigest_159 : decode cX4_pairDigest 159 = .ok (.ladd, 1) := dk_97 (dk_at dksX4_pairDigest_6 19 rfl rfl)
theorem dX4_pairDigest_160 : decode cX4_pairDigest 160 = .ok (.lstore 4, 2) := dk_55 4 (dk_at dksX4_pairDigest_6 20 rfl rfl)
theorem dX4_pairDigest_162 : decode cX4_pairDigest 162 = .ok (.ldc2_w 239, 3) := dk_20 0 239 (dk_at dksX4_pairDigest_7 0 rfl rfl)
theorem dX4_pairDigest_165 : decode cX4_pairDigest 165 = .ok (.lload 4, 2) := dk_22 4 (dk_at dksX4_pairDigest_7 3 rfl rfl)
theorem dX4_pairDigest_167 : decode cX4_pairDigest 167 = .ok (.lmul, 1) := dk_105 (dk_at dksX4_pairDigest_7 5 rfl rfl)
theorem dX4_pairDigest_168 : decode cX4_pairDigest 168 = .ok (.aload_n 0, 1) := dk_42 (dk_at dksX4_pairDigest_7 6 rfl rfl)
theorem dX4_pairDigest_169 : decode cX4_pairDigest 169 = .ok (.iload_n 3, 1) := dk_29 (dk_at dksX4_pairDigest_7 7 rfl rfl)
theorem dX4_pairDigest_170 : decode cX4_pairDigest 170 = .ok (.iconst 1, 1) := dk_4 (dk_at dksX4_pairDigest_7 8 rfl rfl)
theorem dX4_pairDigest_171 : decode cX4_pairDigest 171 = .ok (.invokevirtual 186, 3) := dk_182 0 186 (dk_at dksX4_pairDigest_7 9 rfl rfl)
theorem dX4_pairDigest_174 : decode cX4_pairDigest 174 = .ok (.ladd, 1) := dk_97 (dk_at dksX4_pairDigest_7 12 rfl rfl)
theorem dX4_pairDigest_175 : decode cX4_pairDigest 175 = .ok (.lreturn, 1) := dk_173 (dk_at dksX4_pairDigest_7 13 rfl rfl)
theorem q89 : (Jvm.Cond.initialized "LeastFramesModel") ∈ lw_all := lw_g (lw_at lw_m1 5 rfl) rfl
theorem q930 : (Jvm.Cond.instantiable "LeastFramesModel" (22 : Nat)) ∈ lw_all := lw_g (lw_at lw_m4 126 rfl) rfl
theorem q932 : (Jvm.Cond.instanceMethod ({ cls := "LeastFramesModel", name := "<init>", desc := "()V" } : Jvm.MethodName)) ∈ lw_all := lw_g (lw_at lw_m4 128 rfl) rfl
theorem q933 : (Jvm.Cond.code ({ cls := "LeastFramesModel", name := "<init>", desc := "()V" } : Jvm.MethodName) prog_9_method_1_code (2 : Nat) (Option.none : Option Jvm.ClassFile.FieldType)) ∈ lw_all := lw_g (lw_at lw_m4 129 rfl) rfl
theorem q934 : (Jvm.Cond.methodLink "LeastFramesModel" (1 : Nat) ({ cls := "java/lang/Object", name := "<init>", desc := "()V" } : Jvm.MethodName)) ∈ lw_all := lw_g (lw_at lw_m4 130 rfl) rfl
theorem q935 : (Jvm.Cond.fieldLink "LeastFramesModel" (7 : Nat) "LeastFramesModel" "xs" "[I") ∈ lw_all := lw_g (lw_at lw_m4 131 rfl) rfl
theorem q936 : (Jvm.Cond.fieldLink "LeastFramesModel" (13 : Nat) "LeastFramesModel" "ys" "[I") ∈ lw_all := lw_g (lw_at lw_m4 132 rfl) rfl
theorem q937 : (Jvm.Cond.fieldLink "LeastFramesModel" (16 : Nat) "LeastFramesModel" "helds" "[I") ∈ lw_all := lw_g (lw_at lw_m4 133 rfl) rfl
theorem q938 : (Jvm.Cond.fieldLink "LeastFramesModel" (19 : Nat) "LeastFramesModel" "loads" "[I") ∈ lw_all := lw_g (lw_at lw_m4 134 rfl) rfl
theorem q939 : (Jvm.Cond.fieldLink "LeastFramesModel" (22 : Nat) "LeastFramesModel" "shifts" "[I") ∈ lw_all := lw_g (lw_at lw_m4 135 rfl) rfl
theorem q940 : (Jvm.Cond.fieldLink "LeastFramesModel" (60 : Nat) "LeastFramesModel" "points" "I") ∈ lw_all := lw_g (lw_at lw_m4 136 rfl) rfl
theorem q941 : (Jvm.Cond.fieldLink "LeastFramesModel" (76 : Nat) "LeastFramesModel" "bars" "I") ∈ lw_all := lw_g (lw_at lw_m4 137 rfl) rfl
theorem q942 : (Jvm.Cond.fieldLink "LeastFramesModel" (25 : Nat) "LeastFramesModel" "rows" "[J") ∈ lw_all := lw_g (lw_at lw_m4 138 rfl) rfl
theorem q943 : (Jvm.Cond.fieldLink "LeastFramesModel" (29 : Nat) "LeastFramesModel" "pivots" "[I") ∈ lw_all := lw_g (lw_at lw_m4 139 rfl) rfl
theorem q944 : (Jvm.Cond.fieldLink "LeastFramesModel" (121 : Nat) "LeastFramesModel" "rank" "I") ∈ lw_all := lw_g (lw_at lw_m4 140 rfl) rfl
theorem q945 : (Jvm.Cond.fieldLink "LeastFramesModel" (32 : Nat) "LeastFramesModel" "bears" "[Z") ∈ lw_all := lw_g (lw_at lw_m4 141 rfl) rfl
theorem q946 : (Jvm.Cond.fieldLink "LeastFramesModel" (36 : Nat) "LeastFramesModel" "aboves" "[J") ∈ lw_all := lw_g (lw_at lw_m4 142 rfl) rfl
theorem q947 : (Jvm.Cond.fieldLink "LeastFramesModel" (39 : Nat) "LeastFramesModel" "belows" "[J") ∈ lw_all := lw_g (lw_at lw_m4 143 rfl) rfl
theorem q948 : (Jvm.Cond.fieldLink "LeastFramesModel" (90 : Nat) "LeastFramesModel" "isKnown" "Z") ∈ lw_all := lw_g (lw_at lw_m4 144 rfl) rfl
theorem q949 : (Jvm.Cond.fieldLink "LeastFramesModel" (213 : Nat) "LeastFramesModel" "sHit" "I") ∈ lw_all := lw_g (lw_at lw_m4 145 rfl) rfl
theorem q950 : (Jvm.Cond.fieldLink "LeastFramesModel" (216 : Nat) "LeastFramesModel" "tHit" "I") ∈ lw_all := lw_g (lw_at lw_m4 146 rfl) rfl
theorem q951 : (Jvm.Cond.fieldLink "LeastFramesModel" (210 : Nat) "LeastFramesModel" "under" "I") ∈ lw_all := lw_g (lw_at lw_m4 147 rfl) rfl
theorem q952 : (Jvm.Cond.fieldLink "LeastFramesModel" (42 : Nat) "LeastFramesModel" "forms" "[I") ∈ lw_all := lw_g (lw_at lw_m4 148 rfl) rfl
theorem q953 : (Jvm.Cond.fieldLink "LeastFramesModel" (45 : Nat) "LeastFramesModel" "sizes" "[I") ∈ lw_all := lw_g (lw_at lw_m4 149 rfl) rfl
theorem q954 : (Jvm.Cond.fieldLink "LeastFramesModel" (48 : Nat) "LeastFramesModel" "items" "[J") ∈ lw_all := lw_g (lw_at lw_m4 150 rfl) rfl
theorem q955 : (Jvm.Cond.fieldLink "LeastFramesModel" (51 : Nat) "LeastFramesModel" "movedItems" "[J") ∈ lw_all := lw_g (lw_at lw_m4 151 rfl) rfl
theorem q956 : (Jvm.Cond.fieldLink "LeastFramesModel" (228 : Nat) "LeastFramesModel" "finding" "I") ∈ lw_all := lw_g (lw_at lw_m4 152 rfl) rfl
theorem q957 : (Jvm.Cond.laysFinal "LeastFramesModel" "LeastFramesModel" "xs" "[I") ∈ lw_all := lw_g (lw_at lw_m4 153 rfl) rfl
theorem q958 : (Jvm.Cond.soleField "LeastFramesModel" "xs") ∈ lw_all := lw_g (lw_at lw_m4 154 rfl) rfl
theorem q959 : (Jvm.Cond.laysFinal "LeastFramesModel" "LeastFramesModel" "ys" "[I") ∈ lw_all := lw_g (lw_at lw_m4 155 rfl) rfl
theorem q960 : (Jvm.Cond.soleField "LeastFramesModel" "ys") ∈ lw_all := lw_g (lw_at lw_m4 156 rfl) rfl
theorem q961 : (Jvm.Cond.laysFinal "LeastFramesModel" "LeastFramesModel" "helds" "[I") ∈ lw_all := lw_g (lw_at lw_m4 157 rfl) rfl
theorem q962 : (Jvm.Cond.soleField "LeastFramesModel" "helds") ∈ lw_all := lw_g (lw_at lw_m4 158 rfl) rfl
theorem q963 : (Jvm.Cond.laysFinal "LeastFramesModel" "LeastFramesModel" "loads" "[I") ∈ lw_all := lw_g (lw_at lw_m4 159 rfl) rfl
theorem q964 : (Jvm.Cond.soleField "LeastFramesModel" "loads") ∈ lw_all := lw_g (lw_at lw_m4 160 rfl) rfl
theorem q965 : (Jvm.Cond.laysFinal "LeastFramesModel" "LeastFramesModel" "shifts" "[I") ∈ lw_all := lw_g (lw_at lw_m4 161 rfl) rfl
theorem q966 : (Jvm.Cond.soleField "LeastFramesModel" "shifts") ∈ lw_all := lw_g (lw_at lw_m4 162 rfl) rfl
theorem q967 : (Jvm.Cond.lays "LeastFramesModel" "LeastFramesModel" "points" "I") ∈ lw_all := lw_g (lw_at lw_m4 163 rfl) rfl
theorem q968 : (Jvm.Cond.soleField "LeastFramesModel" "points") ∈ lw_all := lw_g (lw_at lw_m4 164 rfl) rfl
theorem q969 : (Jvm.Cond.lays "LeastFramesModel" "LeastFramesModel" "bars" "I") ∈ lw_all := lw_g (lw_at lw_m4 165 rfl) rfl
theorem q970 : (Jvm.Cond.soleField "LeastFramesModel" "bars") ∈ lw_all := lw_g (lw_at lw_m4 166 rfl) rfl
theorem q971 : (Jvm.Cond.laysFinal "LeastFramesModel" "LeastFramesModel" "rows" "[J") ∈ lw_all := lw_g (lw_at lw_m4 167 rfl) rfl
theorem q972 : (Jvm.Cond.soleField "LeastFramesModel" "rows") ∈ lw_all := lw_g (lw_at lw_m4 168 rfl) rfl
theorem q973 : (Jvm.Cond.laysFinal "LeastFramesModel" "LeastFramesModel" "pivots" "[I") ∈ lw_all := lw_g (lw_at lw_m4 169 rfl) rfl
theorem q974 : (Jvm.Cond.soleField "LeastFramesModel" "pivots") ∈ lw_all := lw_g (lw_at lw_m4 170 rfl) rfl
theorem q975 : (Jvm.Cond.lays "LeastFramesModel" "LeastFramesModel" "rank" "I") ∈ lw_all := lw_g (lw_at lw_m4 171 rfl) rfl
theorem q976 : (Jvm.Cond.soleField "LeastFramesModel" "rank") ∈ lw_all := lw_g (lw_at lw_m4 172 rfl) rfl
theorem q977 : (Jvm.Cond.laysFinal "LeastFramesModel" "LeastFramesModel" "bears" "[Z") ∈ lw_all := lw_g (lw_at lw_m4 173 rfl) rfl
theorem q978 : (Jvm.Cond.soleField "LeastFramesModel" "bears") ∈ lw_all := lw_g (lw_at lw_m4 174 rfl) rfl
theorem q979 : (Jvm.Cond.laysFinal "LeastFramesModel" "LeastFramesModel" "aboves" "[J") ∈ lw_all := lw_g (lw_at lw_m4 175 rfl) rfl
theorem q980 : (Jvm.Cond.soleField "LeastFramesModel" "aboves") ∈ lw_all := lw_g (lw_at lw_m4 176 rfl) rfl
theorem q981 : (Jvm.Cond.laysFinal "LeastFramesModel" "LeastFramesModel" "belows" "[J") ∈ lw_all := lw_g (lw_at lw_m4 177 rfl) rfl
theorem q982 : (Jvm.Cond.soleField "LeastFramesModel" "belows") ∈ lw_all := lw_g (lw_at lw_m4 178 rfl) rfl
theorem q983 : (Jvm.Cond.lays "LeastFramesModel" "LeastFramesModel" "isKnown" "Z") ∈ lw_all := lw_g (lw_at lw_m4 179 rfl) rfl
theorem q984 : (Jvm.Cond.soleField "LeastFramesModel" "isKnown") ∈ lw_all := lw_g (lw_at lw_m4 180 rfl) rfl
theorem q985 : (Jvm.Cond.lays "LeastFramesModel" "LeastFramesModel" "sHit" "I") ∈ lw_all := lw_g (lw_at lw_m4 181 rfl) rfl
theorem q986 : (Jvm.Cond.soleField "LeastFramesModel" "sHit") ∈ lw_all := lw_g (lw_at lw_m4 182 rfl) rfl
theorem q987 : (Jvm.Cond.lays "LeastFramesModel" "LeastFramesModel" "tHit" "I") ∈ lw_all := lw_g (lw_at lw_m4 183 rfl) rfl
theorem q988 : (Jvm.Cond.soleField "LeastFramesModel" "tHit") ∈ lw_all := lw_g (lw_at lw_m4 184 rfl) rfl
theorem q989 : (Jvm.Cond.lays "LeastFramesModel" "LeastFramesModel" "under" "I") ∈ lw_all := lw_g (lw_at lw_m4 185 rfl) rfl
theorem q990 : (Jvm.Cond.soleField "LeastFramesModel" "under") ∈ lw_all := lw_g (lw_at lw_m4 186 rfl) rfl
theorem q991 : (Jvm.Cond.laysFinal "LeastFramesModel" "LeastFramesModel" "forms" "[I") ∈ lw_all := lw_g (lw_at lw_m4 187 rfl) rfl
theorem q992 : (Jvm.Cond.soleField "LeastFramesModel" "forms") ∈ lw_all := lw_g (lw_at lw_m4 188 rfl) rfl
theorem q993 : (Jvm.Cond.laysFinal "LeastFramesModel" "LeastFramesModel" "sizes" "[I") ∈ lw_all := lw_g (lw_at lw_m4 189 rfl) rfl
theorem q994 : (Jvm.Cond.soleField "LeastFramesModel" "sizes") ∈ lw_all := lw_g (lw_at lw_m4 190 rfl) rfl
theorem q995 : (Jvm.Cond.laysFinal "LeastFramesModel" "LeastFramesModel" "items" "[J") ∈ lw_all := lw_g (lw_at lw_m4 191 rfl) rfl
theorem q996 : (Jvm.Cond.soleField "LeastFramesModel" "items") ∈ lw_all := lw_g (lw_at lw_m4 192 rfl) rfl
theorem q997 : (Jvm.Cond.laysFinal "LeastFramesModel" "LeastFramesModel" "movedItems" "[J") ∈ lw_all := lw_g (lw_at lw_m4 193 rfl) rfl
theorem q998 : (Jvm.Cond.soleField "LeastFramesModel" "movedItems") ∈ lw_all := lw_g (lw_at lw_m4 194 rfl) rfl
theorem q999 : (Jvm.Cond.lays "LeastFramesModel" "LeastFramesModel" "finding" "I") ∈ lw_all := lw_g (lw_at lw_m4 195 rfl) rfl
theorem q1000 : (Jvm.Cond.soleField "LeastFramesModel" "finding") ∈ lw_all := lw_g (lw_at lw_m4 196 rfl) rfl
theorem q1001 : (Jvm.Cond.superclass "LeastFramesModel" "java/lang/Object") ∈ lw_all := lw_g (lw_at lw_m4 197 rfl) rfl
theorem q1004 : (Jvm.Cond.instanceMethod ({ cls := "LeastFramesModel", name := "point", desc := "(II)I" } : Jvm.MethodName)) ∈ lw_all := lw_g (lw_at lw_m4 200 rfl) rfl
theorem q1005 : (Jvm.Cond.selects "LeastFramesModel" ({ cls := "LeastFramesModel", name := "point", desc := "(II)I" } : Jvm.MethodName) ({ cls := "LeastFramesModel", name := "point", desc := "(II)I" } : Jvm.MethodName)) ∈ lw_all := lw_g (lw_at lw_m4 201 rfl) rfl
theorem q1006 : (Jvm.Cond.code ({ cls := "LeastFramesModel", name := "point", desc := "(II)I" } : Jvm.MethodName) prog_9_method_15_code (4 : Nat) (Option.some Jvm.ClassFile.FieldType.int)) ∈ lw_all := lw_g (lw_at lw_m4 202 rfl) rfl
theorem q1007 : (Jvm.Cond.methodLink "LeastFramesModel" (64 : Nat) ({ cls := "LeastFramesModel", name := "in", desc := "(III)Z" } : Jvm.MethodName)) ∈ lw_all := lw_g (lw_at lw_m4 203 rfl) rfl
theorem q1008 : (Jvm.Cond.static ({ cls := "LeastFramesModel", name := "in", desc := "(III)Z" } : Jvm.MethodName)) ∈ lw_all := lw_g (lw_at lw_m4 204 rfl) rfl
theorem q1009 : (Jvm.Cond.code ({ cls := "LeastFramesModel", name := "in", desc := "(III)Z" } : Jvm.MethodName) prog_9_method_3_code (3 : Nat) (Option.some Jvm.ClassFile.FieldType.boolean)) ∈ lw_all := lw_g (lw_at lw_m4 205 rfl) rfl
theorem q1011 : (Jvm.Cond.instanceMethod ({ cls := "LeastFramesModel", name := "back", desc := "()I" } : Jvm.MethodName)) ∈ lw_all := lw_g (lw_at lw_m4 207 rfl) rfl
theorem q1012 : (Jvm.Cond.selects "LeastFramesModel" ({ cls := "LeastFramesModel", name := "back", desc := "()I" } : Jvm.MethodName) ({ cls := "LeastFramesModel", name := "back", desc := "()I" } : Jvm.MethodName)) ∈ lw_all := lw_g (lw_at lw_m4 208 rfl) rfl
theorem q1013 : (Jvm.Cond.code ({ cls := "LeastFramesModel", name := "back", desc := "()I" } : Jvm.MethodName) prog_9_method_16_code (1 : Nat) (Option.some Jvm.ClassFile.FieldType.int)) ∈ lw_all := lw_g (lw_at lw_m4 209 rfl) rfl
theorem q1014 : (Jvm.Cond.methodLink "LeastFramesModel" (68 : Nat) ({ cls := "LeastFramesModel", name := "pairs", desc := "()I" } : Jvm.MethodName)) ∈ lw_all := lw_g (lw_at lw_m4 210 rfl) rfl
theorem q1015 : (Jvm.Cond.privateMethod ({ cls := "LeastFramesModel", name := "pairs", desc := "()I" } : Jvm.MethodName)) ∈ lw_tbl := lw_at lw_m4 211 rfl
theorem q1016 : (Jvm.Cond.instanceMethod ({ cls := "LeastFramesModel", name := "pairs", desc := "()I" } : Jvm.MethodName)) ∈ lw_all := lw_g (lw_at lw_m4 212 rfl) rfl
theorem q1017 : (Jvm.Cond.code ({ cls := "LeastFramesModel", name := "pairs", desc := "()I" } : Jvm.MethodName) prog_9_method_8_code (1 : Nat) (Option.some Jvm.ClassFile.FieldType.int)) ∈ lw_all := lw_g (lw_at lw_m4 213 rfl) rfl
theorem q1019 : (Jvm.Cond.instanceMethod ({ cls := "LeastFramesModel", name := "hold", desc := "(II)I" } : Jvm.MethodName)) ∈ lw_all := lw_g (lw_at lw_m4 215 rfl) rfl
theorem q1020 : (Jvm.Cond.selects "LeastFramesModel" ({ cls := "LeastFramesModel", name := "hold", desc := "(II)I" } : Jvm.MethodName) ({ cls := "LeastFramesModel", name := "hold", desc := "(II)I" } : Jvm.MethodName)) ∈ lw_all := lw_g (lw_at lw_m4 216 rfl) rfl
theorem q1021 : (Jvm.Cond.code ({ cls := "LeastFramesModel", name := "hold", desc := "(II)I" } : Jvm.MethodName) prog_9_method_17_code (4 : Nat) (Option.some Jvm.ClassFile.FieldType.int)) ∈ lw_all := lw_g (lw_at lw_m4 217 rfl) rfl
theorem q1022 : (Jvm.Cond.methodLink "LeastFramesModel" (94 : Nat) ({ cls := "LeastFramesModel", name := "isPoint", desc := "(I)Z" } : Jvm.MethodName)) ∈ lw_all := lw_g (lw_at lw_m4 218 rfl) rfl
theorem q1023 : (Jvm.Cond.privateMethod ({ cls := "LeastFramesModel", name := "isPoint", desc := "(I)Z" } : Jvm.MethodName)) ∈ lw_tbl := lw_at lw_m4 219 rfl
theorem q1024 : (Jvm.Cond.instanceMethod ({ cls := "LeastFramesModel", name := "isPoint", desc := "(I)Z" } : Jvm.MethodName)) ∈ lw_all := lw_g (lw_at lw_m4 220 rfl) rfl
theorem q1025 : (Jvm.Cond.code ({ cls := "LeastFramesModel", name := "isPoint", desc := "(I)Z" } : Jvm.MethodName) prog_9_method_7_code (2 : Nat) (Option.some Jvm.ClassFile.FieldType.boolean)) ∈ lw_all := lw_g (lw_at lw_m4 221 rfl) rfl
theorem q1027 : (Jvm.Cond.instanceMethod ({ cls := "LeastFramesModel", name := "load", desc := "(III)I" } : Jvm.MethodName)) ∈ lw_all := lw_g (lw_at lw_m4 223 rfl) rfl
theorem q1028 : (Jvm.Cond.selects "LeastFramesModel" ({ cls := "LeastFramesModel", name := "load", desc := "(III)I" } : Jvm.MethodName) ({ cls := "LeastFramesModel", name := "load", desc := "(III)I" } : Jvm.MethodName)) ∈ lw_all := lw_g (lw_at lw_m4 224 rfl) rfl
theorem q1029 : (Jvm.Cond.code ({ cls := "LeastFramesModel", name := "load", desc := "(III)I" } : Jvm.MethodName) prog_9_method_18_code (5 : Nat) (Option.some Jvm.ClassFile.FieldType.int)) ∈ lw_all := lw_g (lw_at lw_m4 225 rfl) rfl
theorem q1030 : (Jvm.Cond.constant "LeastFramesModel" (97 : Nat) (-2147483648 : Int32)) ∈ lw_all := lw_g (lw_at lw_m4 226 rfl) rfl
theorem q1032 : (Jvm.Cond.instanceMethod ({ cls := "LeastFramesModel", name := "bar", desc := "(I)I" } : Jvm.MethodName)) ∈ lw_all := lw_g (lw_at lw_m4 228 rfl) rfl
theorem q1033 : (Jvm.Cond.selects "LeastFramesModel" ({ cls := "LeastFramesModel", name := "bar", desc := "(I)I" } : Jvm.MethodName) ({ cls := "LeastFramesModel", name := "bar", desc := "(I)I" } : Jvm.MethodName)) ∈ lw_all := lw_g (lw_at lw_m4 229 rfl) rfl
theorem q1034 : (Jvm.Cond.code ({ cls := "LeastFramesModel", name := "bar", desc := "(I)I" } : Jvm.MethodName) prog_9_method_19_code (2 : Nat) (Option.some Jvm.ClassFile.FieldType.int)) ∈ lw_all := lw_g (lw_at lw_m4 230 rfl) rfl
theorem q1035 : (Jvm.Cond.methodLink "LeastFramesModel" (72 : Nat) ({ cls := "LeastFramesModel", name := "isPair", desc := "(I)Z" } : Jvm.MethodName)) ∈ lw_all := lw_g (lw_at lw_m4 231 rfl) rfl
theorem q1036 : (Jvm.Cond.privateMethod ({ cls := "LeastFramesModel", name := "isPair", desc := "(I)Z" } : Jvm.MethodName)) ∈ lw_tbl := lw_at lw_m4 232 rfl
theorem q1037 : (Jvm.Cond.instanceMethod ({ cls := "LeastFramesModel", name := "isPair", desc := "(I)Z" } : Jvm.MethodName)) ∈ lw_all := lw_g (lw_at lw_m4 233 rfl) rfl
theorem q1038 : (Jvm.Cond.code ({ cls := "LeastFramesModel", name := "isPair", desc := "(I)Z" } : Jvm.MethodName) prog_9_method_9_code (2 : Nat) (Option.some Jvm.ClassFile.FieldType.boolean)) ∈ lw_all := lw_g (lw_at lw_m4 234 rfl) rfl
theorem q1040 : (Jvm.Cond.instanceMethod ({ cls := "LeastFramesModel", name := "all", desc := "()I" } : Jvm.MethodName)) ∈ lw_all := lw_g (lw_at lw_m4 236 rfl) rfl
theorem q1041 : (Jvm.Cond.selects "LeastFramesModel" ({ cls := "LeastFramesModel", name := "all", desc := "()I" } : Jvm.MethodName) ({ cls := "LeastFramesModel", name := "all", desc := "()I" } : Jvm.MethodName)) ∈ lw_all := lw_g (lw_at lw_m4 237 rfl) rfl
theorem q1042 : (Jvm.Cond.code ({ cls := "LeastFramesModel", name := "all", desc := "()I" } : Jvm.MethodName) prog_9_method_20_code (1 : Nat) (Option.some Jvm.ClassFile.FieldType.int)) ∈ lw_all := lw_g (lw_at lw_m4 238 rfl) rfl
theorem q1044 : (Jvm.Cond.instanceMethod ({ cls := "LeastFramesModel", name := "read", desc := "(I)I" } : Jvm.MethodName)) ∈ lw_all := lw_g (lw_at lw_m5 0 rfl) rfl
theorem q1045 : (Jvm.Cond.selects "LeastFramesModel" ({ cls := "LeastFramesModel", name := "read", desc := "(I)I" } : Jvm.MethodName) ({ cls := "LeastFramesModel", name := "read", desc := "(I)I" } : Jvm.MethodName)) ∈ lw_all := lw_g (lw_at lw_m5 1 rfl) rfl
theorem q1046 : (Jvm.Cond.code ({ cls := "LeastFramesModel", name := "read", desc := "(I)I" } : Jvm.MethodName) prog_9_method_21_code (3 : Nat) (Option.some Jvm.ClassFile.FieldType.int)) ∈ lw_all := lw_g (lw_at lw_m5 2 rfl) rfl
theorem q1047 : (Jvm.Cond.methodLink "LeastFramesModel" (98 : Nat) ({ cls := "LeastFramesModel", name := "isSheet", desc := "(I)Z" } : Jvm.MethodName)) ∈ lw_all := lw_g (lw_at lw_m5 3 rfl) rfl
theorem q1048 : (Jvm.Cond.static ({ cls := "LeastFramesModel", name := "isSheet", desc := "(I)Z" } : Jvm.MethodName)) ∈ lw_all := lw_g (lw_at lw_m5 4 rfl) rfl
theorem q1049 : (Jvm.Cond.code ({ cls := "LeastFramesModel", name := "isSheet", desc := "(I)Z" } : Jvm.MethodName) prog_9_method_72_code (1 : Nat) (Option.some Jvm.ClassFile.FieldType.boolean)) ∈ lw_all := lw_g (lw_at lw_m5 5 rfl) rfl
theorem q1050 : (Jvm.Cond.methodLink "LeastFramesModel" (101 : Nat) ({ cls := "LeastFramesModel", name := "meets", desc := "(I)I" } : Jvm.MethodName)) ∈ lw_all := lw_g (lw_at lw_m5 6 rfl) rfl
theorem q1051 : (Jvm.Cond.privateMethod ({ cls := "LeastFramesModel", name := "meets", desc := "(I)I" } : Jvm.MethodName)) ∈ lw_tbl := lw_at lw_m5 7 rfl
theorem q1052 : (Jvm.Cond.instanceMethod ({ cls := "LeastFramesModel", name := "meets", desc := "(I)I" } : Jvm.MethodName)) ∈ lw_all := lw_g (lw_at lw_m5 8 rfl) rfl
theorem q1053 : (Jvm.Cond.code ({ cls := "LeastFramesModel", name := "meets", desc := "(I)I" } : Jvm.MethodName) prog_9_method_71_code (2 : Nat) (Option.some Jvm.ClassFile.FieldType.int)) ∈ lw_all := lw_g (lw_at lw_m5 9 rfl) rfl
theorem q1054 : (Jvm.Cond.constantLong "LeastFramesModel" (104 : Nat) (-9 : Int64)) ∈ lw_all := lw_g (lw_at lw_m5 10 rfl) rfl
theorem q1055 : (Jvm.Cond.constantLong "LeastFramesModel" (106 : Nat) (9 : Int64)) ∈ lw_all := lw_g (lw_at lw_m5 11 rfl) rfl
theorem q1057 : (Jvm.Cond.instanceMethod ({ cls := "LeastFramesModel", name := "info", desc := "(II)I" } : Jvm.MethodName)) ∈ lw_all := lw_g (lw_at lw_m5 13 rfl) rfl
theorem q1058 : (Jvm.Cond.selects "LeastFramesModel" ({ cls := "LeastFramesModel", name := "info", desc := "(II)I" } : Jvm.MethodName) ({ cls := "LeastFramesModel", name := "info", desc := "(II)I" } : Jvm.MethodName)) ∈ lw_all := lw_g (lw_at lw_m5 14 rfl) rfl
theorem q1059 : (Jvm.Cond.code ({ cls := "LeastFramesModel", name := "info", desc := "(II)I" } : Jvm.MethodName) prog_9_method_23_code (3 : Nat) (Option.some Jvm.ClassFile.FieldType.int)) ∈ lw_all := lw_g (lw_at lw_m5 15 rfl) rfl
theorem q1060 : (Jvm.Cond.methodLink "LeastFramesModel" (108 : Nat) ({ cls := "LeastFramesModel", name := "infoOf", desc := "(II)I" } : Jvm.MethodName)) ∈ lw_all := lw_g (lw_at lw_m5 16 rfl) rfl
theorem q1061 : (Jvm.Cond.privateMethod ({ cls := "LeastFramesModel", name := "infoOf", desc := "(II)I" } : Jvm.MethodName)) ∈ lw_tbl := lw_at lw_m5 17 rfl
theorem q1062 : (Jvm.Cond.instanceMethod ({ cls := "LeastFramesModel", name := "infoOf", desc := "(II)I" } : Jvm.MethodName)) ∈ lw_all := lw_g (lw_at lw_m5 18 rfl) rfl
theorem q1063 : (Jvm.Cond.code ({ cls := "LeastFramesModel", name := "infoOf", desc := "(II)I" } : Jvm.MethodName) prog_9_method_22_code (3 : Nat) (Option.some Jvm.ClassFile.FieldType.int)) ∈ lw_all := lw_g (lw_at lw_m5 19 rfl) rfl
theorem q1065 : (Jvm.Cond.instanceMethod ({ cls := "LeastFramesModel", name := "pair", desc := "(II)I" } : Jvm.MethodName)) ∈ lw_all := lw_g (lw_at lw_m5 21 rfl) rfl
theorem q1066 : (Jvm.Cond.selects "LeastFramesModel" ({ cls := "LeastFramesModel", name := "pair", desc := "(II)I" } : Jvm.MethodName) ({ cls := "LeastFramesModel", name := "pair", desc := "(II)I" } : Jvm.MethodName)) ∈ lw_all := lw_g (lw_at lw_m5 22 rfl) rfl
theorem q1067 : (Jvm.Cond.code ({ cls := "LeastFramesModel", name := "pair", desc := "(II)I" } : Jvm.MethodName) prog_9_method_25_code (3 : Nat) (Option.some Jvm.ClassFile.FieldType.int)) ∈ lw_all := lw_g (lw_at lw_m5 23 rfl) rfl
theorem q1068 : (Jvm.Cond.methodLink "LeastFramesModel" (114 : Nat) ({ cls := "LeastFramesModel", name := "pairOf", desc := "(II)I" } : Jvm.MethodName)) ∈ lw_all := lw_g (lw_at lw_m5 24 rfl) rfl
theorem q1069 : (Jvm.Cond.privateMethod ({ cls := "LeastFramesModel", name := "pairOf", desc := "(II)I" } : Jvm.MethodName)) ∈ lw_tbl := lw_at lw_m5 25 rfl
theorem q1070 : (Jvm.Cond.instanceMethod ({ cls := "LeastFramesModel", name := "pairOf", desc := "(II)I" } : Jvm.MethodName)) ∈ lw_all := lw_g (lw_at lw_m5 26 rfl) rfl
theorem q1071 : (Jvm.Cond.code ({ cls := "LeastFramesModel", name := "pairOf", desc := "(II)I" } : Jvm.MethodName) prog_9_method_24_code (3 : Nat) (Option.some Jvm.ClassFile.FieldType.int)) ∈ lw_all := lw_g (lw_at lw_m5 27 rfl) rfl
theorem q1072 : (Jvm.Cond.methodLink "LeastFramesModel" (83 : Nat) ({ cls := "LeastFramesModel", name := "lesser", desc := "(I)I" } : Jvm.MethodName)) ∈ lw_all := lw_g (lw_at lw_m5 28 rfl) rfl
theorem q1073 : (Jvm.Cond.static ({ cls := "LeastFramesModel", name := "lesser", desc := "(I)I" } : Jvm.MethodName)) ∈ lw_all := lw_g (lw_at lw_m5 29 rfl) rfl
theorem q1074 : (Jvm.Cond.code ({ cls := "LeastFramesModel", name := "lesser", desc := "(I)I" } : Jvm.MethodName) prog_9_method_12_code (2 : Nat) (Option.some Jvm.ClassFile.FieldType.int)) ∈ lw_all := lw_g (lw_at lw_m5 30 rfl) rfl
theorem q1075 : (Jvm.Cond.methodLink "LeastFramesModel" (79 : Nat) ({ cls := "LeastFramesModel", name := "greater", desc := "(I)I" } : Jvm.MethodName)) ∈ lw_all := lw_g (lw_at lw_m5 31 rfl) rfl
theorem q1076 : (Jvm.Cond.static ({ cls := "LeastFramesModel", name := "greater", desc := "(I)I" } : Jvm.MethodName)) ∈ lw_all := lw_g (lw_at lw_m5 32 rfl) rfl
theorem q1077 : (Jvm.Cond.code ({ cls := "LeastFramesModel", name := "greater", desc := "(I)I" } : Jvm.MethodName) prog_9_method_11_code (2 : Nat) (Option.some Jvm.ClassFile.FieldType.int)) ∈ lw_all := lw_g (lw_at lw_m5 33 rfl) rfl
theorem q1078 : (Jvm.Cond.methodLink "LeastFramesModel" (111 : Nat) ({ cls := "LeastFramesModel", name := "quad", desc := "(I)I" } : Jvm.MethodName)) ∈ lw_all := lw_g (lw_at lw_m5 34 rfl) rfl
theorem q1079 : (Jvm.Cond.privateMethod ({ cls := "LeastFramesModel", name := "quad", desc := "(I)I" } : Jvm.MethodName)) ∈ lw_tbl := lw_at lw_m5 35 rfl
theorem q1080 : (Jvm.Cond.instanceMethod ({ cls := "LeastFramesModel", name := "quad", desc := "(I)I" } : Jvm.MethodName)) ∈ lw_all := lw_g (lw_at lw_m5 36 rfl) rfl
theorem q1081 : (Jvm.Cond.code ({ cls := "LeastFramesModel", name := "quad", desc := "(I)I" } : Jvm.MethodName) prog_9_method_14_code (2 : Nat) (Option.some Jvm.ClassFile.FieldType.int)) ∈ lw_all := lw_g (lw_at lw_m5 37 rfl) rfl
theorem q1082 : (Jvm.Cond.methodLink "LeastFramesModel" (86 : Nat) ({ cls := "LeastFramesModel", name := "far", desc := "(II)I" } : Jvm.MethodName)) ∈ lw_all := lw_g (lw_at lw_m5 38 rfl) rfl
theorem q1083 : (Jvm.Cond.privateMethod ({ cls := "LeastFramesModel", name := "far", desc := "(II)I" } : Jvm.MethodName)) ∈ lw_tbl := lw_at lw_m5 39 rfl
theorem q1084 : (Jvm.Cond.instanceMethod ({ cls := "LeastFramesModel", name := "far", desc := "(II)I" } : Jvm.MethodName)) ∈ lw_all := lw_g (lw_at lw_m5 40 rfl) rfl
theorem q1085 : (Jvm.Cond.code ({ cls := "LeastFramesModel", name := "far", desc := "(II)I" } : Jvm.MethodName) prog_9_method_13_code (5 : Nat) (Option.some Jvm.ClassFile.FieldType.int)) ∈ lw_all := lw_g (lw_at lw_m5 41 rfl) rfl
theorem q1087 : (Jvm.Cond.instanceMethod ({ cls := "LeastFramesModel", name := "least", desc := "(I)J" } : Jvm.MethodName)) ∈ lw_all := lw_g (lw_at lw_m5 43 rfl) rfl
theorem q1088 : (Jvm.Cond.selects "LeastFramesModel" ({ cls := "LeastFramesModel", name := "least", desc := "(I)J" } : Jvm.MethodName) ({ cls := "LeastFramesModel", name := "least", desc := "(I)J" } : Jvm.MethodName)) ∈ lw_all := lw_g (lw_at lw_m5 44 rfl) rfl
theorem q1089 : (Jvm.Cond.code ({ cls := "LeastFramesModel", name := "least", desc := "(I)J" } : Jvm.MethodName) prog_9_method_38_code (2 : Nat) (Option.some Jvm.ClassFile.FieldType.long)) ∈ lw_all := lw_g (lw_at lw_m5 45 rfl) rfl
theorem q1090 : (Jvm.Cond.methodLink "LeastFramesModel" (164 : Nat) ({ cls := "LeastFramesModel", name := "volumeOf", desc := "(II)J" } : Jvm.MethodName)) ∈ lw_all := lw_g (lw_at lw_m5 46 rfl) rfl
theorem q1091 : (Jvm.Cond.privateMethod ({ cls := "LeastFramesModel", name := "volumeOf", desc := "(II)J" } : Jvm.MethodName)) ∈ lw_tbl := lw_at lw_m5 47 rfl
theorem q1092 : (Jvm.Cond.instanceMethod ({ cls := "LeastFramesModel", name := "volumeOf", desc := "(II)J" } : Jvm.MethodName)) ∈ lw_all := lw_g (lw_at lw_m5 48 rfl) rfl
theorem q1093 : (Jvm.Cond.code ({ cls := "LeastFramesModel", name := "volumeOf", desc := "(II)J" } : Jvm.MethodName) prog_9_method_37_code (4 : Nat) (Option.some Jvm.ClassFile.FieldType.long)) ∈ lw_all := lw_g (lw_at lw_m5 49 rfl) rfl
theorem q1094 : (Jvm.Cond.methodLink "LeastFramesModel" (157 : Nat) ({ cls := "LeastFramesModel", name := "bestOf", desc := "(I)I" } : Jvm.MethodName)) ∈ lw_all := lw_g (lw_at lw_m5 50 rfl) rfl
theorem q1095 : (Jvm.Cond.privateMethod ({ cls := "LeastFramesModel", name := "bestOf", desc := "(I)I" } : Jvm.MethodName)) ∈ lw_tbl := lw_at lw_m5 51 rfl
theorem q1096 : (Jvm.Cond.instanceMethod ({ cls := "LeastFramesModel", name := "bestOf", desc := "(I)I" } : Jvm.MethodName)) ∈ lw_all := lw_g (lw_at lw_m5 52 rfl) rfl
theorem q1097 : (Jvm.Cond.code ({ cls := "LeastFramesModel", name := "bestOf", desc := "(I)I" } : Jvm.MethodName) prog_9_method_36_code (5 : Nat) (Option.some Jvm.ClassFile.FieldType.int)) ∈ lw_all := lw_g (lw_at lw_m5 53 rfl) rfl
theorem q1098 : (Jvm.Cond.methodLink "LeastFramesModel" (151 : Nat) ({ cls := "LeastFramesModel", name := "finds", desc := "()V" } : Jvm.MethodName)) ∈ lw_all := lw_g (lw_at lw_m5 54 rfl) rfl
theorem q1099 : (Jvm.Cond.privateMethod ({ cls := "LeastFramesModel", name := "finds", desc := "()V" } : Jvm.MethodName)) ∈ lw_tbl := lw_at lw_m5 55 rfl
theorem q1100 : (Jvm.Cond.instanceMethod ({ cls := "LeastFramesModel", name := "finds", desc := "()V" } : Jvm.MethodName)) ∈ lw_all := lw_g (lw_at lw_m5 56 rfl) rfl
theorem q1101 : (Jvm.Cond.code ({ cls := "LeastFramesModel", name := "finds", desc := "()V" } : Jvm.MethodName) prog_9_method_34_code (2 : Nat) (Option.none : Option Jvm.ClassFile.FieldType)) ∈ lw_all := lw_g (lw_at lw_m5 57 rfl) rfl
theorem q1102 : (Jvm.Cond.methodLink "LeastFramesModel" (142 : Nat) ({ cls := "LeastFramesModel", name := "faultOf", desc := "(I)I" } : Jvm.MethodName)) ∈ lw_all := lw_g (lw_at lw_m5 58 rfl) rfl
theorem q1103 : (Jvm.Cond.privateMethod ({ cls := "LeastFramesModel", name := "faultOf", desc := "(I)I" } : Jvm.MethodName)) ∈ lw_tbl := lw_at lw_m5 59 rfl
theorem q1104 : (Jvm.Cond.instanceMethod ({ cls := "LeastFramesModel", name := "faultOf", desc := "(I)I" } : Jvm.MethodName)) ∈ lw_all := lw_g (lw_at lw_m5 60 rfl) rfl
theorem q1105 : (Jvm.Cond.code ({ cls := "LeastFramesModel", name := "faultOf", desc := "(I)I" } : Jvm.MethodName) prog_9_method_31_code (3 : Nat) (Option.some Jvm.ClassFile.FieldType.int)) ∈ lw_all := lw_g (lw_at lw_m5 61 rfl) rfl
theorem q1106 : (Jvm.Cond.methodLink "LeastFramesModel" (131 : Nat) ({ cls := "LeastFramesModel", name := "isWay", desc := "(I)Z" } : Jvm.MethodName)) ∈ lw_all := lw_g (lw_at lw_m5 62 rfl) rfl
theorem q1107 : (Jvm.Cond.privateMethod ({ cls := "LeastFramesModel", name := "isWay", desc := "(I)Z" } : Jvm.MethodName)) ∈ lw_tbl := lw_at lw_m5 63 rfl
theorem q1108 : (Jvm.Cond.instanceMethod ({ cls := "LeastFramesModel", name := "isWay", desc := "(I)Z" } : Jvm.MethodName)) ∈ lw_all := lw_g (lw_at lw_m5 64 rfl) rfl
theorem q1109 : (Jvm.Cond.code ({ cls := "LeastFramesModel", name := "isWay", desc := "(I)Z" } : Jvm.MethodName) prog_9_method_26_code (2 : Nat) (Option.some Jvm.ClassFile.FieldType.boolean)) ∈ lw_all := lw_g (lw_at lw_m5 65 rfl) rfl
theorem q1110 : (Jvm.Cond.methodLink "LeastFramesModel" (134 : Nat) ({ cls := "LeastFramesModel", name := "adds", desc := "(II)Z" } : Jvm.MethodName)) ∈ lw_all := lw_g (lw_at lw_m5 66 rfl) rfl
theorem q1111 : (Jvm.Cond.privateMethod ({ cls := "LeastFramesModel", name := "adds", desc := "(II)Z" } : Jvm.MethodName)) ∈ lw_tbl := lw_at lw_m5 67 rfl
theorem q1112 : (Jvm.Cond.instanceMethod ({ cls := "LeastFramesModel", name := "adds", desc := "(II)Z" } : Jvm.MethodName)) ∈ lw_all := lw_g (lw_at lw_m5 68 rfl) rfl
theorem q1113 : (Jvm.Cond.code ({ cls := "LeastFramesModel", name := "adds", desc := "(II)Z" } : Jvm.MethodName) prog_9_method_30_code (6 : Nat) (Option.some Jvm.ClassFile.FieldType.boolean)) ∈ lw_all := lw_g (lw_at lw_m5 69 rfl) rfl
theorem q1114 : (Jvm.Cond.methodLink "LeastFramesModel" (124 : Nat) ({ cls := "LeastFramesModel", name := "brought", desc := "(II)I" } : Jvm.MethodName)) ∈ lw_all := lw_g (lw_at lw_m5 70 rfl) rfl
theorem q1115 : (Jvm.Cond.privateMethod ({ cls := "LeastFramesModel", name := "brought", desc := "(II)I" } : Jvm.MethodName)) ∈ lw_tbl := lw_at lw_m5 71 rfl
theorem q1116 : (Jvm.Cond.instanceMethod ({ cls := "LeastFramesModel", name := "brought", desc := "(II)I" } : Jvm.MethodName)) ∈ lw_all := lw_g (lw_at lw_m5 72 rfl) rfl
theorem q1117 : (Jvm.Cond.code ({ cls := "LeastFramesModel", name := "brought", desc := "(II)I" } : Jvm.MethodName) prog_9_method_27_code (4 : Nat) (Option.some Jvm.ClassFile.FieldType.int)) ∈ lw_all := lw_g (lw_at lw_m5 73 rfl) rfl
theorem q1118 : (Jvm.Cond.methodLink "LeastFramesModel" (127 : Nat) ({ cls := "LeastFramesModel", name := "clears", desc := "(III)V" } : Jvm.MethodName)) ∈ lw_all := lw_g (lw_at lw_m5 74 rfl) rfl
theorem q1119 : (Jvm.Cond.privateMethod ({ cls := "LeastFramesModel", name := "clears", desc := "(III)V" } : Jvm.MethodName)) ∈ lw_tbl := lw_at lw_m5 75 rfl
theorem q1120 : (Jvm.Cond.instanceMethod ({ cls := "LeastFramesModel", name := "clears", desc := "(III)V" } : Jvm.MethodName)) ∈ lw_all := lw_g (lw_at lw_m5 76 rfl) rfl
theorem q1121 : (Jvm.Cond.code ({ cls := "LeastFramesModel", name := "clears", desc := "(III)V" } : Jvm.MethodName) prog_9_method_29_code (9 : Nat) (Option.none : Option Jvm.ClassFile.FieldType)) ∈ lw_all := lw_g (lw_at lw_m5 77 rfl) rfl
theorem q1122 : (Jvm.Cond.methodLink "LeastFramesModel" (117 : Nat) ({ cls := "LeastFramesModel", name := "lowers", desc := "(I)V" } : Jvm.MethodName)) ∈ lw_all := lw_g (lw_at lw_m5 78 rfl) rfl
theorem q1123 : (Jvm.Cond.privateMethod ({ cls := "LeastFramesModel", name := "lowers", desc := "(I)V" } : Jvm.MethodName)) ∈ lw_tbl := lw_at lw_m5 79 rfl
theorem q1124 : (Jvm.Cond.instanceMethod ({ cls := "LeastFramesModel", name := "lowers", desc := "(I)V" } : Jvm.MethodName)) ∈ lw_all := lw_g (lw_at lw_m5 80 rfl) rfl
theorem q1125 : (Jvm.Cond.code ({ cls := "LeastFramesModel", name := "lowers", desc := "(I)V" } : Jvm.MethodName) prog_9_method_28_code (5 : Nat) (Option.none : Option Jvm.ClassFile.FieldType)) ∈ lw_all := lw_g (lw_at lw_m5 81 rfl) rfl
theorem q1126 : (Jvm.Cond.methodLink "LeastFramesModel" (56 : Nat) ({ cls := "LeastFramesModel", name := "divisor", desc := "(JJ)J" } : Jvm.MethodName)) ∈ lw_all := lw_g (lw_at lw_m5 82 rfl) rfl
theorem q1127 : (Jvm.Cond.static ({ cls := "LeastFramesModel", name := "divisor", desc := "(JJ)J" } : Jvm.MethodName)) ∈ lw_all := lw_g (lw_at lw_m5 83 rfl) rfl
theorem q1128 : (Jvm.Cond.code ({ cls := "LeastFramesModel", name := "divisor", desc := "(JJ)J" } : Jvm.MethodName) prog_9_method_5_code (10 : Nat) (Option.some Jvm.ClassFile.FieldType.long)) ∈ lw_all := lw_g (lw_at lw_m5 84 rfl) rfl
theorem q1129 : (Jvm.Cond.methodLink "LeastFramesModel" (145 : Nat) ({ cls := "LeastFramesModel", name := "size", desc := "(I)I" } : Jvm.MethodName)) ∈ lw_all := lw_g (lw_at lw_m5 85 rfl) rfl
theorem q1130 : (Jvm.Cond.static ({ cls := "LeastFramesModel", name := "size", desc := "(I)I" } : Jvm.MethodName)) ∈ lw_all := lw_g (lw_at lw_m5 86 rfl) rfl
theorem q1131 : (Jvm.Cond.code ({ cls := "LeastFramesModel", name := "size", desc := "(I)I" } : Jvm.MethodName) prog_9_method_32_code (3 : Nat) (Option.some Jvm.ClassFile.FieldType.int)) ∈ lw_all := lw_g (lw_at lw_m5 87 rfl) rfl
theorem q1132 : (Jvm.Cond.methodLink "LeastFramesModel" (148 : Nat) ({ cls := "LeastFramesModel", name := "volumes", desc := "(I)V" } : Jvm.MethodName)) ∈ lw_all := lw_g (lw_at lw_m5 88 rfl) rfl
theorem q1133 : (Jvm.Cond.privateMethod ({ cls := "LeastFramesModel", name := "volumes", desc := "(I)V" } : Jvm.MethodName)) ∈ lw_tbl := lw_at lw_m5 89 rfl
theorem q1134 : (Jvm.Cond.instanceMethod ({ cls := "LeastFramesModel", name := "volumes", desc := "(I)V" } : Jvm.MethodName)) ∈ lw_all := lw_g (lw_at lw_m5 90 rfl) rfl
theorem q1135 : (Jvm.Cond.code ({ cls := "LeastFramesModel", name := "volumes", desc := "(I)V" } : Jvm.MethodName) prog_9_method_33_code (15 : Nat) (Option.none : Option Jvm.ClassFile.FieldType)) ∈ lw_all := lw_g (lw_at lw_m5 91 rfl) rfl
theorem q1136 : (Jvm.Cond.methodLink "LeastFramesModel" (138 : Nat) ({ cls := "LeastFramesModel", name := "partOf", desc := "(JJI)J" } : Jvm.MethodName)) ∈ lw_all := lw_g (lw_at lw_m5 92 rfl) rfl
theorem q1137 : (Jvm.Cond.static ({ cls := "LeastFramesModel", name := "partOf", desc := "(JJI)J" } : Jvm.MethodName)) ∈ lw_all := lw_g (lw_at lw_m5 93 rfl) rfl
theorem q1138 : (Jvm.Cond.code ({ cls := "LeastFramesModel", name := "partOf", desc := "(JJI)J" } : Jvm.MethodName) prog_9_method_6_code (7 : Nat) (Option.some Jvm.ClassFile.FieldType.long)) ∈ lw_all := lw_g (lw_at lw_m5 94 rfl) rfl
theorem q1139 : (Jvm.Cond.methodLink "LeastFramesModel" (154 : Nat) ({ cls := "LeastFramesModel", name := "isLess", desc := "(II)Z" } : Jvm.MethodName)) ∈ lw_all := lw_g (lw_at lw_m5 95 rfl) rfl
theorem q1140 : (Jvm.Cond.privateMethod ({ cls := "LeastFramesModel", name := "isLess", desc := "(II)Z" } : Jvm.MethodName)) ∈ lw_tbl := lw_at lw_m5 96 rfl
theorem q1141 : (Jvm.Cond.instanceMethod ({ cls := "LeastFramesModel", name := "isLess", desc := "(II)Z" } : Jvm.MethodName)) ∈ lw_all := lw_g (lw_at lw_m5 97 rfl) rfl
theorem q1142 : (Jvm.Cond.code ({ cls := "LeastFramesModel", name := "isLess", desc := "(II)Z" } : Jvm.MethodName) prog_9_method_35_code (3 : Nat) (Option.some Jvm.ClassFile.FieldType.boolean)) ∈ lw_all := lw_g (lw_at lw_m5 98 rfl) rfl
theorem q1143 : (Jvm.Cond.methodLink "LeastFramesModel" (160 : Nat) ({ cls := "LeastFramesModel", name := "no", desc := "(I)J" } : Jvm.MethodName)) ∈ lw_all := lw_g (lw_at lw_m5 99 rfl) rfl
theorem q1144 : (Jvm.Cond.static ({ cls := "LeastFramesModel", name := "no", desc := "(I)J" } : Jvm.MethodName)) ∈ lw_all := lw_g (lw_at lw_m5 100 rfl) rfl
theorem q1145 : (Jvm.Cond.code ({ cls := "LeastFramesModel", name := "no", desc := "(I)J" } : Jvm.MethodName) prog_9_method_4_code (1 : Nat) (Option.some Jvm.ClassFile.FieldType.long)) ∈ lw_all := lw_g (lw_at lw_m5 101 rfl) rfl
theorem q1146 : (Jvm.Cond.constantLong "LeastFramesModel" (54 : Nat) (-9223372036854775808 : Int64)) ∈ lw_all := lw_g (lw_at lw_m5 102 rfl) rfl
theorem q1148 : (Jvm.Cond.instanceMethod ({ cls := "LeastFramesModel", name := "fault", desc := "()I" } : Jvm.MethodName)) ∈ lw_all := lw_g (lw_at lw_m5 104 rfl) rfl
theorem q1149 : (Jvm.Cond.selects "LeastFramesModel" ({ cls := "LeastFramesModel", name := "fault", desc := "()I" } : Jvm.MethodName) ({ cls := "LeastFramesModel", name := "fault", desc := "()I" } : Jvm.MethodName)) ∈ lw_all := lw_g (lw_at lw_m5 105 rfl) rfl
theorem q1150 : (Jvm.Cond.code ({ cls := "LeastFramesModel", name := "fault", desc := "()I" } : Jvm.MethodName) prog_9_method_39_code (1 : Nat) (Option.some Jvm.ClassFile.FieldType.int)) ∈ lw_all := lw_g (lw_at lw_m5 106 rfl) rfl
theorem q1152 : (Jvm.Cond.instanceMethod ({ cls := "LeastFramesModel", name := "frame", desc := "()I" } : Jvm.MethodName)) ∈ lw_all := lw_g (lw_at lw_m5 108 rfl) rfl
theorem q1153 : (Jvm.Cond.selects "LeastFramesModel" ({ cls := "LeastFramesModel", name := "frame", desc := "()I" } : Jvm.MethodName) ({ cls := "LeastFramesModel", name := "frame", desc := "()I" } : Jvm.MethodName)) ∈ lw_all := lw_g (lw_at lw_m5 109 rfl) rfl
theorem q1154 : (Jvm.Cond.code ({ cls := "LeastFramesModel", name := "frame", desc := "()I" } : Jvm.MethodName) prog_9_method_41_code (1 : Nat) (Option.some Jvm.ClassFile.FieldType.int)) ∈ lw_all := lw_g (lw_at lw_m5 110 rfl) rfl
theorem q1155 : (Jvm.Cond.methodLink "LeastFramesModel" (168 : Nat) ({ cls := "LeastFramesModel", name := "frameNow", desc := "()I" } : Jvm.MethodName)) ∈ lw_all := lw_g (lw_at lw_m5 111 rfl) rfl
theorem q1156 : (Jvm.Cond.privateMethod ({ cls := "LeastFramesModel", name := "frameNow", desc := "()I" } : Jvm.MethodName)) ∈ lw_tbl := lw_at lw_m5 112 rfl
theorem q1157 : (Jvm.Cond.instanceMethod ({ cls := "LeastFramesModel", name := "frameNow", desc := "()I" } : Jvm.MethodName)) ∈ lw_all := lw_g (lw_at lw_m5 113 rfl) rfl
theorem q1158 : (Jvm.Cond.code ({ cls := "LeastFramesModel", name := "frameNow", desc := "()I" } : Jvm.MethodName) prog_9_method_40_code (2 : Nat) (Option.some Jvm.ClassFile.FieldType.int)) ∈ lw_all := lw_g (lw_at lw_m5 114 rfl) rfl
theorem q1160 : (Jvm.Cond.instanceMethod ({ cls := "LeastFramesModel", name := "pull", desc := "(II)J" } : Jvm.MethodName)) ∈ lw_all := lw_g (lw_at lw_m5 116 rfl) rfl
theorem q1161 : (Jvm.Cond.selects "LeastFramesModel" ({ cls := "LeastFramesModel", name := "pull", desc := "(II)J" } : Jvm.MethodName) ({ cls := "LeastFramesModel", name := "pull", desc := "(II)J" } : Jvm.MethodName)) ∈ lw_all := lw_g (lw_at lw_m5 117 rfl) rfl
theorem q1162 : (Jvm.Cond.code ({ cls := "LeastFramesModel", name := "pull", desc := "(II)J" } : Jvm.MethodName) prog_9_method_43_code (3 : Nat) (Option.some Jvm.ClassFile.FieldType.long)) ∈ lw_all := lw_g (lw_at lw_m5 118 rfl) rfl
theorem q1163 : (Jvm.Cond.methodLink "LeastFramesModel" (171 : Nat) ({ cls := "LeastFramesModel", name := "pullOf", desc := "(II)J" } : Jvm.MethodName)) ∈ lw_all := lw_g (lw_at lw_m5 119 rfl) rfl
theorem q1164 : (Jvm.Cond.privateMethod ({ cls := "LeastFramesModel", name := "pullOf", desc := "(II)J" } : Jvm.MethodName)) ∈ lw_tbl := lw_at lw_m5 120 rfl
theorem q1165 : (Jvm.Cond.instanceMethod ({ cls := "LeastFramesModel", name := "pullOf", desc := "(II)J" } : Jvm.MethodName)) ∈ lw_all := lw_g (lw_at lw_m5 121 rfl) rfl
theorem q1166 : (Jvm.Cond.code ({ cls := "LeastFramesModel", name := "pullOf", desc := "(II)J" } : Jvm.MethodName) prog_9_method_42_code (7 : Nat) (Option.some Jvm.ClassFile.FieldType.long)) ∈ lw_all := lw_g (lw_at lw_m5 122 rfl) rfl
theorem q1168 : (Jvm.Cond.instanceMethod ({ cls := "LeastFramesModel", name := "without", desc := "(II)J" } : Jvm.MethodName)) ∈ lw_all := lw_g (lw_at lw_m5 124 rfl) rfl
theorem q1169 : (Jvm.Cond.selects "LeastFramesModel" ({ cls := "LeastFramesModel", name := "without", desc := "(II)J" } : Jvm.MethodName) ({ cls := "LeastFramesModel", name := "without", desc := "(II)J" } : Jvm.MethodName)) ∈ lw_all := lw_g (lw_at lw_m5 125 rfl) rfl
theorem q1170 : (Jvm.Cond.code ({ cls := "LeastFramesModel", name := "without", desc := "(II)J" } : Jvm.MethodName) prog_9_method_44_code (3 : Nat) (Option.some Jvm.ClassFile.FieldType.long)) ∈ lw_all := lw_g (lw_at lw_m5 126 rfl) rfl
theorem q1171 : (Jvm.Cond.methodLink "LeastFramesModel" (174 : Nat) ({ cls := "LeastFramesModel", name := "isBar", desc := "(I)Z" } : Jvm.MethodName)) ∈ lw_all := lw_g (lw_at lw_m5 127 rfl) rfl
theorem q1172 : (Jvm.Cond.privateMethod ({ cls := "LeastFramesModel", name := "isBar", desc := "(I)Z" } : Jvm.MethodName)) ∈ lw_tbl := lw_at lw_m5 128 rfl
theorem q1173 : (Jvm.Cond.instanceMethod ({ cls := "LeastFramesModel", name := "isBar", desc := "(I)Z" } : Jvm.MethodName)) ∈ lw_all := lw_g (lw_at lw_m5 129 rfl) rfl
theorem q1174 : (Jvm.Cond.code ({ cls := "LeastFramesModel", name := "isBar", desc := "(I)Z" } : Jvm.MethodName) prog_9_method_10_code (2 : Nat) (Option.some Jvm.ClassFile.FieldType.boolean)) ∈ lw_all := lw_g (lw_at lw_m5 130 rfl) rfl
theorem q1176 : (Jvm.Cond.instanceMethod ({ cls := "LeastFramesModel", name := "why", desc := "(I)I" } : Jvm.MethodName)) ∈ lw_all := lw_g (lw_at lw_m5 132 rfl) rfl
theorem q1177 : (Jvm.Cond.selects "LeastFramesModel" ({ cls := "LeastFramesModel", name := "why", desc := "(I)I" } : Jvm.MethodName) ({ cls := "LeastFramesModel", name := "why", desc := "(I)I" } : Jvm.MethodName)) ∈ lw_all := lw_g (lw_at lw_m5 133 rfl) rfl
theorem q1178 : (Jvm.Cond.code ({ cls := "LeastFramesModel", name := "why", desc := "(I)I" } : Jvm.MethodName) prog_9_method_45_code (2 : Nat) (Option.some Jvm.ClassFile.FieldType.int)) ∈ lw_all := lw_g (lw_at lw_m5 134 rfl) rfl
theorem q1180 : (Jvm.Cond.instanceMethod ({ cls := "LeastFramesModel", name := "needed", desc := "()I" } : Jvm.MethodName)) ∈ lw_all := lw_g (lw_at lw_m5 136 rfl) rfl
theorem q1181 : (Jvm.Cond.selects "LeastFramesModel" ({ cls := "LeastFramesModel", name := "needed", desc := "()I" } : Jvm.MethodName) ({ cls := "LeastFramesModel", name := "needed", desc := "()I" } : Jvm.MethodName)) ∈ lw_all := lw_g (lw_at lw_m5 137 rfl) rfl
theorem q1182 : (Jvm.Cond.code ({ cls := "LeastFramesModel", name := "needed", desc := "()I" } : Jvm.MethodName) prog_9_method_48_code (1 : Nat) (Option.some Jvm.ClassFile.FieldType.int)) ∈ lw_all := lw_g (lw_at lw_m5 138 rfl) rfl
theorem q1183 : (Jvm.Cond.methodLink "LeastFramesModel" (180 : Nat) ({ cls := "LeastFramesModel", name := "neededNow", desc := "()I" } : Jvm.MethodName)) ∈ lw_all := lw_g (lw_at lw_m5 139 rfl) rfl
theorem q1184 : (Jvm.Cond.privateMethod ({ cls := "LeastFramesModel", name := "neededNow", desc := "()I" } : Jvm.MethodName)) ∈ lw_tbl := lw_at lw_m5 140 rfl
theorem q1185 : (Jvm.Cond.instanceMethod ({ cls := "LeastFramesModel", name := "neededNow", desc := "()I" } : Jvm.MethodName)) ∈ lw_all := lw_g (lw_at lw_m5 141 rfl) rfl
theorem q1186 : (Jvm.Cond.code ({ cls := "LeastFramesModel", name := "neededNow", desc := "()I" } : Jvm.MethodName) prog_9_method_47_code (4 : Nat) (Option.some Jvm.ClassFile.FieldType.int)) ∈ lw_all := lw_g (lw_at lw_m5 142 rfl) rfl
theorem q1187 : (Jvm.Cond.methodLink "LeastFramesModel" (177 : Nat) ({ cls := "LeastFramesModel", name := "isNeeded", desc := "(II)Z" } : Jvm.MethodName)) ∈ lw_all := lw_g (lw_at lw_m5 143 rfl) rfl
theorem q1188 : (Jvm.Cond.privateMethod ({ cls := "LeastFramesModel", name := "isNeeded", desc := "(II)Z" } : Jvm.MethodName)) ∈ lw_tbl := lw_at lw_m5 144 rfl
theorem q1189 : (Jvm.Cond.instanceMethod ({ cls := "LeastFramesModel", name := "isNeeded", desc := "(II)Z" } : Jvm.MethodName)) ∈ lw_all := lw_g (lw_at lw_m5 145 rfl) rfl
theorem q1190 : (Jvm.Cond.code ({ cls := "LeastFramesModel", name := "isNeeded", desc := "(II)Z" } : Jvm.MethodName) prog_9_method_46_code (4 : Nat) (Option.some Jvm.ClassFile.FieldType.boolean)) ∈ lw_all := lw_g (lw_at lw_m5 146 rfl) rfl
theorem q1192 : (Jvm.Cond.instanceMethod ({ cls := "LeastFramesModel", name := "dearest", desc := "()I" } : Jvm.MethodName)) ∈ lw_all := lw_g (lw_at lw_m5 148 rfl) rfl
theorem q1193 : (Jvm.Cond.selects "LeastFramesModel" ({ cls := "LeastFramesModel", name := "dearest", desc := "()I" } : Jvm.MethodName) ({ cls := "LeastFramesModel", name := "dearest", desc := "()I" } : Jvm.MethodName)) ∈ lw_all := lw_g (lw_at lw_m5 149 rfl) rfl
theorem q1194 : (Jvm.Cond.code ({ cls := "LeastFramesModel", name := "dearest", desc := "()I" } : Jvm.MethodName) prog_9_method_50_code (1 : Nat) (Option.some Jvm.ClassFile.FieldType.int)) ∈ lw_all := lw_g (lw_at lw_m5 150 rfl) rfl
theorem q1195 : (Jvm.Cond.methodLink "LeastFramesModel" (183 : Nat) ({ cls := "LeastFramesModel", name := "dearestNow", desc := "()I" } : Jvm.MethodName)) ∈ lw_all := lw_g (lw_at lw_m5 151 rfl) rfl
theorem q1196 : (Jvm.Cond.privateMethod ({ cls := "LeastFramesModel", name := "dearestNow", desc := "()I" } : Jvm.MethodName)) ∈ lw_tbl := lw_at lw_m5 152 rfl
theorem q1197 : (Jvm.Cond.instanceMethod ({ cls := "LeastFramesModel", name := "dearestNow", desc := "()I" } : Jvm.MethodName)) ∈ lw_all := lw_g (lw_at lw_m5 153 rfl) rfl
theorem q1198 : (Jvm.Cond.code ({ cls := "LeastFramesModel", name := "dearestNow", desc := "()I" } : Jvm.MethodName) prog_9_method_49_code (7 : Nat) (Option.some Jvm.ClassFile.FieldType.int)) ∈ lw_all := lw_g (lw_at lw_m5 154 rfl) rfl
theorem q1200 : (Jvm.Cond.instanceMethod ({ cls := "LeastFramesModel", name := "gain", desc := "(II)J" } : Jvm.MethodName)) ∈ lw_all := lw_g (lw_at lw_m5 156 rfl) rfl
theorem q1201 : (Jvm.Cond.selects "LeastFramesModel" ({ cls := "LeastFramesModel", name := "gain", desc := "(II)J" } : Jvm.MethodName) ({ cls := "LeastFramesModel", name := "gain", desc := "(II)J" } : Jvm.MethodName)) ∈ lw_all := lw_g (lw_at lw_m5 157 rfl) rfl
theorem q1202 : (Jvm.Cond.code ({ cls := "LeastFramesModel", name := "gain", desc := "(II)J" } : Jvm.MethodName) prog_9_method_52_code (3 : Nat) (Option.some Jvm.ClassFile.FieldType.long)) ∈ lw_all := lw_g (lw_at lw_m5 158 rfl) rfl
theorem q1203 : (Jvm.Cond.methodLink "LeastFramesModel" (186 : Nat) ({ cls := "LeastFramesModel", name := "gainOf", desc := "(II)J" } : Jvm.MethodName)) ∈ lw_all := lw_g (lw_at lw_m5 159 rfl) rfl
theorem q1204 : (Jvm.Cond.privateMethod ({ cls := "LeastFramesModel", name := "gainOf", desc := "(II)J" } : Jvm.MethodName)) ∈ lw_tbl := lw_at lw_m5 160 rfl
theorem q1205 : (Jvm.Cond.instanceMethod ({ cls := "LeastFramesModel", name := "gainOf", desc := "(II)J" } : Jvm.MethodName)) ∈ lw_all := lw_g (lw_at lw_m5 161 rfl) rfl
theorem q1206 : (Jvm.Cond.code ({ cls := "LeastFramesModel", name := "gainOf", desc := "(II)J" } : Jvm.MethodName) prog_9_method_51_code (5 : Nat) (Option.some Jvm.ClassFile.FieldType.long)) ∈ lw_all := lw_g (lw_at lw_m5 162 rfl) rfl
theorem q1208 : (Jvm.Cond.instanceMethod ({ cls := "LeastFramesModel", name := "grow", desc := "()I" } : Jvm.MethodName)) ∈ lw_all := lw_g (lw_at lw_m5 164 rfl) rfl
theorem q1209 : (Jvm.Cond.selects "LeastFramesModel" ({ cls := "LeastFramesModel", name := "grow", desc := "()I" } : Jvm.MethodName) ({ cls := "LeastFramesModel", name := "grow", desc := "()I" } : Jvm.MethodName)) ∈ lw_all := lw_g (lw_at lw_m5 165 rfl) rfl
theorem q1210 : (Jvm.Cond.code ({ cls := "LeastFramesModel", name := "grow", desc := "()I" } : Jvm.MethodName) prog_9_method_54_code (3 : Nat) (Option.some Jvm.ClassFile.FieldType.int)) ∈ lw_all := lw_g (lw_at lw_m5 166 rfl) rfl
theorem q1211 : (Jvm.Cond.methodLink "LeastFramesModel" (189 : Nat) ({ cls := "LeastFramesModel", name := "growing", desc := "()I" } : Jvm.MethodName)) ∈ lw_all := lw_g (lw_at lw_m5 167 rfl) rfl
theorem q1212 : (Jvm.Cond.privateMethod ({ cls := "LeastFramesModel", name := "growing", desc := "()I" } : Jvm.MethodName)) ∈ lw_tbl := lw_at lw_m5 168 rfl
theorem q1213 : (Jvm.Cond.instanceMethod ({ cls := "LeastFramesModel", name := "growing", desc := "()I" } : Jvm.MethodName)) ∈ lw_all := lw_g (lw_at lw_m5 169 rfl) rfl
theorem q1214 : (Jvm.Cond.code ({ cls := "LeastFramesModel", name := "growing", desc := "()I" } : Jvm.MethodName) prog_9_method_53_code (5 : Nat) (Option.some Jvm.ClassFile.FieldType.int)) ∈ lw_all := lw_g (lw_at lw_m5 170 rfl) rfl
theorem q1216 : (Jvm.Cond.instanceMethod ({ cls := "LeastFramesModel", name := "prune", desc := "()I" } : Jvm.MethodName)) ∈ lw_all := lw_g (lw_at lw_m5 172 rfl) rfl
theorem q1217 : (Jvm.Cond.selects "LeastFramesModel" ({ cls := "LeastFramesModel", name := "prune", desc := "()I" } : Jvm.MethodName) ({ cls := "LeastFramesModel", name := "prune", desc := "()I" } : Jvm.MethodName)) ∈ lw_all := lw_g (lw_at lw_m5 173 rfl) rfl
theorem q1218 : (Jvm.Cond.code ({ cls := "LeastFramesModel", name := "prune", desc := "()I" } : Jvm.MethodName) prog_9_method_55_code (3 : Nat) (Option.some Jvm.ClassFile.FieldType.int)) ∈ lw_all := lw_g (lw_at lw_m5 174 rfl) rfl
theorem q1220 : (Jvm.Cond.instanceMethod ({ cls := "LeastFramesModel", name := "would", desc := "(IIII)J" } : Jvm.MethodName)) ∈ lw_all := lw_g (lw_at lw_m5 176 rfl) rfl
theorem q1221 : (Jvm.Cond.selects "LeastFramesModel" ({ cls := "LeastFramesModel", name := "would", desc := "(IIII)J" } : Jvm.MethodName) ({ cls := "LeastFramesModel", name := "would", desc := "(IIII)J" } : Jvm.MethodName)) ∈ lw_all := lw_g (lw_at lw_m5 177 rfl) rfl
theorem q1222 : (Jvm.Cond.code ({ cls := "LeastFramesModel", name := "would", desc := "(IIII)J" } : Jvm.MethodName) prog_9_method_57_code (5 : Nat) (Option.some Jvm.ClassFile.FieldType.long)) ∈ lw_all := lw_g (lw_at lw_m5 178 rfl) rfl
theorem q1223 : (Jvm.Cond.methodLink "LeastFramesModel" (192 : Nat) ({ cls := "LeastFramesModel", name := "wouldBe", desc := "(III)J" } : Jvm.MethodName)) ∈ lw_all := lw_g (lw_at lw_m5 179 rfl) rfl
theorem q1224 : (Jvm.Cond.privateMethod ({ cls := "LeastFramesModel", name := "wouldBe", desc := "(III)J" } : Jvm.MethodName)) ∈ lw_tbl := lw_at lw_m5 180 rfl
theorem q1225 : (Jvm.Cond.instanceMethod ({ cls := "LeastFramesModel", name := "wouldBe", desc := "(III)J" } : Jvm.MethodName)) ∈ lw_all := lw_g (lw_at lw_m5 181 rfl) rfl
theorem q1226 : (Jvm.Cond.code ({ cls := "LeastFramesModel", name := "wouldBe", desc := "(III)J" } : Jvm.MethodName) prog_9_method_56_code (7 : Nat) (Option.some Jvm.ClassFile.FieldType.long)) ∈ lw_all := lw_g (lw_at lw_m5 182 rfl) rfl
theorem q1228 : (Jvm.Cond.instanceMethod ({ cls := "LeastFramesModel", name := "shift", desc := "(III)I" } : Jvm.MethodName)) ∈ lw_all := lw_g (lw_at lw_m5 184 rfl) rfl
theorem q1229 : (Jvm.Cond.selects "LeastFramesModel" ({ cls := "LeastFramesModel", name := "shift", desc := "(III)I" } : Jvm.MethodName) ({ cls := "LeastFramesModel", name := "shift", desc := "(III)I" } : Jvm.MethodName)) ∈ lw_all := lw_g (lw_at lw_m5 185 rfl) rfl
theorem q1230 : (Jvm.Cond.code ({ cls := "LeastFramesModel", name := "shift", desc := "(III)I" } : Jvm.MethodName) prog_9_method_58_code (5 : Nat) (Option.some Jvm.ClassFile.FieldType.int)) ∈ lw_all := lw_g (lw_at lw_m5 186 rfl) rfl
theorem q1232 : (Jvm.Cond.instanceMethod ({ cls := "LeastFramesModel", name := "stretch", desc := "(II)J" } : Jvm.MethodName)) ∈ lw_all := lw_g (lw_at lw_m5 188 rfl) rfl
theorem q1233 : (Jvm.Cond.selects "LeastFramesModel" ({ cls := "LeastFramesModel", name := "stretch", desc := "(II)J" } : Jvm.MethodName) ({ cls := "LeastFramesModel", name := "stretch", desc := "(II)J" } : Jvm.MethodName)) ∈ lw_all := lw_g (lw_at lw_m5 189 rfl) rfl
theorem q1234 : (Jvm.Cond.code ({ cls := "LeastFramesModel", name := "stretch", desc := "(II)J" } : Jvm.MethodName) prog_9_method_61_code (3 : Nat) (Option.some Jvm.ClassFile.FieldType.long)) ∈ lw_all := lw_g (lw_at lw_m5 190 rfl) rfl
theorem q1235 : (Jvm.Cond.methodLink "LeastFramesModel" (199 : Nat) ({ cls := "LeastFramesModel", name := "stretchOf", desc := "(I)I" } : Jvm.MethodName)) ∈ lw_all := lw_g (lw_at lw_m5 191 rfl) rfl
theorem q1236 : (Jvm.Cond.privateMethod ({ cls := "LeastFramesModel", name := "stretchOf", desc := "(I)I" } : Jvm.MethodName)) ∈ lw_tbl := lw_at lw_m5 192 rfl
theorem q1237 : (Jvm.Cond.instanceMethod ({ cls := "LeastFramesModel", name := "stretchOf", desc := "(I)I" } : Jvm.MethodName)) ∈ lw_all := lw_g (lw_at lw_m5 193 rfl) rfl
theorem q1238 : (Jvm.Cond.code ({ cls := "LeastFramesModel", name := "stretchOf", desc := "(I)I" } : Jvm.MethodName) prog_9_method_60_code (4 : Nat) (Option.some Jvm.ClassFile.FieldType.int)) ∈ lw_all := lw_g (lw_at lw_m5 194 rfl) rfl
theorem q1239 : (Jvm.Cond.methodLink "LeastFramesModel" (196 : Nat) ({ cls := "LeastFramesModel", name := "shiftAt", desc := "(I)I" } : Jvm.MethodName)) ∈ lw_all := lw_g (lw_at lw_m5 195 rfl) rfl
theorem q1240 : (Jvm.Cond.privateMethod ({ cls := "LeastFramesModel", name := "shiftAt", desc := "(I)I" } : Jvm.MethodName)) ∈ lw_tbl := lw_at lw_m5 196 rfl
theorem q1241 : (Jvm.Cond.instanceMethod ({ cls := "LeastFramesModel", name := "shiftAt", desc := "(I)I" } : Jvm.MethodName)) ∈ lw_all := lw_g (lw_at lw_m5 197 rfl) rfl
theorem q1242 : (Jvm.Cond.code ({ cls := "LeastFramesModel", name := "shiftAt", desc := "(I)I" } : Jvm.MethodName) prog_9_method_59_code (2 : Nat) (Option.some Jvm.ClassFile.FieldType.int)) ∈ lw_all := lw_g (lw_at lw_m5 198 rfl) rfl
theorem q1243 : (Jvm.Cond.constantLong "LeastFramesModel" (202 : Nat) (12 : Int64)) ∈ lw_all := lw_g (lw_at lw_m5 199 rfl) rfl
theorem q1245 : (Jvm.Cond.instanceMethod ({ cls := "LeastFramesModel", name := "work", desc := "(I)J" } : Jvm.MethodName)) ∈ lw_all := lw_g (lw_at lw_m5 201 rfl) rfl
theorem q1246 : (Jvm.Cond.selects "LeastFramesModel" ({ cls := "LeastFramesModel", name := "work", desc := "(I)J" } : Jvm.MethodName) ({ cls := "LeastFramesModel", name := "work", desc := "(I)J" } : Jvm.MethodName)) ∈ lw_all := lw_g (lw_at lw_m5 202 rfl) rfl
theorem q1247 : (Jvm.Cond.code ({ cls := "LeastFramesModel", name := "work", desc := "(I)J" } : Jvm.MethodName) prog_9_method_63_code (2 : Nat) (Option.some Jvm.ClassFile.FieldType.long)) ∈ lw_all := lw_g (lw_at lw_m5 203 rfl) rfl
theorem q1248 : (Jvm.Cond.methodLink "LeastFramesModel" (204 : Nat) ({ cls := "LeastFramesModel", name := "workNow", desc := "()I" } : Jvm.MethodName)) ∈ lw_all := lw_g (lw_at lw_m5 204 rfl) rfl
theorem q1249 : (Jvm.Cond.privateMethod ({ cls := "LeastFramesModel", name := "workNow", desc := "()I" } : Jvm.MethodName)) ∈ lw_tbl := lw_at lw_m5 205 rfl
theorem q1250 : (Jvm.Cond.instanceMethod ({ cls := "LeastFramesModel", name := "workNow", desc := "()I" } : Jvm.MethodName)) ∈ lw_all := lw_g (lw_at lw_m5 206 rfl) rfl
theorem q1251 : (Jvm.Cond.code ({ cls := "LeastFramesModel", name := "workNow", desc := "()I" } : Jvm.MethodName) prog_9_method_62_code (3 : Nat) (Option.some Jvm.ClassFile.FieldType.int)) ∈ lw_all := lw_g (lw_at lw_m5 207 rfl) rfl
theorem q1253 : (Jvm.Cond.instanceMethod ({ cls := "LeastFramesModel", name := "proves", desc := "()I" } : Jvm.MethodName)) ∈ lw_all := lw_g (lw_at lw_m5 209 rfl) rfl
theorem q1254 : (Jvm.Cond.selects "LeastFramesModel" ({ cls := "LeastFramesModel", name := "proves", desc := "()I" } : Jvm.MethodName) ({ cls := "LeastFramesModel", name := "proves", desc := "()I" } : Jvm.MethodName)) ∈ lw_all := lw_g (lw_at lw_m5 210 rfl) rfl
theorem q1255 : (Jvm.Cond.code ({ cls := "LeastFramesModel", name := "proves", desc := "()I" } : Jvm.MethodName) prog_9_method_65_code (1 : Nat) (Option.some Jvm.ClassFile.FieldType.int)) ∈ lw_all := lw_g (lw_at lw_m5 211 rfl) rfl
theorem q1256 : (Jvm.Cond.methodLink "LeastFramesModel" (207 : Nat) ({ cls := "LeastFramesModel", name := "provesNow", desc := "()I" } : Jvm.MethodName)) ∈ lw_all := lw_g (lw_at lw_m5 212 rfl) rfl
theorem q1257 : (Jvm.Cond.privateMethod ({ cls := "LeastFramesModel", name := "provesNow", desc := "()I" } : Jvm.MethodName)) ∈ lw_tbl := lw_at lw_m5 213 rfl
theorem q1258 : (Jvm.Cond.instanceMethod ({ cls := "LeastFramesModel", name := "provesNow", desc := "()I" } : Jvm.MethodName)) ∈ lw_all := lw_g (lw_at lw_m5 214 rfl) rfl
theorem q1259 : (Jvm.Cond.code ({ cls := "LeastFramesModel", name := "provesNow", desc := "()I" } : Jvm.MethodName) prog_9_method_64_code (3 : Nat) (Option.some Jvm.ClassFile.FieldType.int)) ∈ lw_all := lw_g (lw_at lw_m5 215 rfl) rfl
theorem q1261 : (Jvm.Cond.instanceMethod ({ cls := "LeastFramesModel", name := "cross", desc := "(II)I" } : Jvm.MethodName)) ∈ lw_all := lw_g (lw_at lw_m5 217 rfl) rfl
theorem q1262 : (Jvm.Cond.selects "LeastFramesModel" ({ cls := "LeastFramesModel", name := "cross", desc := "(II)I" } : Jvm.MethodName) ({ cls := "LeastFramesModel", name := "cross", desc := "(II)I" } : Jvm.MethodName)) ∈ lw_all := lw_g (lw_at lw_m5 218 rfl) rfl
theorem q1263 : (Jvm.Cond.code ({ cls := "LeastFramesModel", name := "cross", desc := "(II)I" } : Jvm.MethodName) prog_9_method_70_code (3 : Nat) (Option.some Jvm.ClassFile.FieldType.int)) ∈ lw_all := lw_g (lw_at lw_m5 219 rfl) rfl
theorem q1264 : (Jvm.Cond.methodLink "LeastFramesModel" (225 : Nat) ({ cls := "LeastFramesModel", name := "crossOf", desc := "(II)I" } : Jvm.MethodName)) ∈ lw_all := lw_g (lw_at lw_m5 220 rfl) rfl
theorem q1265 : (Jvm.Cond.privateMethod ({ cls := "LeastFramesModel", name := "crossOf", desc := "(II)I" } : Jvm.MethodName)) ∈ lw_tbl := lw_at lw_m5 221 rfl
theorem q1266 : (Jvm.Cond.instanceMethod ({ cls := "LeastFramesModel", name := "crossOf", desc := "(II)I" } : Jvm.MethodName)) ∈ lw_all := lw_g (lw_at lw_m5 222 rfl) rfl
theorem q1267 : (Jvm.Cond.code ({ cls := "LeastFramesModel", name := "crossOf", desc := "(II)I" } : Jvm.MethodName) prog_9_method_69_code (7 : Nat) (Option.some Jvm.ClassFile.FieldType.int)) ∈ lw_all := lw_g (lw_at lw_m5 223 rfl) rfl
theorem q1268 : (Jvm.Cond.methodLink "LeastFramesModel" (222 : Nat) ({ cls := "LeastFramesModel", name := "crossing", desc := "(II)I" } : Jvm.MethodName)) ∈ lw_all := lw_g (lw_at lw_m5 224 rfl) rfl
theorem q1269 : (Jvm.Cond.privateMethod ({ cls := "LeastFramesModel", name := "crossing", desc := "(II)I" } : Jvm.MethodName)) ∈ lw_tbl := lw_at lw_m5 225 rfl
theorem q1270 : (Jvm.Cond.instanceMethod ({ cls := "LeastFramesModel", name := "crossing", desc := "(II)I" } : Jvm.MethodName)) ∈ lw_all := lw_g (lw_at lw_m5 226 rfl) rfl
theorem q1271 : (Jvm.Cond.code ({ cls := "LeastFramesModel", name := "crossing", desc := "(II)I" } : Jvm.MethodName) prog_9_method_67_code (8 : Nat) (Option.some Jvm.ClassFile.FieldType.int)) ∈ lw_all := lw_g (lw_at lw_m5 227 rfl) rfl
theorem q1272 : (Jvm.Cond.methodLink "LeastFramesModel" (219 : Nat) ({ cls := "LeastFramesModel", name := "isCross", desc := "(II)Z" } : Jvm.MethodName)) ∈ lw_all := lw_g (lw_at lw_m5 228 rfl) rfl
theorem q1273 : (Jvm.Cond.privateMethod ({ cls := "LeastFramesModel", name := "isCross", desc := "(II)Z" } : Jvm.MethodName)) ∈ lw_tbl := lw_at lw_m5 229 rfl
theorem q1274 : (Jvm.Cond.instanceMethod ({ cls := "LeastFramesModel", name := "isCross", desc := "(II)Z" } : Jvm.MethodName)) ∈ lw_all := lw_g (lw_at lw_m5 230 rfl) rfl
theorem q1275 : (Jvm.Cond.code ({ cls := "LeastFramesModel", name := "isCross", desc := "(II)Z" } : Jvm.MethodName) prog_9_method_66_code (7 : Nat) (Option.some Jvm.ClassFile.FieldType.boolean)) ∈ lw_all := lw_g (lw_at lw_m5 231 rfl) rfl
theorem q1277 : (Jvm.Cond.instanceMethod ({ cls := "LeastFramesModel", name := "sheet", desc := "(III)I" } : Jvm.MethodName)) ∈ lw_all := lw_g (lw_at lw_m5 233 rfl) rfl
theorem q1278 : (Jvm.Cond.selects "LeastFramesModel" ({ cls := "LeastFramesModel", name := "sheet", desc := "(III)I" } : Jvm.MethodName) ({ cls := "LeastFramesModel", name := "sheet", desc := "(III)I" } : Jvm.MethodName)) ∈ lw_all := lw_g (lw_at lw_m5 234 rfl) rfl
theorem q1279 : (Jvm.Cond.code ({ cls := "LeastFramesModel", name := "sheet", desc := "(III)I" } : Jvm.MethodName) prog_9_method_73_code (5 : Nat) (Option.some Jvm.ClassFile.FieldType.int)) ∈ lw_all := lw_g (lw_at lw_m5 235 rfl) rfl
theorem q1281 : (Jvm.Cond.instanceMethod ({ cls := "LeastFramesModel", name := "lose", desc := "(I)I" } : Jvm.MethodName)) ∈ lw_all := lw_g (lw_at lw_m5 237 rfl) rfl
theorem q1282 : (Jvm.Cond.selects "LeastFramesModel" ({ cls := "LeastFramesModel", name := "lose", desc := "(I)I" } : Jvm.MethodName) ({ cls := "LeastFramesModel", name := "lose", desc := "(I)I" } : Jvm.MethodName)) ∈ lw_all := lw_g (lw_at lw_m5 238 rfl) rfl
theorem q1283 : (Jvm.Cond.code ({ cls := "LeastFramesModel", name := "lose", desc := "(I)I" } : Jvm.MethodName) prog_9_method_74_code (2 : Nat) (Option.some Jvm.ClassFile.FieldType.int)) ∈ lw_all := lw_g (lw_at lw_m5 239 rfl) rfl
theorem q1285 : (Jvm.Cond.instanceMethod ({ cls := "LeastFramesModel", name := "put", desc := "(IIII)I" } : Jvm.MethodName)) ∈ lw_all := lw_g (lw_at lw_m6 1 rfl) rfl
theorem q1286 : (Jvm.Cond.selects "LeastFramesModel" ({ cls := "LeastFramesModel", name := "put", desc := "(IIII)I" } : Jvm.MethodName) ({ cls := "LeastFramesModel", name := "put", desc := "(IIII)I" } : Jvm.MethodName)) ∈ lw_all := lw_g (lw_at lw_m6 2 rfl) rfl
theorem q1287 : (Jvm.Cond.code ({ cls := "LeastFramesModel", name := "put", desc := "(IIII)I" } : Jvm.MethodName) prog_9_method_75_code (7 : Nat) (Option.some Jvm.ClassFile.FieldType.int)) ∈ lw_all := lw_g (lw_at lw_m6 3 rfl) rfl
theorem q1288 : (Jvm.Cond.constant "LeastFramesModel" (231 : Nat) (-2097152 : Int32)) ∈ lw_all := lw_g (lw_at lw_m6 4 rfl) rfl
theorem q1289 : (Jvm.Cond.constant "LeastFramesModel" (232 : Nat) (2097151 : Int32)) ∈ lw_all := lw_g (lw_at lw_m6 5 rfl) rfl
theorem q1291 : (Jvm.Cond.instanceMethod ({ cls := "LeastFramesModel", name := "get", desc := "(II)J" } : Jvm.MethodName)) ∈ lw_all := lw_g (lw_at lw_m6 7 rfl) rfl
theorem q1292 : (Jvm.Cond.selects "LeastFramesModel" ({ cls := "LeastFramesModel", name := "get", desc := "(II)J" } : Jvm.MethodName) ({ cls := "LeastFramesModel", name := "get", desc := "(II)J" } : Jvm.MethodName)) ∈ lw_all := lw_g (lw_at lw_m6 8 rfl) rfl
theorem q1293 : (Jvm.Cond.code ({ cls := "LeastFramesModel", name := "get", desc := "(II)J" } : Jvm.MethodName) prog_9_method_76_code (4 : Nat) (Option.some Jvm.ClassFile.FieldType.long)) ∈ lw_all := lw_g (lw_at lw_m6 9 rfl) rfl
theorem q1295 : (Jvm.Cond.instanceMethod ({ cls := "LeastFramesModel", name := "copy", desc := "(IIIII)I" } : Jvm.MethodName)) ∈ lw_all := lw_g (lw_at lw_m6 11 rfl) rfl
theorem q1296 : (Jvm.Cond.selects "LeastFramesModel" ({ cls := "LeastFramesModel", name := "copy", desc := "(IIIII)I" } : Jvm.MethodName) ({ cls := "LeastFramesModel", name := "copy", desc := "(IIIII)I" } : Jvm.MethodName)) ∈ lw_all := lw_g (lw_at lw_m6 12 rfl) rfl
theorem q1297 : (Jvm.Cond.code ({ cls := "LeastFramesModel", name := "copy", desc := "(IIIII)I" } : Jvm.MethodName) prog_9_method_77_code (7 : Nat) (Option.some Jvm.ClassFile.FieldType.int)) ∈ lw_all := lw_g (lw_at lw_m6 13 rfl) rfl
theorem q1299 : (Jvm.Cond.instanceMethod ({ cls := "LeastFramesModel", name := "write", desc := "(I)I" } : Jvm.MethodName)) ∈ lw_all := lw_g (lw_at lw_m6 15 rfl) rfl
theorem q1300 : (Jvm.Cond.selects "LeastFramesModel" ({ cls := "LeastFramesModel", name := "write", desc := "(I)I" } : Jvm.MethodName) ({ cls := "LeastFramesModel", name := "write", desc := "(I)I" } : Jvm.MethodName)) ∈ lw_all := lw_g (lw_at lw_m6 16 rfl) rfl
theorem q1301 : (Jvm.Cond.code ({ cls := "LeastFramesModel", name := "write", desc := "(I)I" } : Jvm.MethodName) prog_9_method_78_code (5 : Nat) (Option.some Jvm.ClassFile.FieldType.int)) ∈ lw_all := lw_g (lw_at lw_m6 17 rfl) rfl
theorem q1303 : (Jvm.Cond.instanceMethod ({ cls := "LeastFramesModel", name := "count", desc := "(I)I" } : Jvm.MethodName)) ∈ lw_all := lw_g (lw_at lw_m6 19 rfl) rfl
theorem q1304 : (Jvm.Cond.selects "LeastFramesModel" ({ cls := "LeastFramesModel", name := "count", desc := "(I)I" } : Jvm.MethodName) ({ cls := "LeastFramesModel", name := "count", desc := "(I)I" } : Jvm.MethodName)) ∈ lw_all := lw_g (lw_at lw_m6 20 rfl) rfl
theorem q1305 : (Jvm.Cond.code ({ cls := "LeastFramesModel", name := "count", desc := "(I)I" } : Jvm.MethodName) prog_9_method_80_code (3 : Nat) (Option.some Jvm.ClassFile.FieldType.int)) ∈ lw_all := lw_g (lw_at lw_m6 21 rfl) rfl
theorem q1306 : (Jvm.Cond.methodLink "LeastFramesModel" (233 : Nat) ({ cls := "LeastFramesModel", name := "ways", desc := "()I" } : Jvm.MethodName)) ∈ lw_all := lw_g (lw_at lw_m6 22 rfl) rfl
theorem q1307 : (Jvm.Cond.privateMethod ({ cls := "LeastFramesModel", name := "ways", desc := "()I" } : Jvm.MethodName)) ∈ lw_tbl := lw_at lw_m6 23 rfl
theorem q1308 : (Jvm.Cond.instanceMethod ({ cls := "LeastFramesModel", name := "ways", desc := "()I" } : Jvm.MethodName)) ∈ lw_all := lw_g (lw_at lw_m6 24 rfl) rfl
theorem q1309 : (Jvm.Cond.code ({ cls := "LeastFramesModel", name := "ways", desc := "()I" } : Jvm.MethodName) prog_9_method_79_code (3 : Nat) (Option.some Jvm.ClassFile.FieldType.int)) ∈ lw_all := lw_g (lw_at lw_m6 25 rfl) rfl
theorem q1310 : (Jvm.Cond.methodLink "LeastFramesModel" (236 : Nat) ({ cls := "LeastFramesModel", name := "crossings", desc := "()I" } : Jvm.MethodName)) ∈ lw_all := lw_g (lw_at lw_m6 26 rfl) rfl
theorem q1311 : (Jvm.Cond.privateMethod ({ cls := "LeastFramesModel", name := "crossings", desc := "()I" } : Jvm.MethodName)) ∈ lw_tbl := lw_at lw_m6 27 rfl
theorem q1312 : (Jvm.Cond.instanceMethod ({ cls := "LeastFramesModel", name := "crossings", desc := "()I" } : Jvm.MethodName)) ∈ lw_all := lw_g (lw_at lw_m6 28 rfl) rfl
theorem q1313 : (Jvm.Cond.code ({ cls := "LeastFramesModel", name := "crossings", desc := "()I" } : Jvm.MethodName) prog_9_method_68_code (3 : Nat) (Option.some Jvm.ClassFile.FieldType.int)) ∈ lw_all := lw_g (lw_at lw_m6 29 rfl) rfl
theorem q1315 : (Jvm.Cond.instanceMethod ({ cls := "LeastFramesModel", name := "digest", desc := "()J" } : Jvm.MethodName)) ∈ lw_all := lw_g (lw_at lw_m6 31 rfl) rfl
theorem q1316 : (Jvm.Cond.selects "LeastFramesModel" ({ cls := "LeastFramesModel", name := "digest", desc := "()J" } : Jvm.MethodName) ({ cls := "LeastFramesModel", name := "digest", desc := "()J" } : Jvm.MethodName)) ∈ lw_all := lw_g (lw_at lw_m6 32 rfl) rfl
theorem q1317 : (Jvm.Cond.code ({ cls := "LeastFramesModel", name := "digest", desc := "()J" } : Jvm.MethodName) prog_9_method_82_code (6 : Nat) (Option.some Jvm.ClassFile.FieldType.long)) ∈ lw_all := lw_g (lw_at lw_m6 33 rfl) rfl
theorem q1318 : (Jvm.Cond.constantLong "LeastFramesModel" (250 : Nat) (17 : Int64)) ∈ lw_all := lw_g (lw_at lw_m6 34 rfl) rfl
theorem q1319 : (Jvm.Cond.constantLong "LeastFramesModel" (239 : Nat) (31 : Int64)) ∈ lw_all := lw_g (lw_at lw_m6 35 rfl) rfl
theorem q1320 : (Jvm.Cond.methodLink "LeastFramesModel" (252 : Nat) ({ cls := "LeastFramesModel", name := "count", desc := "(I)I" } : Jvm.MethodName)) ∈ lw_all := lw_g (lw_at lw_m6 36 rfl) rfl
theorem q1321 : (Jvm.Cond.methodLink "LeastFramesModel" (255 : Nat) ({ cls := "LeastFramesModel", name := "fault", desc := "()I" } : Jvm.MethodName)) ∈ lw_all := lw_g (lw_at lw_m6 37 rfl) rfl
theorem q1322 : (Jvm.Cond.methodLink "LeastFramesModel" (258 : Nat) ({ cls := "LeastFramesModel", name := "pairDigest", desc := "(JI)J" } : Jvm.MethodName)) ∈ lw_all := lw_g (lw_at lw_m6 38 rfl) rfl
theorem q1323 : (Jvm.Cond.privateMethod ({ cls := "LeastFramesModel", name := "pairDigest", desc := "(JI)J" } : Jvm.MethodName)) ∈ lw_tbl := lw_at lw_m6 39 rfl
theorem q1324 : (Jvm.Cond.instanceMethod ({ cls := "LeastFramesModel", name := "pairDigest", desc := "(JI)J" } : Jvm.MethodName)) ∈ lw_all := lw_g (lw_at lw_m6 40 rfl) rfl
theorem q1325 : (Jvm.Cond.code ({ cls := "LeastFramesModel", name := "pairDigest", desc := "(JI)J" } : Jvm.MethodName) prog_9_method_81_code (7 : Nat) (Option.some Jvm.ClassFile.FieldType.long)) ∈ lw_all := lw_g (lw_at lw_m6 41 rfl) rfl
theorem q1326 : (Jvm.Cond.methodLink "LeastFramesModel" (241 : Nat) ({ cls := "LeastFramesModel", name := "stretch", desc := "(II)J" } : Jvm.MethodName)) ∈ lw_all := lw_g (lw_at lw_m6 42 rfl) rfl
theorem q1327 : (Jvm.Cond.methodLink "LeastFramesModel" (244 : Nat) ({ cls := "LeastFramesModel", name := "without", desc := "(II)J" } : Jvm.MethodName)) ∈ lw_all := lw_g (lw_at lw_m6 43 rfl) rfl
theorem q1328 : (Jvm.Cond.methodLink "LeastFramesModel" (247 : Nat) ({ cls := "LeastFramesModel", name := "why", desc := "(I)I" } : Jvm.MethodName)) ∈ lw_all := lw_g (lw_at lw_m6 44 rfl) rfl
theorem q1329 : (Jvm.Cond.methodLink "LeastFramesModel" (262 : Nat) ({ cls := "LeastFramesModel", name := "work", desc := "(I)J" } : Jvm.MethodName)) ∈ lw_all := lw_g (lw_at lw_m6 45 rfl) rfl
theorem in_X4 : ∀ w ∈ wsX40, w ∈ lw_all := lw_in wsX40 [957, 959, 961, 963, 965, 967, 969, 971, 973, 975, 977, 979, 981, 983, 985, 987, 989, 991, 993, 995, 997, 999] (by decide +kernel) (by decide +kernel)
