/-! java/lang/Throwable -/
set_option maxRecDepth 100000
def RJ0 : String := "java/lang/Throwable"
def TJ0 : u_T := fun k => match k with
  | 0 => ("java/lang/Throwable", "cause", "Ljava/lang/Throwable;", false)
  | 1 => ("java/lang/Throwable", "stackTrace", "[Ljava/lang/StackTraceElement;", false)
  | 2 => ("java/lang/Throwable", "suppressedExceptions", "Ljava/util/List;", false)
  | 3 => ("java/lang/Throwable", "detailMessage", "Ljava/lang/String;", false)
  | _ => ("java/lang/Throwable", "backtrace", "Ljava/lang/Object;", false)
def tyJ0 : Nat → FieldType := fun k => match k with
  | 0 => .object "java/lang/Throwable"
  | 1 => .array (.object "java/lang/StackTraceElement")
  | 2 => .object "java/util/List"
  | 3 => .object "java/lang/String"
  | _ => .object "java/lang/Object"
abbrev wsJ00 : List Cond := u_ws RJ0 TJ0 5
theorem nmJ0 : ∀ a, a < 5 → ∀ b, b < 5 → a ≠ b → (TJ0 a).2.1 ≠ (TJ0 b).2.1 := by decide +kernel
theorem tyJ0_ok : ∀ k, k < 5 → parseFieldDescriptor (TJ0 k).2.2.1 = some (tyJ0 k) := by decide +kernel
abbrev cJ0_init : ByteArray := prog_23_method_1_code
def yJ0_init : MethodName := ⟨RJ0, "<init>", "()V"⟩
def dkwJ0_init_1 : List UInt8 := [182, 0, 27, 87, 177]
abbrev dktJ0_init_1 : List UInt8 := dkwJ0_init_1 ++ []
def dkwJ0_init_0 : List UInt8 := [42, 183, 0, 1, 42, 42, 181, 0, 7, 42, 178, 0, 13, 181, 0, 17, 42, 178, 0, 20, 181, 0, 24, 42]
abbrev dktJ0_init_0 : List UInt8 := dkwJ0_init_0 ++ dktJ0_init_1
theorem dksJ0_init_0 : cJ0_init.data.toList.drop 0 = dktJ0_init_0 := by decide +kernel
theorem dksJ0_init_1 : cJ0_init.data.toList.drop 24 = dktJ0_init_1 := dk_seg dksJ0_init_0 24 rfl rfl
theorem dJ0_init_0 : decode cJ0_init 0 = .ok (.aload_n 0, 1) := dk_42 (dk_at dksJ0_init_0 0 rfl rfl)
theorem dJ0_init_1 : decode cJ0_init 1 = .ok (.invokespecial 1, 3) := dk_183 0 1 (dk_at dksJ0_init_0 1 rfl rfl)
theorem dJ0_init_4 : decode cJ0_init 4 = .ok (.aload_n 0, 1) := dk_42 (dk_at dksJ0_init_0 4 rfl rfl)
theorem dJ0_init_5 : decode cJ0_init 5 = .ok (.aload_n 0, 1) := dk_42 (dk_at dksJ0_init_0 5 rfl rfl)
theorem dJ0_init_6 : decode cJ0_init 6 = .ok (.putfield 7, 3) := dk_181 0 7 (dk_at dksJ0_init_0 6 rfl rfl)
theorem dJ0_init_9 : decode cJ0_init 9 = .ok (.aload_n 0, 1) := dk_42 (dk_at dksJ0_init_0 9 rfl rfl)
theorem dJ0_init_10 : decode cJ0_init 10 = .ok (.getstatic 13, 3) := dk_178 0 13 (dk_at dksJ0_init_0 10 rfl rfl)
theorem dJ0_init_13 : decode cJ0_init 13 = .ok (.putfield 17, 3) := dk_181 0 17 (dk_at dksJ0_init_0 13 rfl rfl)
theorem dJ0_init_16 : decode cJ0_init 16 = .ok (.aload_n 0, 1) := dk_42 (dk_at dksJ0_init_0 16 rfl rfl)
theorem dJ0_init_17 : decode cJ0_init 17 = .ok (.getstatic 20, 3) := dk_178 0 20 (dk_at dksJ0_init_0 17 rfl rfl)
theorem dJ0_init_20 : decode cJ0_init 20 = .ok (.putfield 24, 3) := dk_181 0 24 (dk_at dksJ0_init_0 20 rfl rfl)
theorem dJ0_init_23 : decode cJ0_init 23 = .ok (.aload_n 0, 1) := dk_42 (dk_at dksJ0_init_0 23 rfl rfl)
theorem dJ0_init_24 : decode cJ0_init 24 = .ok (.invokevirtual 27, 3) := dk_182 0 27 (dk_at dksJ0_init_1 0 rfl rfl)
theorem dJ0_init_27 : decode cJ0_init 27 = .ok (.pop, 1) := dk_87 (dk_at dksJ0_init_1 3 rfl rfl)
theorem dJ0_init_28 : decode cJ0_init 28 = .ok (.return_, 1) := dk_177 (dk_at dksJ0_init_1 4 rfl rfl)
abbrev cJ0_init_2 : ByteArray := prog_23_method_3_code
def yJ0_init_2 : MethodName := ⟨RJ0, "<init>", "(Ljava/lang/String;Ljava/lang/Throwable;)V"⟩
def dkwJ0_init_2_1 : List UInt8 := [182, 0, 27, 87, 42, 43, 181, 0, 31, 42, 44, 181, 0, 7, 177]
abbrev dktJ0_init_2_1 : List UInt8 := dkwJ0_init_2_1 ++ []
def dkwJ0_init_2_0 : List UInt8 := [42, 183, 0, 1, 42, 42, 181, 0, 7, 42, 178, 0, 13, 181, 0, 17, 42, 178, 0, 20, 181, 0, 24, 42]
abbrev dktJ0_init_2_0 : List UInt8 := dkwJ0_init_2_0 ++ dktJ0_init_2_1
theorem dksJ0_init_2_0 : cJ0_init_2.data.toList.drop 0 = dktJ0_init_2_0 := by decide +kernel
theorem dksJ0_init_2_1 : cJ0_init_2.data.toList.drop 24 = dktJ0_init_2_1 := dk_seg dksJ0_init_2_0 24 rfl rfl
theorem dJ0_init_2_0 : decode cJ0_init_2 0 = .ok (.aload_n 0, 1) := dk_42 (dk_at dksJ0_init_2_0 0 rfl rfl)
theorem dJ0_init_2_1 : decode cJ0_init_2 1 = .ok (.invokespecial 1, 3) := dk_183 0 1 (dk_at dksJ0_init_2_0 1 rfl rfl)
theorem dJ0_init_2_4 : decode cJ0_init_2 4 = .ok (.aload_n 0, 1) := dk_42 (dk_at dksJ0_init_2_0 4 rfl rfl)
theorem dJ0_init_2_5 : decode cJ0_init_2 5 = .ok (.aload_n 0, 1) := dk_42 (dk_at dksJ0_init_2_0 5 rfl rfl)
theorem dJ0_init_2_6 : decode cJ0_init_2 6 = .ok (.putfield 7, 3) := dk_181 0 7 (dk_at dksJ0_init_2_0 6 rfl rfl)
theorem dJ0_init_2_9 : decode cJ0_init_2 9 = .ok (.aload_n 0, 1) := dk_42 (dk_at dksJ0_init_2_0 9 rfl rfl)
theorem dJ0_init_2_10 : decode cJ0_init_2 10 = .ok (.getstatic 13, 3) := dk_178 0 13 (dk_at dksJ0_init_2_0 10 rfl rfl)
theorem dJ0_init_2_13 : decode cJ0_init_2 13 = .ok (.putfield 17, 3) := dk_181 0 17 (dk_at dksJ0_init_2_0 13 rfl rfl)
theorem dJ0_init_2_16 : decode cJ0_init_2 16 = .ok (.aload_n 0, 1) := dk_42 (dk_at dksJ0_init_2_0 16 rfl rfl)
theorem dJ0_init_2_17 : decode cJ0_init_2 17 = .ok (.getstatic 20, 3) := dk_178 0 20 (dk_at dksJ0_init_2_0 17 rfl rfl)
theorem dJ0_init_2_20 : decode cJ0_init_2 20 = .ok (.putfield 24, 3) := dk_181 0 24 (dk_at dksJ0_init_2_0 20 rfl rfl)
theorem dJ0_init_2_23 : decode cJ0_init_2 23 = .ok (.aload_n 0, 1) := dk_42 (dk_at dksJ0_init_2_0 23 rfl rfl)
theorem dJ0_init_2_24 : decode cJ0_init_2 24 = .ok (.invokevirtual 27, 3) := dk_182 0 27 (dk_at dksJ0_init_2_1 0 rfl rfl)
theorem dJ0_init_2_27 : decode cJ0_init_2 27 = .ok (.pop, 1) := dk_87 (dk_at dksJ0_init_2_1 3 rfl rfl)
theorem dJ0_init_2_28 : decode cJ0_init_2 28 = .ok (.aload_n 0, 1) := dk_42 (dk_at dksJ0_init_2_1 4 rfl rfl)
theorem dJ0_init_2_29 : decode cJ0_init_2 29 = .ok (.aload_n 1, 1) := dk_43 (dk_at dksJ0_init_2_1 5 rfl rfl)
theorem dJ0_init_2_30 : decode cJ0_init_2 30 = .ok (.putfield 31, 3) := dk_181 0 31 (dk_at dksJ0_init_2_1 6 rfl rfl)
theorem dJ0_init_2_33 : decode cJ0_init_2 33 = .ok (.aload_n 0, 1) := dk_42 (dk_at dksJ0_init_2_1 9 rfl rfl)
theorem dJ0_init_2_34 : decode cJ0_init_2 34 = .ok (.aload_n 2, 1) := dk_44 (dk_at dksJ0_init_2_1 10 rfl rfl)
theorem dJ0_init_2_35 : decode cJ0_init_2 35 = .ok (.putfield 7, 3) := dk_181 0 7 (dk_at dksJ0_init_2_1 11 rfl rfl)
theorem dJ0_init_2_38 : decode cJ0_init_2 38 = .ok (.return_, 1) := dk_177 (dk_at dksJ0_init_2_1 14 rfl rfl)
abbrev cJ0_init_3 : ByteArray := prog_23_method_2_code
def yJ0_init_3 : MethodName := ⟨RJ0, "<init>", "(Ljava/lang/String;)V"⟩
def dkwJ0_init_3_1 : List UInt8 := [182, 0, 27, 87, 42, 43, 181, 0, 31, 177]
abbrev dktJ0_init_3_1 : List UInt8 := dkwJ0_init_3_1 ++ []
def dkwJ0_init_3_0 : List UInt8 := [42, 183, 0, 1, 42, 42, 181, 0, 7, 42, 178, 0, 13, 181, 0, 17, 42, 178, 0, 20, 181, 0, 24, 42]
abbrev dktJ0_init_3_0 : List UInt8 := dkwJ0_init_3_0 ++ dktJ0_init_3_1
theorem dksJ0_init_3_0 : cJ0_init_3.data.toList.drop 0 = dktJ0_init_3_0 := by decide +kernel
theorem dksJ0_init_3_1 : cJ0_init_3.data.toList.drop 24 = dktJ0_init_3_1 := dk_seg dksJ0_init_3_0 24 rfl rfl
theorem dJ0_init_3_0 : decode cJ0_init_3 0 = .ok (.aload_n 0, 1) := dk_42 (dk_at dksJ0_init_3_0 0 rfl rfl)
theorem dJ0_init_3_1 : decode cJ0_init_3 1 = .ok (.invokespecial 1, 3) := dk_183 0 1 (dk_at dksJ0_init_3_0 1 rfl rfl)
theorem dJ0_init_3_4 : decode cJ0_init_3 4 = .ok (.aload_n 0, 1) := dk_42 (dk_at dksJ0_init_3_0 4 rfl rfl)
theorem dJ0_init_3_5 : decode cJ0_init_3 5 = .ok (.aload_n 0, 1) := dk_42 (dk_at dksJ0_init_3_0 5 rfl rfl)
theorem dJ0_init_3_6 : decode cJ0_init_3 6 = .ok (.putfield 7, 3) := dk_181 0 7 (dk_at dksJ0_init_3_0 6 rfl rfl)
theorem dJ0_init_3_9 : decode cJ0_init_3 9 = .ok (.aload_n 0, 1) := dk_42 (dk_at dksJ0_init_3_0 9 rfl rfl)
theorem dJ0_init_3_10 : decode cJ0_init_3 10 = .ok (.getstatic 13, 3) := dk_178 0 13 (dk_at dksJ0_init_3_0 10 rfl rfl)
theorem dJ0_init_3_13 : decode cJ0_init_3 13 = .ok (.putfield 17, 3) := dk_181 0 17 (dk_at dksJ0_init_3_0 13 rfl rfl)
theorem dJ0_init_3_16 : decode cJ0_init_3 16 = .ok (.aload_n 0, 1) := dk_42 (dk_at dksJ0_init_3_0 16 rfl rfl)
theorem dJ0_init_3_17 : decode cJ0_init_3 17 = .ok (.getstatic 20, 3) := dk_178 0 20 (dk_at dksJ0_init_3_0 17 rfl rfl)
theorem dJ0_init_3_20 : decode cJ0_init_3 20 = .ok (.putfield 24, 3) := dk_181 0 24 (dk_at dksJ0_init_3_0 20 rfl rfl)
theorem dJ0_init_3_23 : decode cJ0_init_3 23 = .ok (.aload_n 0, 1) := dk_42 (dk_at dksJ0_init_3_0 23 rfl rfl)
theorem dJ0_init_3_24 : decode cJ0_init_3 24 = .ok (.invokevirtual 27, 3) := dk_182 0 27 (dk_at dksJ0_init_3_1 0 rfl rfl)
theorem dJ0_init_3_27 : decode cJ0_init_3 27 = .ok (.pop, 1) := dk_87 (dk_at dksJ0_init_3_1 3 rfl rfl)
theorem dJ0_init_3_28 : decode cJ0_init_3 28 = .ok (.aload_n 0, 1) := dk_42 (dk_at dksJ0_init_3_1 4 rfl rfl)
theorem dJ0_init_3_29 : decode cJ0_init_3 29 = .ok (.aload_n 1, 1) := dk_43 (dk_at dksJ0_init_3_1 5 rfl rfl)
theorem dJ0_init_3_30 : decode cJ0_init_3 30 = .ok (.putfield 31, 3) := dk_181 0 31 (dk_at dksJ0_init_3_1 6 rfl rfl)
theorem dJ0_init_3_33 : decode cJ0_init_3 33 = .ok (.return_, 1) := dk_177 (dk_at dksJ0_init_3_1 9 rfl rfl)
theorem q90 : (Jvm.Cond.initialized "java/lang/Throwable") ∈ lw_all := lw_g (lw_at lw_m1 6 rfl) rfl
theorem q400 : (Jvm.Cond.declares ({ cls := "java/lang/Throwable", name := "<init>", desc := "()V" } : Jvm.MethodName)) ∈ lw_tbl := lw_at lw_m2 76 rfl
theorem q401 : (Jvm.Cond.declares ({ cls := "java/lang/Throwable", name := "<init>", desc := "(Ljava/lang/String;)V" } : Jvm.MethodName)) ∈ lw_tbl := lw_at lw_m2 77 rfl
theorem q405 : (Jvm.Cond.lays "java/lang/Throwable" "java/lang/Throwable" "cause" "Ljava/lang/Throwable;") ∈ lw_all := lw_g (lw_at lw_m2 81 rfl) rfl
theorem q407 : (Jvm.Cond.lays "java/lang/Throwable" "java/lang/Throwable" "stackTrace" "[Ljava/lang/StackTraceElement;") ∈ lw_all := lw_g (lw_at lw_m2 83 rfl) rfl
theorem q409 : (Jvm.Cond.lays "java/lang/Throwable" "java/lang/Throwable" "suppressedExceptions" "Ljava/util/List;") ∈ lw_all := lw_g (lw_at lw_m2 85 rfl) rfl
theorem q411 : (Jvm.Cond.lays "java/lang/Throwable" "java/lang/Throwable" "detailMessage" "Ljava/lang/String;") ∈ lw_all := lw_g (lw_at lw_m2 87 rfl) rfl
theorem q413 : (Jvm.Cond.lays "java/lang/Throwable" "java/lang/Throwable" "backtrace" "Ljava/lang/Object;") ∈ lw_all := lw_g (lw_at lw_m2 89 rfl) rfl
theorem q414 : (Jvm.Cond.fieldLink "java/lang/Throwable" (198 : Nat) "java/lang/Throwable" "backtrace" "Ljava/lang/Object;") ∈ lw_all := lw_g (lw_at lw_m2 90 rfl) rfl
theorem q415 : (Jvm.Cond.superclass "java/lang/Throwable" "java/lang/Object") ∈ lw_all := lw_g (lw_at lw_m2 91 rfl) rfl
theorem q416 : (Jvm.Cond.instanceMethod ({ cls := "java/lang/Throwable", name := "<init>", desc := "()V" } : Jvm.MethodName)) ∈ lw_all := lw_g (lw_at lw_m2 92 rfl) rfl
theorem q417 : (Jvm.Cond.code ({ cls := "java/lang/Throwable", name := "<init>", desc := "()V" } : Jvm.MethodName) prog_23_method_1_code (1 : Nat) (Option.none : Option Jvm.ClassFile.FieldType)) ∈ lw_all := lw_g (lw_at lw_m2 93 rfl) rfl
theorem q418 : (Jvm.Cond.methodLink "java/lang/Throwable" (1 : Nat) ({ cls := "java/lang/Object", name := "<init>", desc := "()V" } : Jvm.MethodName)) ∈ lw_all := lw_g (lw_at lw_m2 94 rfl) rfl
theorem q419 : (Jvm.Cond.fieldLink "java/lang/Throwable" (13 : Nat) "java/lang/Throwable" "UNASSIGNED_STACK" "[Ljava/lang/StackTraceElement;") ∈ lw_all := lw_g (lw_at lw_m2 95 rfl) rfl
theorem q420 : (Jvm.Cond.laysStatic "java/lang/Throwable" "UNASSIGNED_STACK" "[Ljava/lang/StackTraceElement;") ∈ lw_tbl := lw_at lw_m2 96 rfl
theorem q421 : (Jvm.Cond.fieldLink "java/lang/Throwable" (20 : Nat) "java/lang/Throwable" "SUPPRESSED_SENTINEL" "Ljava/util/List;") ∈ lw_all := lw_g (lw_at lw_m2 97 rfl) rfl
theorem q422 : (Jvm.Cond.laysStatic "java/lang/Throwable" "SUPPRESSED_SENTINEL" "Ljava/util/List;") ∈ lw_tbl := lw_at lw_m2 98 rfl
theorem q423 : (Jvm.Cond.methodLink "java/lang/Throwable" (27 : Nat) ({ cls := "java/lang/Throwable", name := "fillInStackTrace", desc := "()Ljava/lang/Throwable;" } : Jvm.MethodName)) ∈ lw_all := lw_g (lw_at lw_m2 99 rfl) rfl
theorem q424 : (Jvm.Cond.instanceMethod ({ cls := "java/lang/Throwable", name := "fillInStackTrace", desc := "()Ljava/lang/Throwable;" } : Jvm.MethodName)) ∈ lw_all := lw_g (lw_at lw_m2 100 rfl) rfl
theorem q425 : (Jvm.Cond.sameMethod "java/lang/Throwable" "java/lang/Throwable" "fillInStackTrace" "()Ljava/lang/Throwable;") ∈ lw_all := lw_g (lw_at lw_m2 101 rfl) rfl
theorem q442 : (Jvm.Cond.declares ({ cls := "java/lang/Throwable", name := "fillInStackTrace", desc := "()Ljava/lang/Throwable;" } : Jvm.MethodName)) ∈ lw_tbl := lw_at lw_m2 118 rfl
theorem q446 : (Jvm.Cond.codeSync ({ cls := "java/lang/Throwable", name := "fillInStackTrace", desc := "()Ljava/lang/Throwable;" } : Jvm.MethodName) prog_23_method_18_code (1 : Nat) (Option.some (Jvm.ClassFile.FieldType.object "java/lang/Throwable"))) ∈ lw_all := lw_g (lw_at lw_m2 122 rfl) rfl
theorem q447 : (Jvm.Cond.methodLink "java/lang/Throwable" (202 : Nat) ({ cls := "java/lang/Throwable", name := "fillInStackTrace", desc := "(I)Ljava/lang/Throwable;" } : Jvm.MethodName)) ∈ lw_all := lw_g (lw_at lw_m2 123 rfl) rfl
theorem q448 : (Jvm.Cond.privateMethod ({ cls := "java/lang/Throwable", name := "fillInStackTrace", desc := "(I)Ljava/lang/Throwable;" } : Jvm.MethodName)) ∈ lw_tbl := lw_at lw_m2 124 rfl
theorem q449 : (Jvm.Cond.instanceMethod ({ cls := "java/lang/Throwable", name := "fillInStackTrace", desc := "(I)Ljava/lang/Throwable;" } : Jvm.MethodName)) ∈ lw_all := lw_g (lw_at lw_m2 125 rfl) rfl
theorem q450 : (Jvm.Cond.instantiable "java/lang/Throwable" (6 : Nat)) ∈ lw_all := lw_g (lw_at lw_m2 126 rfl) rfl
theorem q451 : (Jvm.Cond.native ({ cls := "java/lang/Throwable", name := "fillInStackTrace", desc := "(I)Ljava/lang/Throwable;" } : Jvm.MethodName)) ∈ lw_all := lw_g (lw_at lw_m2 127 rfl) rfl
theorem q466 : (Jvm.Cond.fieldLink "java/lang/Throwable" (198 : Nat) "java/lang/Throwable" "backtrace" "Ljava/lang/Object;") ∈ lw_all := lw_g (lw_at lw_m2 142 rfl) rfl
theorem q467 : (Jvm.Cond.fieldLink "java/lang/Throwable" (31 : Nat) "java/lang/Throwable" "detailMessage" "Ljava/lang/String;") ∈ lw_all := lw_g (lw_at lw_m2 143 rfl) rfl
theorem q468 : (Jvm.Cond.fieldLink "java/lang/Throwable" (7 : Nat) "java/lang/Throwable" "cause" "Ljava/lang/Throwable;") ∈ lw_all := lw_g (lw_at lw_m2 144 rfl) rfl
theorem q469 : (Jvm.Cond.fieldLink "java/lang/Throwable" (17 : Nat) "java/lang/Throwable" "stackTrace" "[Ljava/lang/StackTraceElement;") ∈ lw_all := lw_g (lw_at lw_m2 145 rfl) rfl
theorem q470 : (Jvm.Cond.fieldLink "java/lang/Throwable" (24 : Nat) "java/lang/Throwable" "suppressedExceptions" "Ljava/util/List;") ∈ lw_all := lw_g (lw_at lw_m2 146 rfl) rfl
theorem q473 : (Jvm.Cond.soleField "java/lang/Throwable" "backtrace") ∈ lw_all := lw_g (lw_at lw_m2 149 rfl) rfl
theorem q474 : (Jvm.Cond.soleField "java/lang/Throwable" "detailMessage") ∈ lw_all := lw_g (lw_at lw_m2 150 rfl) rfl
theorem q475 : (Jvm.Cond.soleField "java/lang/Throwable" "cause") ∈ lw_all := lw_g (lw_at lw_m2 151 rfl) rfl
theorem q476 : (Jvm.Cond.soleField "java/lang/Throwable" "stackTrace") ∈ lw_all := lw_g (lw_at lw_m2 152 rfl) rfl
theorem q478 : (Jvm.Cond.soleField "java/lang/Throwable" "depth") ∈ lw_all := lw_g (lw_at lw_m2 154 rfl) rfl
theorem q479 : (Jvm.Cond.soleField "java/lang/Throwable" "suppressedExceptions") ∈ lw_all := lw_g (lw_at lw_m2 155 rfl) rfl
theorem q588 : (Jvm.Cond.instanceMethod ({ cls := "java/lang/Throwable", name := "<init>", desc := "(Ljava/lang/String;Ljava/lang/Throwable;)V" } : Jvm.MethodName)) ∈ lw_all := lw_g (lw_at lw_m3 24 rfl) rfl
theorem q589 : (Jvm.Cond.code ({ cls := "java/lang/Throwable", name := "<init>", desc := "(Ljava/lang/String;Ljava/lang/Throwable;)V" } : Jvm.MethodName) prog_23_method_3_code (3 : Nat) (Option.none : Option Jvm.ClassFile.FieldType)) ∈ lw_all := lw_g (lw_at lw_m3 25 rfl) rfl
theorem q610 : (Jvm.Cond.declares ({ cls := "java/lang/Throwable", name := "getCause", desc := "()Ljava/lang/Throwable;" } : Jvm.MethodName)) ∈ lw_tbl := lw_at lw_m3 46 rfl
theorem q612 : (Jvm.Cond.instanceMethod ({ cls := "java/lang/Throwable", name := "getCause", desc := "()Ljava/lang/Throwable;" } : Jvm.MethodName)) ∈ lw_all := lw_g (lw_at lw_m3 48 rfl) rfl
theorem q613 : (Jvm.Cond.codeSync ({ cls := "java/lang/Throwable", name := "getCause", desc := "()Ljava/lang/Throwable;" } : Jvm.MethodName) prog_23_method_8_code (1 : Nat) (Option.some (Jvm.ClassFile.FieldType.object "java/lang/Throwable"))) ∈ lw_all := lw_g (lw_at lw_m3 49 rfl) rfl
theorem q757 : (Jvm.Cond.instanceMethod ({ cls := "java/lang/Throwable", name := "<init>", desc := "(Ljava/lang/String;)V" } : Jvm.MethodName)) ∈ lw_all := lw_g (lw_at lw_m3 193 rfl) rfl
theorem q758 : (Jvm.Cond.code ({ cls := "java/lang/Throwable", name := "<init>", desc := "(Ljava/lang/String;)V" } : Jvm.MethodName) prog_23_method_2_code (2 : Nat) (Option.none : Option Jvm.ClassFile.FieldType)) ∈ lw_all := lw_g (lw_at lw_m3 194 rfl) rfl
theorem q1330 : (Jvm.Cond.sameMethod "java/lang/Throwable" "java/lang/Throwable" "fillInStackTrace" "(I)Ljava/lang/Throwable;") ∈ lw_all := lw_g (lw_at lw_m6 46 rfl) rfl
theorem in_J0 : ∀ w ∈ wsJ00, w ∈ lw_all := lw_in wsJ00 [405, 407, 409, 411, 413] (by decide +kernel) (by decide +kernel)
/-! java/lang/Exception -/
set_option maxRecDepth 100000
def RJ1 : String := "java/lang/Exception"
abbrev cJ1_init : ByteArray := prog_14_method_1_code
def yJ1_init : MethodName := ⟨RJ1, "<init>", "()V"⟩
theorem dJ1_init_0 : decode cJ1_init 0 = .ok (.aload_n 0, 1) := by decide +kernel
theorem dJ1_init_1 : decode cJ1_init 1 = .ok (.invokespecial 1, 3) := by decide +kernel
theorem dJ1_init_4 : decode cJ1_init 4 = .ok (.return_, 1) := by decide +kernel
abbrev cJ1_init_2 : ByteArray := prog_14_method_3_code
def yJ1_init_2 : MethodName := ⟨RJ1, "<init>", "(Ljava/lang/String;Ljava/lang/Throwable;)V"⟩
def dkwJ1_init_2_0 : List UInt8 := [42, 43, 44, 183, 0, 10, 177]
abbrev dktJ1_init_2_0 : List UInt8 := dkwJ1_init_2_0 ++ []
theorem dksJ1_init_2_0 : cJ1_init_2.data.toList.drop 0 = dktJ1_init_2_0 := by decide +kernel
theorem dJ1_init_2_0 : decode cJ1_init_2 0 = .ok (.aload_n 0, 1) := dk_42 (dk_at dksJ1_init_2_0 0 rfl rfl)
theorem dJ1_init_2_1 : decode cJ1_init_2 1 = .ok (.aload_n 1, 1) := dk_43 (dk_at dksJ1_init_2_0 1 rfl rfl)
theorem dJ1_init_2_2 : decode cJ1_init_2 2 = .ok (.aload_n 2, 1) := dk_44 (dk_at dksJ1_init_2_0 2 rfl rfl)
theorem dJ1_init_2_3 : decode cJ1_init_2 3 = .ok (.invokespecial 10, 3) := dk_183 0 10 (dk_at dksJ1_init_2_0 3 rfl rfl)
theorem dJ1_init_2_6 : decode cJ1_init_2 6 = .ok (.return_, 1) := dk_177 (dk_at dksJ1_init_2_0 6 rfl rfl)
abbrev cJ1_init_3 : ByteArray := prog_14_method_2_code
def yJ1_init_3 : MethodName := ⟨RJ1, "<init>", "(Ljava/lang/String;)V"⟩
def dkwJ1_init_3_0 : List UInt8 := [42, 43, 183, 0, 7, 177]
abbrev dktJ1_init_3_0 : List UInt8 := dkwJ1_init_3_0 ++ []
theorem dksJ1_init_3_0 : cJ1_init_3.data.toList.drop 0 = dktJ1_init_3_0 := by decide +kernel
theorem dJ1_init_3_0 : decode cJ1_init_3 0 = .ok (.aload_n 0, 1) := dk_42 (dk_at dksJ1_init_3_0 0 rfl rfl)
theorem dJ1_init_3_1 : decode cJ1_init_3 1 = .ok (.aload_n 1, 1) := dk_43 (dk_at dksJ1_init_3_0 1 rfl rfl)
theorem dJ1_init_3_2 : decode cJ1_init_3 2 = .ok (.invokespecial 7, 3) := dk_183 0 7 (dk_at dksJ1_init_3_0 2 rfl rfl)
theorem dJ1_init_3_5 : decode cJ1_init_3 5 = .ok (.return_, 1) := dk_177 (dk_at dksJ1_init_3_0 5 rfl rfl)
theorem q91 : (Jvm.Cond.initialized "java/lang/Exception") ∈ lw_all := lw_g (lw_at lw_m1 7 rfl) rfl
theorem q398 : (Jvm.Cond.declares ({ cls := "java/lang/Exception", name := "<init>", desc := "()V" } : Jvm.MethodName)) ∈ lw_tbl := lw_at lw_m2 74 rfl
theorem q399 : (Jvm.Cond.declares ({ cls := "java/lang/Exception", name := "<init>", desc := "(Ljava/lang/String;)V" } : Jvm.MethodName)) ∈ lw_tbl := lw_at lw_m2 75 rfl
theorem q445 : (Jvm.Cond.superclass "java/lang/Exception" "java/lang/Throwable") ∈ lw_all := lw_g (lw_at lw_m2 121 rfl) rfl
theorem q460 : (Jvm.Cond.instanceMethod ({ cls := "java/lang/Exception", name := "<init>", desc := "()V" } : Jvm.MethodName)) ∈ lw_all := lw_g (lw_at lw_m2 136 rfl) rfl
theorem q461 : (Jvm.Cond.code ({ cls := "java/lang/Exception", name := "<init>", desc := "()V" } : Jvm.MethodName) prog_14_method_1_code (1 : Nat) (Option.none : Option Jvm.ClassFile.FieldType)) ∈ lw_all := lw_g (lw_at lw_m2 137 rfl) rfl
theorem q462 : (Jvm.Cond.methodLink "java/lang/Exception" (1 : Nat) ({ cls := "java/lang/Throwable", name := "<init>", desc := "()V" } : Jvm.MethodName)) ∈ lw_all := lw_g (lw_at lw_m2 138 rfl) rfl
theorem q585 : (Jvm.Cond.instanceMethod ({ cls := "java/lang/Exception", name := "<init>", desc := "(Ljava/lang/String;Ljava/lang/Throwable;)V" } : Jvm.MethodName)) ∈ lw_all := lw_g (lw_at lw_m3 21 rfl) rfl
theorem q586 : (Jvm.Cond.code ({ cls := "java/lang/Exception", name := "<init>", desc := "(Ljava/lang/String;Ljava/lang/Throwable;)V" } : Jvm.MethodName) prog_14_method_3_code (3 : Nat) (Option.none : Option Jvm.ClassFile.FieldType)) ∈ lw_all := lw_g (lw_at lw_m3 22 rfl) rfl
theorem q587 : (Jvm.Cond.methodLink "java/lang/Exception" (10 : Nat) ({ cls := "java/lang/Throwable", name := "<init>", desc := "(Ljava/lang/String;Ljava/lang/Throwable;)V" } : Jvm.MethodName)) ∈ lw_all := lw_g (lw_at lw_m3 23 rfl) rfl
theorem q754 : (Jvm.Cond.instanceMethod ({ cls := "java/lang/Exception", name := "<init>", desc := "(Ljava/lang/String;)V" } : Jvm.MethodName)) ∈ lw_all := lw_g (lw_at lw_m3 190 rfl) rfl
theorem q755 : (Jvm.Cond.code ({ cls := "java/lang/Exception", name := "<init>", desc := "(Ljava/lang/String;)V" } : Jvm.MethodName) prog_14_method_2_code (2 : Nat) (Option.none : Option Jvm.ClassFile.FieldType)) ∈ lw_all := lw_g (lw_at lw_m3 191 rfl) rfl
theorem q756 : (Jvm.Cond.methodLink "java/lang/Exception" (7 : Nat) ({ cls := "java/lang/Throwable", name := "<init>", desc := "(Ljava/lang/String;)V" } : Jvm.MethodName)) ∈ lw_all := lw_g (lw_at lw_m3 192 rfl) rfl
/-! java/lang/ArithmeticException -/
set_option maxRecDepth 100000
def RJ10 : String := "java/lang/ArithmeticException"
def TJ10 : u_T := fun k => match k with
  | 0 => ("java/lang/Throwable", "backtrace", "Ljava/lang/Object;", false)
  | 1 => ("java/lang/Throwable", "detailMessage", "Ljava/lang/String;", false)
  | 2 => ("java/lang/Throwable", "cause", "Ljava/lang/Throwable;", false)
  | 3 => ("java/lang/Throwable", "stackTrace", "[Ljava/lang/StackTraceElement;", false)
  | 4 => ("java/lang/Throwable", "depth", "I", false)
  | _ => ("java/lang/Throwable", "suppressedExceptions", "Ljava/util/List;", false)
def tyJ10 : Nat → FieldType := fun k => match k with
  | 0 => .object "java/lang/Object"
  | 1 => .object "java/lang/String"
  | 2 => .object "java/lang/Throwable"
  | 3 => .array (.object "java/lang/StackTraceElement")
  | 4 => .int
  | _ => .object "java/util/List"
abbrev wsJ100 : List Cond := u_ws RJ10 TJ10 6
theorem nmJ10 : ∀ a, a < 6 → ∀ b, b < 6 → a ≠ b → (TJ10 a).2.1 ≠ (TJ10 b).2.1 := by decide +kernel
theorem tyJ10_ok : ∀ k, k < 6 → parseFieldDescriptor (TJ10 k).2.2.1 = some (tyJ10 k) := by decide +kernel
abbrev cJ10_init : ByteArray := prog_10_method_2_code
def yJ10_init : MethodName := ⟨RJ10, "<init>", "(Ljava/lang/String;)V"⟩
def dkwJ10_init_0 : List UInt8 := [42, 43, 183, 0, 7, 177]
abbrev dktJ10_init_0 : List UInt8 := dkwJ10_init_0 ++ []
theorem dksJ10_init_0 : cJ10_init.data.toList.drop 0 = dktJ10_init_0 := by decide +kernel
theorem dJ10_init_0 : decode cJ10_init 0 = .ok (.aload_n 0, 1) := dk_42 (dk_at dksJ10_init_0 0 rfl rfl)
theorem dJ10_init_1 : decode cJ10_init 1 = .ok (.aload_n 1, 1) := dk_43 (dk_at dksJ10_init_0 1 rfl rfl)
theorem dJ10_init_2 : decode cJ10_init 2 = .ok (.invokespecial 7, 3) := dk_183 0 7 (dk_at dksJ10_init_0 2 rfl rfl)
theorem dJ10_init_5 : decode cJ10_init 5 = .ok (.return_, 1) := dk_177 (dk_at dksJ10_init_0 5 rfl rfl)
theorem q103 : (Jvm.Cond.initialized "java/lang/ArithmeticException") ∈ lw_all := lw_g (lw_at lw_m1 19 rfl) rfl
theorem q427 : (Jvm.Cond.selects "java/lang/ArithmeticException" ({ cls := "java/lang/Throwable", name := "fillInStackTrace", desc := "()Ljava/lang/Throwable;" } : Jvm.MethodName) ({ cls := "java/lang/Throwable", name := "fillInStackTrace", desc := "()Ljava/lang/Throwable;" } : Jvm.MethodName)) ∈ lw_all := lw_g (lw_at lw_m2 103 rfl) rfl
theorem q818 : (Jvm.Cond.instantiable "java/lang/ArithmeticException" (6 : Nat)) ∈ lw_all := lw_g (lw_at lw_m4 14 rfl) rfl
theorem q819 : (Jvm.Cond.instanceMethod ({ cls := "java/lang/ArithmeticException", name := "<init>", desc := "(Ljava/lang/String;)V" } : Jvm.MethodName)) ∈ lw_all := lw_g (lw_at lw_m4 15 rfl) rfl
theorem q820 : (Jvm.Cond.code ({ cls := "java/lang/ArithmeticException", name := "<init>", desc := "(Ljava/lang/String;)V" } : Jvm.MethodName) prog_10_method_2_code (2 : Nat) (Option.none : Option Jvm.ClassFile.FieldType)) ∈ lw_all := lw_g (lw_at lw_m4 16 rfl) rfl
theorem q821 : (Jvm.Cond.methodLink "java/lang/ArithmeticException" (7 : Nat) ({ cls := "java/lang/RuntimeException", name := "<init>", desc := "(Ljava/lang/String;)V" } : Jvm.MethodName)) ∈ lw_all := lw_g (lw_at lw_m4 17 rfl) rfl
theorem q822 : (Jvm.Cond.lays "java/lang/ArithmeticException" "java/lang/Throwable" "backtrace" "Ljava/lang/Object;") ∈ lw_all := lw_g (lw_at lw_m4 18 rfl) rfl
theorem q823 : (Jvm.Cond.lays "java/lang/ArithmeticException" "java/lang/Throwable" "detailMessage" "Ljava/lang/String;") ∈ lw_all := lw_g (lw_at lw_m4 19 rfl) rfl
theorem q824 : (Jvm.Cond.lays "java/lang/ArithmeticException" "java/lang/Throwable" "cause" "Ljava/lang/Throwable;") ∈ lw_all := lw_g (lw_at lw_m4 20 rfl) rfl
theorem q825 : (Jvm.Cond.lays "java/lang/ArithmeticException" "java/lang/Throwable" "stackTrace" "[Ljava/lang/StackTraceElement;") ∈ lw_all := lw_g (lw_at lw_m4 21 rfl) rfl
theorem q826 : (Jvm.Cond.lays "java/lang/ArithmeticException" "java/lang/Throwable" "depth" "I") ∈ lw_all := lw_g (lw_at lw_m4 22 rfl) rfl
theorem q827 : (Jvm.Cond.lays "java/lang/ArithmeticException" "java/lang/Throwable" "suppressedExceptions" "Ljava/util/List;") ∈ lw_all := lw_g (lw_at lw_m4 23 rfl) rfl
theorem q828 : (Jvm.Cond.superclass "java/lang/ArithmeticException" "java/lang/RuntimeException") ∈ lw_all := lw_g (lw_at lw_m4 24 rfl) rfl
theorem q829 : (Jvm.Cond.castable "java/lang/ArithmeticException" "java/lang/ArithmeticException") ∈ lw_tbl := lw_at lw_m4 25 rfl
theorem q830 : (Jvm.Cond.selects "java/lang/ArithmeticException" ({ cls := "java/lang/Throwable", name := "fillInStackTrace", desc := "(I)Ljava/lang/Throwable;" } : Jvm.MethodName) ({ cls := "java/lang/Throwable", name := "fillInStackTrace", desc := "(I)Ljava/lang/Throwable;" } : Jvm.MethodName)) ∈ lw_all := lw_g (lw_at lw_m4 26 rfl) rfl
theorem in_J10 : ∀ w ∈ wsJ100, w ∈ lw_all := lw_in wsJ100 [822, 823, 824, 825, 826, 827] (by decide +kernel) (by decide +kernel)
/-! java/lang/NullPointerException -/
set_option maxRecDepth 100000
def RJ11 : String := "java/lang/NullPointerException"
def TJ11 : u_T := fun k => match k with
  | 0 => ("java/lang/Throwable", "backtrace", "Ljava/lang/Object;", false)
  | 1 => ("java/lang/Throwable", "detailMessage", "Ljava/lang/String;", false)
  | 2 => ("java/lang/Throwable", "cause", "Ljava/lang/Throwable;", false)
  | 3 => ("java/lang/Throwable", "stackTrace", "[Ljava/lang/StackTraceElement;", false)
  | 4 => ("java/lang/Throwable", "depth", "I", false)
  | 5 => ("java/lang/Throwable", "suppressedExceptions", "Ljava/util/List;", false)
  | 6 => ("java/lang/NullPointerException", "extendedMessageState", "I", false)
  | _ => ("java/lang/NullPointerException", "extendedMessage", "Ljava/lang/String;", false)
def tyJ11 : Nat → FieldType := fun k => match k with
  | 0 => .object "java/lang/Object"
  | 1 => .object "java/lang/String"
  | 2 => .object "java/lang/Throwable"
  | 3 => .array (.object "java/lang/StackTraceElement")
  | 4 => .int
  | 5 => .object "java/util/List"
  | 6 => .int
  | _ => .object "java/lang/String"
abbrev wsJ110 : List Cond := u_ws RJ11 TJ11 8
theorem nmJ11 : ∀ a, a < 8 → ∀ b, b < 8 → a ≠ b → (TJ11 a).2.1 ≠ (TJ11 b).2.1 := by decide +kernel
theorem tyJ11_ok : ∀ k, k < 8 → parseFieldDescriptor (TJ11 k).2.2.1 = some (tyJ11 k) := by decide +kernel
abbrev cJ11_init : ByteArray := prog_19_method_1_code
def yJ11_init : MethodName := ⟨RJ11, "<init>", "()V"⟩
theorem dJ11_init_0 : decode cJ11_init 0 = .ok (.aload_n 0, 1) := by decide +kernel
theorem dJ11_init_1 : decode cJ11_init 1 = .ok (.invokespecial 1, 3) := by decide +kernel
theorem dJ11_init_4 : decode cJ11_init 4 = .ok (.return_, 1) := by decide +kernel
theorem q104 : (Jvm.Cond.initialized "java/lang/NullPointerException") ∈ lw_all := lw_g (lw_at lw_m1 20 rfl) rfl
theorem q432 : (Jvm.Cond.selects "java/lang/NullPointerException" ({ cls := "java/lang/Throwable", name := "fillInStackTrace", desc := "()Ljava/lang/Throwable;" } : Jvm.MethodName) ({ cls := "java/lang/NullPointerException", name := "fillInStackTrace", desc := "()Ljava/lang/Throwable;" } : Jvm.MethodName)) ∈ lw_all := lw_g (lw_at lw_m2 108 rfl) rfl
theorem q433 : (Jvm.Cond.instanceMethod ({ cls := "java/lang/NullPointerException", name := "fillInStackTrace", desc := "()Ljava/lang/Throwable;" } : Jvm.MethodName)) ∈ lw_all := lw_g (lw_at lw_m2 109 rfl) rfl
theorem q434 : (Jvm.Cond.codeSync ({ cls := "java/lang/NullPointerException", name := "fillInStackTrace", desc := "()Ljava/lang/Throwable;" } : Jvm.MethodName) prog_19_method_3_code (1 : Nat) (Option.some (Jvm.ClassFile.FieldType.object "java/lang/Throwable"))) ∈ lw_all := lw_g (lw_at lw_m2 110 rfl) rfl
theorem q435 : (Jvm.Cond.methodLink "java/lang/NullPointerException" (16 : Nat) ({ cls := "java/lang/NullPointerException", name := "getExtendedNPEMessage", desc := "()Ljava/lang/String;" } : Jvm.MethodName)) ∈ lw_all := lw_g (lw_at lw_m2 111 rfl) rfl
theorem q436 : (Jvm.Cond.privateMethod ({ cls := "java/lang/NullPointerException", name := "getExtendedNPEMessage", desc := "()Ljava/lang/String;" } : Jvm.MethodName)) ∈ lw_tbl := lw_at lw_m2 112 rfl
theorem q437 : (Jvm.Cond.instanceMethod ({ cls := "java/lang/NullPointerException", name := "getExtendedNPEMessage", desc := "()Ljava/lang/String;" } : Jvm.MethodName)) ∈ lw_all := lw_g (lw_at lw_m2 113 rfl) rfl
theorem q438 : (Jvm.Cond.instantiable "java/lang/NullPointerException" (8 : Nat)) ∈ lw_all := lw_g (lw_at lw_m2 114 rfl) rfl
theorem q439 : (Jvm.Cond.native ({ cls := "java/lang/NullPointerException", name := "getExtendedNPEMessage", desc := "()Ljava/lang/String;" } : Jvm.MethodName)) ∈ lw_all := lw_g (lw_at lw_m2 115 rfl) rfl
theorem q440 : (Jvm.Cond.methodLink "java/lang/NullPointerException" (24 : Nat) ({ cls := "java/lang/RuntimeException", name := "fillInStackTrace", desc := "()Ljava/lang/Throwable;" } : Jvm.MethodName)) ∈ lw_all := lw_g (lw_at lw_m2 116 rfl) rfl
theorem q443 : (Jvm.Cond.superclass "java/lang/NullPointerException" "java/lang/RuntimeException") ∈ lw_all := lw_g (lw_at lw_m2 119 rfl) rfl
theorem q853 : (Jvm.Cond.instanceMethod ({ cls := "java/lang/NullPointerException", name := "<init>", desc := "()V" } : Jvm.MethodName)) ∈ lw_all := lw_g (lw_at lw_m4 49 rfl) rfl
theorem q854 : (Jvm.Cond.code ({ cls := "java/lang/NullPointerException", name := "<init>", desc := "()V" } : Jvm.MethodName) prog_19_method_1_code (1 : Nat) (Option.none : Option Jvm.ClassFile.FieldType)) ∈ lw_all := lw_g (lw_at lw_m4 50 rfl) rfl
theorem q855 : (Jvm.Cond.methodLink "java/lang/NullPointerException" (1 : Nat) ({ cls := "java/lang/RuntimeException", name := "<init>", desc := "()V" } : Jvm.MethodName)) ∈ lw_all := lw_g (lw_at lw_m4 51 rfl) rfl
theorem q859 : (Jvm.Cond.fieldLink "java/lang/NullPointerException" (10 : Nat) "java/lang/NullPointerException" "extendedMessageState" "I") ∈ lw_all := lw_g (lw_at lw_m4 55 rfl) rfl
theorem q860 : (Jvm.Cond.fieldLink "java/lang/NullPointerException" (20 : Nat) "java/lang/NullPointerException" "extendedMessage" "Ljava/lang/String;") ∈ lw_all := lw_g (lw_at lw_m4 56 rfl) rfl
theorem q861 : (Jvm.Cond.lays "java/lang/NullPointerException" "java/lang/NullPointerException" "extendedMessageState" "I") ∈ lw_all := lw_g (lw_at lw_m4 57 rfl) rfl
theorem q862 : (Jvm.Cond.soleField "java/lang/NullPointerException" "extendedMessageState") ∈ lw_all := lw_g (lw_at lw_m4 58 rfl) rfl
theorem q863 : (Jvm.Cond.lays "java/lang/NullPointerException" "java/lang/NullPointerException" "extendedMessage" "Ljava/lang/String;") ∈ lw_all := lw_g (lw_at lw_m4 59 rfl) rfl
theorem q864 : (Jvm.Cond.soleField "java/lang/NullPointerException" "extendedMessage") ∈ lw_all := lw_g (lw_at lw_m4 60 rfl) rfl
theorem q865 : (Jvm.Cond.lays "java/lang/NullPointerException" "java/lang/Throwable" "backtrace" "Ljava/lang/Object;") ∈ lw_all := lw_g (lw_at lw_m4 61 rfl) rfl
theorem q866 : (Jvm.Cond.lays "java/lang/NullPointerException" "java/lang/Throwable" "detailMessage" "Ljava/lang/String;") ∈ lw_all := lw_g (lw_at lw_m4 62 rfl) rfl
theorem q867 : (Jvm.Cond.lays "java/lang/NullPointerException" "java/lang/Throwable" "cause" "Ljava/lang/Throwable;") ∈ lw_all := lw_g (lw_at lw_m4 63 rfl) rfl
theorem q868 : (Jvm.Cond.lays "java/lang/NullPointerException" "java/lang/Throwable" "stackTrace" "[Ljava/lang/StackTraceElement;") ∈ lw_all := lw_g (lw_at lw_m4 64 rfl) rfl
theorem q869 : (Jvm.Cond.lays "java/lang/NullPointerException" "java/lang/Throwable" "depth" "I") ∈ lw_all := lw_g (lw_at lw_m4 65 rfl) rfl
theorem q870 : (Jvm.Cond.lays "java/lang/NullPointerException" "java/lang/Throwable" "suppressedExceptions" "Ljava/util/List;") ∈ lw_all := lw_g (lw_at lw_m4 66 rfl) rfl
theorem q871 : (Jvm.Cond.castable "java/lang/NullPointerException" "java/lang/NullPointerException") ∈ lw_tbl := lw_at lw_m4 67 rfl
theorem q872 : (Jvm.Cond.selects "java/lang/NullPointerException" ({ cls := "java/lang/Throwable", name := "fillInStackTrace", desc := "(I)Ljava/lang/Throwable;" } : Jvm.MethodName) ({ cls := "java/lang/Throwable", name := "fillInStackTrace", desc := "(I)Ljava/lang/Throwable;" } : Jvm.MethodName)) ∈ lw_all := lw_g (lw_at lw_m4 68 rfl) rfl
theorem in_J11 : ∀ w ∈ wsJ110, w ∈ lw_all := lw_in wsJ110 [865, 866, 867, 868, 869, 870, 861, 863] (by decide +kernel) (by decide +kernel)
/-! java/lang/ArrayStoreException -/
set_option maxRecDepth 100000
def RJ12 : String := "java/lang/ArrayStoreException"
def TJ12 : u_T := fun k => match k with
  | 0 => ("java/lang/Throwable", "backtrace", "Ljava/lang/Object;", false)
  | 1 => ("java/lang/Throwable", "detailMessage", "Ljava/lang/String;", false)
  | 2 => ("java/lang/Throwable", "cause", "Ljava/lang/Throwable;", false)
  | 3 => ("java/lang/Throwable", "stackTrace", "[Ljava/lang/StackTraceElement;", false)
  | 4 => ("java/lang/Throwable", "depth", "I", false)
  | _ => ("java/lang/Throwable", "suppressedExceptions", "Ljava/util/List;", false)
def tyJ12 : Nat → FieldType := fun k => match k with
  | 0 => .object "java/lang/Object"
  | 1 => .object "java/lang/String"
  | 2 => .object "java/lang/Throwable"
  | 3 => .array (.object "java/lang/StackTraceElement")
  | 4 => .int
  | _ => .object "java/util/List"
abbrev wsJ120 : List Cond := u_ws RJ12 TJ12 6
theorem nmJ12 : ∀ a, a < 6 → ∀ b, b < 6 → a ≠ b → (TJ12 a).2.1 ≠ (TJ12 b).2.1 := by decide +kernel
theorem tyJ12_ok : ∀ k, k < 6 → parseFieldDescriptor (TJ12 k).2.2.1 = some (tyJ12 k) := by decide +kernel
abbrev cJ12_init : ByteArray := prog_12_method_2_code
def yJ12_init : MethodName := ⟨RJ12, "<init>", "(Ljava/lang/String;)V"⟩
def dkwJ12_init_0 : List UInt8 := [42, 43, 183, 0, 7, 177]
abbrev dktJ12_init_0 : List UInt8 := dkwJ12_init_0 ++ []
theorem dksJ12_init_0 : cJ12_init.data.toList.drop 0 = dktJ12_init_0 := by decide +kernel
theorem dJ12_init_0 : decode cJ12_init 0 = .ok (.aload_n 0, 1) := dk_42 (dk_at dksJ12_init_0 0 rfl rfl)
theorem dJ12_init_1 : decode cJ12_init 1 = .ok (.aload_n 1, 1) := dk_43 (dk_at dksJ12_init_0 1 rfl rfl)
theorem dJ12_init_2 : decode cJ12_init 2 = .ok (.invokespecial 7, 3) := dk_183 0 7 (dk_at dksJ12_init_0 2 rfl rfl)
theorem dJ12_init_5 : decode cJ12_init 5 = .ok (.return_, 1) := dk_177 (dk_at dksJ12_init_0 5 rfl rfl)
theorem q105 : (Jvm.Cond.initialized "java/lang/ArrayStoreException") ∈ lw_all := lw_g (lw_at lw_m1 21 rfl) rfl
theorem q429 : (Jvm.Cond.selects "java/lang/ArrayStoreException" ({ cls := "java/lang/Throwable", name := "fillInStackTrace", desc := "()Ljava/lang/Throwable;" } : Jvm.MethodName) ({ cls := "java/lang/Throwable", name := "fillInStackTrace", desc := "()Ljava/lang/Throwable;" } : Jvm.MethodName)) ∈ lw_all := lw_g (lw_at lw_m2 105 rfl) rfl
theorem q875 : (Jvm.Cond.instantiable "java/lang/ArrayStoreException" (6 : Nat)) ∈ lw_all := lw_g (lw_at lw_m4 71 rfl) rfl
theorem q876 : (Jvm.Cond.instanceMethod ({ cls := "java/lang/ArrayStoreException", name := "<init>", desc := "(Ljava/lang/String;)V" } : Jvm.MethodName)) ∈ lw_all := lw_g (lw_at lw_m4 72 rfl) rfl
theorem q877 : (Jvm.Cond.code ({ cls := "java/lang/ArrayStoreException", name := "<init>", desc := "(Ljava/lang/String;)V" } : Jvm.MethodName) prog_12_method_2_code (2 : Nat) (Option.none : Option Jvm.ClassFile.FieldType)) ∈ lw_all := lw_g (lw_at lw_m4 73 rfl) rfl
theorem q878 : (Jvm.Cond.methodLink "java/lang/ArrayStoreException" (7 : Nat) ({ cls := "java/lang/RuntimeException", name := "<init>", desc := "(Ljava/lang/String;)V" } : Jvm.MethodName)) ∈ lw_all := lw_g (lw_at lw_m4 74 rfl) rfl
theorem q879 : (Jvm.Cond.lays "java/lang/ArrayStoreException" "java/lang/Throwable" "backtrace" "Ljava/lang/Object;") ∈ lw_all := lw_g (lw_at lw_m4 75 rfl) rfl
theorem q880 : (Jvm.Cond.lays "java/lang/ArrayStoreException" "java/lang/Throwable" "detailMessage" "Ljava/lang/String;") ∈ lw_all := lw_g (lw_at lw_m4 76 rfl) rfl
theorem q881 : (Jvm.Cond.lays "java/lang/ArrayStoreException" "java/lang/Throwable" "cause" "Ljava/lang/Throwable;") ∈ lw_all := lw_g (lw_at lw_m4 77 rfl) rfl
theorem q882 : (Jvm.Cond.lays "java/lang/ArrayStoreException" "java/lang/Throwable" "stackTrace" "[Ljava/lang/StackTraceElement;") ∈ lw_all := lw_g (lw_at lw_m4 78 rfl) rfl
theorem q883 : (Jvm.Cond.lays "java/lang/ArrayStoreException" "java/lang/Throwable" "depth" "I") ∈ lw_all := lw_g (lw_at lw_m4 79 rfl) rfl
theorem q884 : (Jvm.Cond.lays "java/lang/ArrayStoreException" "java/lang/Throwable" "suppressedExceptions" "Ljava/util/List;") ∈ lw_all := lw_g (lw_at lw_m4 80 rfl) rfl
theorem q885 : (Jvm.Cond.superclass "java/lang/ArrayStoreException" "java/lang/RuntimeException") ∈ lw_all := lw_g (lw_at lw_m4 81 rfl) rfl
theorem q886 : (Jvm.Cond.castable "java/lang/ArrayStoreException" "java/lang/ArrayStoreException") ∈ lw_tbl := lw_at lw_m4 82 rfl
theorem q887 : (Jvm.Cond.selects "java/lang/ArrayStoreException" ({ cls := "java/lang/Throwable", name := "fillInStackTrace", desc := "(I)Ljava/lang/Throwable;" } : Jvm.MethodName) ({ cls := "java/lang/Throwable", name := "fillInStackTrace", desc := "(I)Ljava/lang/Throwable;" } : Jvm.MethodName)) ∈ lw_all := lw_g (lw_at lw_m4 83 rfl) rfl
theorem in_J12 : ∀ w ∈ wsJ120, w ∈ lw_all := lw_in wsJ120 [879, 880, 881, 882, 883, 884] (by decide +kernel) (by decide +kernel)
/-! java/lang/Object -/
set_option maxRecDepth 100000
def RJ13 : String := "java/lang/Object"
abbrev cJ13_init : ByteArray := object_method_1_code
def yJ13_init : MethodName := ⟨RJ13, "<init>", "()V"⟩
theorem dJ13_init_0 : decode cJ13_init 0 = .ok (.return_, 1) := by decide +kernel
theorem q113 : (Jvm.Cond.instanceMethod ({ cls := "java/lang/Object", name := "<init>", desc := "()V" } : Jvm.MethodName)) ∈ lw_all := lw_g (lw_at lw_m1 29 rfl) rfl
theorem q114 : (Jvm.Cond.code ({ cls := "java/lang/Object", name := "<init>", desc := "()V" } : Jvm.MethodName) object_method_1_code (1 : Nat) (Option.none : Option Jvm.ClassFile.FieldType)) ∈ lw_all := lw_g (lw_at lw_m1 30 rfl) rfl
/-! java/lang/Math -/
set_option maxRecDepth 100000
def RJ2 : String := "java/lang/Math"
abbrev cJ2_abs : ByteArray := prog_17_method_61_code
def yJ2_abs : MethodName := ⟨RJ2, "abs", "(J)J"⟩
def dkwJ2_abs_0 : List UInt8 := [30, 9, 148, 156, 0, 8, 30, 117, 167, 0, 4, 30, 173]
abbrev dktJ2_abs_0 : List UInt8 := dkwJ2_abs_0 ++ []
theorem dksJ2_abs_0 : cJ2_abs.data.toList.drop 0 = dktJ2_abs_0 := by decide +kernel
theorem dJ2_abs_0 : decode cJ2_abs 0 = .ok (.lload_n 0, 1) := dk_30 (dk_at dksJ2_abs_0 0 rfl rfl)
theorem dJ2_abs_1 : decode cJ2_abs 1 = .ok (.lconst 0, 1) := dk_9 (dk_at dksJ2_abs_0 1 rfl rfl)
theorem dJ2_abs_2 : decode cJ2_abs 2 = .ok (.lcmp, 1) := dk_148 (dk_at dksJ2_abs_0 2 rfl rfl)
theorem dJ2_abs_3 : decode cJ2_abs 3 = .ok (.ifCond .ge 8, 3) := dk_156 0 8 (dk_at dksJ2_abs_0 3 rfl rfl)
theorem dJ2_abs_6 : decode cJ2_abs 6 = .ok (.lload_n 0, 1) := dk_30 (dk_at dksJ2_abs_0 6 rfl rfl)
theorem dJ2_abs_7 : decode cJ2_abs 7 = .ok (.lneg, 1) := dk_117 (dk_at dksJ2_abs_0 7 rfl rfl)
theorem dJ2_abs_8 : decode cJ2_abs 8 = .ok (.goto 4, 3) := dk_167 0 4 (dk_at dksJ2_abs_0 8 rfl rfl)
theorem dJ2_abs_11 : decode cJ2_abs 11 = .ok (.lload_n 0, 1) := dk_30 (dk_at dksJ2_abs_0 11 rfl rfl)
theorem dJ2_abs_12 : decode cJ2_abs 12 = .ok (.lreturn, 1) := dk_173 (dk_at dksJ2_abs_0 12 rfl rfl)
abbrev cJ2_abs_2 : ByteArray := prog_17_method_59_code
def yJ2_abs_2 : MethodName := ⟨RJ2, "abs", "(I)I"⟩
def dkwJ2_abs_2_0 : List UInt8 := [26, 156, 0, 8, 26, 116, 167, 0, 4, 26, 172]
abbrev dktJ2_abs_2_0 : List UInt8 := dkwJ2_abs_2_0 ++ []
theorem dksJ2_abs_2_0 : cJ2_abs_2.data.toList.drop 0 = dktJ2_abs_2_0 := by decide +kernel
theorem dJ2_abs_2_0 : decode cJ2_abs_2 0 = .ok (.iload_n 0, 1) := dk_26 (dk_at dksJ2_abs_2_0 0 rfl rfl)
theorem dJ2_abs_2_1 : decode cJ2_abs_2 1 = .ok (.ifCond .ge 8, 3) := dk_156 0 8 (dk_at dksJ2_abs_2_0 1 rfl rfl)
theorem dJ2_abs_2_4 : decode cJ2_abs_2 4 = .ok (.iload_n 0, 1) := dk_26 (dk_at dksJ2_abs_2_0 4 rfl rfl)
theorem dJ2_abs_2_5 : decode cJ2_abs_2 5 = .ok (.ineg, 1) := dk_116 (dk_at dksJ2_abs_2_0 5 rfl rfl)
theorem dJ2_abs_2_6 : decode cJ2_abs_2 6 = .ok (.goto 4, 3) := dk_167 0 4 (dk_at dksJ2_abs_2_0 6 rfl rfl)
theorem dJ2_abs_2_9 : decode cJ2_abs_2 9 = .ok (.iload_n 0, 1) := dk_26 (dk_at dksJ2_abs_2_0 9 rfl rfl)
theorem dJ2_abs_2_10 : decode cJ2_abs_2 10 = .ok (.ireturn, 1) := dk_172 (dk_at dksJ2_abs_2_0 10 rfl rfl)
abbrev cJ2_multiplyExact : ByteArray := prog_17_method_30_code
def yJ2_multiplyExact : MethodName := ⟨RJ2, "multiplyExact", "(JJ)J"⟩
def dkwJ2_multiplyExact_3 : List UInt8 := [191, 22, 4, 173]
abbrev dktJ2_multiplyExact_3 : List UInt8 := dkwJ2_multiplyExact_3 ++ []
def dkwJ2_multiplyExact_2 : List UInt8 := [20, 0, 128, 148, 154, 0, 21, 32, 20, 0, 130, 148, 154, 0, 13, 187, 0, 109, 89, 18, 116, 183, 0, 113]
abbrev dktJ2_multiplyExact_2 : List UInt8 := dkwJ2_multiplyExact_2 ++ dktJ2_multiplyExact_3
def dkwJ2_multiplyExact_1 : List UInt8 := [125, 9, 148, 153, 0, 44, 32, 9, 148, 153, 0, 12, 22, 4, 32, 109, 30, 148, 154, 0, 19, 30]
abbrev dktJ2_multiplyExact_1 : List UInt8 := dkwJ2_multiplyExact_1 ++ dktJ2_multiplyExact_2
def dkwJ2_multiplyExact_0 : List UInt8 := [30, 32, 105, 55, 4, 30, 184, 0, 122, 55, 6, 32, 184, 0, 122, 55, 8, 22, 6, 22, 8, 129, 16, 31]
abbrev dktJ2_multiplyExact_0 : List UInt8 := dkwJ2_multiplyExact_0 ++ dktJ2_multiplyExact_1
theorem dksJ2_multiplyExact_0 : cJ2_multiplyExact.data.toList.drop 0 = dktJ2_multiplyExact_0 := by decide +kernel
theorem dksJ2_multiplyExact_1 : cJ2_multiplyExact.data.toList.drop 24 = dktJ2_multiplyExact_1 := dk_seg dksJ2_multiplyExact_0 24 rfl rfl
theorem dksJ2_multiplyExact_2 : cJ2_multiplyExact.data.toList.drop 46 = dktJ2_multiplyExact_2 := dk_seg dksJ2_multiplyExact_1 22 rfl rfl
theorem dksJ2_multiplyExact_3 : cJ2_multiplyExact.data.toList.drop 70 = dktJ2_multiplyExact_3 := dk_seg dksJ2_multiplyExact_2 24 rfl rfl
theorem dJ2_multiplyExact_0 : decode cJ2_multiplyExact 0 = .ok (.lload_n 0, 1) := dk_30 (dk_at dksJ2_multiplyExact_0 0 rfl rfl)
theorem dJ2_multiplyExact_1 : decode cJ2_multiplyExact 1 = .ok (.lload_n 2, 1) := dk_32 (dk_at dksJ2_multiplyExact_0 1 rfl rfl)
theorem dJ2_multiplyExact_2 : decode cJ2_multiplyExact 2 = .ok (.lmul, 1) := dk_105 (dk_at dksJ2_multiplyExact_0 2 rfl rfl)
theorem dJ2_multiplyExact_3 : decode cJ2_multiplyExact 3 = .ok (.lstore 4, 2) := dk_55 4 (dk_at dksJ2_multiplyExact_0 3 rfl rfl)
theorem dJ2_multiplyExact_5 : decode cJ2_multiplyExact 5 = .ok (.lload_n 0, 1) := dk_30 (dk_at dksJ2_multiplyExact_0 5 rfl rfl)
theorem dJ2_multiplyExact_6 : decode cJ2_multiplyExact 6 = .ok (.invokestatic 122, 3) := dk_184 0 122 (dk_at dksJ2_multiplyExact_0 6 rfl rfl)
theorem dJ2_multiplyExact_9 : decode cJ2_multiplyExact 9 = .ok (.lstore 6, 2) := dk_55 6 (dk_at dksJ2_multiplyExact_0 9 rfl rfl)
theorem dJ2_multiplyExact_11 : decode cJ2_multiplyExact 11 = .ok (.lload_n 2, 1) := dk_32 (dk_at dksJ2_multiplyExact_0 11 rfl rfl)
theorem dJ2_multiplyExact_12 : decode cJ2_multiplyExact 12 = .ok (.invokestatic 122, 3) := dk_184 0 122 (dk_at dksJ2_multiplyExact_0 12 rfl rfl)
theorem dJ2_multiplyExact_15 : decode cJ2_multiplyExact 15 = .ok (.lstore 8, 2) := dk_55 8 (dk_at dksJ2_multiplyExact_0 15 rfl rfl)
theorem dJ2_multiplyExact_17 : decode cJ2_multiplyExact 17 = .ok (.lload 6, 2) := dk_22 6 (dk_at dksJ2_multiplyExact_0 17 rfl rfl)
theorem dJ2_multiplyExact_19 : decode cJ2_multiplyExact 19 = .ok (.lload 8, 2) := dk_22 8 (dk_at dksJ2_multiplyExact_0 19 rfl rfl)
theorem dJ2_multiplyExact_21 : decode cJ2_multiplyExact 21 = .ok (.lor, 1) := dk_129 (dk_at dksJ2_multiplyExact_0 21 rfl rfl)
theorem dJ2_multiplyExact_22 : decode cJ2_multiplyExact 22 = .ok (.bipush 31, 2) := dk_16 31 (dk_at dksJ2_multiplyExact_0 22 rfl rfl)
theorem dJ2_multiplyExact_24 : decode cJ2_multiplyExact 24 = .ok (.lushr, 1) := dk_125 (dk_at dksJ2_multiplyExact_1 0 rfl rfl)
theorem dJ2_multiplyExact_25 : decode cJ2_multiplyExact 25 = .ok (.lconst 0, 1) := dk_9 (dk_at dksJ2_multiplyExact_1 1 rfl rfl)
theorem dJ2_multiplyExact_26 : decode cJ2_multiplyExact 26 = .ok (.lcmp, 1) := dk_148 (dk_at dksJ2_multiplyExact_1 2 rfl rfl)
theorem dJ2_multiplyExact_27 : decode cJ2_multiplyExact 27 = .ok (.ifCond .eq 44, 3) := dk_153 0 44 (dk_at dksJ2_multiplyExact_1 3 rfl rfl)
theorem dJ2_multiplyExact_30 : decode cJ2_multiplyExact 30 = .ok (.lload_n 2, 1) := dk_32 (dk_at dksJ2_multiplyExact_1 6 rfl rfl)
theorem dJ2_multiplyExact_31 : decode cJ2_multiplyExact 31 = .ok (.lconst 0, 1) := dk_9 (dk_at dksJ2_multiplyExact_1 7 rfl rfl)
theorem dJ2_multiplyExact_32 : decode cJ2_multiplyExact 32 = .ok (.lcmp, 1) := dk_148 (dk_at dksJ2_multiplyExact_1 8 rfl rfl)
theorem dJ2_multiplyExact_33 : decode cJ2_multiplyExact 33 = .ok (.ifCond .eq 12, 3) := dk_153 0 12 (dk_at dksJ2_multiplyExact_1 9 rfl rfl)
theorem dJ2_multiplyExact_36 : decode cJ2_multiplyExact 36 = .ok (.lload 4, 2) := dk_22 4 (dk_at dksJ2_multiplyExact_1 12 rfl rfl)
theorem dJ2_multiplyExact_38 : decode cJ2_multiplyExact 38 = .ok (.lload_n 2, 1) := dk_32 (dk_at dksJ2_multiplyExact_1 14 rfl rfl)
theorem dJ2_multiplyExact_39 : decode cJ2_multiplyExact 39 = .ok (.ldiv, 1) := dk_109 (dk_at dksJ2_multiplyExact_1 15 rfl rfl)
theorem dJ2_multiplyExact_40 : decode cJ2_multiplyExact 40 = .ok (.lload_n 0, 1) := dk_30 (dk_at dksJ2_multiplyExact_1 16 rfl rfl)
theorem dJ2_multiplyExact_41 : decode cJ2_multiplyExact 41 = .ok (.lcmp, 1) := dk_148 (dk_at dksJ2_multiplyExact_1 17 rfl rfl)
theorem dJ2_multiplyExact_42 : decode cJ2_multiplyExact 42 = .ok (.ifCond .ne 19, 3) := dk_154 0 19 (dk_at dksJ2_multiplyExact_1 18 rfl rfl)
theorem dJ2_multiplyExact_45 : decode cJ2_multiplyExact 45 = .ok (.lload_n 0, 1) := dk_30 (dk_at dksJ2_multiplyExact_1 21 rfl rfl)
theorem dJ2_multiplyExact_46 : decode cJ2_multiplyExact 46 = .ok (.ldc2_w 128, 3) := dk_20 0 128 (dk_at dksJ2_multiplyExact_2 0 rfl rfl)
theorem dJ2_multiplyExact_49 : decode cJ2_multiplyExact 49 = .ok (.lcmp, 1) := dk_148 (dk_at dksJ2_multiplyExact_2 3 rfl rfl)
theorem dJ2_multiplyExact_50 : decode cJ2_multiplyExact 50 = .ok (.ifCond .ne 21, 3) := dk_154 0 21 (dk_at dksJ2_multiplyExact_2 4 rfl rfl)
theorem dJ2_multiplyExact_53 : decode cJ2_multiplyExact 53 = .ok (.lload_n 2, 1) := dk_32 (dk_at dksJ2_multiplyExact_2 7 rfl rfl)
theorem dJ2_multiplyExact_54 : decode cJ2_multiplyExact 54 = .ok (.ldc2_w 130, 3) := dk_20 0 130 (dk_at dksJ2_multiplyExact_2 8 rfl rfl)
theorem dJ2_multiplyExact_57 : decode cJ2_multiplyExact 57 = .ok (.lcmp, 1) := dk_148 (dk_at dksJ2_multiplyExact_2 11 rfl rfl)
theorem dJ2_multiplyExact_58 : decode cJ2_multiplyExact 58 = .ok (.ifCond .ne 13, 3) := dk_154 0 13 (dk_at dksJ2_multiplyExact_2 12 rfl rfl)
theorem dJ2_multiplyExact_61 : decode cJ2_multiplyExact 61 = .ok (.new 109, 3) := dk_187 0 109 (dk_at dksJ2_multiplyExact_2 15 rfl rfl)
theorem dJ2_multiplyExact_64 : decode cJ2_multiplyExact 64 = .ok (.dup, 1) := dk_89 (dk_at dksJ2_multiplyExact_2 18 rfl rfl)
theorem dJ2_multiplyExact_65 : decode cJ2_multiplyExact 65 = .ok (.ldc 116, 2) := dk_18 116 (dk_at dksJ2_multiplyExact_2 19 rfl rfl)
theorem dJ2_multiplyExact_67 : decode cJ2_multiplyExact 67 = .ok (.invokespecial 113, 3) := dk_183 0 113 (dk_at dksJ2_multiplyExact_2 21 rfl rfl)
theorem dJ2_multiplyExact_70 : decode cJ2_multiplyExact 70 = .ok (.athrow, 1) := dk_191 (dk_at dksJ2_multiplyExact_3 0 rfl rfl)
theorem dJ2_multiplyExact_71 : decode cJ2_multiplyExact 71 = .ok (.lload 4, 2) := dk_22 4 (dk_at dksJ2_multiplyExact_3 1 rfl rfl)
theorem dJ2_multiplyExact_73 : decode cJ2_multiplyExact 73 = .ok (.lreturn, 1) := dk_173 (dk_at dksJ2_multiplyExact_3 3 rfl rfl)
abbrev cJ2_min : ByteArray := prog_17_method_69_code
def yJ2_min : MethodName := ⟨RJ2, "min", "(II)I"⟩
def dkwJ2_min_0 : List UInt8 := [26, 27, 163, 0, 7, 26, 167, 0, 4, 27, 172]
abbrev dktJ2_min_0 : List UInt8 := dkwJ2_min_0 ++ []
theorem dksJ2_min_0 : cJ2_min.data.toList.drop 0 = dktJ2_min_0 := by decide +kernel
theorem dJ2_min_0 : decode cJ2_min 0 = .ok (.iload_n 0, 1) := dk_26 (dk_at dksJ2_min_0 0 rfl rfl)
theorem dJ2_min_1 : decode cJ2_min 1 = .ok (.iload_n 1, 1) := dk_27 (dk_at dksJ2_min_0 1 rfl rfl)
theorem dJ2_min_2 : decode cJ2_min 2 = .ok (.if_icmp .gt 7, 3) := dk_163 0 7 (dk_at dksJ2_min_0 2 rfl rfl)
theorem dJ2_min_5 : decode cJ2_min 5 = .ok (.iload_n 0, 1) := dk_26 (dk_at dksJ2_min_0 5 rfl rfl)
theorem dJ2_min_6 : decode cJ2_min 6 = .ok (.goto 4, 3) := dk_167 0 4 (dk_at dksJ2_min_0 6 rfl rfl)
theorem dJ2_min_9 : decode cJ2_min 9 = .ok (.iload_n 1, 1) := dk_27 (dk_at dksJ2_min_0 9 rfl rfl)
theorem dJ2_min_10 : decode cJ2_min 10 = .ok (.ireturn, 1) := dk_172 (dk_at dksJ2_min_0 10 rfl rfl)
theorem q93 : (Jvm.Cond.initialized "java/lang/Math") ∈ lw_all := lw_g (lw_at lw_m1 9 rfl) rfl
theorem q499 : (Jvm.Cond.static ({ cls := "java/lang/Math", name := "abs", desc := "(J)J" } : Jvm.MethodName)) ∈ lw_all := lw_g (lw_at lw_m2 175 rfl) rfl
theorem q500 : (Jvm.Cond.code ({ cls := "java/lang/Math", name := "abs", desc := "(J)J" } : Jvm.MethodName) prog_17_method_61_code (2 : Nat) (Option.some Jvm.ClassFile.FieldType.long)) ∈ lw_all := lw_g (lw_at lw_m2 176 rfl) rfl
theorem q712 : (Jvm.Cond.static ({ cls := "java/lang/Math", name := "abs", desc := "(I)I" } : Jvm.MethodName)) ∈ lw_all := lw_g (lw_at lw_m3 148 rfl) rfl
theorem q713 : (Jvm.Cond.code ({ cls := "java/lang/Math", name := "abs", desc := "(I)I" } : Jvm.MethodName) prog_17_method_59_code (1 : Nat) (Option.some Jvm.ClassFile.FieldType.int)) ∈ lw_all := lw_g (lw_at lw_m3 149 rfl) rfl
theorem q836 : (Jvm.Cond.static ({ cls := "java/lang/Math", name := "multiplyExact", desc := "(JJ)J" } : Jvm.MethodName)) ∈ lw_all := lw_g (lw_at lw_m4 32 rfl) rfl
theorem q837 : (Jvm.Cond.code ({ cls := "java/lang/Math", name := "multiplyExact", desc := "(JJ)J" } : Jvm.MethodName) prog_17_method_30_code (10 : Nat) (Option.some Jvm.ClassFile.FieldType.long)) ∈ lw_all := lw_g (lw_at lw_m4 33 rfl) rfl
theorem q838 : (Jvm.Cond.methodLink "java/lang/Math" (122 : Nat) ({ cls := "java/lang/Math", name := "abs", desc := "(J)J" } : Jvm.MethodName)) ∈ lw_all := lw_g (lw_at lw_m4 34 rfl) rfl
theorem q839 : (Jvm.Cond.constantLong "java/lang/Math" (128 : Nat) (-9223372036854775808 : Int64)) ∈ lw_all := lw_g (lw_at lw_m4 35 rfl) rfl
theorem q840 : (Jvm.Cond.constantLong "java/lang/Math" (130 : Nat) (-1 : Int64)) ∈ lw_all := lw_g (lw_at lw_m4 36 rfl) rfl
theorem q841 : (Jvm.Cond.classLink "java/lang/Math" (109 : Nat) "java/lang/ArithmeticException") ∈ lw_all := lw_g (lw_at lw_m4 37 rfl) rfl
theorem q842 : (Jvm.Cond.stringRef "java/lang/Math" (116 : Nat) "long overflow") ∈ lw_tbl := lw_at lw_m4 38 rfl
theorem q843 : (Jvm.Cond.methodLink "java/lang/Math" (113 : Nat) ({ cls := "java/lang/ArithmeticException", name := "<init>", desc := "(Ljava/lang/String;)V" } : Jvm.MethodName)) ∈ lw_all := lw_g (lw_at lw_m4 39 rfl) rfl
theorem q897 : (Jvm.Cond.static ({ cls := "java/lang/Math", name := "min", desc := "(II)I" } : Jvm.MethodName)) ∈ lw_all := lw_g (lw_at lw_m4 93 rfl) rfl
theorem q898 : (Jvm.Cond.code ({ cls := "java/lang/Math", name := "min", desc := "(II)I" } : Jvm.MethodName) prog_17_method_69_code (2 : Nat) (Option.some Jvm.ClassFile.FieldType.int)) ∈ lw_all := lw_g (lw_at lw_m4 94 rfl) rfl
/-! java/lang/Integer -/
set_option maxRecDepth 100000
def RJ3 : String := "java/lang/Integer"
abbrev cJ3_bitCount : ByteArray := prog_16_method_49_code
def yJ3_bitCount : MethodName := ⟨RJ3, "bitCount", "(I)I"⟩
def dkwJ3_bitCount_2 : List UInt8 := [26, 16, 63, 126, 172]
abbrev dktJ3_bitCount_2 : List UInt8 := dkwJ3_bitCount_2 ++ []
def dkwJ3_bitCount_1 : List UInt8 := [26, 26, 7, 124, 96, 19, 1, 11, 126, 59, 26, 26, 16, 8, 124, 96, 59, 26, 26, 16, 16, 124, 96, 59]
abbrev dktJ3_bitCount_1 : List UInt8 := dkwJ3_bitCount_1 ++ dktJ3_bitCount_2
def dkwJ3_bitCount_0 : List UInt8 := [26, 26, 4, 124, 19, 1, 9, 126, 100, 59, 26, 19, 1, 10, 126, 26, 5, 124, 19, 1, 10, 126, 96, 59]
abbrev dktJ3_bitCount_0 : List UInt8 := dkwJ3_bitCount_0 ++ dktJ3_bitCount_1
theorem dksJ3_bitCount_0 : cJ3_bitCount.data.toList.drop 0 = dktJ3_bitCount_0 := by decide +kernel
theorem dksJ3_bitCount_1 : cJ3_bitCount.data.toList.drop 24 = dktJ3_bitCount_1 := dk_seg dksJ3_bitCount_0 24 rfl rfl
theorem dksJ3_bitCount_2 : cJ3_bitCount.data.toList.drop 48 = dktJ3_bitCount_2 := dk_seg dksJ3_bitCount_1 24 rfl rfl
theorem dJ3_bitCount_0 : decode cJ3_bitCount 0 = .ok (.iload_n 0, 1) := dk_26 (dk_at dksJ3_bitCount_0 0 rfl rfl)
theorem dJ3_bitCount_1 : decode cJ3_bitCount 1 = .ok (.iload_n 0, 1) := dk_26 (dk_at dksJ3_bitCount_0 1 rfl rfl)
theorem dJ3_bitCount_2 : decode cJ3_bitCount 2 = .ok (.iconst 1, 1) := dk_4 (dk_at dksJ3_bitCount_0 2 rfl rfl)
theorem dJ3_bitCount_3 : decode cJ3_bitCount 3 = .ok (.iushr, 1) := dk_124 (dk_at dksJ3_bitCount_0 3 rfl rfl)
theorem dJ3_bitCount_4 : decode cJ3_bitCount 4 = .ok (.ldc_w 265, 3) := dk_19 1 9 (dk_at dksJ3_bitCount_0 4 rfl rfl)
theorem dJ3_bitCount_7 : decode cJ3_bitCount 7 = .ok (.iand, 1) := dk_126 (dk_at dksJ3_bitCount_0 7 rfl rfl)
theorem dJ3_bitCount_8 : decode cJ3_bitCount 8 = .ok (.isub, 1) := dk_100 (dk_at dksJ3_bitCount_0 8 rfl rfl)
theorem dJ3_bitCount_9 : decode cJ3_bitCount 9 = .ok (.istore_n 0, 1) := dk_59 (dk_at dksJ3_bitCount_0 9 rfl rfl)
theorem dJ3_bitCount_10 : decode cJ3_bitCount 10 = .ok (.iload_n 0, 1) := dk_26 (dk_at dksJ3_bitCount_0 10 rfl rfl)
theorem dJ3_bitCount_11 : decode cJ3_bitCount 11 = .ok (.ldc_w 266, 3) := dk_19 1 10 (dk_at dksJ3_bitCount_0 11 rfl rfl)
theorem dJ3_bitCount_14 : decode cJ3_bitCount 14 = .ok (.iand, 1) := dk_126 (dk_at dksJ3_bitCount_0 14 rfl rfl)
theorem dJ3_bitCount_15 : decode cJ3_bitCount 15 = .ok (.iload_n 0, 1) := dk_26 (dk_at dksJ3_bitCount_0 15 rfl rfl)
theorem dJ3_bitCount_16 : decode cJ3_bitCount 16 = .ok (.iconst 2, 1) := dk_5 (dk_at dksJ3_bitCount_0 16 rfl rfl)
theorem dJ3_bitCount_17 : decode cJ3_bitCount 17 = .ok (.iushr, 1) := dk_124 (dk_at dksJ3_bitCount_0 17 rfl rfl)
theorem dJ3_bitCount_18 : decode cJ3_bitCount 18 = .ok (.ldc_w 266, 3) := dk_19 1 10 (dk_at dksJ3_bitCount_0 18 rfl rfl)
theorem dJ3_bitCount_21 : decode cJ3_bitCount 21 = .ok (.iand, 1) := dk_126 (dk_at dksJ3_bitCount_0 21 rfl rfl)
theorem dJ3_bitCount_22 : decode cJ3_bitCount 22 = .ok (.iadd, 1) := dk_96 (dk_at dksJ3_bitCount_0 22 rfl rfl)
theorem dJ3_bitCount_23 : decode cJ3_bitCount 23 = .ok (.istore_n 0, 1) := dk_59 (dk_at dksJ3_bitCount_0 23 rfl rfl)
theorem dJ3_bitCount_24 : decode cJ3_bitCount 24 = .ok (.iload_n 0, 1) := dk_26 (dk_at dksJ3_bitCount_1 0 rfl rfl)
theorem dJ3_bitCount_25 : decode cJ3_bitCount 25 = .ok (.iload_n 0, 1) := dk_26 (dk_at dksJ3_bitCount_1 1 rfl rfl)
theorem dJ3_bitCount_26 : decode cJ3_bitCount 26 = .ok (.iconst 4, 1) := dk_7 (dk_at dksJ3_bitCount_1 2 rfl rfl)
theorem dJ3_bitCount_27 : decode cJ3_bitCount 27 = .ok (.iushr, 1) := dk_124 (dk_at dksJ3_bitCount_1 3 rfl rfl)
theorem dJ3_bitCount_28 : decode cJ3_bitCount 28 = .ok (.iadd, 1) := dk_96 (dk_at dksJ3_bitCount_1 4 rfl rfl)
theorem dJ3_bitCount_29 : decode cJ3_bitCount 29 = .ok (.ldc_w 267, 3) := dk_19 1 11 (dk_at dksJ3_bitCount_1 5 rfl rfl)
theorem dJ3_bitCount_32 : decode cJ3_bitCount 32 = .ok (.iand, 1) := dk_126 (dk_at dksJ3_bitCount_1 8 rfl rfl)
theorem dJ3_bitCount_33 : decode cJ3_bitCount 33 = .ok (.istore_n 0, 1) := dk_59 (dk_at dksJ3_bitCount_1 9 rfl rfl)
theorem dJ3_bitCount_34 : decode cJ3_bitCount 34 = .ok (.iload_n 0, 1) := dk_26 (dk_at dksJ3_bitCount_1 10 rfl rfl)
theorem dJ3_bitCount_35 : decode cJ3_bitCount 35 = .ok (.iload_n 0, 1) := dk_26 (dk_at dksJ3_bitCount_1 11 rfl rfl)
theorem dJ3_bitCount_36 : decode cJ3_bitCount 36 = .ok (.bipush 8, 2) := dk_16 8 (dk_at dksJ3_bitCount_1 12 rfl rfl)
theorem dJ3_bitCount_38 : decode cJ3_bitCount 38 = .ok (.iushr, 1) := dk_124 (dk_at dksJ3_bitCount_1 14 rfl rfl)
theorem dJ3_bitCount_39 : decode cJ3_bitCount 39 = .ok (.iadd, 1) := dk_96 (dk_at dksJ3_bitCount_1 15 rfl rfl)
theorem dJ3_bitCount_40 : decode cJ3_bitCount 40 = .ok (.istore_n 0, 1) := dk_59 (dk_at dksJ3_bitCount_1 16 rfl rfl)
theorem dJ3_bitCount_41 : decode cJ3_bitCount 41 = .ok (.iload_n 0, 1) := dk_26 (dk_at dksJ3_bitCount_1 17 rfl rfl)
theorem dJ3_bitCount_42 : decode cJ3_bitCount 42 = .ok (.iload_n 0, 1) := dk_26 (dk_at dksJ3_bitCount_1 18 rfl rfl)
theorem dJ3_bitCount_43 : decode cJ3_bitCount 43 = .ok (.bipush 16, 2) := dk_16 16 (dk_at dksJ3_bitCount_1 19 rfl rfl)
theorem dJ3_bitCount_45 : decode cJ3_bitCount 45 = .ok (.iushr, 1) := dk_124 (dk_at dksJ3_bitCount_1 21 rfl rfl)
theorem dJ3_bitCount_46 : decode cJ3_bitCount 46 = .ok (.iadd, 1) := dk_96 (dk_at dksJ3_bitCount_1 22 rfl rfl)
theorem dJ3_bitCount_47 : decode cJ3_bitCount 47 = .ok (.istore_n 0, 1) := dk_59 (dk_at dksJ3_bitCount_1 23 rfl rfl)
theorem dJ3_bitCount_48 : decode cJ3_bitCount 48 = .ok (.iload_n 0, 1) := dk_26 (dk_at dksJ3_bitCount_2 0 rfl rfl)
theorem dJ3_bitCount_49 : decode cJ3_bitCount 49 = .ok (.bipush 63, 2) := dk_16 63 (dk_at dksJ3_bitCount_2 1 rfl rfl)
theorem dJ3_bitCount_51 : decode cJ3_bitCount 51 = .ok (.iand, 1) := dk_126 (dk_at dksJ3_bitCount_2 3 rfl rfl)
theorem dJ3_bitCount_52 : decode cJ3_bitCount 52 = .ok (.ireturn, 1) := dk_172 (dk_at dksJ3_bitCount_2 4 rfl rfl)
abbrev cJ3_signum : ByteArray := prog_16_method_56_code
def yJ3_signum : MethodName := ⟨RJ3, "signum", "(I)I"⟩
def dkwJ3_signum_0 : List UInt8 := [26, 16, 31, 122, 26, 116, 16, 31, 124, 128, 172]
abbrev dktJ3_signum_0 : List UInt8 := dkwJ3_signum_0 ++ []
theorem dksJ3_signum_0 : cJ3_signum.data.toList.drop 0 = dktJ3_signum_0 := by decide +kernel
theorem dJ3_signum_0 : decode cJ3_signum 0 = .ok (.iload_n 0, 1) := dk_26 (dk_at dksJ3_signum_0 0 rfl rfl)
theorem dJ3_signum_1 : decode cJ3_signum 1 = .ok (.bipush 31, 2) := dk_16 31 (dk_at dksJ3_signum_0 1 rfl rfl)
theorem dJ3_signum_3 : decode cJ3_signum 3 = .ok (.ishr, 1) := dk_122 (dk_at dksJ3_signum_0 3 rfl rfl)
theorem dJ3_signum_4 : decode cJ3_signum 4 = .ok (.iload_n 0, 1) := dk_26 (dk_at dksJ3_signum_0 4 rfl rfl)
theorem dJ3_signum_5 : decode cJ3_signum 5 = .ok (.ineg, 1) := dk_116 (dk_at dksJ3_signum_0 5 rfl rfl)
theorem dJ3_signum_6 : decode cJ3_signum 6 = .ok (.bipush 31, 2) := dk_16 31 (dk_at dksJ3_signum_0 6 rfl rfl)
theorem dJ3_signum_8 : decode cJ3_signum 8 = .ok (.iushr, 1) := dk_124 (dk_at dksJ3_signum_0 8 rfl rfl)
theorem dJ3_signum_9 : decode cJ3_signum 9 = .ok (.ior, 1) := dk_128 (dk_at dksJ3_signum_0 9 rfl rfl)
theorem dJ3_signum_10 : decode cJ3_signum 10 = .ok (.ireturn, 1) := dk_172 (dk_at dksJ3_signum_0 10 rfl rfl)
theorem q96 : (Jvm.Cond.initialized "java/lang/Integer") ∈ lw_all := lw_g (lw_at lw_m1 12 rfl) rfl
theorem q662 : (Jvm.Cond.static ({ cls := "java/lang/Integer", name := "bitCount", desc := "(I)I" } : Jvm.MethodName)) ∈ lw_all := lw_g (lw_at lw_m3 98 rfl) rfl
theorem q663 : (Jvm.Cond.code ({ cls := "java/lang/Integer", name := "bitCount", desc := "(I)I" } : Jvm.MethodName) prog_16_method_49_code (1 : Nat) (Option.some Jvm.ClassFile.FieldType.int)) ∈ lw_all := lw_g (lw_at lw_m3 99 rfl) rfl
theorem q664 : (Jvm.Cond.constant "java/lang/Integer" (265 : Nat) (1431655765 : Int32)) ∈ lw_all := lw_g (lw_at lw_m3 100 rfl) rfl
theorem q665 : (Jvm.Cond.constant "java/lang/Integer" (266 : Nat) (858993459 : Int32)) ∈ lw_all := lw_g (lw_at lw_m3 101 rfl) rfl
theorem q666 : (Jvm.Cond.constant "java/lang/Integer" (267 : Nat) (252645135 : Int32)) ∈ lw_all := lw_g (lw_at lw_m3 102 rfl) rfl
theorem q732 : (Jvm.Cond.static ({ cls := "java/lang/Integer", name := "signum", desc := "(I)I" } : Jvm.MethodName)) ∈ lw_all := lw_g (lw_at lw_m3 168 rfl) rfl
theorem q733 : (Jvm.Cond.code ({ cls := "java/lang/Integer", name := "signum", desc := "(I)I" } : Jvm.MethodName) prog_16_method_56_code (1 : Nat) (Option.some Jvm.ClassFile.FieldType.int)) ∈ lw_all := lw_g (lw_at lw_m3 169 rfl) rfl
/-! java/lang/RuntimeException -/
set_option maxRecDepth 100000
def RJ4 : String := "java/lang/RuntimeException"
abbrev cJ4_init : ByteArray := prog_20_method_2_code
def yJ4_init : MethodName := ⟨RJ4, "<init>", "(Ljava/lang/String;)V"⟩
def dkwJ4_init_0 : List UInt8 := [42, 43, 183, 0, 7, 177]
abbrev dktJ4_init_0 : List UInt8 := dkwJ4_init_0 ++ []
theorem dksJ4_init_0 : cJ4_init.data.toList.drop 0 = dktJ4_init_0 := by decide +kernel
theorem dJ4_init_0 : decode cJ4_init 0 = .ok (.aload_n 0, 1) := dk_42 (dk_at dksJ4_init_0 0 rfl rfl)
theorem dJ4_init_1 : decode cJ4_init 1 = .ok (.aload_n 1, 1) := dk_43 (dk_at dksJ4_init_0 1 rfl rfl)
theorem dJ4_init_2 : decode cJ4_init 2 = .ok (.invokespecial 7, 3) := dk_183 0 7 (dk_at dksJ4_init_0 2 rfl rfl)
theorem dJ4_init_5 : decode cJ4_init 5 = .ok (.return_, 1) := dk_177 (dk_at dksJ4_init_0 5 rfl rfl)
abbrev cJ4_init_2 : ByteArray := prog_20_method_1_code
def yJ4_init_2 : MethodName := ⟨RJ4, "<init>", "()V"⟩
theorem dJ4_init_2_0 : decode cJ4_init_2 0 = .ok (.aload_n 0, 1) := by decide +kernel
theorem dJ4_init_2_1 : decode cJ4_init_2 1 = .ok (.invokespecial 1, 3) := by decide +kernel
theorem dJ4_init_2_4 : decode cJ4_init_2 4 = .ok (.return_, 1) := by decide +kernel
theorem q97 : (Jvm.Cond.initialized "java/lang/RuntimeException") ∈ lw_all := lw_g (lw_at lw_m1 13 rfl) rfl
theorem q441 : (Jvm.Cond.sameMethod "java/lang/RuntimeException" "java/lang/Throwable" "fillInStackTrace" "()Ljava/lang/Throwable;") ∈ lw_all := lw_g (lw_at lw_m2 117 rfl) rfl
theorem q444 : (Jvm.Cond.superclass "java/lang/RuntimeException" "java/lang/Exception") ∈ lw_all := lw_g (lw_at lw_m2 120 rfl) rfl
theorem q751 : (Jvm.Cond.instanceMethod ({ cls := "java/lang/RuntimeException", name := "<init>", desc := "(Ljava/lang/String;)V" } : Jvm.MethodName)) ∈ lw_all := lw_g (lw_at lw_m3 187 rfl) rfl
theorem q752 : (Jvm.Cond.code ({ cls := "java/lang/RuntimeException", name := "<init>", desc := "(Ljava/lang/String;)V" } : Jvm.MethodName) prog_20_method_2_code (2 : Nat) (Option.none : Option Jvm.ClassFile.FieldType)) ∈ lw_all := lw_g (lw_at lw_m3 188 rfl) rfl
theorem q753 : (Jvm.Cond.methodLink "java/lang/RuntimeException" (7 : Nat) ({ cls := "java/lang/Exception", name := "<init>", desc := "(Ljava/lang/String;)V" } : Jvm.MethodName)) ∈ lw_all := lw_g (lw_at lw_m3 189 rfl) rfl
theorem q767 : (Jvm.Cond.declares ({ cls := "java/lang/RuntimeException", name := "<init>", desc := "()V" } : Jvm.MethodName)) ∈ lw_tbl := lw_at lw_m3 203 rfl
theorem q768 : (Jvm.Cond.declares ({ cls := "java/lang/RuntimeException", name := "<init>", desc := "(Ljava/lang/String;)V" } : Jvm.MethodName)) ∈ lw_tbl := lw_at lw_m3 204 rfl
theorem q856 : (Jvm.Cond.instanceMethod ({ cls := "java/lang/RuntimeException", name := "<init>", desc := "()V" } : Jvm.MethodName)) ∈ lw_all := lw_g (lw_at lw_m4 52 rfl) rfl
theorem q857 : (Jvm.Cond.code ({ cls := "java/lang/RuntimeException", name := "<init>", desc := "()V" } : Jvm.MethodName) prog_20_method_1_code (1 : Nat) (Option.none : Option Jvm.ClassFile.FieldType)) ∈ lw_all := lw_g (lw_at lw_m4 53 rfl) rfl
theorem q858 : (Jvm.Cond.methodLink "java/lang/RuntimeException" (1 : Nat) ({ cls := "java/lang/Exception", name := "<init>", desc := "()V" } : Jvm.MethodName)) ∈ lw_all := lw_g (lw_at lw_m4 54 rfl) rfl
theorem q873 : (Jvm.Cond.castable "java/lang/RuntimeException" "java/lang/Throwable") ∈ lw_tbl := lw_at lw_m4 69 rfl
/-! java/lang/NegativeArraySizeException -/
set_option maxRecDepth 100000
def RJ5 : String := "java/lang/NegativeArraySizeException"
def TJ5 : u_T := fun k => match k with
  | 0 => ("java/lang/Throwable", "backtrace", "Ljava/lang/Object;", false)
  | 1 => ("java/lang/Throwable", "detailMessage", "Ljava/lang/String;", false)
  | 2 => ("java/lang/Throwable", "cause", "Ljava/lang/Throwable;", false)
  | 3 => ("java/lang/Throwable", "stackTrace", "[Ljava/lang/StackTraceElement;", false)
  | 4 => ("java/lang/Throwable", "depth", "I", false)
  | _ => ("java/lang/Throwable", "suppressedExceptions", "Ljava/util/List;", false)
def tyJ5 : Nat → FieldType := fun k => match k with
  | 0 => .object "java/lang/Object"
  | 1 => .object "java/lang/String"
  | 2 => .object "java/lang/Throwable"
  | 3 => .array (.object "java/lang/StackTraceElement")
  | 4 => .int
  | _ => .object "java/util/List"
abbrev wsJ50 : List Cond := u_ws RJ5 TJ5 6
theorem nmJ5 : ∀ a, a < 6 → ∀ b, b < 6 → a ≠ b → (TJ5 a).2.1 ≠ (TJ5 b).2.1 := by decide +kernel
theorem tyJ5_ok : ∀ k, k < 6 → parseFieldDescriptor (TJ5 k).2.2.1 = some (tyJ5 k) := by decide +kernel
abbrev cJ5_init : ByteArray := prog_18_method_2_code
def yJ5_init : MethodName := ⟨RJ5, "<init>", "(Ljava/lang/String;)V"⟩
def dkwJ5_init_0 : List UInt8 := [42, 43, 183, 0, 7, 177]
abbrev dktJ5_init_0 : List UInt8 := dkwJ5_init_0 ++ []
theorem dksJ5_init_0 : cJ5_init.data.toList.drop 0 = dktJ5_init_0 := by decide +kernel
theorem dJ5_init_0 : decode cJ5_init 0 = .ok (.aload_n 0, 1) := dk_42 (dk_at dksJ5_init_0 0 rfl rfl)
theorem dJ5_init_1 : decode cJ5_init 1 = .ok (.aload_n 1, 1) := dk_43 (dk_at dksJ5_init_0 1 rfl rfl)
theorem dJ5_init_2 : decode cJ5_init 2 = .ok (.invokespecial 7, 3) := dk_183 0 7 (dk_at dksJ5_init_0 2 rfl rfl)
theorem dJ5_init_5 : decode cJ5_init 5 = .ok (.return_, 1) := dk_177 (dk_at dksJ5_init_0 5 rfl rfl)
theorem q98 : (Jvm.Cond.initialized "java/lang/NegativeArraySizeException") ∈ lw_all := lw_g (lw_at lw_m1 14 rfl) rfl
theorem q431 : (Jvm.Cond.selects "java/lang/NegativeArraySizeException" ({ cls := "java/lang/Throwable", name := "fillInStackTrace", desc := "()Ljava/lang/Throwable;" } : Jvm.MethodName) ({ cls := "java/lang/Throwable", name := "fillInStackTrace", desc := "()Ljava/lang/Throwable;" } : Jvm.MethodName)) ∈ lw_all := lw_g (lw_at lw_m2 107 rfl) rfl
theorem q747 : (Jvm.Cond.instantiable "java/lang/NegativeArraySizeException" (6 : Nat)) ∈ lw_all := lw_g (lw_at lw_m3 183 rfl) rfl
theorem q748 : (Jvm.Cond.instanceMethod ({ cls := "java/lang/NegativeArraySizeException", name := "<init>", desc := "(Ljava/lang/String;)V" } : Jvm.MethodName)) ∈ lw_all := lw_g (lw_at lw_m3 184 rfl) rfl
theorem q749 : (Jvm.Cond.code ({ cls := "java/lang/NegativeArraySizeException", name := "<init>", desc := "(Ljava/lang/String;)V" } : Jvm.MethodName) prog_18_method_2_code (2 : Nat) (Option.none : Option Jvm.ClassFile.FieldType)) ∈ lw_all := lw_g (lw_at lw_m3 185 rfl) rfl
theorem q750 : (Jvm.Cond.methodLink "java/lang/NegativeArraySizeException" (7 : Nat) ({ cls := "java/lang/RuntimeException", name := "<init>", desc := "(Ljava/lang/String;)V" } : Jvm.MethodName)) ∈ lw_all := lw_g (lw_at lw_m3 186 rfl) rfl
theorem q759 : (Jvm.Cond.lays "java/lang/NegativeArraySizeException" "java/lang/Throwable" "backtrace" "Ljava/lang/Object;") ∈ lw_all := lw_g (lw_at lw_m3 195 rfl) rfl
theorem q760 : (Jvm.Cond.lays "java/lang/NegativeArraySizeException" "java/lang/Throwable" "detailMessage" "Ljava/lang/String;") ∈ lw_all := lw_g (lw_at lw_m3 196 rfl) rfl
theorem q761 : (Jvm.Cond.lays "java/lang/NegativeArraySizeException" "java/lang/Throwable" "cause" "Ljava/lang/Throwable;") ∈ lw_all := lw_g (lw_at lw_m3 197 rfl) rfl
theorem q762 : (Jvm.Cond.lays "java/lang/NegativeArraySizeException" "java/lang/Throwable" "stackTrace" "[Ljava/lang/StackTraceElement;") ∈ lw_all := lw_g (lw_at lw_m3 198 rfl) rfl
theorem q763 : (Jvm.Cond.lays "java/lang/NegativeArraySizeException" "java/lang/Throwable" "depth" "I") ∈ lw_all := lw_g (lw_at lw_m3 199 rfl) rfl
theorem q764 : (Jvm.Cond.lays "java/lang/NegativeArraySizeException" "java/lang/Throwable" "suppressedExceptions" "Ljava/util/List;") ∈ lw_all := lw_g (lw_at lw_m3 200 rfl) rfl
theorem q765 : (Jvm.Cond.superclass "java/lang/NegativeArraySizeException" "java/lang/RuntimeException") ∈ lw_all := lw_g (lw_at lw_m3 201 rfl) rfl
theorem q766 : (Jvm.Cond.castable "java/lang/NegativeArraySizeException" "java/lang/NegativeArraySizeException") ∈ lw_tbl := lw_at lw_m3 202 rfl
theorem q769 : (Jvm.Cond.selects "java/lang/NegativeArraySizeException" ({ cls := "java/lang/Throwable", name := "fillInStackTrace", desc := "(I)Ljava/lang/Throwable;" } : Jvm.MethodName) ({ cls := "java/lang/Throwable", name := "fillInStackTrace", desc := "(I)Ljava/lang/Throwable;" } : Jvm.MethodName)) ∈ lw_all := lw_g (lw_at lw_m3 205 rfl) rfl
theorem in_J5 : ∀ w ∈ wsJ50, w ∈ lw_all := lw_in wsJ50 [759, 760, 761, 762, 763, 764] (by decide +kernel) (by decide +kernel)
/-! java/lang/String -/
set_option maxRecDepth 100000
def RJ6 : String := "java/lang/String"
def TJ6 : u_T := fun k => match k with
  | 0 => ("java/lang/String", "value", "[B", true)
  | _ => ("java/lang/String", "coder", "B", true)
def tyJ6 : Nat → FieldType := fun k => match k with
  | 0 => .array .byte
  | _ => .byte
abbrev wsJ60 : List Cond := u_ws RJ6 TJ6 2
theorem nmJ6 : ∀ a, a < 2 → ∀ b, b < 2 → a ≠ b → (TJ6 a).2.1 ≠ (TJ6 b).2.1 := by decide +kernel
theorem tyJ6_ok : ∀ k, k < 2 → parseFieldDescriptor (TJ6 k).2.2.1 = some (tyJ6 k) := by decide +kernel
theorem q99 : (Jvm.Cond.initialized "java/lang/String") ∈ lw_all := lw_g (lw_at lw_m1 15 rfl) rfl
theorem q770 : (Jvm.Cond.instantiable "java/lang/String" (4 : Nat)) ∈ lw_all := lw_g (lw_at lw_m3 206 rfl) rfl
theorem q772 : (Jvm.Cond.laysFinal "java/lang/String" "java/lang/String" "value" "[B") ∈ lw_all := lw_g (lw_at lw_m3 208 rfl) rfl
theorem q773 : (Jvm.Cond.soleField "java/lang/String" "value") ∈ lw_all := lw_g (lw_at lw_m3 209 rfl) rfl
theorem q774 : (Jvm.Cond.laysFinal "java/lang/String" "java/lang/String" "coder" "B") ∈ lw_all := lw_g (lw_at lw_m3 210 rfl) rfl
theorem q775 : (Jvm.Cond.soleField "java/lang/String" "coder") ∈ lw_all := lw_g (lw_at lw_m3 211 rfl) rfl
theorem in_J6 : ∀ w ∈ wsJ60, w ∈ lw_all := lw_in wsJ60 [772, 774] (by decide +kernel) (by decide +kernel)
/-! java/lang/ClassCastException -/
set_option maxRecDepth 100000
def RJ7 : String := "java/lang/ClassCastException"
def TJ7 : u_T := fun k => match k with
  | 0 => ("java/lang/Throwable", "backtrace", "Ljava/lang/Object;", false)
  | 1 => ("java/lang/Throwable", "detailMessage", "Ljava/lang/String;", false)
  | 2 => ("java/lang/Throwable", "cause", "Ljava/lang/Throwable;", false)
  | 3 => ("java/lang/Throwable", "stackTrace", "[Ljava/lang/StackTraceElement;", false)
  | 4 => ("java/lang/Throwable", "depth", "I", false)
  | _ => ("java/lang/Throwable", "suppressedExceptions", "Ljava/util/List;", false)
def tyJ7 : Nat → FieldType := fun k => match k with
  | 0 => .object "java/lang/Object"
  | 1 => .object "java/lang/String"
  | 2 => .object "java/lang/Throwable"
  | 3 => .array (.object "java/lang/StackTraceElement")
  | 4 => .int
  | _ => .object "java/util/List"
abbrev wsJ70 : List Cond := u_ws RJ7 TJ7 6
theorem nmJ7 : ∀ a, a < 6 → ∀ b, b < 6 → a ≠ b → (TJ7 a).2.1 ≠ (TJ7 b).2.1 := by decide +kernel
theorem tyJ7_ok : ∀ k, k < 6 → parseFieldDescriptor (TJ7 k).2.2.1 = some (tyJ7 k) := by decide +kernel
abbrev cJ7_init : ByteArray := prog_13_method_2_code
def yJ7_init : MethodName := ⟨RJ7, "<init>", "(Ljava/lang/String;)V"⟩
def dkwJ7_init_0 : List UInt8 := [42, 43, 183, 0, 7, 177]
abbrev dktJ7_init_0 : List UInt8 := dkwJ7_init_0 ++ []
theorem dksJ7_init_0 : cJ7_init.data.toList.drop 0 = dktJ7_init_0 := by decide +kernel
theorem dJ7_init_0 : decode cJ7_init 0 = .ok (.aload_n 0, 1) := dk_42 (dk_at dksJ7_init_0 0 rfl rfl)
theorem dJ7_init_1 : decode cJ7_init 1 = .ok (.aload_n 1, 1) := dk_43 (dk_at dksJ7_init_0 1 rfl rfl)
theorem dJ7_init_2 : decode cJ7_init 2 = .ok (.invokespecial 7, 3) := dk_183 0 7 (dk_at dksJ7_init_0 2 rfl rfl)
theorem dJ7_init_5 : decode cJ7_init 5 = .ok (.return_, 1) := dk_177 (dk_at dksJ7_init_0 5 rfl rfl)
theorem q100 : (Jvm.Cond.initialized "java/lang/ClassCastException") ∈ lw_all := lw_g (lw_at lw_m1 16 rfl) rfl
theorem q430 : (Jvm.Cond.selects "java/lang/ClassCastException" ({ cls := "java/lang/Throwable", name := "fillInStackTrace", desc := "()Ljava/lang/Throwable;" } : Jvm.MethodName) ({ cls := "java/lang/Throwable", name := "fillInStackTrace", desc := "()Ljava/lang/Throwable;" } : Jvm.MethodName)) ∈ lw_all := lw_g (lw_at lw_m2 106 rfl) rfl
theorem q785 : (Jvm.Cond.instantiable "java/lang/ClassCastException" (6 : Nat)) ∈ lw_all := lw_g (lw_at lw_m3 221 rfl) rfl
theorem q786 : (Jvm.Cond.instanceMethod ({ cls := "java/lang/ClassCastException", name := "<init>", desc := "(Ljava/lang/String;)V" } : Jvm.MethodName)) ∈ lw_all := lw_g (lw_at lw_m3 222 rfl) rfl
theorem q787 : (Jvm.Cond.code ({ cls := "java/lang/ClassCastException", name := "<init>", desc := "(Ljava/lang/String;)V" } : Jvm.MethodName) prog_13_method_2_code (2 : Nat) (Option.none : Option Jvm.ClassFile.FieldType)) ∈ lw_all := lw_g (lw_at lw_m3 223 rfl) rfl
theorem q788 : (Jvm.Cond.methodLink "java/lang/ClassCastException" (7 : Nat) ({ cls := "java/lang/RuntimeException", name := "<init>", desc := "(Ljava/lang/String;)V" } : Jvm.MethodName)) ∈ lw_all := lw_g (lw_at lw_m3 224 rfl) rfl
theorem q789 : (Jvm.Cond.lays "java/lang/ClassCastException" "java/lang/Throwable" "backtrace" "Ljava/lang/Object;") ∈ lw_all := lw_g (lw_at lw_m3 225 rfl) rfl
theorem q790 : (Jvm.Cond.lays "java/lang/ClassCastException" "java/lang/Throwable" "detailMessage" "Ljava/lang/String;") ∈ lw_all := lw_g (lw_at lw_m3 226 rfl) rfl
theorem q791 : (Jvm.Cond.lays "java/lang/ClassCastException" "java/lang/Throwable" "cause" "Ljava/lang/Throwable;") ∈ lw_all := lw_g (lw_at lw_m3 227 rfl) rfl
theorem q792 : (Jvm.Cond.lays "java/lang/ClassCastException" "java/lang/Throwable" "stackTrace" "[Ljava/lang/StackTraceElement;") ∈ lw_all := lw_g (lw_at lw_m3 228 rfl) rfl
theorem q793 : (Jvm.Cond.lays "java/lang/ClassCastException" "java/lang/Throwable" "depth" "I") ∈ lw_all := lw_g (lw_at lw_m3 229 rfl) rfl
theorem q794 : (Jvm.Cond.lays "java/lang/ClassCastException" "java/lang/Throwable" "suppressedExceptions" "Ljava/util/List;") ∈ lw_all := lw_g (lw_at lw_m3 230 rfl) rfl
theorem q795 : (Jvm.Cond.superclass "java/lang/ClassCastException" "java/lang/RuntimeException") ∈ lw_all := lw_g (lw_at lw_m3 231 rfl) rfl
theorem q796 : (Jvm.Cond.castable "java/lang/ClassCastException" "java/lang/ClassCastException") ∈ lw_tbl := lw_at lw_m3 232 rfl
theorem q797 : (Jvm.Cond.selects "java/lang/ClassCastException" ({ cls := "java/lang/Throwable", name := "fillInStackTrace", desc := "(I)Ljava/lang/Throwable;" } : Jvm.MethodName) ({ cls := "java/lang/Throwable", name := "fillInStackTrace", desc := "(I)Ljava/lang/Throwable;" } : Jvm.MethodName)) ∈ lw_all := lw_g (lw_at lw_m3 233 rfl) rfl
theorem in_J7 : ∀ w ∈ wsJ70, w ∈ lw_all := lw_in wsJ70 [789, 790, 791, 792, 793, 794] (by decide +kernel) (by decide +kernel)
/-! java/lang/IndexOutOfBoundsException -/
set_option maxRecDepth 100000
def RJ8 : String := "java/lang/IndexOutOfBoundsException"
abbrev cJ8_init : ByteArray := prog_15_method_2_code
def yJ8_init : MethodName := ⟨RJ8, "<init>", "(Ljava/lang/String;)V"⟩
def dkwJ8_init_0 : List UInt8 := [42, 43, 183, 0, 7, 177]
abbrev dktJ8_init_0 : List UInt8 := dkwJ8_init_0 ++ []
theorem dksJ8_init_0 : cJ8_init.data.toList.drop 0 = dktJ8_init_0 := by decide +kernel
theorem dJ8_init_0 : decode cJ8_init 0 = .ok (.aload_n 0, 1) := dk_42 (dk_at dksJ8_init_0 0 rfl rfl)
theorem dJ8_init_1 : decode cJ8_init 1 = .ok (.aload_n 1, 1) := dk_43 (dk_at dksJ8_init_0 1 rfl rfl)
theorem dJ8_init_2 : decode cJ8_init 2 = .ok (.invokespecial 7, 3) := dk_183 0 7 (dk_at dksJ8_init_0 2 rfl rfl)
theorem dJ8_init_5 : decode cJ8_init 5 = .ok (.return_, 1) := dk_177 (dk_at dksJ8_init_0 5 rfl rfl)
theorem q101 : (Jvm.Cond.initialized "java/lang/IndexOutOfBoundsException") ∈ lw_all := lw_g (lw_at lw_m1 17 rfl) rfl
theorem q803 : (Jvm.Cond.instanceMethod ({ cls := "java/lang/IndexOutOfBoundsException", name := "<init>", desc := "(Ljava/lang/String;)V" } : Jvm.MethodName)) ∈ lw_all := lw_g (lw_at lw_m3 239 rfl) rfl
theorem q804 : (Jvm.Cond.code ({ cls := "java/lang/IndexOutOfBoundsException", name := "<init>", desc := "(Ljava/lang/String;)V" } : Jvm.MethodName) prog_15_method_2_code (2 : Nat) (Option.none : Option Jvm.ClassFile.FieldType)) ∈ lw_all := lw_g (lw_at lw_m4 0 rfl) rfl
theorem q805 : (Jvm.Cond.methodLink "java/lang/IndexOutOfBoundsException" (7 : Nat) ({ cls := "java/lang/RuntimeException", name := "<init>", desc := "(Ljava/lang/String;)V" } : Jvm.MethodName)) ∈ lw_all := lw_g (lw_at lw_m4 1 rfl) rfl
theorem q814 : (Jvm.Cond.declares ({ cls := "java/lang/IndexOutOfBoundsException", name := "<init>", desc := "()V" } : Jvm.MethodName)) ∈ lw_tbl := lw_at lw_m4 10 rfl
theorem q815 : (Jvm.Cond.declares ({ cls := "java/lang/IndexOutOfBoundsException", name := "<init>", desc := "(Ljava/lang/String;)V" } : Jvm.MethodName)) ∈ lw_tbl := lw_at lw_m4 11 rfl
/-! java/lang/ArrayIndexOutOfBoundsException -/
set_option maxRecDepth 100000
def RJ9 : String := "java/lang/ArrayIndexOutOfBoundsException"
def TJ9 : u_T := fun k => match k with
  | 0 => ("java/lang/Throwable", "backtrace", "Ljava/lang/Object;", false)
  | 1 => ("java/lang/Throwable", "detailMessage", "Ljava/lang/String;", false)
  | 2 => ("java/lang/Throwable", "cause", "Ljava/lang/Throwable;", false)
  | 3 => ("java/lang/Throwable", "stackTrace", "[Ljava/lang/StackTraceElement;", false)
  | 4 => ("java/lang/Throwable", "depth", "I", false)
  | _ => ("java/lang/Throwable", "suppressedExceptions", "Ljava/util/List;", false)
def tyJ9 : Nat → FieldType := fun k => match k with
  | 0 => .object "java/lang/Object"
  | 1 => .object "java/lang/String"
  | 2 => .object "java/lang/Throwable"
  | 3 => .array (.object "java/lang/StackTraceElement")
  | 4 => .int
  | _ => .object "java/util/List"
abbrev wsJ90 : List Cond := u_ws RJ9 TJ9 6
theorem nmJ9 : ∀ a, a < 6 → ∀ b, b < 6 → a ≠ b → (TJ9 a).2.1 ≠ (TJ9 b).2.1 := by decide +kernel
theorem tyJ9_ok : ∀ k, k < 6 → parseFieldDescriptor (TJ9 k).2.2.1 = some (tyJ9 k) := by decide +kernel
abbrev cJ9_init : ByteArray := prog_11_method_2_code
def yJ9_init : MethodName := ⟨RJ9, "<init>", "(Ljava/lang/String;)V"⟩
def dkwJ9_init_0 : List UInt8 := [42, 43, 183, 0, 7, 177]
abbrev dktJ9_init_0 : List UInt8 := dkwJ9_init_0 ++ []
theorem dksJ9_init_0 : cJ9_init.data.toList.drop 0 = dktJ9_init_0 := by decide +kernel
theorem dJ9_init_0 : decode cJ9_init 0 = .ok (.aload_n 0, 1) := dk_42 (dk_at dksJ9_init_0 0 rfl rfl)
theorem dJ9_init_1 : decode cJ9_init 1 = .ok (.aload_n 1, 1) := dk_43 (dk_at dksJ9_init_0 1 rfl rfl)
theorem dJ9_init_2 : decode cJ9_init 2 = .ok (.invokespecial 7, 3) := dk_183 0 7 (dk_at dksJ9_init_0 2 rfl rfl)
theorem dJ9_init_5 : decode cJ9_init 5 = .ok (.return_, 1) := dk_177 (dk_at dksJ9_init_0 5 rfl rfl)
theorem q102 : (Jvm.Cond.initialized "java/lang/ArrayIndexOutOfBoundsException") ∈ lw_all := lw_g (lw_at lw_m1 18 rfl) rfl
theorem q428 : (Jvm.Cond.selects "java/lang/ArrayIndexOutOfBoundsException" ({ cls := "java/lang/Throwable", name := "fillInStackTrace", desc := "()Ljava/lang/Throwable;" } : Jvm.MethodName) ({ cls := "java/lang/Throwable", name := "fillInStackTrace", desc := "()Ljava/lang/Throwable;" } : Jvm.MethodName)) ∈ lw_all := lw_g (lw_at lw_m2 104 rfl) rfl
theorem q799 : (Jvm.Cond.instantiable "java/lang/ArrayIndexOutOfBoundsException" (6 : Nat)) ∈ lw_all := lw_g (lw_at lw_m3 235 rfl) rfl
theorem q800 : (Jvm.Cond.instanceMethod ({ cls := "java/lang/ArrayIndexOutOfBoundsException", name := "<init>", desc := "(Ljava/lang/String;)V" } : Jvm.MethodName)) ∈ lw_all := lw_g (lw_at lw_m3 236 rfl) rfl
theorem q801 : (Jvm.Cond.code ({ cls := "java/lang/ArrayIndexOutOfBoundsException", name := "<init>", desc := "(Ljava/lang/String;)V" } : Jvm.MethodName) prog_11_method_2_code (2 : Nat) (Option.none : Option Jvm.ClassFile.FieldType)) ∈ lw_all := lw_g (lw_at lw_m3 237 rfl) rfl
theorem q802 : (Jvm.Cond.methodLink "java/lang/ArrayIndexOutOfBoundsException" (7 : Nat) ({ cls := "java/lang/IndexOutOfBoundsException", name := "<init>", desc := "(Ljava/lang/String;)V" } : Jvm.MethodName)) ∈ lw_all := lw_g (lw_at lw_m3 238 rfl) rfl
theorem q806 : (Jvm.Cond.lays "java/lang/ArrayIndexOutOfBoundsException" "java/lang/Throwable" "backtrace" "Ljava/lang/Object;") ∈ lw_all := lw_g (lw_at lw_m4 2 rfl) rfl
theorem q807 : (Jvm.Cond.lays "java/lang/ArrayIndexOutOfBoundsException" "java/lang/Throwable" "detailMessage" "Ljava/lang/String;") ∈ lw_all := lw_g (lw_at lw_m4 3 rfl) rfl
theorem q808 : (Jvm.Cond.lays "java/lang/ArrayIndexOutOfBoundsException" "java/lang/Throwable" "cause" "Ljava/lang/Throwable;") ∈ lw_all := lw_g (lw_at lw_m4 4 rfl) rfl
theorem q809 : (Jvm.Cond.lays "java/lang/ArrayIndexOutOfBoundsException" "java/lang/Throwable" "stackTrace" "[Ljava/lang/StackTraceElement;") ∈ lw_all := lw_g (lw_at lw_m4 5 rfl) rfl
theorem q810 : (Jvm.Cond.lays "java/lang/ArrayIndexOutOfBoundsException" "java/lang/Throwable" "depth" "I") ∈ lw_all := lw_g (lw_at lw_m4 6 rfl) rfl
theorem q811 : (Jvm.Cond.lays "java/lang/ArrayIndexOutOfBoundsException" "java/lang/Throwable" "suppressedExceptions" "Ljava/util/List;") ∈ lw_all := lw_g (lw_at lw_m4 7 rfl) rfl
theorem q812 : (Jvm.Cond.superclass "java/lang/ArrayIndexOutOfBoundsException" "java/lang/IndexOutOfBoundsException") ∈ lw_all := lw_g (lw_at lw_m4 8 rfl) rfl
theorem q813 : (Jvm.Cond.castable "java/lang/ArrayIndexOutOfBoundsException" "java/lang/ArrayIndexOutOfBoundsException") ∈ lw_tbl := lw_at lw_m4 9 rfl
theorem q816 : (Jvm.Cond.selects "java/lang/ArrayIndexOutOfBoundsException" ({ cls := "java/lang/Throwable", name := "fillInStackTrace", desc := "(I)Ljava/lang/Throwable;" } : Jvm.MethodName) ({ cls := "java/lang/Throwable", name := "fillInStackTrace", desc := "(I)Ljava/lang/Throwable;" } : Jvm.MethodName)) ∈ lw_all := lw_g (lw_at lw_m4 12 rfl) rfl
theorem q1331 : (Jvm.Cond.castable "java/lang/ArrayIndexOutOfBoundsException" "java/lang/IndexOutOfBoundsException") ∈ lw_tbl := lw_at lw_m6 47 rfl
theorem in_J9 : ∀ w ∈ wsJ90, w ∈ lw_all := lw_in wsJ90 [806, 807, 808, 809, 810, 811] (by decide +kernel) (by decide +kernel)
/-! LeastFrames$Point -/
set_option maxRecDepth 100000
def RX1 : String := "LeastFrames$Point"
def TX1 : u_T := fun k => match k with
  | 0 => ("LeastFrames$Point", "x", "I", false)
  | 1 => ("LeastFrames$Point", "y", "I", false)
  | 2 => ("LeastFrames$Point", "held", "I", false)
  | 3 => ("LeastFrames$Point", "loads", "[I", true)
  | _ => ("LeastFrames$Point", "shifts", "[I", true)
def tyX1 : Nat → FieldType := fun k => match k with
  | 0 => .int
  | 1 => .int
  | 2 => .int
  | 3 => .array .int
  | _ => .array .int
abbrev wsX10 : List Cond := u_ws RX1 TX1 5
theorem nmX1 : ∀ a, a < 5 → ∀ b, b < 5 → a ≠ b → (TX1 a).2.1 ≠ (TX1 b).2.1 := by decide +kernel
theorem tyX1_ok : ∀ k, k < 5 → parseFieldDescriptor (TX1 k).2.2.1 = some (tyX1 k) := by decide +kernel
abbrev cX1_init : ByteArray := prog_2_method_1_code
def yX1_init : MethodName := ⟨RX1, "<init>", "()V"⟩
def dkwX1_init_0 : List UInt8 := [42, 183, 0, 1, 42, 5, 188, 10, 181, 0, 7, 42, 5, 188, 10, 181, 0, 13, 177]
abbrev dktX1_init_0 : List UInt8 := dkwX1_init_0 ++ []
theorem dksX1_init_0 : cX1_init.data.toList.drop 0 = dktX1_init_0 := by decide +kernel
theorem dX1_init_0 : decode cX1_init 0 = .ok (.aload_n 0, 1) := dk_42 (dk_at dksX1_init_0 0 rfl rfl)
theorem dX1_init_1 : decode cX1_init 1 = .ok (.invokespecial 1, 3) := dk_183 0 1 (dk_at dksX1_init_0 1 rfl rfl)
theorem dX1_init_4 : decode cX1_init 4 = .ok (.aload_n 0, 1) := dk_42 (dk_at dksX1_init_0 4 rfl rfl)
theorem dX1_init_5 : decode cX1_init 5 = .ok (.iconst 2, 1) := dk_5 (dk_at dksX1_init_0 5 rfl rfl)
theorem dX1_init_6 : decode cX1_init 6 = .ok (.newarray .int, 2) := dk_188_10 (dk_at dksX1_init_0 6 rfl rfl)
theorem dX1_init_8 : decode cX1_init 8 = .ok (.putfield 7, 3) := dk_181 0 7 (dk_at dksX1_init_0 8 rfl rfl)
theorem dX1_init_11 : decode cX1_init 11 = .ok (.aload_n 0, 1) := dk_42 (dk_at dksX1_init_0 11 rfl rfl)
theorem dX1_init_12 : decode cX1_init 12 = .ok (.iconst 2, 1) := dk_5 (dk_at dksX1_init_0 12 rfl rfl)
theorem dX1_init_13 : decode cX1_init 13 = .ok (.newarray .int, 2) := dk_188_10 (dk_at dksX1_init_0 13 rfl rfl)
theorem dX1_init_15 : decode cX1_init 15 = .ok (.putfield 13, 3) := dk_181 0 13 (dk_at dksX1_init_0 15 rfl rfl)
theorem dX1_init_18 : decode cX1_init 18 = .ok (.return_, 1) := dk_177 (dk_at dksX1_init_0 18 rfl rfl)
abbrev cX1_becomes : ByteArray := prog_2_method_5_code
def yX1_becomes : MethodName := ⟨RX1, "becomes", "(II)V"⟩
def dkwX1_becomes_1 : List UInt8 := [180, 0, 7, 29, 3, 79, 42, 180, 0, 13, 29, 3, 79, 132, 3, 1, 167, 255, 234, 177]
abbrev dktX1_becomes_1 : List UInt8 := dkwX1_becomes_1 ++ []
def dkwX1_becomes_0 : List UInt8 := [42, 27, 181, 0, 16, 42, 28, 181, 0, 20, 42, 3, 181, 0, 23, 3, 62, 29, 5, 162, 0, 23, 42]
abbrev dktX1_becomes_0 : List UInt8 := dkwX1_becomes_0 ++ dktX1_becomes_1
theorem dksX1_becomes_0 : cX1_becomes.data.toList.drop 0 = dktX1_becomes_0 := by decide +kernel
theorem dksX1_becomes_1 : cX1_becomes.data.toList.drop 23 = dktX1_becomes_1 := dk_seg dksX1_becomes_0 23 rfl rfl
theorem dX1_becomes_0 : decode cX1_becomes 0 = .ok (.aload_n 0, 1) := dk_42 (dk_at dksX1_becomes_0 0 rfl rfl)
theorem dX1_becomes_1 : decode cX1_becomes 1 = .ok (.iload_n 1, 1) := dk_27 (dk_at dksX1_becomes_0 1 rfl rfl)
theorem dX1_becomes_2 : decode cX1_becomes 2 = .ok (.putfield 16, 3) := dk_181 0 16 (dk_at dksX1_becomes_0 2 rfl rfl)
theorem dX1_becomes_5 : decode cX1_becomes 5 = .ok (.aload_n 0, 1) := dk_42 (dk_at dksX1_becomes_0 5 rfl rfl)
theorem dX1_becomes_6 : decode cX1_becomes 6 = .ok (.iload_n 2, 1) := dk_28 (dk_at dksX1_becomes_0 6 rfl rfl)
theorem dX1_becomes_7 : decode cX1_becomes 7 = .ok (.putfield 20, 3) := dk_181 0 20 (dk_at dksX1_becomes_0 7 rfl rfl)
theorem dX1_becomes_10 : decode cX1_becomes 10 = .ok (.aload_n 0, 1) := dk_42 (dk_at dksX1_becomes_0 10 rfl rfl)
theorem dX1_becomes_11 : decode cX1_becomes 11 = .ok (.iconst 0, 1) := dk_3 (dk_at dksX1_becomes_0 11 rfl rfl)
theorem dX1_becomes_12 : decode cX1_becomes 12 = .ok (.putfield 23, 3) := dk_181 0 23 (dk_at dksX1_becomes_0 12 rfl rfl)
theorem dX1_becomes_15 : decode cX1_becomes 15 = .ok (.iconst 0, 1) := dk_3 (dk_at dksX1_becomes_0 15 rfl rfl)
theorem dX1_becomes_16 : decode cX1_becomes 16 = .ok (.istore_n 3, 1) := dk_62 (dk_at dksX1_becomes_0 16 rfl rfl)
theorem dX1_becomes_17 : decode cX1_becomes 17 = .ok (.iload_n 3, 1) := dk_29 (dk_at dksX1_becomes_0 17 rfl rfl)
theorem dX1_becomes_18 : decode cX1_becomes 18 = .ok (.iconst 2, 1) := dk_5 (dk_at dksX1_becomes_0 18 rfl rfl)
theorem dX1_becomes_19 : decode cX1_becomes 19 = .ok (.if_icmp .ge 23, 3) := dk_162 0 23 (dk_at dksX1_becomes_0 19 rfl rfl)
theorem dX1_becomes_22 : decode cX1_becomes 22 = .ok (.aload_n 0, 1) := dk_42 (dk_at dksX1_becomes_0 22 rfl rfl)
theorem dX1_becomes_23 : decode cX1_becomes 23 = .ok (.getfield 7, 3) := dk_180 0 7 (dk_at dksX1_becomes_1 0 rfl rfl)
theorem dX1_becomes_26 : decode cX1_becomes 26 = .ok (.iload_n 3, 1) := dk_29 (dk_at dksX1_becomes_1 3 rfl rfl)
theorem dX1_becomes_27 : decode cX1_becomes 27 = .ok (.iconst 0, 1) := dk_3 (dk_at dksX1_becomes_1 4 rfl rfl)
theorem dX1_becomes_28 : decode cX1_becomes 28 = .ok (.iastore, 1) := dk_79 (dk_at dksX1_becomes_1 5 rfl rfl)
theorem dX1_becomes_29 : decode cX1_becomes 29 = .ok (.aload_n 0, 1) := dk_42 (dk_at dksX1_becomes_1 6 rfl rfl)
theorem dX1_becomes_30 : decode cX1_becomes 30 = .ok (.getfield 13, 3) := dk_180 0 13 (dk_at dksX1_becomes_1 7 rfl rfl)
theorem dX1_becomes_33 : decode cX1_becomes 33 = .ok (.iload_n 3, 1) := dk_29 (dk_at dksX1_becomes_1 10 rfl rfl)
theorem dX1_becomes_34 : decode cX1_becomes 34 = .ok (.iconst 0, 1) := dk_3 (dk_at dksX1_becomes_1 11 rfl rfl)
theorem dX1_becomes_35 : decode cX1_becomes 35 = .ok (.iastore, 1) := dk_79 (dk_at dksX1_becomes_1 12 rfl rfl)
theorem dX1_becomes_36 : decode cX1_becomes 36 = .ok (.iinc 3 1, 3) := dk_132 3 1 (dk_at dksX1_becomes_1 13 rfl rfl)
theorem dX1_becomes_39 : decode cX1_becomes 39 = .ok (.goto (-22), 3) := dk_167 255 234 (dk_at dksX1_becomes_1 16 rfl rfl)
theorem dX1_becomes_42 : decode cX1_becomes 42 = .ok (.return_, 1) := dk_177 (dk_at dksX1_becomes_1 19 rfl rfl)
abbrev cX1_tells : ByteArray := prog_2_method_6_code
def yX1_tells : MethodName := ⟨RX1, "tells", "(I)I"⟩
def dkwX1_tells_3 : List UInt8 := [180, 0, 7, 27, 6, 100, 46, 167, 0, 11, 42, 180, 0, 13, 27, 8, 100, 46, 172]
abbrev dktX1_tells_3 : List UInt8 := dkwX1_tells_3 ++ []
def dkwX1_tells_2 : List UInt8 := [42, 180, 0, 16, 167, 0, 36, 42, 180, 0, 20, 167, 0, 29, 42, 180, 0, 23, 167, 0, 22, 42]
abbrev dktX1_tells_2 : List UInt8 := dkwX1_tells_2 ++ dktX1_tells_3
def dkwX1_tells_1 : List UInt8 := [170, 0, 0, 0, 0, 0, 67, 0, 0, 0, 0, 0, 0, 0, 4, 0, 0, 0, 35, 0, 0, 0, 42, 0, 0, 0, 49, 0, 0, 0, 56, 0, 0, 0, 56]
abbrev dktX1_tells_1 : List UInt8 := dkwX1_tells_1 ++ dktX1_tells_2
def dkwX1_tells_0 : List UInt8 := [27]
abbrev dktX1_tells_0 : List UInt8 := dkwX1_tells_0 ++ dktX1_tells_1
theorem dksX1_tells_0 : cX1_tells.data.toList.drop 0 = dktX1_tells_0 := by decide +kernel
theorem dksX1_tells_1 : cX1_tells.data.toList.drop 1 = dktX1_tells_1 := dk_seg dksX1_tells_0 1 rfl rfl
theorem dksX1_tells_2 : cX1_tells.data.toList.drop 36 = dktX1_tells_2 := dk_seg dksX1_tells_1 35 rfl rfl
theorem dksX1_tells_3 : cX1_tells.data.toList.drop 58 = dktX1_tells_3 := dk_seg dksX1_tells_2 22 rfl rfl
theorem dX1_tells_0 : decode cX1_tells 0 = .ok (.iload_n 1, 1) := dk_27 (dk_at dksX1_tells_0 0 rfl rfl)
theorem dX1_tells_1 : decode cX1_tells 1 = .ok (.tableswitch 67 0 4 #[35, 42, 49, 56, 56], 35) := by decide +kernel
theorem dX1_tells_36 : decode cX1_tells 36 = .ok (.aload_n 0, 1) := dk_42 (dk_at dksX1_tells_2 0 rfl rfl)
theorem dX1_tells_37 : decode cX1_tells 37 = .ok (.getfield 16, 3) := dk_180 0 16 (dk_at dksX1_tells_2 1 rfl rfl)
theorem dX1_tells_40 : decode cX1_tells 40 = .ok (.goto 36, 3) := dk_167 0 36 (dk_at dksX1_tells_2 4 rfl rfl)
theorem dX1_tells_43 : decode cX1_tells 43 = .ok (.aload_n 0, 1) := dk_42 (dk_at dksX1_tells_2 7 rfl rfl)
theorem dX1_tells_44 : decode cX1_tells 44 = .ok (.getfield 20, 3) := dk_180 0 20 (dk_at dksX1_tells_2 8 rfl rfl)
theorem dX1_tells_47 : decode cX1_tells 47 = .ok (.goto 29, 3) := dk_167 0 29 (dk_at dksX1_tells_2 11 rfl rfl)
theorem dX1_tells_50 : decode cX1_tells 50 = .ok (.aload_n 0, 1) := dk_42 (dk_at dksX1_tells_2 14 rfl rfl)
theorem dX1_tells_51 : decode cX1_tells 51 = .ok (.getfield 23, 3) := dk_180 0 23 (dk_at dksX1_tells_2 15 rfl rfl)
theorem dX1_tells_54 : decode cX1_tells 54 = .ok (.goto 22, 3) := dk_167 0 22 (dk_at dksX1_tells_2 18 rfl rfl)
theorem dX1_tells_57 : decode cX1_tells 57 = .ok (.aload_n 0, 1) := dk_42 (dk_at dksX1_tells_2 21 rfl rfl)
theorem dX1_tells_58 : decode cX1_tells 58 = .ok (.getfield 7, 3) := dk_180 0 7 (dk_at dksX1_tells_3 0 rfl rfl)
theorem dX1_tells_61 : decode cX1_tells 61 = .ok (.iload_n 1, 1) := dk_27 (dk_at dksX1_tells_3 3 rfl rfl)
theorem dX1_tells_62 : decode cX1_tells 62 = .ok (.iconst 3, 1) := dk_6 (dk_at dksX1_tells_3 4 rfl rfl)
theorem dX1_tells_63 : decode cX1_tells 63 = .ok (.isub, 1) := dk_100 (dk_at dksX1_tells_3 5 rfl rfl)
theorem dX1_tells_64 : decode cX1_tells 64 = .ok (.iaload, 1) := dk_46 (dk_at dksX1_tells_3 6 rfl rfl)
theorem dX1_tells_65 : decode cX1_tells 65 = .ok (.goto 11, 3) := dk_167 0 11 (dk_at dksX1_tells_3 7 rfl rfl)
theorem dX1_tells_68 : decode cX1_tells 68 = .ok (.aload_n 0, 1) := dk_42 (dk_at dksX1_tells_3 10 rfl rfl)
theorem dX1_tells_69 : decode cX1_tells 69 = .ok (.getfield 13, 3) := dk_180 0 13 (dk_at dksX1_tells_3 11 rfl rfl)
theorem dX1_tells_72 : decode cX1_tells 72 = .ok (.iload_n 1, 1) := dk_27 (dk_at dksX1_tells_3 14 rfl rfl)
theorem dX1_tells_73 : decode cX1_tells 73 = .ok (.iconst 5, 1) := dk_8 (dk_at dksX1_tells_3 15 rfl rfl)
theorem dX1_tells_74 : decode cX1_tells 74 = .ok (.isub, 1) := dk_100 (dk_at dksX1_tells_3 16 rfl rfl)
theorem dX1_tells_75 : decode cX1_tells 75 = .ok (.iaload, 1) := dk_46 (dk_at dksX1_tells_3 17 rfl rfl)
theorem dX1_tells_76 : decode cX1_tells 76 = .ok (.ireturn, 1) := dk_172 (dk_at dksX1_tells_3 18 rfl rfl)
abbrev cX1_at : ByteArray := prog_2_method_2_code
def yX1_at : MethodName := ⟨RX1, "at", "(I)I"⟩
def dkwX1_at_0 : List UInt8 := [27, 154, 0, 10, 42, 180, 0, 16, 167, 0, 7, 42, 180, 0, 20, 172]
abbrev dktX1_at_0 : List UInt8 := dkwX1_at_0 ++ []
theorem dksX1_at_0 : cX1_at.data.toList.drop 0 = dktX1_at_0 := by decide +kernel
theorem dX1_at_0 : decode cX1_at 0 = .ok (.iload_n 1, 1) := dk_27 (dk_at dksX1_at_0 0 rfl rfl)
theorem dX1_at_1 : decode cX1_at 1 = .ok (.ifCond .ne 10, 3) := dk_154 0 10 (dk_at dksX1_at_0 1 rfl rfl)
theorem dX1_at_4 : decode cX1_at 4 = .ok (.aload_n 0, 1) := dk_42 (dk_at dksX1_at_0 4 rfl rfl)
theorem dX1_at_5 : decode cX1_at 5 = .ok (.getfield 16, 3) := dk_180 0 16 (dk_at dksX1_at_0 5 rfl rfl)
theorem dX1_at_8 : decode cX1_at 8 = .ok (.goto 7, 3) := dk_167 0 7 (dk_at dksX1_at_0 8 rfl rfl)
theorem dX1_at_11 : decode cX1_at 11 = .ok (.aload_n 0, 1) := dk_42 (dk_at dksX1_at_0 11 rfl rfl)
theorem dX1_at_12 : decode cX1_at 12 = .ok (.getfield 20, 3) := dk_180 0 20 (dk_at dksX1_at_0 12 rfl rfl)
theorem dX1_at_15 : decode cX1_at 15 = .ok (.ireturn, 1) := dk_172 (dk_at dksX1_at_0 15 rfl rfl)
abbrev cX1_isHeld : ByteArray := prog_2_method_3_code
def yX1_isHeld : MethodName := ⟨RX1, "isHeld", "(I)Z"⟩
def dkwX1_isHeld_0 : List UInt8 := [42, 180, 0, 23, 27, 184, 0, 26, 172]
abbrev dktX1_isHeld_0 : List UInt8 := dkwX1_isHeld_0 ++ []
theorem dksX1_isHeld_0 : cX1_isHeld.data.toList.drop 0 = dktX1_isHeld_0 := by decide +kernel
theorem dX1_isHeld_0 : decode cX1_isHeld 0 = .ok (.aload_n 0, 1) := dk_42 (dk_at dksX1_isHeld_0 0 rfl rfl)
theorem dX1_isHeld_1 : decode cX1_isHeld 1 = .ok (.getfield 23, 3) := dk_180 0 23 (dk_at dksX1_isHeld_0 1 rfl rfl)
theorem dX1_isHeld_4 : decode cX1_isHeld 4 = .ok (.iload_n 1, 1) := dk_27 (dk_at dksX1_isHeld_0 4 rfl rfl)
theorem dX1_isHeld_5 : decode cX1_isHeld 5 = .ok (.invokestatic 26, 3) := dk_184 0 26 (dk_at dksX1_isHeld_0 5 rfl rfl)
theorem dX1_isHeld_8 : decode cX1_isHeld 8 = .ok (.ireturn, 1) := dk_172 (dk_at dksX1_isHeld_0 8 rfl rfl)
abbrev cX1_shift : ByteArray := prog_2_method_4_code
def yX1_shift : MethodName := ⟨RX1, "shift", "(I)I"⟩
def dkwX1_shift_0 : List UInt8 := [42, 27, 182, 0, 32, 153, 0, 7, 3, 167, 0, 9, 42, 180, 0, 13, 27, 46, 172]
abbrev dktX1_shift_0 : List UInt8 := dkwX1_shift_0 ++ []
theorem dksX1_shift_0 : cX1_shift.data.toList.drop 0 = dktX1_shift_0 := by decide +kernel
theorem dX1_shift_0 : decode cX1_shift 0 = .ok (.aload_n 0, 1) := dk_42 (dk_at dksX1_shift_0 0 rfl rfl)
theorem dX1_shift_1 : decode cX1_shift 1 = .ok (.iload_n 1, 1) := dk_27 (dk_at dksX1_shift_0 1 rfl rfl)
theorem dX1_shift_2 : decode cX1_shift 2 = .ok (.invokevirtual 32, 3) := dk_182 0 32 (dk_at dksX1_shift_0 2 rfl rfl)
theorem dX1_shift_5 : decode cX1_shift 5 = .ok (.ifCond .eq 7, 3) := dk_153 0 7 (dk_at dksX1_shift_0 5 rfl rfl)
theorem dX1_shift_8 : decode cX1_shift 8 = .ok (.iconst 0, 1) := dk_3 (dk_at dksX1_shift_0 8 rfl rfl)
theorem dX1_shift_9 : decode cX1_shift 9 = .ok (.goto 9, 3) := dk_167 0 9 (dk_at dksX1_shift_0 9 rfl rfl)
theorem dX1_shift_12 : decode cX1_shift 12 = .ok (.aload_n 0, 1) := dk_42 (dk_at dksX1_shift_0 12 rfl rfl)
theorem dX1_shift_13 : decode cX1_shift 13 = .ok (.getfield 13, 3) := dk_180 0 13 (dk_at dksX1_shift_0 13 rfl rfl)
theorem dX1_shift_16 : decode cX1_shift 16 = .ok (.iload_n 1, 1) := dk_27 (dk_at dksX1_shift_0 16 rfl rfl)
theorem dX1_shift_17 : decode cX1_shift 17 = .ok (.iaload, 1) := dk_46 (dk_at dksX1_shift_0 17 rfl rfl)
theorem dX1_shift_18 : decode cX1_shift 18 = .ok (.ireturn, 1) := dk_172 (dk_at dksX1_shift_0 18 rfl rfl)
theorem q86 : (Jvm.Cond.initialized "LeastFrames$Point") ∈ lw_all := lw_g (lw_at lw_m1 2 rfl) rfl
theorem q117 : (Jvm.Cond.instantiable "LeastFrames$Point" (5 : Nat)) ∈ lw_all := lw_g (lw_at lw_m1 33 rfl) rfl
theorem q119 : (Jvm.Cond.instanceMethod ({ cls := "LeastFrames$Point", name := "<init>", desc := "()V" } : Jvm.MethodName)) ∈ lw_all := lw_g (lw_at lw_m1 35 rfl) rfl
theorem q120 : (Jvm.Cond.code ({ cls := "LeastFrames$Point", name := "<init>", desc := "()V" } : Jvm.MethodName) prog_2_method_1_code (1 : Nat) (Option.none : Option Jvm.ClassFile.FieldType)) ∈ lw_all := lw_g (lw_at lw_m1 36 rfl) rfl
theorem q121 : (Jvm.Cond.methodLink "LeastFrames$Point" (1 : Nat) ({ cls := "java/lang/Object", name := "<init>", desc := "()V" } : Jvm.MethodName)) ∈ lw_all := lw_g (lw_at lw_m1 37 rfl) rfl
theorem q122 : (Jvm.Cond.fieldLink "LeastFrames$Point" (16 : Nat) "LeastFrames$Point" "x" "I") ∈ lw_all := lw_g (lw_at lw_m1 38 rfl) rfl
theorem q124 : (Jvm.Cond.fieldLink "LeastFrames$Point" (20 : Nat) "LeastFrames$Point" "y" "I") ∈ lw_all := lw_g (lw_at lw_m1 40 rfl) rfl
theorem q126 : (Jvm.Cond.fieldLink "LeastFrames$Point" (23 : Nat) "LeastFrames$Point" "held" "I") ∈ lw_all := lw_g (lw_at lw_m1 42 rfl) rfl
theorem q128 : (Jvm.Cond.fieldLink "LeastFrames$Point" (7 : Nat) "LeastFrames$Point" "loads" "[I") ∈ lw_all := lw_g (lw_at lw_m1 44 rfl) rfl
theorem q131 : (Jvm.Cond.fieldLink "LeastFrames$Point" (13 : Nat) "LeastFrames$Point" "shifts" "[I") ∈ lw_all := lw_g (lw_at lw_m1 47 rfl) rfl
theorem q133 : (Jvm.Cond.lays "LeastFrames$Point" "LeastFrames$Point" "x" "I") ∈ lw_all := lw_g (lw_at lw_m1 49 rfl) rfl
theorem q134 : (Jvm.Cond.soleField "LeastFrames$Point" "x") ∈ lw_all := lw_g (lw_at lw_m1 50 rfl) rfl
theorem q135 : (Jvm.Cond.lays "LeastFrames$Point" "LeastFrames$Point" "y" "I") ∈ lw_all := lw_g (lw_at lw_m1 51 rfl) rfl
theorem q136 : (Jvm.Cond.soleField "LeastFrames$Point" "y") ∈ lw_all := lw_g (lw_at lw_m1 52 rfl) rfl
theorem q137 : (Jvm.Cond.lays "LeastFrames$Point" "LeastFrames$Point" "held" "I") ∈ lw_all := lw_g (lw_at lw_m1 53 rfl) rfl
theorem q138 : (Jvm.Cond.soleField "LeastFrames$Point" "held") ∈ lw_all := lw_g (lw_at lw_m1 54 rfl) rfl
theorem q139 : (Jvm.Cond.laysFinal "LeastFrames$Point" "LeastFrames$Point" "loads" "[I") ∈ lw_all := lw_g (lw_at lw_m1 55 rfl) rfl
theorem q140 : (Jvm.Cond.soleField "LeastFrames$Point" "loads") ∈ lw_all := lw_g (lw_at lw_m1 56 rfl) rfl
theorem q141 : (Jvm.Cond.laysFinal "LeastFrames$Point" "LeastFrames$Point" "shifts" "[I") ∈ lw_all := lw_g (lw_at lw_m1 57 rfl) rfl
theorem q142 : (Jvm.Cond.soleField "LeastFrames$Point" "shifts") ∈ lw_all := lw_g (lw_at lw_m1 58 rfl) rfl
theorem q143 : (Jvm.Cond.superclass "LeastFrames$Point" "java/lang/Object") ∈ lw_all := lw_g (lw_at lw_m1 59 rfl) rfl
theorem q243 : (Jvm.Cond.instanceMethod ({ cls := "LeastFrames$Point", name := "becomes", desc := "(II)V" } : Jvm.MethodName)) ∈ lw_all := lw_g (lw_at lw_m1 159 rfl) rfl
theorem q244 : (Jvm.Cond.selects "LeastFrames$Point" ({ cls := "LeastFrames$Point", name := "becomes", desc := "(II)V" } : Jvm.MethodName) ({ cls := "LeastFrames$Point", name := "becomes", desc := "(II)V" } : Jvm.MethodName)) ∈ lw_all := lw_g (lw_at lw_m1 160 rfl) rfl
theorem q245 : (Jvm.Cond.code ({ cls := "LeastFrames$Point", name := "becomes", desc := "(II)V" } : Jvm.MethodName) prog_2_method_5_code (4 : Nat) (Option.none : Option Jvm.ClassFile.FieldType)) ∈ lw_all := lw_g (lw_at lw_m1 161 rfl) rfl
theorem q312 : (Jvm.Cond.instanceMethod ({ cls := "LeastFrames$Point", name := "tells", desc := "(I)I" } : Jvm.MethodName)) ∈ lw_all := lw_g (lw_at lw_m1 228 rfl) rfl
theorem q313 : (Jvm.Cond.selects "LeastFrames$Point" ({ cls := "LeastFrames$Point", name := "tells", desc := "(I)I" } : Jvm.MethodName) ({ cls := "LeastFrames$Point", name := "tells", desc := "(I)I" } : Jvm.MethodName)) ∈ lw_all := lw_g (lw_at lw_m1 229 rfl) rfl
theorem q314 : (Jvm.Cond.code ({ cls := "LeastFrames$Point", name := "tells", desc := "(I)I" } : Jvm.MethodName) prog_2_method_6_code (2 : Nat) (Option.some Jvm.ClassFile.FieldType.int)) ∈ lw_all := lw_g (lw_at lw_m1 230 rfl) rfl
theorem q338 : (Jvm.Cond.instanceMethod ({ cls := "LeastFrames$Point", name := "at", desc := "(I)I" } : Jvm.MethodName)) ∈ lw_all := lw_g (lw_at lw_m2 14 rfl) rfl
theorem q339 : (Jvm.Cond.selects "LeastFrames$Point" ({ cls := "LeastFrames$Point", name := "at", desc := "(I)I" } : Jvm.MethodName) ({ cls := "LeastFrames$Point", name := "at", desc := "(I)I" } : Jvm.MethodName)) ∈ lw_all := lw_g (lw_at lw_m2 15 rfl) rfl
theorem q340 : (Jvm.Cond.code ({ cls := "LeastFrames$Point", name := "at", desc := "(I)I" } : Jvm.MethodName) prog_2_method_2_code (2 : Nat) (Option.some Jvm.ClassFile.FieldType.int)) ∈ lw_all := lw_g (lw_at lw_m2 16 rfl) rfl
theorem q378 : (Jvm.Cond.instanceMethod ({ cls := "LeastFrames$Point", name := "isHeld", desc := "(I)Z" } : Jvm.MethodName)) ∈ lw_all := lw_g (lw_at lw_m2 54 rfl) rfl
theorem q379 : (Jvm.Cond.selects "LeastFrames$Point" ({ cls := "LeastFrames$Point", name := "isHeld", desc := "(I)Z" } : Jvm.MethodName) ({ cls := "LeastFrames$Point", name := "isHeld", desc := "(I)Z" } : Jvm.MethodName)) ∈ lw_all := lw_g (lw_at lw_m2 55 rfl) rfl
theorem q380 : (Jvm.Cond.code ({ cls := "LeastFrames$Point", name := "isHeld", desc := "(I)Z" } : Jvm.MethodName) prog_2_method_3_code (2 : Nat) (Option.some Jvm.ClassFile.FieldType.boolean)) ∈ lw_all := lw_g (lw_at lw_m2 56 rfl) rfl
theorem q381 : (Jvm.Cond.methodLinkNest "LeastFrames$Point" (26 : Nat) ({ cls := "LeastFrames", name := "isIn", desc := "(II)Z" } : Jvm.MethodName) "LeastFrames") ∈ lw_tbl := lw_at lw_m2 57 rfl
theorem q690 : (Jvm.Cond.instanceMethod ({ cls := "LeastFrames$Point", name := "shift", desc := "(I)I" } : Jvm.MethodName)) ∈ lw_all := lw_g (lw_at lw_m3 126 rfl) rfl
theorem q691 : (Jvm.Cond.selects "LeastFrames$Point" ({ cls := "LeastFrames$Point", name := "shift", desc := "(I)I" } : Jvm.MethodName) ({ cls := "LeastFrames$Point", name := "shift", desc := "(I)I" } : Jvm.MethodName)) ∈ lw_all := lw_g (lw_at lw_m3 127 rfl) rfl
theorem q692 : (Jvm.Cond.code ({ cls := "LeastFrames$Point", name := "shift", desc := "(I)I" } : Jvm.MethodName) prog_2_method_4_code (2 : Nat) (Option.some Jvm.ClassFile.FieldType.int)) ∈ lw_all := lw_g (lw_at lw_m3 128 rfl) rfl
theorem q693 : (Jvm.Cond.methodLink "LeastFrames$Point" (32 : Nat) ({ cls := "LeastFrames$Point", name := "isHeld", desc := "(I)Z" } : Jvm.MethodName)) ∈ lw_all := lw_g (lw_at lw_m3 129 rfl) rfl
theorem in_X1 : ∀ w ∈ wsX10, w ∈ lw_all := lw_in wsX10 [133, 135, 137, 139, 141] (by decide +kernel) (by decide +kernel)
/-! LeastFrames$Program -/
set_option maxRecDepth 100000
def RX2 : String := "LeastFrames$Program"
def TX2 : u_T := fun k => match k with
  | 0 => ("LeastFrames$Program", "rows", "[[J", true)
  | 1 => ("LeastFrames$Program", "ways", "[I", true)
  | 2 => ("LeastFrames$Program", "basis", "[I", true)
  | 3 => ("LeastFrames$Program", "signs", "[I", true)
  | 4 => ("LeastFrames$Program", "high", "I", false)
  | 5 => ("LeastFrames$Program", "below", "J", false)
  | _ => ("LeastFrames$Program", "this$0", "LLeastFrames;", true)
def tyX2 : Nat → FieldType := fun k => match k with
  | 0 => .array (.array .long)
  | 1 => .array .int
  | 2 => .array .int
  | 3 => .array .int
  | 4 => .int
  | 5 => .long
  | _ => .object "LeastFrames"
abbrev wsX20 : List Cond := u_ws RX2 TX2 7
theorem nmX2 : ∀ a, a < 7 → ∀ b, b < 7 → a ≠ b → (TX2 a).2.1 ≠ (TX2 b).2.1 := by decide +kernel
theorem tyX2_ok : ∀ k, k < 7 → parseFieldDescriptor (TX2 k).2.2.1 = some (tyX2 k) := by decide +kernel
abbrev cX2_init : ByteArray := prog_3_method_1_code
def yX2_init : MethodName := ⟨RX2, "<init>", "(LLeastFrames;)V"⟩
def dkwX2_init_1 : List UInt8 := [188, 10, 181, 0, 20, 42, 16, 10, 188, 10, 181, 0, 24, 42, 16, 10, 188, 10, 181, 0, 27, 177]
abbrev dktX2_init_1 : List UInt8 := dkwX2_init_1 ++ []
def dkwX2_init_0 : List UInt8 := [42, 43, 181, 0, 3, 42, 183, 0, 9, 42, 16, 10, 16, 11, 197, 0, 15, 2, 181, 0, 17, 42, 16, 10]
abbrev dktX2_init_0 : List UInt8 := dkwX2_init_0 ++ dktX2_init_1
theorem dksX2_init_0 : cX2_init.data.toList.drop 0 = dktX2_init_0 := by decide +kernel
theorem dksX2_init_1 : cX2_init.data.toList.drop 24 = dktX2_init_1 := dk_seg dksX2_init_0 24 rfl rfl
theorem dX2_init_0 : decode cX2_init 0 = .ok (.aload_n 0, 1) := dk_42 (dk_at dksX2_init_0 0 rfl rfl)
theorem dX2_init_1 : decode cX2_init 1 = .ok (.aload_n 1, 1) := dk_43 (dk_at dksX2_init_0 1 rfl rfl)
theorem dX2_init_2 : decode cX2_init 2 = .ok (.putfield 3, 3) := dk_181 0 3 (dk_at dksX2_init_0 2 rfl rfl)
theorem dX2_init_5 : decode cX2_init 5 = .ok (.aload_n 0, 1) := dk_42 (dk_at dksX2_init_0 5 rfl rfl)
theorem dX2_init_6 : decode cX2_init 6 = .ok (.invokespecial 9, 3) := dk_183 0 9 (dk_at dksX2_init_0 6 rfl rfl)
theorem dX2_init_9 : decode cX2_init 9 = .ok (.aload_n 0, 1) := dk_42 (dk_at dksX2_init_0 9 rfl rfl)
theorem dX2_init_10 : decode cX2_init 10 = .ok (.bipush 10, 2) := dk_16 10 (dk_at dksX2_init_0 10 rfl rfl)
theorem dX2_init_12 : decode cX2_init 12 = .ok (.bipush 11, 2) := dk_16 11 (dk_at dksX2_init_0 12 rfl rfl)
theorem dX2_init_14 : decode cX2_init 14 = .ok (.multianewarray 15 2, 4) := by decide +kernel
theorem dX2_init_18 : decode cX2_init 18 = .ok (.putfield 17, 3) := dk_181 0 17 (dk_at dksX2_init_0 18 rfl rfl)
theorem dX2_init_21 : decode cX2_init 21 = .ok (.aload_n 0, 1) := dk_42 (dk_at dksX2_init_0 21 rfl rfl)
theorem dX2_init_22 : decode cX2_init 22 = .ok (.bipush 10, 2) := dk_16 10 (dk_at dksX2_init_0 22 rfl rfl)
theorem dX2_init_24 : decode cX2_init 24 = .ok (.newarray .int, 2) := dk_188_10 (dk_at dksX2_init_1 0 rfl rfl)
theorem dX2_init_26 : decode cX2_init 26 = .ok (.putfield 20, 3) := dk_181 0 20 (dk_at dksX2_init_1 2 rfl rfl)
theorem dX2_init_29 : decode cX2_init 29 = .ok (.aload_n 0, 1) := dk_42 (dk_at dksX2_init_1 5 rfl rfl)
theorem dX2_init_30 : decode cX2_init 30 = .ok (.bipush 10, 2) := dk_16 10 (dk_at dksX2_init_1 6 rfl rfl)
theorem dX2_init_32 : decode cX2_init 32 = .ok (.newarray .int, 2) := dk_188_10 (dk_at dksX2_init_1 8 rfl rfl)
theorem dX2_init_34 : decode cX2_init 34 = .ok (.putfield 24, 3) := dk_181 0 24 (dk_at dksX2_init_1 10 rfl rfl)
theorem dX2_init_37 : decode cX2_init 37 = .ok (.aload_n 0, 1) := dk_42 (dk_at dksX2_init_1 13 rfl rfl)
theorem dX2_init_38 : decode cX2_init 38 = .ok (.bipush 10, 2) := dk_16 10 (dk_at dksX2_init_1 14 rfl rfl)
theorem dX2_init_40 : decode cX2_init 40 = .ok (.newarray .int, 2) := dk_188_10 (dk_at dksX2_init_1 16 rfl rfl)
theorem dX2_init_42 : decode cX2_init 42 = .ok (.putfield 27, 3) := dk_181 0 27 (dk_at dksX2_init_1 18 rfl rfl)
theorem dX2_init_45 : decode cX2_init 45 = .ok (.return_, 1) := dk_177 (dk_at dksX2_init_1 21 rfl rfl)
abbrev cX2_solves : ByteArray := prog_3_method_11_code
def yX2_solves : MethodName := ⟨RX2, "solves", "(I)J"⟩
def dkwX2_solves_6 : List UInt8 := [167, 255, 201, 33, 173]
abbrev dktX2_solves_6 : List UInt8 := dkwX2_solves_6 ++ []
def dkwX2_solves_5 : List UInt8 := [182, 0, 87, 133, 42, 180, 0, 17, 21, 5, 50, 16, 10, 47, 184, 0, 90, 105, 97, 66, 132, 5, 1]
abbrev dktX2_solves_5 : List UInt8 := dkwX2_solves_5 ++ dktX2_solves_6
def dkwX2_solves_4 : List UInt8 := [180, 0, 24, 21, 5, 46, 2, 159, 0, 35, 33, 42, 180, 0, 3, 42, 180, 0, 24, 21, 5, 46]
abbrev dktX2_solves_4 : List UInt8 := dkwX2_solves_4 ++ dktX2_solves_5
def dkwX2_solves_3 : List UInt8 := [182, 0, 114, 61, 167, 255, 246, 9, 66, 3, 54, 5, 21, 5, 42, 180, 0, 30, 162, 0, 52, 42]
abbrev dktX2_solves_3 : List UInt8 := dkwX2_solves_3 ++ dktX2_solves_4
def dkwX2_solves_2 : List UInt8 := [148, 156, 0, 7, 2, 167, 0, 4, 4, 79, 132, 2, 1, 167, 255, 220, 4, 61, 28, 153, 0, 12, 42, 27]
abbrev dktX2_solves_2 : List UInt8 := dkwX2_solves_2 ++ dktX2_solves_3
def dkwX2_solves_1 : List UInt8 := [61, 28, 42, 180, 0, 30, 162, 0, 34, 42, 180, 0, 27, 28, 42, 180, 0, 17, 28, 50, 16, 10, 47, 9]
abbrev dktX2_solves_1 : List UInt8 := dkwX2_solves_1 ++ dktX2_solves_2
def dkwX2_solves_0 : List UInt8 := [42, 27, 16, 10, 182, 0, 84, 154, 0, 16, 187, 0, 106, 89, 42, 27, 182, 0, 108, 183, 0, 111, 191, 3]
abbrev dktX2_solves_0 : List UInt8 := dkwX2_solves_0 ++ dktX2_solves_1
theorem dksX2_solves_0 : cX2_solves.data.toList.drop 0 = dktX2_solves_0 := by decide +kernel
theorem dksX2_solves_1 : cX2_solves.data.toList.drop 24 = dktX2_solves_1 := dk_seg dksX2_solves_0 24 rfl rfl
theorem dksX2_solves_2 : cX2_solves.data.toList.drop 48 = dktX2_solves_2 := dk_seg dksX2_solves_1 24 rfl rfl
theorem dksX2_solves_3 : cX2_solves.data.toList.drop 72 = dktX2_solves_3 := dk_seg dksX2_solves_2 24 rfl rfl
theorem dksX2_solves_4 : cX2_solves.data.toList.drop 94 = dktX2_solves_4 := dk_seg dksX2_solves_3 22 rfl rfl
theorem dksX2_solves_5 : cX2_solves.data.toList.drop 116 = dktX2_solves_5 := dk_seg dksX2_solves_4 22 rfl rfl
theorem dksX2_solves_6 : cX2_solves.data.toList.drop 139 = dktX2_solves_6 := dk_seg dksX2_solves_5 23 rfl rfl
theorem dX2_solves_0 : decode cX2_solves 0 = .ok (.aload_n 0, 1) := dk_42 (dk_at dksX2_solves_0 0 rfl rfl)
theorem dX2_solves_1 : decode cX2_solves 1 = .ok (.iload_n 1, 1) := dk_27 (dk_at dksX2_solves_0 1 rfl rfl)
theorem dX2_solves_2 : decode cX2_solves 2 = .ok (.bipush 10, 2) := dk_16 10 (dk_at dksX2_solves_0 2 rfl rfl)
theorem dX2_solves_4 : decode cX2_solves 4 = .ok (.invokevirtual 84, 3) := dk_182 0 84 (dk_at dksX2_solves_0 4 rfl rfl)
theorem dX2_solves_7 : decode cX2_solves 7 = .ok (.ifCond .ne 16, 3) := dk_154 0 16 (dk_at dksX2_solves_0 7 rfl rfl)
theorem dX2_solves_10 : decode cX2_solves 10 = .ok (.new 106, 3) := dk_187 0 106 (dk_at dksX2_solves_0 10 rfl rfl)
theorem dX2_solves_13 : decode cX2_solves 13 = .ok (.dup, 1) := dk_89 (dk_at dksX2_solves_0 13 rfl rfl)
theorem dX2_solves_14 : decode cX2_solves 14 = .ok (.aload_n 0, 1) := dk_42 (dk_at dksX2_solves_0 14 rfl rfl)
theorem dX2_solves_15 : decode cX2_solves 15 = .ok (.iload_n 1, 1) := dk_27 (dk_at dksX2_solves_0 15 rfl rfl)
theorem dX2_solves_16 : decode cX2_solves 16 = .ok (.invokevirtual 108, 3) := dk_182 0 108 (dk_at dksX2_solves_0 16 rfl rfl)
theorem dX2_solves_19 : decode cX2_solves 19 = .ok (.invokespecial 111, 3) := dk_183 0 111 (dk_at dksX2_solves_0 19 rfl rfl)
theorem dX2_solves_22 : decode cX2_solves 22 = .ok (.athrow, 1) := dk_191 (dk_at dksX2_solves_0 22 rfl rfl)
theorem dX2_solves_23 : decode cX2_solves 23 = .ok (.iconst 0, 1) := dk_3 (dk_at dksX2_solves_0 23 rfl rfl)
theorem dX2_solves_24 : decode cX2_solves 24 = .ok (.istore_n 2, 1) := dk_61 (dk_at dksX2_solves_1 0 rfl rfl)
theorem dX2_solves_25 : decode cX2_solves 25 = .ok (.iload_n 2, 1) := dk_28 (dk_at dksX2_solves_1 1 rfl rfl)
theorem dX2_solves_26 : decode cX2_solves 26 = .ok (.aload_n 0, 1) := dk_42 (dk_at dksX2_solves_1 2 rfl rfl)
theorem dX2_solves_27 : decode cX2_solves 27 = .ok (.getfield 30, 3) := dk_180 0 30 (dk_at dksX2_solves_1 3 rfl rfl)
theorem dX2_solves_30 : decode cX2_solves 30 = .ok (.if_icmp .ge 34, 3) := dk_162 0 34 (dk_at dksX2_solves_1 6 rfl rfl)
theorem dX2_solves_33 : decode cX2_solves 33 = .ok (.aload_n 0, 1) := dk_42 (dk_at dksX2_solves_1 9 rfl rfl)
theorem dX2_solves_34 : decode cX2_solves 34 = .ok (.getfield 27, 3) := dk_180 0 27 (dk_at dksX2_solves_1 10 rfl rfl)
theorem dX2_solves_37 : decode cX2_solves 37 = .ok (.iload_n 2, 1) := dk_28 (dk_at dksX2_solves_1 13 rfl rfl)
theorem dX2_solves_38 : decode cX2_solves 38 = .ok (.aload_n 0, 1) := dk_42 (dk_at dksX2_solves_1 14 rfl rfl)
theorem dX2_solves_39 : decode cX2_solves 39 = .ok (.getfield 17, 3) := dk_180 0 17 (dk_at dksX2_solves_1 15 rfl rfl)
theorem dX2_solves_42 : decode cX2_solves 42 = .ok (.iload_n 2, 1) := dk_28 (dk_at dksX2_solves_1 18 rfl rfl)
theorem dX2_solves_43 : decode cX2_solves 43 = .ok (.aaload, 1) := dk_50 (dk_at dksX2_solves_1 19 rfl rfl)
theorem dX2_solves_44 : decode cX2_solves 44 = .ok (.bipush 10, 2) := dk_16 10 (dk_at dksX2_solves_1 20 rfl rfl)
theorem dX2_solves_46 : decode cX2_solves 46 = .ok (.laload, 1) := dk_47 (dk_at dksX2_solves_1 22 rfl rfl)
theorem dX2_solves_47 : decode cX2_solves 47 = .ok (.lconst 0, 1) := dk_9 (dk_at dksX2_solves_1 23 rfl rfl)
theorem dX2_solves_48 : decode cX2_solves 48 = .ok (.lcmp, 1) := dk_148 (dk_at dksX2_solves_2 0 rfl rfl)
theorem dX2_solves_49 : decode cX2_solves 49 = .ok (.ifCond .ge 7, 3) := dk_156 0 7 (dk_at dksX2_solves_2 1 rfl rfl)
theorem dX2_solves_52 : decode cX2_solves 52 = .ok (.iconst (-1), 1) := dk_2 (dk_at dksX2_solves_2 4 rfl rfl)
theorem dX2_solves_53 : decode cX2_solves 53 = .ok (.goto 4, 3) := dk_167 0 4 (dk_at dksX2_solves_2 5 rfl rfl)
theorem dX2_solves_56 : decode cX2_solves 56 = .ok (.iconst 1, 1) := dk_4 (dk_at dksX2_solves_2 8 rfl rfl)
theorem dX2_solves_57 : decode cX2_solves 57 = .ok (.iastore, 1) := dk_79 (dk_at dksX2_solves_2 9 rfl rfl)
theorem dX2_solves_58 : decode cX2_solves 58 = .ok (.iinc 2 1, 3) := dk_132 2 1 (dk_at dksX2_solves_2 10 rfl rfl)
theorem dX2_solves_61 : decode cX2_solves 61 = .ok (.goto (-36), 3) := dk_167 255 220 (dk_at dksX2_solves_2 13 rfl rfl)
theorem dX2_solves_64 : decode cX2_solves 64 = .ok (.iconst 1, 1) := dk_4 (dk_at dksX2_solves_2 16 rfl rfl)
theorem dX2_solves_65 : decode cX2_solves 65 = .ok (.istore_n 2, 1) := dk_61 (dk_at dksX2_solves_2 17 rfl rfl)
theorem dX2_solves_66 : decode cX2_solves 66 = .ok (.iload_n 2, 1) := dk_28 (dk_at dksX2_solves_2 18 rfl rfl)
theorem dX2_solves_67 : decode cX2_solves 67 = .ok (.ifCond .eq 12, 3) := dk_153 0 12 (dk_at dksX2_solves_2 19 rfl rfl)
theorem dX2_solves_70 : decode cX2_solves 70 = .ok (.aload_n 0, 1) := dk_42 (dk_at dksX2_solves_2 22 rfl rfl)
theorem dX2_solves_71 : decode cX2_solves 71 = .ok (.iload_n 1, 1) := dk_27 (dk_at dksX2_solves_2 23 rfl rfl)
theorem dX2_solves_72 : decode cX2_solves 72 = .ok (.invokevirtual 114, 3) := dk_182 0 114 (dk_at dksX2_solves_3 0 rfl rfl)
theorem dX2_solves_75 : decode cX2_solves 75 = .ok (.istore_n 2, 1) := dk_61 (dk_at dksX2_solves_3 3 rfl rfl)
theorem dX2_solves_76 : decode cX2_solves 76 = .ok (.goto (-10), 3) := dk_167 255 246 (dk_at dksX2_solves_3 4 rfl rfl)
theorem dX2_solves_79 : decode cX2_solves 79 = .ok (.lconst 0, 1) := dk_9 (dk_at dksX2_solves_3 7 rfl rfl)
theorem dX2_solves_80 : decode cX2_solves 80 = .ok (.lstore_n 3, 1) := dk_66 (dk_at dksX2_solves_3 8 rfl rfl)
theorem dX2_solves_81 : decode cX2_solves 81 = .ok (.iconst 0, 1) := dk_3 (dk_at dksX2_solves_3 9 rfl rfl)
theorem dX2_solves_82 : decode cX2_solves 82 = .ok (.istore 5, 2) := dk_54 5 (dk_at dksX2_solves_3 10 rfl rfl)
theorem dX2_solves_84 : decode cX2_solves 84 = .ok (.iload 5, 2) := dk_21 5 (dk_at dksX2_solves_3 12 rfl rfl)
theorem dX2_solves_86 : decode cX2_solves 86 = .ok (.aload_n 0, 1) := dk_42 (dk_at dksX2_solves_3 14 rfl rfl)
theorem dX2_solves_87 : decode cX2_solves 87 = .ok (.getfield 30, 3) := dk_180 0 30 (dk_at dksX2_solves_3 15 rfl rfl)
theorem dX2_solves_90 : decode cX2_solves 90 = .ok (.if_icmp .ge 52, 3) := dk_162 0 52 (dk_at dksX2_solves_3 18 rfl rfl)
theorem dX2_solves_93 : decode cX2_solves 93 = .ok (.aload_n 0, 1) := dk_42 (dk_at dksX2_solves_3 21 rfl rfl)
theorem dX2_solves_94 : decode cX2_solves 94 = .ok (.getfield 24, 3) := dk_180 0 24 (dk_at dksX2_solves_4 0 rfl rfl)
theorem dX2_solves_97 : decode cX2_solves 97 = .ok (.iload 5, 2) := dk_21 5 (dk_at dksX2_solves_4 3 rfl rfl)
theorem dX2_solves_99 : decode cX2_solves 99 = .ok (.iaload, 1) := dk_46 (dk_at dksX2_solves_4 5 rfl rfl)
theorem dX2_solves_100 : decode cX2_solves 100 = .ok (.iconst (-1), 1) := dk_2 (dk_at dksX2_solves_4 6 rfl rfl)
theorem dX2_solves_101 : decode cX2_solves 101 = .ok (.if_icmp .eq 35, 3) := dk_159 0 35 (dk_at dksX2_solves_4 7 rfl rfl)
theorem dX2_solves_104 : decode cX2_solves 104 = .ok (.lload_n 3, 1) := dk_33 (dk_at dksX2_solves_4 10 rfl rfl)
theorem dX2_solves_105 : decode cX2_solves 105 = .ok (.aload_n 0, 1) := dk_42 (dk_at dksX2_solves_4 11 rfl rfl)
theorem dX2_solves_106 : decode cX2_solves 106 = .ok (.getfield 3, 3) := dk_180 0 3 (dk_at dksX2_solves_4 12 rfl rfl)
theorem dX2_solves_109 : decode cX2_solves 109 = .ok (.aload_n 0, 1) := dk_42 (dk_at dksX2_solves_4 15 rfl rfl)
theorem dX2_solves_110 : decode cX2_solves 110 = .ok (.getfield 24, 3) := dk_180 0 24 (dk_at dksX2_solves_4 16 rfl rfl)
theorem dX2_solves_113 : decode cX2_solves 113 = .ok (.iload 5, 2) := dk_21 5 (dk_at dksX2_solves_4 19 rfl rfl)
theorem dX2_solves_115 : decode cX2_solves 115 = .ok (.iaload, 1) := dk_46 (dk_at dksX2_solves_4 21 rfl rfl)
theorem dX2_solves_116 : decode cX2_solves 116 = .ok (.invokevirtual 87, 3) := dk_182 0 87 (dk_at dksX2_solves_5 0 rfl rfl)
theorem dX2_solves_119 : decode cX2_solves 119 = .ok (.i2l, 1) := dk_133 (dk_at dksX2_solves_5 3 rfl rfl)
theorem dX2_solves_120 : decode cX2_solves 120 = .ok (.aload_n 0, 1) := dk_42 (dk_at dksX2_solves_5 4 rfl rfl)
theorem dX2_solves_121 : decode cX2_solves 121 = .ok (.getfield 17, 3) := dk_180 0 17 (dk_at dksX2_solves_5 5 rfl rfl)
theorem dX2_solves_124 : decode cX2_solves 124 = .ok (.iload 5, 2) := dk_21 5 (dk_at dksX2_solves_5 8 rfl rfl)
theorem dX2_solves_126 : decode cX2_solves 126 = .ok (.aaload, 1) := dk_50 (dk_at dksX2_solves_5 10 rfl rfl)
theorem dX2_solves_127 : decode cX2_solves 127 = .ok (.bipush 10, 2) := dk_16 10 (dk_at dksX2_solves_5 11 rfl rfl)
theorem dX2_solves_129 : decode cX2_solves 129 = .ok (.laload, 1) := dk_47 (dk_at dksX2_solves_5 13 rfl rfl)
theorem dX2_solves_130 : decode cX2_solves 130 = .ok (.invokestatic 90, 3) := dk_184 0 90 (dk_at dksX2_solves_5 14 rfl rfl)
theorem dX2_solves_133 : decode cX2_solves 133 = .ok (.lmul, 1) := dk_105 (dk_at dksX2_solves_5 17 rfl rfl)
theorem dX2_solves_134 : decode cX2_solves 134 = .ok (.ladd, 1) := dk_97 (dk_at dksX2_solves_5 18 rfl rfl)
theorem dX2_solves_135 : decode cX2_solves 135 = .ok (.lstore_n 3, 1) := dk_66 (dk_at dksX2_solves_5 19 rfl rfl)
theorem dX2_solves_136 : decode cX2_solves 136 = .ok (.iinc 5 1, 3) := dk_132 5 1 (dk_at dksX2_solves_5 20 rfl rfl)
theorem dX2_solves_139 : decode cX2_solves 139 = .ok (.goto (-55), 3) := dk_167 255 201 (dk_at dksX2_solves_6 0 rfl rfl)
theorem dX2_solves_142 : decode cX2_solves 142 = .ok (.lload_n 3, 1) := dk_33 (dk_at dksX2_solves_6 3 rfl rfl)
theorem dX2_solves_143 : decode cX2_solves 143 = .ok (.lreturn, 1) := dk_173 (dk_at dksX2_solves_6 4 rfl rfl)
abbrev cX2_clears : ByteArray := prog_3_method_5_code
def yX2_clears : MethodName := ⟨RX2, "clears", "(II)Z"⟩
def dkwX2_clears_5 : List UInt8 := [167, 255, 219, 4, 172]
abbrev dktX2_clears_5 : List UInt8 := dkwX2_clears_5 ++ []
def dkwX2_clears_4 : List UInt8 := [46, 2, 160, 0, 19, 42, 180, 0, 17, 29, 50, 16, 10, 47, 9, 148, 153, 0, 5, 3, 172, 132, 3, 1]
abbrev dktX2_clears_4 : List UInt8 := dkwX2_clears_4 ++ dktX2_clears_5
def dkwX2_clears_3 : List UInt8 := [182, 0, 81, 132, 3, 1, 167, 255, 188, 3, 62, 29, 42, 180, 0, 30, 162, 0, 35, 42, 180, 0, 24, 29]
abbrev dktX2_clears_3 : List UInt8 := dkwX2_clears_3 ++ dktX2_clears_4
def dkwX2_clears_2 : List UInt8 := [148, 154, 0, 9, 132, 4, 1, 167, 255, 219, 21, 4, 42, 180, 0, 30, 162, 0, 10, 42, 21, 4, 29]
abbrev dktX2_clears_2 : List UInt8 := dkwX2_clears_2 ++ dktX2_clears_3
def dkwX2_clears_1 : List UInt8 := [162, 0, 34, 42, 180, 0, 24, 21, 4, 46, 2, 160, 0, 17, 42, 180, 0, 17, 21, 4, 50, 29, 47, 9]
abbrev dktX2_clears_1 : List UInt8 := dkwX2_clears_1 ++ dktX2_clears_2
def dkwX2_clears_0 : List UInt8 := [42, 27, 28, 182, 0, 77, 3, 62, 29, 16, 10, 162, 0, 68, 3, 54, 4, 21, 4, 42, 180, 0, 30]
abbrev dktX2_clears_0 : List UInt8 := dkwX2_clears_0 ++ dktX2_clears_1
theorem dksX2_clears_0 : cX2_clears.data.toList.drop 0 = dktX2_clears_0 := by decide +kernel
theorem dksX2_clears_1 : cX2_clears.data.toList.drop 23 = dktX2_clears_1 := dk_seg dksX2_clears_0 23 rfl rfl
theorem dksX2_clears_2 : cX2_clears.data.toList.drop 47 = dktX2_clears_2 := dk_seg dksX2_clears_1 24 rfl rfl
theorem dksX2_clears_3 : cX2_clears.data.toList.drop 70 = dktX2_clears_3 := dk_seg dksX2_clears_2 23 rfl rfl
theorem dksX2_clears_4 : cX2_clears.data.toList.drop 94 = dktX2_clears_4 := dk_seg dksX2_clears_3 24 rfl rfl
theorem dksX2_clears_5 : cX2_clears.data.toList.drop 118 = dktX2_clears_5 := dk_seg dksX2_clears_4 24 rfl rfl
theorem dX2_clears_0 : decode cX2_clears 0 = .ok (.aload_n 0, 1) := dk_42 (dk_at dksX2_clears_0 0 rfl rfl)
theorem dX2_clears_1 : decode cX2_clears 1 = .ok (.iload_n 1, 1) := dk_27 (dk_at dksX2_clears_0 1 rfl rfl)
theorem dX2_clears_2 : decode cX2_clears 2 = .ok (.iload_n 2, 1) := dk_28 (dk_at dksX2_clears_0 2 rfl rfl)
theorem dX2_clears_3 : decode cX2_clears 3 = .ok (.invokevirtual 77, 3) := dk_182 0 77 (dk_at dksX2_clears_0 3 rfl rfl)
theorem dX2_clears_6 : decode cX2_clears 6 = .ok (.iconst 0, 1) := dk_3 (dk_at dksX2_clears_0 6 rfl rfl)
theorem dX2_clears_7 : decode cX2_clears 7 = .ok (.istore_n 3, 1) := dk_62 (dk_at dksX2_clears_0 7 rfl rfl)
theorem dX2_clears_8 : decode cX2_clears 8 = .ok (.iload_n 3, 1) := dk_29 (dk_at dksX2_clears_0 8 rfl rfl)
theorem dX2_clears_9 : decode cX2_clears 9 = .ok (.bipush 10, 2) := dk_16 10 (dk_at dksX2_clears_0 9 rfl rfl)
theorem dX2_clears_11 : decode cX2_clears 11 = .ok (.if_icmp .ge 68, 3) := dk_162 0 68 (dk_at dksX2_clears_0 11 rfl rfl)
theorem dX2_clears_14 : decode cX2_clears 14 = .ok (.iconst 0, 1) := dk_3 (dk_at dksX2_clears_0 14 rfl rfl)
theorem dX2_clears_15 : decode cX2_clears 15 = .ok (.istore 4, 2) := dk_54 4 (dk_at dksX2_clears_0 15 rfl rfl)
theorem dX2_clears_17 : decode cX2_clears 17 = .ok (.iload 4, 2) := dk_21 4 (dk_at dksX2_clears_0 17 rfl rfl)
theorem dX2_clears_19 : decode cX2_clears 19 = .ok (.aload_n 0, 1) := dk_42 (dk_at dksX2_clears_0 19 rfl rfl)
theorem dX2_clears_20 : decode cX2_clears 20 = .ok (.getfield 30, 3) := dk_180 0 30 (dk_at dksX2_clears_0 20 rfl rfl)
theorem dX2_clears_23 : decode cX2_clears 23 = .ok (.if_icmp .ge 34, 3) := dk_162 0 34 (dk_at dksX2_clears_1 0 rfl rfl)
theorem dX2_clears_26 : decode cX2_clears 26 = .ok (.aload_n 0, 1) := dk_42 (dk_at dksX2_clears_1 3 rfl rfl)
theorem dX2_clears_27 : decode cX2_clears 27 = .ok (.getfield 24, 3) := dk_180 0 24 (dk_at dksX2_clears_1 4 rfl rfl)
theorem dX2_clears_30 : decode cX2_clears 30 = .ok (.iload 4, 2) := dk_21 4 (dk_at dksX2_clears_1 7 rfl rfl)
theorem dX2_clears_32 : decode cX2_clears 32 = .ok (.iaload, 1) := dk_46 (dk_at dksX2_clears_1 9 rfl rfl)
theorem dX2_clears_33 : decode cX2_clears 33 = .ok (.iconst (-1), 1) := dk_2 (dk_at dksX2_clears_1 10 rfl rfl)
theorem dX2_clears_34 : decode cX2_clears 34 = .ok (.if_icmp .ne 17, 3) := dk_160 0 17 (dk_at dksX2_clears_1 11 rfl rfl)
theorem dX2_clears_37 : decode cX2_clears 37 = .ok (.aload_n 0, 1) := dk_42 (dk_at dksX2_clears_1 14 rfl rfl)
theorem dX2_clears_38 : decode cX2_clears 38 = .ok (.getfield 17, 3) := dk_180 0 17 (dk_at dksX2_clears_1 15 rfl rfl)
theorem dX2_clears_41 : decode cX2_clears 41 = .ok (.iload 4, 2) := dk_21 4 (dk_at dksX2_clears_1 18 rfl rfl)
theorem dX2_clears_43 : decode cX2_clears 43 = .ok (.aaload, 1) := dk_50 (dk_at dksX2_clears_1 20 rfl rfl)
theorem dX2_clears_44 : decode cX2_clears 44 = .ok (.iload_n 3, 1) := dk_29 (dk_at dksX2_clears_1 21 rfl rfl)
theorem dX2_clears_45 : decode cX2_clears 45 = .ok (.laload, 1) := dk_47 (dk_at dksX2_clears_1 22 rfl rfl)
theorem dX2_clears_46 : decode cX2_clears 46 = .ok (.lconst 0, 1) := dk_9 (dk_at dksX2_clears_1 23 rfl rfl)
theorem dX2_clears_47 : decode cX2_clears 47 = .ok (.lcmp, 1) := dk_148 (dk_at dksX2_clears_2 0 rfl rfl)
theorem dX2_clears_48 : decode cX2_clears 48 = .ok (.ifCond .ne 9, 3) := dk_154 0 9 (dk_at dksX2_clears_2 1 rfl rfl)
theorem dX2_clears_51 : decode cX2_clears 51 = .ok (.iinc 4 1, 3) := dk_132 4 1 (dk_at dksX2_clears_2 4 rfl rfl)
theorem dX2_clears_54 : decode cX2_clears 54 = .ok (.goto (-37), 3) := dk_167 255 219 (dk_at dksX2_clears_2 7 rfl rfl)
theorem dX2_clears_57 : decode cX2_clears 57 = .ok (.iload 4, 2) := dk_21 4 (dk_at dksX2_clears_2 10 rfl rfl)
theorem dX2_clears_59 : decode cX2_clears 59 = .ok (.aload_n 0, 1) := dk_42 (dk_at dksX2_clears_2 12 rfl rfl)
theorem dX2_clears_60 : decode cX2_clears 60 = .ok (.getfield 30, 3) := dk_180 0 30 (dk_at dksX2_clears_2 13 rfl rfl)
theorem dX2_clears_63 : decode cX2_clears 63 = .ok (.if_icmp .ge 10, 3) := dk_162 0 10 (dk_at dksX2_clears_2 16 rfl rfl)
theorem dX2_clears_66 : decode cX2_clears 66 = .ok (.aload_n 0, 1) := dk_42 (dk_at dksX2_clears_2 19 rfl rfl)
theorem dX2_clears_67 : decode cX2_clears 67 = .ok (.iload 4, 2) := dk_21 4 (dk_at dksX2_clears_2 20 rfl rfl)
theorem dX2_clears_69 : decode cX2_clears 69 = .ok (.iload_n 3, 1) := dk_29 (dk_at dksX2_clears_2 22 rfl rfl)
theorem dX2_clears_70 : decode cX2_clears 70 = .ok (.invokevirtual 81, 3) := dk_182 0 81 (dk_at dksX2_clears_3 0 rfl rfl)
theorem dX2_clears_73 : decode cX2_clears 73 = .ok (.iinc 3 1, 3) := dk_132 3 1 (dk_at dksX2_clears_3 3 rfl rfl)
theorem dX2_clears_76 : decode cX2_clears 76 = .ok (.goto (-68), 3) := dk_167 255 188 (dk_at dksX2_clears_3 6 rfl rfl)
theorem dX2_clears_79 : decode cX2_clears 79 = .ok (.iconst 0, 1) := dk_3 (dk_at dksX2_clears_3 9 rfl rfl)
theorem dX2_clears_80 : decode cX2_clears 80 = .ok (.istore_n 3, 1) := dk_62 (dk_at dksX2_clears_3 10 rfl rfl)
theorem dX2_clears_81 : decode cX2_clears 81 = .ok (.iload_n 3, 1) := dk_29 (dk_at dksX2_clears_3 11 rfl rfl)
theorem dX2_clears_82 : decode cX2_clears 82 = .ok (.aload_n 0, 1) := dk_42 (dk_at dksX2_clears_3 12 rfl rfl)
theorem dX2_clears_83 : decode cX2_clears 83 = .ok (.getfield 30, 3) := dk_180 0 30 (dk_at dksX2_clears_3 13 rfl rfl)
theorem dX2_clears_86 : decode cX2_clears 86 = .ok (.if_icmp .ge 35, 3) := dk_162 0 35 (dk_at dksX2_clears_3 16 rfl rfl)
theorem dX2_clears_89 : decode cX2_clears 89 = .ok (.aload_n 0, 1) := dk_42 (dk_at dksX2_clears_3 19 rfl rfl)
theorem dX2_clears_90 : decode cX2_clears 90 = .ok (.getfield 24, 3) := dk_180 0 24 (dk_at dksX2_clears_3 20 rfl rfl)
theorem dX2_clears_93 : decode cX2_clears 93 = .ok (.iload_n 3, 1) := dk_29 (dk_at dksX2_clears_3 23 rfl rfl)
theorem dX2_clears_94 : decode cX2_clears 94 = .ok (.iaload, 1) := dk_46 (dk_at dksX2_clears_4 0 rfl rfl)
theorem dX2_clears_95 : decode cX2_clears 95 = .ok (.iconst (-1), 1) := dk_2 (dk_at dksX2_clears_4 1 rfl rfl)
theorem dX2_clears_96 : decode cX2_clears 96 = .ok (.if_icmp .ne 19, 3) := dk_160 0 19 (dk_at dksX2_clears_4 2 rfl rfl)
theorem dX2_clears_99 : decode cX2_clears 99 = .ok (.aload_n 0, 1) := dk_42 (dk_at dksX2_clears_4 5 rfl rfl)
theorem dX2_clears_100 : decode cX2_clears 100 = .ok (.getfield 17, 3) := dk_180 0 17 (dk_at dksX2_clears_4 6 rfl rfl)
theorem dX2_clears_103 : decode cX2_clears 103 = .ok (.iload_n 3, 1) := dk_29 (dk_at dksX2_clears_4 9 rfl rfl)
theorem dX2_clears_104 : decode cX2_clears 104 = .ok (.aaload, 1) := dk_50 (dk_at dksX2_clears_4 10 rfl rfl)
theorem dX2_clears_105 : decode cX2_clears 105 = .ok (.bipush 10, 2) := dk_16 10 (dk_at dksX2_clears_4 11 rfl rfl)
theorem dX2_clears_107 : decode cX2_clears 107 = .ok (.laload, 1) := dk_47 (dk_at dksX2_clears_4 13 rfl rfl)
theorem dX2_clears_108 : decode cX2_clears 108 = .ok (.lconst 0, 1) := dk_9 (dk_at dksX2_clears_4 14 rfl rfl)
theorem dX2_clears_109 : decode cX2_clears 109 = .ok (.lcmp, 1) := dk_148 (dk_at dksX2_clears_4 15 rfl rfl)
theorem dX2_clears_110 : decode cX2_clears 110 = .ok (.ifCond .eq 5, 3) := dk_153 0 5 (dk_at dksX2_clears_4 16 rfl rfl)
theorem dX2_clears_113 : decode cX2_clears 113 = .ok (.iconst 0, 1) := dk_3 (dk_at dksX2_clears_4 19 rfl rfl)
theorem dX2_clears_114 : decode cX2_clears 114 = .ok (.ireturn, 1) := dk_172 (dk_at dksX2_clears_4 20 rfl rfl)
theorem dX2_clears_115 : decode cX2_clears 115 = .ok (.iinc 3 1, 3) := dk_132 3 1 (dk_at dksX2_clears_4 21 rfl rfl)
theorem dX2_clears_118 : decode cX2_clears 118 = .ok (.goto (-37), 3) := dk_167 255 219 (dk_at dksX2_clears_5 0 rfl rfl)
theorem dX2_clears_121 : decode cX2_clears 121 = .ok (.iconst 1, 1) := dk_4 (dk_at dksX2_clears_5 3 rfl rfl)
theorem dX2_clears_122 : decode cX2_clears 122 = .ok (.ireturn, 1) := dk_172 (dk_at dksX2_clears_5 4 rfl rfl)
abbrev cX2_lays : ByteArray := prog_3_method_2_code
def yX2_lays : MethodName := ⟨RX2, "lays", "(II)V"⟩
def dkwX2_lays_7 : List UInt8 := [181, 0, 30, 132, 3, 1, 167, 255, 102, 177]
abbrev dktX2_lays_7 : List UInt8 := dkwX2_lays_7 ++ []
def dkwX2_lays_6 : List UInt8 := [180, 0, 30, 29, 79, 42, 180, 0, 24, 42, 180, 0, 30, 2, 79, 42, 89, 180, 0, 30, 4, 96]
abbrev dktX2_lays_6 : List UInt8 := dkwX2_lays_6 ++ dktX2_lays_7
def dkwX2_lays_5 : List UInt8 := [180, 0, 3, 180, 0, 41, 21, 4, 50, 180, 0, 55, 21, 5, 46, 116, 133, 80, 42, 180, 0, 20, 42]
abbrev dktX2_lays_5 : List UInt8 := dkwX2_lays_5 ++ dktX2_lays_6
def dkwX2_lays_4 : List UInt8 := [21, 5, 182, 0, 51, 80, 132, 6, 1, 167, 255, 223, 42, 180, 0, 17, 42, 180, 0, 30, 50, 16, 10, 42]
abbrev dktX2_lays_4 : List UInt8 := dkwX2_lays_4 ++ dktX2_lays_5
def dkwX2_lays_3 : List UInt8 := [21, 6, 16, 10, 162, 0, 32, 42, 180, 0, 17, 42, 180, 0, 30, 50, 21, 6, 42, 27, 21, 6, 21, 4]
abbrev dktX2_lays_3 : List UInt8 := dkwX2_lays_3 ++ dktX2_lays_4
def dkwX2_lays_2 : List UInt8 := [180, 0, 3, 180, 0, 41, 21, 4, 50, 21, 5, 182, 0, 45, 153, 0, 6, 167, 0, 102, 3, 54, 6]
abbrev dktX2_lays_2 : List UInt8 := dkwX2_lays_2 ++ dktX2_lays_3
def dkwX2_lays_1 : List UInt8 := [162, 0, 147, 42, 180, 0, 30, 28, 162, 0, 139, 29, 5, 108, 54, 4, 29, 5, 112, 54, 5, 42]
abbrev dktX2_lays_1 : List UInt8 := dkwX2_lays_1 ++ dktX2_lays_2
def dkwX2_lays_0 : List UInt8 := [42, 3, 181, 0, 30, 42, 10, 181, 0, 34, 3, 62, 29, 5, 42, 180, 0, 3, 180, 0, 38, 104]
abbrev dktX2_lays_0 : List UInt8 := dkwX2_lays_0 ++ dktX2_lays_1
theorem dksX2_lays_0 : cX2_lays.data.toList.drop 0 = dktX2_lays_0 := by decide +kernel
theorem dksX2_lays_1 : cX2_lays.data.toList.drop 22 = dktX2_lays_1 := dk_seg dksX2_lays_0 22 rfl rfl
theorem dksX2_lays_2 : cX2_lays.data.toList.drop 44 = dktX2_lays_2 := dk_seg dksX2_lays_1 22 rfl rfl
theorem dksX2_lays_3 : cX2_lays.data.toList.drop 67 = dktX2_lays_3 := dk_seg dksX2_lays_2 23 rfl rfl
theorem dksX2_lays_4 : cX2_lays.data.toList.drop 91 = dktX2_lays_4 := dk_seg dksX2_lays_3 24 rfl rfl
theorem dksX2_lays_5 : cX2_lays.data.toList.drop 115 = dktX2_lays_5 := dk_seg dksX2_lays_4 24 rfl rfl
theorem dksX2_lays_6 : cX2_lays.data.toList.drop 138 = dktX2_lays_6 := dk_seg dksX2_lays_5 23 rfl rfl
theorem dksX2_lays_7 : cX2_lays.data.toList.drop 160 = dktX2_lays_7 := dk_seg dksX2_lays_6 22 rfl rfl
theorem dX2_lays_0 : decode cX2_lays 0 = .ok (.aload_n 0, 1) := dk_42 (dk_at dksX2_lays_0 0 rfl rfl)
theorem dX2_lays_1 : decode cX2_lays 1 = .ok (.iconst 0, 1) := dk_3 (dk_at dksX2_lays_0 1 rfl rfl)
theorem dX2_lays_2 : decode cX2_lays 2 = .ok (.putfield 30, 3) := dk_181 0 30 (dk_at dksX2_lays_0 2 rfl rfl)
theorem dX2_lays_5 : decode cX2_lays 5 = .ok (.aload_n 0, 1) := dk_42 (dk_at dksX2_lays_0 5 rfl rfl)
theorem dX2_lays_6 : decode cX2_lays 6 = .ok (.lconst 1, 1) := dk_10 (dk_at dksX2_lays_0 6 rfl rfl)
theorem dX2_lays_7 : decode cX2_lays 7 = .ok (.putfield 34, 3) := dk_181 0 34 (dk_at dksX2_lays_0 7 rfl rfl)
theorem dX2_lays_10 : decode cX2_lays 10 = .ok (.iconst 0, 1) := dk_3 (dk_at dksX2_lays_0 10 rfl rfl)
theorem dX2_lays_11 : decode cX2_lays 11 = .ok (.istore_n 3, 1) := dk_62 (dk_at dksX2_lays_0 11 rfl rfl)
theorem dX2_lays_12 : decode cX2_lays 12 = .ok (.iload_n 3, 1) := dk_29 (dk_at dksX2_lays_0 12 rfl rfl)
theorem dX2_lays_13 : decode cX2_lays 13 = .ok (.iconst 2, 1) := dk_5 (dk_at dksX2_lays_0 13 rfl rfl)
theorem dX2_lays_14 : decode cX2_lays 14 = .ok (.aload_n 0, 1) := dk_42 (dk_at dksX2_lays_0 14 rfl rfl)
theorem dX2_lays_15 : decode cX2_lays 15 = .ok (.getfield 3, 3) := dk_180 0 3 (dk_at dksX2_lays_0 15 rfl rfl)
theorem dX2_lays_18 : decode cX2_lays 18 = .ok (.getfield 38, 3) := dk_180 0 38 (dk_at dksX2_lays_0 18 rfl rfl)
theorem dX2_lays_21 : decode cX2_lays 21 = .ok (.imul, 1) := dk_104 (dk_at dksX2_lays_0 21 rfl rfl)
theorem dX2_lays_22 : decode cX2_lays 22 = .ok (.if_icmp .ge 147, 3) := dk_162 0 147 (dk_at dksX2_lays_1 0 rfl rfl)
theorem dX2_lays_25 : decode cX2_lays 25 = .ok (.aload_n 0, 1) := dk_42 (dk_at dksX2_lays_1 3 rfl rfl)
theorem dX2_lays_26 : decode cX2_lays 26 = .ok (.getfield 30, 3) := dk_180 0 30 (dk_at dksX2_lays_1 4 rfl rfl)
theorem dX2_lays_29 : decode cX2_lays 29 = .ok (.iload_n 2, 1) := dk_28 (dk_at dksX2_lays_1 7 rfl rfl)
theorem dX2_lays_30 : decode cX2_lays 30 = .ok (.if_icmp .ge 139, 3) := dk_162 0 139 (dk_at dksX2_lays_1 8 rfl rfl)
theorem dX2_lays_33 : decode cX2_lays 33 = .ok (.iload_n 3, 1) := dk_29 (dk_at dksX2_lays_1 11 rfl rfl)
theorem dX2_lays_34 : decode cX2_lays 34 = .ok (.iconst 2, 1) := dk_5 (dk_at dksX2_lays_1 12 rfl rfl)
theorem dX2_lays_35 : decode cX2_lays 35 = .ok (.idiv, 1) := dk_108 (dk_at dksX2_lays_1 13 rfl rfl)
theorem dX2_lays_36 : decode cX2_lays 36 = .ok (.istore 4, 2) := dk_54 4 (dk_at dksX2_lays_1 14 rfl rfl)
theorem dX2_lays_38 : decode cX2_lays 38 = .ok (.iload_n 3, 1) := dk_29 (dk_at dksX2_lays_1 16 rfl rfl)
theorem dX2_lays_39 : decode cX2_lays 39 = .ok (.iconst 2, 1) := dk_5 (dk_at dksX2_lays_1 17 rfl rfl)
theorem dX2_lays_40 : decode cX2_lays 40 = .ok (.irem, 1) := dk_112 (dk_at dksX2_lays_1 18 rfl rfl)
theorem dX2_lays_41 : decode cX2_lays 41 = .ok (.istore 5, 2) := dk_54 5 (dk_at dksX2_lays_1 19 rfl rfl)
theorem dX2_lays_43 : decode cX2_lays 43 = .ok (.aload_n 0, 1) := dk_42 (dk_at dksX2_lays_1 21 rfl rfl)
theorem dX2_lays_44 : decode cX2_lays 44 = .ok (.getfield 3, 3) := dk_180 0 3 (dk_at dksX2_lays_2 0 rfl rfl)
theorem dX2_lays_47 : decode cX2_lays 47 = .ok (.getfield 41, 3) := dk_180 0 41 (dk_at dksX2_lays_2 3 rfl rfl)
theorem dX2_lays_50 : decode cX2_lays 50 = .ok (.iload 4, 2) := dk_21 4 (dk_at dksX2_lays_2 6 rfl rfl)
theorem dX2_lays_52 : decode cX2_lays 52 = .ok (.aaload, 1) := dk_50 (dk_at dksX2_lays_2 8 rfl rfl)
theorem dX2_lays_53 : decode cX2_lays 53 = .ok (.iload 5, 2) := dk_21 5 (dk_at dksX2_lays_2 9 rfl rfl)
theorem dX2_lays_55 : decode cX2_lays 55 = .ok (.invokevirtual 45, 3) := dk_182 0 45 (dk_at dksX2_lays_2 11 rfl rfl)
theorem dX2_lays_58 : decode cX2_lays 58 = .ok (.ifCond .eq 6, 3) := dk_153 0 6 (dk_at dksX2_lays_2 14 rfl rfl)
theorem dX2_lays_61 : decode cX2_lays 61 = .ok (.goto 102, 3) := dk_167 0 102 (dk_at dksX2_lays_2 17 rfl rfl)
theorem dX2_lays_64 : decode cX2_lays 64 = .ok (.iconst 0, 1) := dk_3 (dk_at dksX2_lays_2 20 rfl rfl)
theorem dX2_lays_65 : decode cX2_lays 65 = .ok (.istore 6, 2) := dk_54 6 (dk_at dksX2_lays_2 21 rfl rfl)
theorem dX2_lays_67 : decode cX2_lays 67 = .ok (.iload 6, 2) := dk_21 6 (dk_at dksX2_lays_3 0 rfl rfl)
theorem dX2_lays_69 : decode cX2_lays 69 = .ok (.bipush 10, 2) := dk_16 10 (dk_at dksX2_lays_3 2 rfl rfl)
theorem dX2_lays_71 : decode cX2_lays 71 = .ok (.if_icmp .ge 32, 3) := dk_162 0 32 (dk_at dksX2_lays_3 4 rfl rfl)
theorem dX2_lays_74 : decode cX2_lays 74 = .ok (.aload_n 0, 1) := dk_42 (dk_at dksX2_lays_3 7 rfl rfl)
theorem dX2_lays_75 : decode cX2_lays 75 = .ok (.getfield 17, 3) := dk_180 0 17 (dk_at dksX2_lays_3 8 rfl rfl)
theorem dX2_lays_78 : decode cX2_lays 78 = .ok (.aload_n 0, 1) := dk_42 (dk_at dksX2_lays_3 11 rfl rfl)
theorem dX2_lays_79 : decode cX2_lays 79 = .ok (.getfield 30, 3) := dk_180 0 30 (dk_at dksX2_lays_3 12 rfl rfl)
theorem dX2_lays_82 : decode cX2_lays 82 = .ok (.aaload, 1) := dk_50 (dk_at dksX2_lays_3 15 rfl rfl)
theorem dX2_lays_83 : decode cX2_lays 83 = .ok (.iload 6, 2) := dk_21 6 (dk_at dksX2_lays_3 16 rfl rfl)
theorem dX2_lays_85 : decode cX2_lays 85 = .ok (.aload_n 0, 1) := dk_42 (dk_at dksX2_lays_3 18 rfl rfl)
theorem dX2_lays_86 : decode cX2_lays 86 = .ok (.iload_n 1, 1) := dk_27 (dk_at dksX2_lays_3 19 rfl rfl)
theorem dX2_lays_87 : decode cX2_lays 87 = .ok (.iload 6, 2) := dk_21 6 (dk_at dksX2_lays_3 20 rfl rfl)
theorem dX2_lays_89 : decode cX2_lays 89 = .ok (.iload 4, 2) := dk_21 4 (dk_at dksX2_lays_3 22 rfl rfl)
theorem dX2_lays_91 : decode cX2_lays 91 = .ok (.iload 5, 2) := dk_21 5 (dk_at dksX2_lays_4 0 rfl rfl)
theorem dX2_lays_93 : decode cX2_lays 93 = .ok (.invokevirtual 51, 3) := dk_182 0 51 (dk_at dksX2_lays_4 2 rfl rfl)
theorem dX2_lays_96 : decode cX2_lays 96 = .ok (.lastore, 1) := dk_80 (dk_at dksX2_lays_4 5 rfl rfl)
theorem dX2_lays_97 : decode cX2_lays 97 = .ok (.iinc 6 1, 3) := dk_132 6 1 (dk_at dksX2_lays_4 6 rfl rfl)
theorem dX2_lays_100 : decode cX2_lays 100 = .ok (.goto (-33), 3) := dk_167 255 223 (dk_at dksX2_lays_4 9 rfl rfl)
theorem dX2_lays_103 : decode cX2_lays 103 = .ok (.aload_n 0, 1) := dk_42 (dk_at dksX2_lays_4 12 rfl rfl)
theorem dX2_lays_104 : decode cX2_lays 104 = .ok (.getfield 17, 3) := dk_180 0 17 (dk_at dksX2_lays_4 13 rfl rfl)
theorem dX2_lays_107 : decode cX2_lays 107 = .ok (.aload_n 0, 1) := dk_42 (dk_at dksX2_lays_4 16 rfl rfl)
theorem dX2_lays_108 : decode cX2_lays 108 = .ok (.getfield 30, 3) := dk_180 0 30 (dk_at dksX2_lays_4 17 rfl rfl)
theorem dX2_lays_111 : decode cX2_lays 111 = .ok (.aaload, 1) := dk_50 (dk_at dksX2_lays_4 20 rfl rfl)
theorem dX2_lays_112 : decode cX2_lays 112 = .ok (.bipush 10, 2) := dk_16 10 (dk_at dksX2_lays_4 21 rfl rfl)
theorem dX2_lays_114 : decode cX2_lays 114 = .ok (.aload_n 0, 1) := dk_42 (dk_at dksX2_lays_4 23 rfl rfl)
theorem dX2_lays_115 : decode cX2_lays 115 = .ok (.getfield 3, 3) := dk_180 0 3 (dk_at dksX2_lays_5 0 rfl rfl)
theorem dX2_lays_118 : decode cX2_lays 118 = .ok (.getfield 41, 3) := dk_180 0 41 (dk_at dksX2_lays_5 3 rfl rfl)
theorem dX2_lays_121 : decode cX2_lays 121 = .ok (.iload 4, 2) := dk_21 4 (dk_at dksX2_lays_5 6 rfl rfl)
theorem dX2_lays_123 : decode cX2_lays 123 = .ok (.aaload, 1) := dk_50 (dk_at dksX2_lays_5 8 rfl rfl)
theorem dX2_lays_124 : decode cX2_lays 124 = .ok (.getfield 55, 3) := dk_180 0 55 (dk_at dksX2_lays_5 9 rfl rfl)
theorem dX2_lays_127 : decode cX2_lays 127 = .ok (.iload 5, 2) := dk_21 5 (dk_at dksX2_lays_5 12 rfl rfl)
theorem dX2_lays_129 : decode cX2_lays 129 = .ok (.iaload, 1) := dk_46 (dk_at dksX2_lays_5 14 rfl rfl)
theorem dX2_lays_130 : decode cX2_lays 130 = .ok (.ineg, 1) := dk_116 (dk_at dksX2_lays_5 15 rfl rfl)
theorem dX2_lays_131 : decode cX2_lays 131 = .ok (.i2l, 1) := dk_133 (dk_at dksX2_lays_5 16 rfl rfl)
theorem dX2_lays_132 : decode cX2_lays 132 = .ok (.lastore, 1) := dk_80 (dk_at dksX2_lays_5 17 rfl rfl)
theorem dX2_lays_133 : decode cX2_lays 133 = .ok (.aload_n 0, 1) := dk_42 (dk_at dksX2_lays_5 18 rfl rfl)
theorem dX2_lays_134 : decode cX2_lays 134 = .ok (.getfield 20, 3) := dk_180 0 20 (dk_at dksX2_lays_5 19 rfl rfl)
theorem dX2_lays_137 : decode cX2_lays 137 = .ok (.aload_n 0, 1) := dk_42 (dk_at dksX2_lays_5 22 rfl rfl)
theorem dX2_lays_138 : decode cX2_lays 138 = .ok (.getfield 30, 3) := dk_180 0 30 (dk_at dksX2_lays_6 0 rfl rfl)
theorem dX2_lays_141 : decode cX2_lays 141 = .ok (.iload_n 3, 1) := dk_29 (dk_at dksX2_lays_6 3 rfl rfl)
theorem dX2_lays_142 : decode cX2_lays 142 = .ok (.iastore, 1) := dk_79 (dk_at dksX2_lays_6 4 rfl rfl)
theorem dX2_lays_143 : decode cX2_lays 143 = .ok (.aload_n 0, 1) := dk_42 (dk_at dksX2_lays_6 5 rfl rfl)
theorem dX2_lays_144 : decode cX2_lays 144 = .ok (.getfield 24, 3) := dk_180 0 24 (dk_at dksX2_lays_6 6 rfl rfl)
theorem dX2_lays_147 : decode cX2_lays 147 = .ok (.aload_n 0, 1) := dk_42 (dk_at dksX2_lays_6 9 rfl rfl)
theorem dX2_lays_148 : decode cX2_lays 148 = .ok (.getfield 30, 3) := dk_180 0 30 (dk_at dksX2_lays_6 10 rfl rfl)
theorem dX2_lays_151 : decode cX2_lays 151 = .ok (.iconst (-1), 1) := dk_2 (dk_at dksX2_lays_6 13 rfl rfl)
theorem dX2_lays_152 : decode cX2_lays 152 = .ok (.iastore, 1) := dk_79 (dk_at dksX2_lays_6 14 rfl rfl)
theorem dX2_lays_153 : decode cX2_lays 153 = .ok (.aload_n 0, 1) := dk_42 (dk_at dksX2_lays_6 15 rfl rfl)
theorem dX2_lays_154 : decode cX2_lays 154 = .ok (.dup, 1) := dk_89 (dk_at dksX2_lays_6 16 rfl rfl)
theorem dX2_lays_155 : decode cX2_lays 155 = .ok (.getfield 30, 3) := dk_180 0 30 (dk_at dksX2_lays_6 17 rfl rfl)
theorem dX2_lays_158 : decode cX2_lays 158 = .ok (.iconst 1, 1) := dk_4 (dk_at dksX2_lays_6 20 rfl rfl)
theorem dX2_lays_159 : decode cX2_lays 159 = .ok (.iadd, 1) := dk_96 (dk_at dksX2_lays_6 21 rfl rfl)
theorem dX2_lays_160 : decode cX2_lays 160 = .ok (.putfield 30, 3) := dk_181 0 30 (dk_at dksX2_lays_7 0 rfl rfl)
theorem dX2_lays_163 : decode cX2_lays 163 = .ok (.iinc 3 1, 3) := dk_132 3 1 (dk_at dksX2_lays_7 3 rfl rfl)
theorem dX2_lays_166 : decode cX2_lays 166 = .ok (.goto (-154), 3) := dk_167 255 102 (dk_at dksX2_lays_7 6 rfl rfl)
theorem dX2_lays_169 : decode cX2_lays 169 = .ok (.return_, 1) := dk_177 (dk_at dksX2_lays_7 9 rfl rfl)
abbrev cX2_brings : ByteArray := prog_3_method_3_code
def yX2_brings : MethodName := ⟨RX2, "brings", "(IIII)J"⟩
def dkwX2_brings_2 : List UInt8 := [184, 0, 74, 29, 160, 0, 18, 42, 180, 0, 3, 28, 21, 4, 182, 0, 70, 116, 133, 167, 0, 4, 9, 173]
abbrev dktX2_brings_2 : List UInt8 := dkwX2_brings_2 ++ []
def dkwX2_brings_1 : List UInt8 := [184, 0, 66, 29, 160, 0, 17, 42, 180, 0, 3, 28, 21, 4, 182, 0, 70, 133, 167, 0, 27, 28]
abbrev dktX2_brings_1 : List UInt8 := dkwX2_brings_1 ++ dktX2_brings_2
def dkwX2_brings_0 : List UInt8 := [27, 28, 184, 0, 58, 153, 0, 14, 28, 42, 180, 0, 3, 182, 0, 62, 161, 0, 5, 9, 173, 28]
abbrev dktX2_brings_0 : List UInt8 := dkwX2_brings_0 ++ dktX2_brings_1
theorem dksX2_brings_0 : cX2_brings.data.toList.drop 0 = dktX2_brings_0 := by decide +kernel
theorem dksX2_brings_1 : cX2_brings.data.toList.drop 22 = dktX2_brings_1 := dk_seg dksX2_brings_0 22 rfl rfl
theorem dksX2_brings_2 : cX2_brings.data.toList.drop 44 = dktX2_brings_2 := dk_seg dksX2_brings_1 22 rfl rfl
theorem dX2_brings_0 : decode cX2_brings 0 = .ok (.iload_n 1, 1) := dk_27 (dk_at dksX2_brings_0 0 rfl rfl)
theorem dX2_brings_1 : decode cX2_brings 1 = .ok (.iload_n 2, 1) := dk_28 (dk_at dksX2_brings_0 1 rfl rfl)
theorem dX2_brings_2 : decode cX2_brings 2 = .ok (.invokestatic 58, 3) := dk_184 0 58 (dk_at dksX2_brings_0 2 rfl rfl)
theorem dX2_brings_5 : decode cX2_brings 5 = .ok (.ifCond .eq 14, 3) := dk_153 0 14 (dk_at dksX2_brings_0 5 rfl rfl)
theorem dX2_brings_8 : decode cX2_brings 8 = .ok (.iload_n 2, 1) := dk_28 (dk_at dksX2_brings_0 8 rfl rfl)
theorem dX2_brings_9 : decode cX2_brings 9 = .ok (.aload_n 0, 1) := dk_42 (dk_at dksX2_brings_0 9 rfl rfl)
theorem dX2_brings_10 : decode cX2_brings 10 = .ok (.getfield 3, 3) := dk_180 0 3 (dk_at dksX2_brings_0 10 rfl rfl)
theorem dX2_brings_13 : decode cX2_brings 13 = .ok (.invokevirtual 62, 3) := dk_182 0 62 (dk_at dksX2_brings_0 13 rfl rfl)
theorem dX2_brings_16 : decode cX2_brings 16 = .ok (.if_icmp .lt 5, 3) := dk_161 0 5 (dk_at dksX2_brings_0 16 rfl rfl)
theorem dX2_brings_19 : decode cX2_brings 19 = .ok (.lconst 0, 1) := dk_9 (dk_at dksX2_brings_0 19 rfl rfl)
theorem dX2_brings_20 : decode cX2_brings 20 = .ok (.lreturn, 1) := dk_173 (dk_at dksX2_brings_0 20 rfl rfl)
theorem dX2_brings_21 : decode cX2_brings 21 = .ok (.iload_n 2, 1) := dk_28 (dk_at dksX2_brings_0 21 rfl rfl)
theorem dX2_brings_22 : decode cX2_brings 22 = .ok (.invokestatic 66, 3) := dk_184 0 66 (dk_at dksX2_brings_1 0 rfl rfl)
theorem dX2_brings_25 : decode cX2_brings 25 = .ok (.iload_n 3, 1) := dk_29 (dk_at dksX2_brings_1 3 rfl rfl)
theorem dX2_brings_26 : decode cX2_brings 26 = .ok (.if_icmp .ne 17, 3) := dk_160 0 17 (dk_at dksX2_brings_1 4 rfl rfl)
theorem dX2_brings_29 : decode cX2_brings 29 = .ok (.aload_n 0, 1) := dk_42 (dk_at dksX2_brings_1 7 rfl rfl)
theorem dX2_brings_30 : decode cX2_brings 30 = .ok (.getfield 3, 3) := dk_180 0 3 (dk_at dksX2_brings_1 8 rfl rfl)
theorem dX2_brings_33 : decode cX2_brings 33 = .ok (.iload_n 2, 1) := dk_28 (dk_at dksX2_brings_1 11 rfl rfl)
theorem dX2_brings_34 : decode cX2_brings 34 = .ok (.iload 4, 2) := dk_21 4 (dk_at dksX2_brings_1 12 rfl rfl)
theorem dX2_brings_36 : decode cX2_brings 36 = .ok (.invokevirtual 70, 3) := dk_182 0 70 (dk_at dksX2_brings_1 14 rfl rfl)
theorem dX2_brings_39 : decode cX2_brings 39 = .ok (.i2l, 1) := dk_133 (dk_at dksX2_brings_1 17 rfl rfl)
theorem dX2_brings_40 : decode cX2_brings 40 = .ok (.goto 27, 3) := dk_167 0 27 (dk_at dksX2_brings_1 18 rfl rfl)
theorem dX2_brings_43 : decode cX2_brings 43 = .ok (.iload_n 2, 1) := dk_28 (dk_at dksX2_brings_1 21 rfl rfl)
theorem dX2_brings_44 : decode cX2_brings 44 = .ok (.invokestatic 74, 3) := dk_184 0 74 (dk_at dksX2_brings_2 0 rfl rfl)
theorem dX2_brings_47 : decode cX2_brings 47 = .ok (.iload_n 3, 1) := dk_29 (dk_at dksX2_brings_2 3 rfl rfl)
theorem dX2_brings_48 : decode cX2_brings 48 = .ok (.if_icmp .ne 18, 3) := dk_160 0 18 (dk_at dksX2_brings_2 4 rfl rfl)
theorem dX2_brings_51 : decode cX2_brings 51 = .ok (.aload_n 0, 1) := dk_42 (dk_at dksX2_brings_2 7 rfl rfl)
theorem dX2_brings_52 : decode cX2_brings 52 = .ok (.getfield 3, 3) := dk_180 0 3 (dk_at dksX2_brings_2 8 rfl rfl)
theorem dX2_brings_55 : decode cX2_brings 55 = .ok (.iload_n 2, 1) := dk_28 (dk_at dksX2_brings_2 11 rfl rfl)
theorem dX2_brings_56 : decode cX2_brings 56 = .ok (.iload 4, 2) := dk_21 4 (dk_at dksX2_brings_2 12 rfl rfl)
theorem dX2_brings_58 : decode cX2_brings 58 = .ok (.invokevirtual 70, 3) := dk_182 0 70 (dk_at dksX2_brings_2 14 rfl rfl)
theorem dX2_brings_61 : decode cX2_brings 61 = .ok (.ineg, 1) := dk_116 (dk_at dksX2_brings_2 17 rfl rfl)
theorem dX2_brings_62 : decode cX2_brings 62 = .ok (.i2l, 1) := dk_133 (dk_at dksX2_brings_2 18 rfl rfl)
theorem dX2_brings_63 : decode cX2_brings 63 = .ok (.goto 4, 3) := dk_167 0 4 (dk_at dksX2_brings_2 19 rfl rfl)
theorem dX2_brings_66 : decode cX2_brings 66 = .ok (.lconst 0, 1) := dk_9 (dk_at dksX2_brings_2 22 rfl rfl)
theorem dX2_brings_67 : decode cX2_brings 67 = .ok (.lreturn, 1) := dk_173 (dk_at dksX2_brings_2 23 rfl rfl)
abbrev cX2_pivots : ByteArray := prog_3_method_4_code
def yX2_pivots : MethodName := ⟨RX2, "pivots", "(II)V"⟩
def dkwX2_pivots_8 : List UInt8 := [167, 255, 207, 177]
abbrev dktX2_pivots_8 : List UInt8 := dkwX2_pivots_8 ++ []
def dkwX2_pivots_7 : List UInt8 := [21, 6, 42, 180, 0, 17, 21, 5, 50, 21, 6, 47, 117, 80, 132, 6, 1, 167, 255, 225, 132, 5, 1]
abbrev dktX2_pivots_7 : List UInt8 := dkwX2_pivots_7 ++ dktX2_pivots_8
def dkwX2_pivots_6 : List UInt8 := [180, 0, 30, 162, 0, 46, 3, 54, 6, 21, 6, 16, 10, 163, 0, 30, 42, 180, 0, 17, 21, 5, 50]
abbrev dktX2_pivots_6 : List UInt8 := dkwX2_pivots_6 ++ dktX2_pivots_7
def dkwX2_pivots_5 : List UInt8 := [180, 0, 34, 9, 148, 158, 0, 4, 177, 42, 42, 180, 0, 34, 117, 181, 0, 34, 3, 54, 5, 21, 5, 42]
abbrev dktX2_pivots_5 : List UInt8 := dkwX2_pivots_5 ++ dktX2_pivots_6
def dkwX2_pivots_4 : List UInt8 := [167, 255, 206, 132, 5, 1, 167, 255, 168, 42, 33, 181, 0, 34, 42, 180, 0, 24, 27, 28, 79, 42]
abbrev dktX2_pivots_4 : List UInt8 := dkwX2_pivots_4 ++ dktX2_pivots_5
def dkwX2_pivots_3 : List UInt8 := [22, 6, 42, 180, 0, 17, 27, 50, 21, 8, 47, 105, 101, 42, 180, 0, 34, 109, 80, 132, 8, 1]
abbrev dktX2_pivots_3 : List UInt8 := dkwX2_pivots_3 ++ dktX2_pivots_4
def dkwX2_pivots_2 : List UInt8 := [163, 0, 49, 42, 180, 0, 17, 21, 5, 50, 21, 8, 42, 180, 0, 17, 21, 5, 50, 21, 8, 47, 33, 105]
abbrev dktX2_pivots_2 : List UInt8 := dkwX2_pivots_2 ++ dktX2_pivots_3
def dkwX2_pivots_1 : List UInt8 := [160, 0, 6, 167, 0, 70, 42, 180, 0, 17, 21, 5, 50, 28, 47, 55, 6, 3, 54, 8, 21, 8, 16, 10]
abbrev dktX2_pivots_1 : List UInt8 := dkwX2_pivots_1 ++ dktX2_pivots_2
def dkwX2_pivots_0 : List UInt8 := [42, 180, 0, 17, 27, 50, 28, 47, 66, 3, 54, 5, 21, 5, 42, 180, 0, 30, 162, 0, 85, 21, 5, 27]
abbrev dktX2_pivots_0 : List UInt8 := dkwX2_pivots_0 ++ dktX2_pivots_1
theorem dksX2_pivots_0 : cX2_pivots.data.toList.drop 0 = dktX2_pivots_0 := by decide +kernel
theorem dksX2_pivots_1 : cX2_pivots.data.toList.drop 24 = dktX2_pivots_1 := dk_seg dksX2_pivots_0 24 rfl rfl
theorem dksX2_pivots_2 : cX2_pivots.data.toList.drop 48 = dktX2_pivots_2 := dk_seg dksX2_pivots_1 24 rfl rfl
theorem dksX2_pivots_3 : cX2_pivots.data.toList.drop 72 = dktX2_pivots_3 := dk_seg dksX2_pivots_2 24 rfl rfl
theorem dksX2_pivots_4 : cX2_pivots.data.toList.drop 94 = dktX2_pivots_4 := dk_seg dksX2_pivots_3 22 rfl rfl
theorem dksX2_pivots_5 : cX2_pivots.data.toList.drop 116 = dktX2_pivots_5 := dk_seg dksX2_pivots_4 22 rfl rfl
theorem dksX2_pivots_6 : cX2_pivots.data.toList.drop 140 = dktX2_pivots_6 := dk_seg dksX2_pivots_5 24 rfl rfl
theorem dksX2_pivots_7 : cX2_pivots.data.toList.drop 163 = dktX2_pivots_7 := dk_seg dksX2_pivots_6 23 rfl rfl
theorem dksX2_pivots_8 : cX2_pivots.data.toList.drop 186 = dktX2_pivots_8 := dk_seg dksX2_pivots_7 23 rfl rfl
theorem dX2_pivots_0 : decode cX2_pivots 0 = .ok (.aload_n 0, 1) := dk_42 (dk_at dksX2_pivots_0 0 rfl rfl)
theorem dX2_pivots_1 : decode cX2_pivots 1 = .ok (.getfield 17, 3) := dk_180 0 17 (dk_at dksX2_pivots_0 1 rfl rfl)
theorem dX2_pivots_4 : decode cX2_pivots 4 = .ok (.iload_n 1, 1) := dk_27 (dk_at dksX2_pivots_0 4 rfl rfl)
theorem dX2_pivots_5 : decode cX2_pivots 5 = .ok (.aaload, 1) := dk_50 (dk_at dksX2_pivots_0 5 rfl rfl)
theorem dX2_pivots_6 : decode cX2_pivots 6 = .ok (.iload_n 2, 1) := dk_28 (dk_at dksX2_pivots_0 6 rfl rfl)
theorem dX2_pivots_7 : decode cX2_pivots 7 = .ok (.laload, 1) := dk_47 (dk_at dksX2_pivots_0 7 rfl rfl)
theorem dX2_pivots_8 : decode cX2_pivots 8 = .ok (.lstore_n 3, 1) := dk_66 (dk_at dksX2_pivots_0 8 rfl rfl)
theorem dX2_pivots_9 : decode cX2_pivots 9 = .ok (.iconst 0, 1) := dk_3 (dk_at dksX2_pivots_0 9 rfl rfl)
theorem dX2_pivots_10 : decode cX2_pivots 10 = .ok (.istore 5, 2) := dk_54 5 (dk_at dksX2_pivots_0 10 rfl rfl)
theorem dX2_pivots_12 : decode cX2_pivots 12 = .ok (.iload 5, 2) := dk_21 5 (dk_at dksX2_pivots_0 12 rfl rfl)
theorem dX2_pivots_14 : decode cX2_pivots 14 = .ok (.aload_n 0, 1) := dk_42 (dk_at dksX2_pivots_0 14 rfl rfl)
theorem dX2_pivots_15 : decode cX2_pivots 15 = .ok (.getfield 30, 3) := dk_180 0 30 (dk_at dksX2_pivots_0 15 rfl rfl)
theorem dX2_pivots_18 : decode cX2_pivots 18 = .ok (.if_icmp .ge 85, 3) := dk_162 0 85 (dk_at dksX2_pivots_0 18 rfl rfl)
theorem dX2_pivots_21 : decode cX2_pivots 21 = .ok (.iload 5, 2) := dk_21 5 (dk_at dksX2_pivots_0 21 rfl rfl)
theorem dX2_pivots_23 : decode cX2_pivots 23 = .ok (.iload_n 1, 1) := dk_27 (dk_at dksX2_pivots_0 23 rfl rfl)
theorem dX2_pivots_24 : decode cX2_pivots 24 = .ok (.if_icmp .ne 6, 3) := dk_160 0 6 (dk_at dksX2_pivots_1 0 rfl rfl)
theorem dX2_pivots_27 : decode cX2_pivots 27 = .ok (.goto 70, 3) := dk_167 0 70 (dk_at dksX2_pivots_1 3 rfl rfl)
theorem dX2_pivots_30 : decode cX2_pivots 30 = .ok (.aload_n 0, 1) := dk_42 (dk_at dksX2_pivots_1 6 rfl rfl)
theorem dX2_pivots_31 : decode cX2_pivots 31 = .ok (.getfield 17, 3) := dk_180 0 17 (dk_at dksX2_pivots_1 7 rfl rfl)
theorem dX2_pivots_34 : decode cX2_pivots 34 = .ok (.iload 5, 2) := dk_21 5 (dk_at dksX2_pivots_1 10 rfl rfl)
theorem dX2_pivots_36 : decode cX2_pivots 36 = .ok (.aaload, 1) := dk_50 (dk_at dksX2_pivots_1 12 rfl rfl)
theorem dX2_pivots_37 : decode cX2_pivots 37 = .ok (.iload_n 2, 1) := dk_28 (dk_at dksX2_pivots_1 13 rfl rfl)
theorem dX2_pivots_38 : decode cX2_pivots 38 = .ok (.laload, 1) := dk_47 (dk_at dksX2_pivots_1 14 rfl rfl)
theorem dX2_pivots_39 : decode cX2_pivots 39 = .ok (.lstore 6, 2) := dk_55 6 (dk_at dksX2_pivots_1 15 rfl rfl)
theorem dX2_pivots_41 : decode cX2_pivots 41 = .ok (.iconst 0, 1) := dk_3 (dk_at dksX2_pivots_1 17 rfl rfl)
theorem dX2_pivots_42 : decode cX2_pivots 42 = .ok (.istore 8, 2) := dk_54 8 (dk_at dksX2_pivots_1 18 rfl rfl)
theorem dX2_pivots_44 : decode cX2_pivots 44 = .ok (.iload 8, 2) := dk_21 8 (dk_at dksX2_pivots_1 20 rfl rfl)
theorem dX2_pivots_46 : decode cX2_pivots 46 = .ok (.bipush 10, 2) := dk_16 10 (dk_at dksX2_pivots_1 22 rfl rfl)
theorem dX2_pivots_48 : decode cX2_pivots 48 = .ok (.if_icmp .gt 49, 3) := dk_163 0 49 (dk_at dksX2_pivots_2 0 rfl rfl)
theorem dX2_pivots_51 : decode cX2_pivots 51 = .ok (.aload_n 0, 1) := dk_42 (dk_at dksX2_pivots_2 3 rfl rfl)
theorem dX2_pivots_52 : decode cX2_pivots 52 = .ok (.getfield 17, 3) := dk_180 0 17 (dk_at dksX2_pivots_2 4 rfl rfl)
theorem dX2_pivots_55 : decode cX2_pivots 55 = .ok (.iload 5, 2) := dk_21 5 (dk_at dksX2_pivots_2 7 rfl rfl)
theorem dX2_pivots_57 : decode cX2_pivots 57 = .ok (.aaload, 1) := dk_50 (dk_at dksX2_pivots_2 9 rfl rfl)
theorem dX2_pivots_58 : decode cX2_pivots 58 = .ok (.iload 8, 2) := dk_21 8 (dk_at dksX2_pivots_2 10 rfl rfl)
theorem dX2_pivots_60 : decode cX2_pivots 60 = .ok (.aload_n 0, 1) := dk_42 (dk_at dksX2_pivots_2 12 rfl rfl)
theorem dX2_pivots_61 : decode cX2_pivots 61 = .ok (.getfield 17, 3) := dk_180 0 17 (dk_at dksX2_pivots_2 13 rfl rfl)
theorem dX2_pivots_64 : decode cX2_pivots 64 = .ok (.iload 5, 2) := dk_21 5 (dk_at dksX2_pivots_2 16 rfl rfl)
theorem dX2_pivots_66 : decode cX2_pivots 66 = .ok (.aaload, 1) := dk_50 (dk_at dksX2_pivots_2 18 rfl rfl)
theorem dX2_pivots_67 : decode cX2_pivots 67 = .ok (.iload 8, 2) := dk_21 8 (dk_at dksX2_pivots_2 19 rfl rfl)
theorem dX2_pivots_69 : decode cX2_pivots 69 = .ok (.laload, 1) := dk_47 (dk_at dksX2_pivots_2 21 rfl rfl)
theorem dX2_pivots_70 : decode cX2_pivots 70 = .ok (.lload_n 3, 1) := dk_33 (dk_at dksX2_pivots_2 22 rfl rfl)
theorem dX2_pivots_71 : decode cX2_pivots 71 = .ok (.lmul, 1) := dk_105 (dk_at dksX2_pivots_2 23 rfl rfl)
theorem dX2_pivots_72 : decode cX2_pivots 72 = .ok (.lload 6, 2) := dk_22 6 (dk_at dksX2_pivots_3 0 rfl rfl)
theorem dX2_pivots_74 : decode cX2_pivots 74 = .ok (.aload_n 0, 1) := dk_42 (dk_at dksX2_pivots_3 2 rfl rfl)
theorem dX2_pivots_75 : decode cX2_pivots 75 = .ok (.getfield 17, 3) := dk_180 0 17 (dk_at dksX2_pivots_3 3 rfl rfl)
theorem dX2_pivots_78 : decode cX2_pivots 78 = .ok (.iload_n 1, 1) := dk_27 (dk_at dksX2_pivots_3 6 rfl rfl)
theorem dX2_pivots_79 : decode cX2_pivots 79 = .ok (.aaload, 1) := dk_50 (dk_at dksX2_pivots_3 7 rfl rfl)
theorem dX2_pivots_80 : decode cX2_pivots 80 = .ok (.iload 8, 2) := dk_21 8 (dk_at dksX2_pivots_3 8 rfl rfl)
theorem dX2_pivots_82 : decode cX2_pivots 82 = .ok (.laload, 1) := dk_47 (dk_at dksX2_pivots_3 10 rfl rfl)
theorem dX2_pivots_83 : decode cX2_pivots 83 = .ok (.lmul, 1) := dk_105 (dk_at dksX2_pivots_3 11 rfl rfl)
theorem dX2_pivots_84 : decode cX2_pivots 84 = .ok (.lsub, 1) := dk_101 (dk_at dksX2_pivots_3 12 rfl rfl)
theorem dX2_pivots_85 : decode cX2_pivots 85 = .ok (.aload_n 0, 1) := dk_42 (dk_at dksX2_pivots_3 13 rfl rfl)
theorem dX2_pivots_86 : decode cX2_pivots 86 = .ok (.getfield 34, 3) := dk_180 0 34 (dk_at dksX2_pivots_3 14 rfl rfl)
theorem dX2_pivots_89 : decode cX2_pivots 89 = .ok (.ldiv, 1) := dk_109 (dk_at dksX2_pivots_3 17 rfl rfl)
theorem dX2_pivots_90 : decode cX2_pivots 90 = .ok (.lastore, 1) := dk_80 (dk_at dksX2_pivots_3 18 rfl rfl)
theorem dX2_pivots_91 : decode cX2_pivots 91 = .ok (.iinc 8 1, 3) := dk_132 8 1 (dk_at dksX2_pivots_3 19 rfl rfl)
theorem dX2_pivots_94 : decode cX2_pivots 94 = .ok (.goto (-50), 3) := dk_167 255 206 (dk_at dksX2_pivots_4 0 rfl rfl)
theorem dX2_pivots_97 : decode cX2_pivots 97 = .ok (.iinc 5 1, 3) := dk_132 5 1 (dk_at dksX2_pivots_4 3 rfl rfl)
theorem dX2_pivots_100 : decode cX2_pivots 100 = .ok (.goto (-88), 3) := dk_167 255 168 (dk_at dksX2_pivots_4 6 rfl rfl)
theorem dX2_pivots_103 : decode cX2_pivots 103 = .ok (.aload_n 0, 1) := dk_42 (dk_at dksX2_pivots_4 9 rfl rfl)
theorem dX2_pivots_104 : decode cX2_pivots 104 = .ok (.lload_n 3, 1) := dk_33 (dk_at dksX2_pivots_4 10 rfl rfl)
theorem dX2_pivots_105 : decode cX2_pivots 105 = .ok (.putfield 34, 3) := dk_181 0 34 (dk_at dksX2_pivots_4 11 rfl rfl)
theorem dX2_pivots_108 : decode cX2_pivots 108 = .ok (.aload_n 0, 1) := dk_42 (dk_at dksX2_pivots_4 14 rfl rfl)
theorem dX2_pivots_109 : decode cX2_pivots 109 = .ok (.getfield 24, 3) := dk_180 0 24 (dk_at dksX2_pivots_4 15 rfl rfl)
theorem dX2_pivots_112 : decode cX2_pivots 112 = .ok (.iload_n 1, 1) := dk_27 (dk_at dksX2_pivots_4 18 rfl rfl)
theorem dX2_pivots_113 : decode cX2_pivots 113 = .ok (.iload_n 2, 1) := dk_28 (dk_at dksX2_pivots_4 19 rfl rfl)
theorem dX2_pivots_114 : decode cX2_pivots 114 = .ok (.iastore, 1) := dk_79 (dk_at dksX2_pivots_4 20 rfl rfl)
theorem dX2_pivots_115 : decode cX2_pivots 115 = .ok (.aload_n 0, 1) := dk_42 (dk_at dksX2_pivots_4 21 rfl rfl)
theorem dX2_pivots_116 : decode cX2_pivots 116 = .ok (.getfield 34, 3) := dk_180 0 34 (dk_at dksX2_pivots_5 0 rfl rfl)
theorem dX2_pivots_119 : decode cX2_pivots 119 = .ok (.lconst 0, 1) := dk_9 (dk_at dksX2_pivots_5 3 rfl rfl)
theorem dX2_pivots_120 : decode cX2_pivots 120 = .ok (.lcmp, 1) := dk_148 (dk_at dksX2_pivots_5 4 rfl rfl)
theorem dX2_pivots_121 : decode cX2_pivots 121 = .ok (.ifCond .le 4, 3) := dk_158 0 4 (dk_at dksX2_pivots_5 5 rfl rfl)
theorem dX2_pivots_124 : decode cX2_pivots 124 = .ok (.return_, 1) := dk_177 (dk_at dksX2_pivots_5 8 rfl rfl)
theorem dX2_pivots_125 : decode cX2_pivots 125 = .ok (.aload_n 0, 1) := dk_42 (dk_at dksX2_pivots_5 9 rfl rfl)
theorem dX2_pivots_126 : decode cX2_pivots 126 = .ok (.aload_n 0, 1) := dk_42 (dk_at dksX2_pivots_5 10 rfl rfl)
theorem dX2_pivots_127 : decode cX2_pivots 127 = .ok (.getfield 34, 3) := dk_180 0 34 (dk_at dksX2_pivots_5 11 rfl rfl)
theorem dX2_pivots_130 : decode cX2_pivots 130 = .ok (.lneg, 1) := dk_117 (dk_at dksX2_pivots_5 14 rfl rfl)
theorem dX2_pivots_131 : decode cX2_pivots 131 = .ok (.putfield 34, 3) := dk_181 0 34 (dk_at dksX2_pivots_5 15 rfl rfl)
theorem dX2_pivots_134 : decode cX2_pivots 134 = .ok (.iconst 0, 1) := dk_3 (dk_at dksX2_pivots_5 18 rfl rfl)
theorem dX2_pivots_135 : decode cX2_pivots 135 = .ok (.istore 5, 2) := dk_54 5 (dk_at dksX2_pivots_5 19 rfl rfl)
theorem dX2_pivots_137 : decode cX2_pivots 137 = .ok (.iload 5, 2) := dk_21 5 (dk_at dksX2_pivots_5 21 rfl rfl)
theorem dX2_pivots_139 : decode cX2_pivots 139 = .ok (.aload_n 0, 1) := dk_42 (dk_at dksX2_pivots_5 23 rfl rfl)
theorem dX2_pivots_140 : decode cX2_pivots 140 = .ok (.getfield 30, 3) := dk_180 0 30 (dk_at dksX2_pivots_6 0 rfl rfl)
theorem dX2_pivots_143 : decode cX2_pivots 143 = .ok (.if_icmp .ge 46, 3) := dk_162 0 46 (dk_at dksX2_pivots_6 3 rfl rfl)
theorem dX2_pivots_146 : decode cX2_pivots 146 = .ok (.iconst 0, 1) := dk_3 (dk_at dksX2_pivots_6 6 rfl rfl)
theorem dX2_pivots_147 : decode cX2_pivots 147 = .ok (.istore 6, 2) := dk_54 6 (dk_at dksX2_pivots_6 7 rfl rfl)
theorem dX2_pivots_149 : decode cX2_pivots 149 = .ok (.iload 6, 2) := dk_21 6 (dk_at dksX2_pivots_6 9 rfl rfl)
theorem dX2_pivots_151 : decode cX2_pivots 151 = .ok (.bipush 10, 2) := dk_16 10 (dk_at dksX2_pivots_6 11 rfl rfl)
theorem dX2_pivots_153 : decode cX2_pivots 153 = .ok (.if_icmp .gt 30, 3) := dk_163 0 30 (dk_at dksX2_pivots_6 13 rfl rfl)
theorem dX2_pivots_156 : decode cX2_pivots 156 = .ok (.aload_n 0, 1) := dk_42 (dk_at dksX2_pivots_6 16 rfl rfl)
theorem dX2_pivots_157 : decode cX2_pivots 157 = .ok (.getfield 17, 3) := dk_180 0 17 (dk_at dksX2_pivots_6 17 rfl rfl)
theorem dX2_pivots_160 : decode cX2_pivots 160 = .ok (.iload 5, 2) := dk_21 5 (dk_at dksX2_pivots_6 20 rfl rfl)
theorem dX2_pivots_162 : decode cX2_pivots 162 = .ok (.aaload, 1) := dk_50 (dk_at dksX2_pivots_6 22 rfl rfl)
theorem dX2_pivots_163 : decode cX2_pivots 163 = .ok (.iload 6, 2) := dk_21 6 (dk_at dksX2_pivots_7 0 rfl rfl)
theorem dX2_pivots_165 : decode cX2_pivots 165 = .ok (.aload_n 0, 1) := dk_42 (dk_at dksX2_pivots_7 2 rfl rfl)
theorem dX2_pivots_166 : decode cX2_pivots 166 = .ok (.getfield 17, 3) := dk_180 0 17 (dk_at dksX2_pivots_7 3 rfl rfl)
theorem dX2_pivots_169 : decode cX2_pivots 169 = .ok (.iload 5, 2) := dk_21 5 (dk_at dksX2_pivots_7 6 rfl rfl)
theorem dX2_pivots_171 : decode cX2_pivots 171 = .ok (.aaload, 1) := dk_50 (dk_at dksX2_pivots_7 8 rfl rfl)
theorem dX2_pivots_172 : decode cX2_pivots 172 = .ok (.iload 6, 2) := dk_21 6 (dk_at dksX2_pivots_7 9 rfl rfl)
theorem dX2_pivots_174 : decode cX2_pivots 174 = .ok (.laload, 1) := dk_47 (dk_at dksX2_pivots_7 11 rfl rfl)
theorem dX2_pivots_175 : decode cX2_pivots 175 = .ok (.lneg, 1) := dk_117 (dk_at dksX2_pivots_7 12 rfl rfl)
theorem dX2_pivots_176 : decode cX2_pivots 176 = .ok (.lastore, 1) := dk_80 (dk_at dksX2_pivots_7 13 rfl rfl)
theorem dX2_pivots_177 : decode cX2_pivots 177 = .ok (.iinc 6 1, 3) := dk_132 6 1 (dk_at dksX2_pivots_7 14 rfl rfl)
theorem dX2_pivots_180 : decode cX2_pivots 180 = .ok (.goto (-31), 3) := dk_167 255 225 (dk_at dksX2_pivots_7 17 rfl rfl)
theorem dX2_pivots_183 : decode cX2_pivots 183 = .ok (.iinc 5 1, 3) := dk_132 5 1 (dk_at dksX2_pivots_7 20 rfl rfl)
theorem dX2_pivots_186 : decode cX2_pivots 186 = .ok (.goto (-49), 3) := dk_167 255 207 (dk_at dksX2_pivots_8 0 rfl rfl)
theorem dX2_pivots_189 : decode cX2_pivots 189 = .ok (.return_, 1) := dk_177 (dk_at dksX2_pivots_8 3 rfl rfl)
abbrev cX2_fault : ByteArray := prog_3_method_6_code
def yX2_fault : MethodName := ⟨RX2, "fault", "(I)I"⟩
def dkwX2_fault_1 : List UInt8 := [46, 172]
abbrev dktX2_fault_1 : List UInt8 := dkwX2_fault_1 ++ []
def dkwX2_fault_0 : List UInt8 := [4, 61, 42, 27, 28, 182, 0, 84, 153, 0, 9, 132, 2, 1, 167, 255, 244, 42, 180, 0, 20, 28, 4, 100]
abbrev dktX2_fault_0 : List UInt8 := dkwX2_fault_0 ++ dktX2_fault_1
theorem dksX2_fault_0 : cX2_fault.data.toList.drop 0 = dktX2_fault_0 := by decide +kernel
theorem dksX2_fault_1 : cX2_fault.data.toList.drop 24 = dktX2_fault_1 := dk_seg dksX2_fault_0 24 rfl rfl
theorem dX2_fault_0 : decode cX2_fault 0 = .ok (.iconst 1, 1) := dk_4 (dk_at dksX2_fault_0 0 rfl rfl)
theorem dX2_fault_1 : decode cX2_fault 1 = .ok (.istore_n 2, 1) := dk_61 (dk_at dksX2_fault_0 1 rfl rfl)
theorem dX2_fault_2 : decode cX2_fault 2 = .ok (.aload_n 0, 1) := dk_42 (dk_at dksX2_fault_0 2 rfl rfl)
theorem dX2_fault_3 : decode cX2_fault 3 = .ok (.iload_n 1, 1) := dk_27 (dk_at dksX2_fault_0 3 rfl rfl)
theorem dX2_fault_4 : decode cX2_fault 4 = .ok (.iload_n 2, 1) := dk_28 (dk_at dksX2_fault_0 4 rfl rfl)
theorem dX2_fault_5 : decode cX2_fault 5 = .ok (.invokevirtual 84, 3) := dk_182 0 84 (dk_at dksX2_fault_0 5 rfl rfl)
theorem dX2_fault_8 : decode cX2_fault 8 = .ok (.ifCond .eq 9, 3) := dk_153 0 9 (dk_at dksX2_fault_0 8 rfl rfl)
theorem dX2_fault_11 : decode cX2_fault 11 = .ok (.iinc 2 1, 3) := dk_132 2 1 (dk_at dksX2_fault_0 11 rfl rfl)
theorem dX2_fault_14 : decode cX2_fault 14 = .ok (.goto (-12), 3) := dk_167 255 244 (dk_at dksX2_fault_0 14 rfl rfl)
theorem dX2_fault_17 : decode cX2_fault 17 = .ok (.aload_n 0, 1) := dk_42 (dk_at dksX2_fault_0 17 rfl rfl)
theorem dX2_fault_18 : decode cX2_fault 18 = .ok (.getfield 20, 3) := dk_180 0 20 (dk_at dksX2_fault_0 18 rfl rfl)
theorem dX2_fault_21 : decode cX2_fault 21 = .ok (.iload_n 2, 1) := dk_28 (dk_at dksX2_fault_0 21 rfl rfl)
theorem dX2_fault_22 : decode cX2_fault 22 = .ok (.iconst 1, 1) := dk_4 (dk_at dksX2_fault_0 22 rfl rfl)
theorem dX2_fault_23 : decode cX2_fault 23 = .ok (.isub, 1) := dk_100 (dk_at dksX2_fault_0 23 rfl rfl)
theorem dX2_fault_24 : decode cX2_fault 24 = .ok (.iaload, 1) := dk_46 (dk_at dksX2_fault_1 0 rfl rfl)
theorem dX2_fault_25 : decode cX2_fault 25 = .ok (.ireturn, 1) := dk_172 (dk_at dksX2_fault_1 1 rfl rfl)
abbrev cX2_betters : ByteArray := prog_3_method_10_code
def yX2_betters : MethodName := ⟨RX2, "betters", "(I)Z"⟩
def dkwX2_betters_3 : List UInt8 := [180, 0, 27, 21, 4, 29, 79, 4, 172, 132, 3, 254, 167, 255, 209, 132, 2, 1, 167, 255, 171, 3, 172]
abbrev dktX2_betters_3 : List UInt8 := dkwX2_betters_3 ++ []
def dkwX2_betters_2 : List UInt8 := [155, 0, 6, 167, 0, 28, 42, 28, 29, 182, 0, 103, 54, 4, 42, 21, 4, 28, 182, 0, 81, 42]
abbrev dktX2_betters_2 : List UInt8 := dkwX2_betters_2 ++ dktX2_betters_3
def dkwX2_betters_1 : List UInt8 := [182, 0, 96, 153, 0, 6, 167, 0, 55, 4, 62, 29, 2, 161, 0, 48, 42, 28, 29, 182, 0, 99, 9, 148]
abbrev dktX2_betters_1 : List UInt8 := dkwX2_betters_1 ++ dktX2_betters_2
def dkwX2_betters_0 : List UInt8 := [3, 61, 28, 42, 180, 0, 3, 182, 0, 62, 162, 0, 80, 27, 28, 184, 0, 58, 153, 0, 66, 42, 28]
abbrev dktX2_betters_0 : List UInt8 := dkwX2_betters_0 ++ dktX2_betters_1
theorem dksX2_betters_0 : cX2_betters.data.toList.drop 0 = dktX2_betters_0 := by decide +kernel
theorem dksX2_betters_1 : cX2_betters.data.toList.drop 23 = dktX2_betters_1 := dk_seg dksX2_betters_0 23 rfl rfl
theorem dksX2_betters_2 : cX2_betters.data.toList.drop 47 = dktX2_betters_2 := dk_seg dksX2_betters_1 24 rfl rfl
theorem dksX2_betters_3 : cX2_betters.data.toList.drop 69 = dktX2_betters_3 := dk_seg dksX2_betters_2 22 rfl rfl
theorem dX2_betters_0 : decode cX2_betters 0 = .ok (.iconst 0, 1) := dk_3 (dk_at dksX2_betters_0 0 rfl rfl)
theorem dX2_betters_1 : decode cX2_betters 1 = .ok (.istore_n 2, 1) := dk_61 (dk_at dksX2_betters_0 1 rfl rfl)
theorem dX2_betters_2 : decode cX2_betters 2 = .ok (.iload_n 2, 1) := dk_28 (dk_at dksX2_betters_0 2 rfl rfl)
theorem dX2_betters_3 : decode cX2_betters 3 = .ok (.aload_n 0, 1) := dk_42 (dk_at dksX2_betters_0 3 rfl rfl)
theorem dX2_betters_4 : decode cX2_betters 4 = .ok (.getfield 3, 3) := dk_180 0 3 (dk_at dksX2_betters_0 4 rfl rfl)
theorem dX2_betters_7 : decode cX2_betters 7 = .ok (.invokevirtual 62, 3) := dk_182 0 62 (dk_at dksX2_betters_0 7 rfl rfl)
theorem dX2_betters_10 : decode cX2_betters 10 = .ok (.if_icmp .ge 80, 3) := dk_162 0 80 (dk_at dksX2_betters_0 10 rfl rfl)
theorem dX2_betters_13 : decode cX2_betters 13 = .ok (.iload_n 1, 1) := dk_27 (dk_at dksX2_betters_0 13 rfl rfl)
theorem dX2_betters_14 : decode cX2_betters 14 = .ok (.iload_n 2, 1) := dk_28 (dk_at dksX2_betters_0 14 rfl rfl)
theorem dX2_betters_15 : decode cX2_betters 15 = .ok (.invokestatic 58, 3) := dk_184 0 58 (dk_at dksX2_betters_0 15 rfl rfl)
theorem dX2_betters_18 : decode cX2_betters 18 = .ok (.ifCond .eq 66, 3) := dk_153 0 66 (dk_at dksX2_betters_0 18 rfl rfl)
theorem dX2_betters_21 : decode cX2_betters 21 = .ok (.aload_n 0, 1) := dk_42 (dk_at dksX2_betters_0 21 rfl rfl)
theorem dX2_betters_22 : decode cX2_betters 22 = .ok (.iload_n 2, 1) := dk_28 (dk_at dksX2_betters_0 22 rfl rfl)
theorem dX2_betters_23 : decode cX2_betters 23 = .ok (.invokevirtual 96, 3) := dk_182 0 96 (dk_at dksX2_betters_1 0 rfl rfl)
theorem dX2_betters_26 : decode cX2_betters 26 = .ok (.ifCond .eq 6, 3) := dk_153 0 6 (dk_at dksX2_betters_1 3 rfl rfl)
theorem dX2_betters_29 : decode cX2_betters 29 = .ok (.goto 55, 3) := dk_167 0 55 (dk_at dksX2_betters_1 6 rfl rfl)
theorem dX2_betters_32 : decode cX2_betters 32 = .ok (.iconst 1, 1) := dk_4 (dk_at dksX2_betters_1 9 rfl rfl)
theorem dX2_betters_33 : decode cX2_betters 33 = .ok (.istore_n 3, 1) := dk_62 (dk_at dksX2_betters_1 10 rfl rfl)
theorem dX2_betters_34 : decode cX2_betters 34 = .ok (.iload_n 3, 1) := dk_29 (dk_at dksX2_betters_1 11 rfl rfl)
theorem dX2_betters_35 : decode cX2_betters 35 = .ok (.iconst (-1), 1) := dk_2 (dk_at dksX2_betters_1 12 rfl rfl)
theorem dX2_betters_36 : decode cX2_betters 36 = .ok (.if_icmp .lt 48, 3) := dk_161 0 48 (dk_at dksX2_betters_1 13 rfl rfl)
theorem dX2_betters_39 : decode cX2_betters 39 = .ok (.aload_n 0, 1) := dk_42 (dk_at dksX2_betters_1 16 rfl rfl)
theorem dX2_betters_40 : decode cX2_betters 40 = .ok (.iload_n 2, 1) := dk_28 (dk_at dksX2_betters_1 17 rfl rfl)
theorem dX2_betters_41 : decode cX2_betters 41 = .ok (.iload_n 3, 1) := dk_29 (dk_at dksX2_betters_1 18 rfl rfl)
theorem dX2_betters_42 : decode cX2_betters 42 = .ok (.invokevirtual 99, 3) := dk_182 0 99 (dk_at dksX2_betters_1 19 rfl rfl)
theorem dX2_betters_45 : decode cX2_betters 45 = .ok (.lconst 0, 1) := dk_9 (dk_at dksX2_betters_1 22 rfl rfl)
theorem dX2_betters_46 : decode cX2_betters 46 = .ok (.lcmp, 1) := dk_148 (dk_at dksX2_betters_1 23 rfl rfl)
theorem dX2_betters_47 : decode cX2_betters 47 = .ok (.ifCond .lt 6, 3) := dk_155 0 6 (dk_at dksX2_betters_2 0 rfl rfl)
theorem dX2_betters_50 : decode cX2_betters 50 = .ok (.goto 28, 3) := dk_167 0 28 (dk_at dksX2_betters_2 3 rfl rfl)
theorem dX2_betters_53 : decode cX2_betters 53 = .ok (.aload_n 0, 1) := dk_42 (dk_at dksX2_betters_2 6 rfl rfl)
theorem dX2_betters_54 : decode cX2_betters 54 = .ok (.iload_n 2, 1) := dk_28 (dk_at dksX2_betters_2 7 rfl rfl)
theorem dX2_betters_55 : decode cX2_betters 55 = .ok (.iload_n 3, 1) := dk_29 (dk_at dksX2_betters_2 8 rfl rfl)
theorem dX2_betters_56 : decode cX2_betters 56 = .ok (.invokevirtual 103, 3) := dk_182 0 103 (dk_at dksX2_betters_2 9 rfl rfl)
theorem dX2_betters_59 : decode cX2_betters 59 = .ok (.istore 4, 2) := dk_54 4 (dk_at dksX2_betters_2 12 rfl rfl)
theorem dX2_betters_61 : decode cX2_betters 61 = .ok (.aload_n 0, 1) := dk_42 (dk_at dksX2_betters_2 14 rfl rfl)
theorem dX2_betters_62 : decode cX2_betters 62 = .ok (.iload 4, 2) := dk_21 4 (dk_at dksX2_betters_2 15 rfl rfl)
theorem dX2_betters_64 : decode cX2_betters 64 = .ok (.iload_n 2, 1) := dk_28 (dk_at dksX2_betters_2 17 rfl rfl)
theorem dX2_betters_65 : decode cX2_betters 65 = .ok (.invokevirtual 81, 3) := dk_182 0 81 (dk_at dksX2_betters_2 18 rfl rfl)
theorem dX2_betters_68 : decode cX2_betters 68 = .ok (.aload_n 0, 1) := dk_42 (dk_at dksX2_betters_2 21 rfl rfl)
theorem dX2_betters_69 : decode cX2_betters 69 = .ok (.getfield 27, 3) := dk_180 0 27 (dk_at dksX2_betters_3 0 rfl rfl)
theorem dX2_betters_72 : decode cX2_betters 72 = .ok (.iload 4, 2) := dk_21 4 (dk_at dksX2_betters_3 3 rfl rfl)
theorem dX2_betters_74 : decode cX2_betters 74 = .ok (.iload_n 3, 1) := dk_29 (dk_at dksX2_betters_3 5 rfl rfl)
theorem dX2_betters_75 : decode cX2_betters 75 = .ok (.iastore, 1) := dk_79 (dk_at dksX2_betters_3 6 rfl rfl)
theorem dX2_betters_76 : decode cX2_betters 76 = .ok (.iconst 1, 1) := dk_4 (dk_at dksX2_betters_3 7 rfl rfl)
theorem dX2_betters_77 : decode cX2_betters 77 = .ok (.ireturn, 1) := dk_172 (dk_at dksX2_betters_3 8 rfl rfl)
theorem dX2_betters_78 : decode cX2_betters 78 = .ok (.iinc 3 (-2), 3) := dk_132 3 254 (dk_at dksX2_betters_3 9 rfl rfl)
theorem dX2_betters_81 : decode cX2_betters 81 = .ok (.goto (-47), 3) := dk_167 255 209 (dk_at dksX2_betters_3 12 rfl rfl)
theorem dX2_betters_84 : decode cX2_betters 84 = .ok (.iinc 2 1, 3) := dk_132 2 1 (dk_at dksX2_betters_3 15 rfl rfl)
theorem dX2_betters_87 : decode cX2_betters 87 = .ok (.goto (-85), 3) := dk_167 255 171 (dk_at dksX2_betters_3 18 rfl rfl)
theorem dX2_betters_90 : decode cX2_betters 90 = .ok (.iconst 0, 1) := dk_3 (dk_at dksX2_betters_3 21 rfl rfl)
theorem dX2_betters_91 : decode cX2_betters 91 = .ok (.ireturn, 1) := dk_172 (dk_at dksX2_betters_3 22 rfl rfl)
abbrev cX2_isBasic : ByteArray := prog_3_method_7_code
def yX2_isBasic : MethodName := ⟨RX2, "isBasic", "(I)Z"⟩
def dkwX2_isBasic_1 : List UInt8 := [132, 2, 1, 167, 255, 233, 3, 172]
abbrev dktX2_isBasic_1 : List UInt8 := dkwX2_isBasic_1 ++ []
def dkwX2_isBasic_0 : List UInt8 := [3, 61, 28, 42, 180, 0, 30, 162, 0, 21, 42, 180, 0, 24, 28, 46, 27, 160, 0, 5, 4, 172]
abbrev dktX2_isBasic_0 : List UInt8 := dkwX2_isBasic_0 ++ dktX2_isBasic_1
theorem dksX2_isBasic_0 : cX2_isBasic.data.toList.drop 0 = dktX2_isBasic_0 := by decide +kernel
theorem dksX2_isBasic_1 : cX2_isBasic.data.toList.drop 22 = dktX2_isBasic_1 := dk_seg dksX2_isBasic_0 22 rfl rfl
theorem dX2_isBasic_0 : decode cX2_isBasic 0 = .ok (.iconst 0, 1) := dk_3 (dk_at dksX2_isBasic_0 0 rfl rfl)
theorem dX2_isBasic_1 : decode cX2_isBasic 1 = .ok (.istore_n 2, 1) := dk_61 (dk_at dksX2_isBasic_0 1 rfl rfl)
theorem dX2_isBasic_2 : decode cX2_isBasic 2 = .ok (.iload_n 2, 1) := dk_28 (dk_at dksX2_isBasic_0 2 rfl rfl)
theorem dX2_isBasic_3 : decode cX2_isBasic 3 = .ok (.aload_n 0, 1) := dk_42 (dk_at dksX2_isBasic_0 3 rfl rfl)
theorem dX2_isBasic_4 : decode cX2_isBasic 4 = .ok (.getfield 30, 3) := dk_180 0 30 (dk_at dksX2_isBasic_0 4 rfl rfl)
theorem dX2_isBasic_7 : decode cX2_isBasic 7 = .ok (.if_icmp .ge 21, 3) := dk_162 0 21 (dk_at dksX2_isBasic_0 7 rfl rfl)
theorem dX2_isBasic_10 : decode cX2_isBasic 10 = .ok (.aload_n 0, 1) := dk_42 (dk_at dksX2_isBasic_0 10 rfl rfl)
theorem dX2_isBasic_11 : decode cX2_isBasic 11 = .ok (.getfield 24, 3) := dk_180 0 24 (dk_at dksX2_isBasic_0 11 rfl rfl)
theorem dX2_isBasic_14 : decode cX2_isBasic 14 = .ok (.iload_n 2, 1) := dk_28 (dk_at dksX2_isBasic_0 14 rfl rfl)
theorem dX2_isBasic_15 : decode cX2_isBasic 15 = .ok (.iaload, 1) := dk_46 (dk_at dksX2_isBasic_0 15 rfl rfl)
theorem dX2_isBasic_16 : decode cX2_isBasic 16 = .ok (.iload_n 1, 1) := dk_27 (dk_at dksX2_isBasic_0 16 rfl rfl)
theorem dX2_isBasic_17 : decode cX2_isBasic 17 = .ok (.if_icmp .ne 5, 3) := dk_160 0 5 (dk_at dksX2_isBasic_0 17 rfl rfl)
theorem dX2_isBasic_20 : decode cX2_isBasic 20 = .ok (.iconst 1, 1) := dk_4 (dk_at dksX2_isBasic_0 20 rfl rfl)
theorem dX2_isBasic_21 : decode cX2_isBasic 21 = .ok (.ireturn, 1) := dk_172 (dk_at dksX2_isBasic_0 21 rfl rfl)
theorem dX2_isBasic_22 : decode cX2_isBasic 22 = .ok (.iinc 2 1, 3) := dk_132 2 1 (dk_at dksX2_isBasic_1 0 rfl rfl)
theorem dX2_isBasic_25 : decode cX2_isBasic 25 = .ok (.goto (-23), 3) := dk_167 255 233 (dk_at dksX2_isBasic_1 3 rfl rfl)
theorem dX2_isBasic_28 : decode cX2_isBasic 28 = .ok (.iconst 0, 1) := dk_3 (dk_at dksX2_isBasic_1 6 rfl rfl)
theorem dX2_isBasic_29 : decode cX2_isBasic 29 = .ok (.ireturn, 1) := dk_172 (dk_at dksX2_isBasic_1 7 rfl rfl)
abbrev cX2_price : ByteArray := prog_3_method_8_code
def yX2_price : MethodName := ⟨RX2, "price", "(II)J"⟩
def dkwX2_price_3 : List UInt8 := [47, 105, 101, 66, 132, 5, 1, 167, 255, 195, 33, 173]
abbrev dktX2_price_3 : List UInt8 := dkwX2_price_3 ++ []
def dkwX2_price_2 : List UInt8 := [42, 180, 0, 3, 42, 180, 0, 24, 21, 5, 46, 182, 0, 87, 104, 133, 42, 180, 0, 17, 21, 5, 50, 27]
abbrev dktX2_price_2 : List UInt8 := dkwX2_price_2 ++ dktX2_price_3
def dkwX2_price_1 : List UInt8 := [162, 0, 58, 42, 180, 0, 24, 21, 5, 46, 2, 159, 0, 41, 33, 42, 180, 0, 27, 21, 5, 46, 28, 104]
abbrev dktX2_price_1 : List UInt8 := dkwX2_price_1 ++ dktX2_price_2
def dkwX2_price_0 : List UInt8 := [42, 180, 0, 3, 27, 182, 0, 87, 133, 42, 180, 0, 34, 105, 66, 3, 54, 5, 21, 5, 42, 180, 0, 30]
abbrev dktX2_price_0 : List UInt8 := dkwX2_price_0 ++ dktX2_price_1
theorem dksX2_price_0 : cX2_price.data.toList.drop 0 = dktX2_price_0 := by decide +kernel
theorem dksX2_price_1 : cX2_price.data.toList.drop 24 = dktX2_price_1 := dk_seg dksX2_price_0 24 rfl rfl
theorem dksX2_price_2 : cX2_price.data.toList.drop 48 = dktX2_price_2 := dk_seg dksX2_price_1 24 rfl rfl
theorem dksX2_price_3 : cX2_price.data.toList.drop 72 = dktX2_price_3 := dk_seg dksX2_price_2 24 rfl rfl
theorem dX2_price_0 : decode cX2_price 0 = .ok (.aload_n 0, 1) := dk_42 (dk_at dksX2_price_0 0 rfl rfl)
theorem dX2_price_1 : decode cX2_price 1 = .ok (.getfield 3, 3) := dk_180 0 3 (dk_at dksX2_price_0 1 rfl rfl)
theorem dX2_price_4 : decode cX2_price 4 = .ok (.iload_n 1, 1) := dk_27 (dk_at dksX2_price_0 4 rfl rfl)
theorem dX2_price_5 : decode cX2_price 5 = .ok (.invokevirtual 87, 3) := dk_182 0 87 (dk_at dksX2_price_0 5 rfl rfl)
theorem dX2_price_8 : decode cX2_price 8 = .ok (.i2l, 1) := dk_133 (dk_at dksX2_price_0 8 rfl rfl)
theorem dX2_price_9 : decode cX2_price 9 = .ok (.aload_n 0, 1) := dk_42 (dk_at dksX2_price_0 9 rfl rfl)
theorem dX2_price_10 : decode cX2_price 10 = .ok (.getfield 34, 3) := dk_180 0 34 (dk_at dksX2_price_0 10 rfl rfl)
theorem dX2_price_13 : decode cX2_price 13 = .ok (.lmul, 1) := dk_105 (dk_at dksX2_price_0 13 rfl rfl)
theorem dX2_price_14 : decode cX2_price 14 = .ok (.lstore_n 3, 1) := dk_66 (dk_at dksX2_price_0 14 rfl rfl)
theorem dX2_price_15 : decode cX2_price 15 = .ok (.iconst 0, 1) := dk_3 (dk_at dksX2_price_0 15 rfl rfl)
theorem dX2_price_16 : decode cX2_price 16 = .ok (.istore 5, 2) := dk_54 5 (dk_at dksX2_price_0 16 rfl rfl)
theorem dX2_price_18 : decode cX2_price 18 = .ok (.iload 5, 2) := dk_21 5 (dk_at dksX2_price_0 18 rfl rfl)
theorem dX2_price_20 : decode cX2_price 20 = .ok (.aload_n 0, 1) := dk_42 (dk_at dksX2_price_0 20 rfl rfl)
theorem dX2_price_21 : decode cX2_price 21 = .ok (.getfield 30, 3) := dk_180 0 30 (dk_at dksX2_price_0 21 rfl rfl)
theorem dX2_price_24 : decode cX2_price 24 = .ok (.if_icmp .ge 58, 3) := dk_162 0 58 (dk_at dksX2_price_1 0 rfl rfl)
theorem dX2_price_27 : decode cX2_price 27 = .ok (.aload_n 0, 1) := dk_42 (dk_at dksX2_price_1 3 rfl rfl)
theorem dX2_price_28 : decode cX2_price 28 = .ok (.getfield 24, 3) := dk_180 0 24 (dk_at dksX2_price_1 4 rfl rfl)
theorem dX2_price_31 : decode cX2_price 31 = .ok (.iload 5, 2) := dk_21 5 (dk_at dksX2_price_1 7 rfl rfl)
theorem dX2_price_33 : decode cX2_price 33 = .ok (.iaload, 1) := dk_46 (dk_at dksX2_price_1 9 rfl rfl)
theorem dX2_price_34 : decode cX2_price 34 = .ok (.iconst (-1), 1) := dk_2 (dk_at dksX2_price_1 10 rfl rfl)
theorem dX2_price_35 : decode cX2_price 35 = .ok (.if_icmp .eq 41, 3) := dk_159 0 41 (dk_at dksX2_price_1 11 rfl rfl)
theorem dX2_price_38 : decode cX2_price 38 = .ok (.lload_n 3, 1) := dk_33 (dk_at dksX2_price_1 14 rfl rfl)
theorem dX2_price_39 : decode cX2_price 39 = .ok (.aload_n 0, 1) := dk_42 (dk_at dksX2_price_1 15 rfl rfl)
theorem dX2_price_40 : decode cX2_price 40 = .ok (.getfield 27, 3) := dk_180 0 27 (dk_at dksX2_price_1 16 rfl rfl)
theorem dX2_price_43 : decode cX2_price 43 = .ok (.iload 5, 2) := dk_21 5 (dk_at dksX2_price_1 19 rfl rfl)
theorem dX2_price_45 : decode cX2_price 45 = .ok (.iaload, 1) := dk_46 (dk_at dksX2_price_1 21 rfl rfl)
theorem dX2_price_46 : decode cX2_price 46 = .ok (.iload_n 2, 1) := dk_28 (dk_at dksX2_price_1 22 rfl rfl)
theorem dX2_price_47 : decode cX2_price 47 = .ok (.imul, 1) := dk_104 (dk_at dksX2_price_1 23 rfl rfl)
theorem dX2_price_48 : decode cX2_price 48 = .ok (.aload_n 0, 1) := dk_42 (dk_at dksX2_price_2 0 rfl rfl)
theorem dX2_price_49 : decode cX2_price 49 = .ok (.getfield 3, 3) := dk_180 0 3 (dk_at dksX2_price_2 1 rfl rfl)
theorem dX2_price_52 : decode cX2_price 52 = .ok (.aload_n 0, 1) := dk_42 (dk_at dksX2_price_2 4 rfl rfl)
theorem dX2_price_53 : decode cX2_price 53 = .ok (.getfield 24, 3) := dk_180 0 24 (dk_at dksX2_price_2 5 rfl rfl)
theorem dX2_price_56 : decode cX2_price 56 = .ok (.iload 5, 2) := dk_21 5 (dk_at dksX2_price_2 8 rfl rfl)
theorem dX2_price_58 : decode cX2_price 58 = .ok (.iaload, 1) := dk_46 (dk_at dksX2_price_2 10 rfl rfl)
theorem dX2_price_59 : decode cX2_price 59 = .ok (.invokevirtual 87, 3) := dk_182 0 87 (dk_at dksX2_price_2 11 rfl rfl)
theorem dX2_price_62 : decode cX2_price 62 = .ok (.imul, 1) := dk_104 (dk_at dksX2_price_2 14 rfl rfl)
theorem dX2_price_63 : decode cX2_price 63 = .ok (.i2l, 1) := dk_133 (dk_at dksX2_price_2 15 rfl rfl)
theorem dX2_price_64 : decode cX2_price 64 = .ok (.aload_n 0, 1) := dk_42 (dk_at dksX2_price_2 16 rfl rfl)
theorem dX2_price_65 : decode cX2_price 65 = .ok (.getfield 17, 3) := dk_180 0 17 (dk_at dksX2_price_2 17 rfl rfl)
theorem dX2_price_68 : decode cX2_price 68 = .ok (.iload 5, 2) := dk_21 5 (dk_at dksX2_price_2 20 rfl rfl)
theorem dX2_price_70 : decode cX2_price 70 = .ok (.aaload, 1) := dk_50 (dk_at dksX2_price_2 22 rfl rfl)
theorem dX2_price_71 : decode cX2_price 71 = .ok (.iload_n 1, 1) := dk_27 (dk_at dksX2_price_2 23 rfl rfl)
theorem dX2_price_72 : decode cX2_price 72 = .ok (.laload, 1) := dk_47 (dk_at dksX2_price_3 0 rfl rfl)
theorem dX2_price_73 : decode cX2_price 73 = .ok (.lmul, 1) := dk_105 (dk_at dksX2_price_3 1 rfl rfl)
theorem dX2_price_74 : decode cX2_price 74 = .ok (.lsub, 1) := dk_101 (dk_at dksX2_price_3 2 rfl rfl)
theorem dX2_price_75 : decode cX2_price 75 = .ok (.lstore_n 3, 1) := dk_66 (dk_at dksX2_price_3 3 rfl rfl)
theorem dX2_price_76 : decode cX2_price 76 = .ok (.iinc 5 1, 3) := dk_132 5 1 (dk_at dksX2_price_3 4 rfl rfl)
theorem dX2_price_79 : decode cX2_price 79 = .ok (.goto (-61), 3) := dk_167 255 195 (dk_at dksX2_price_3 7 rfl rfl)
theorem dX2_price_82 : decode cX2_price 82 = .ok (.lload_n 3, 1) := dk_33 (dk_at dksX2_price_3 10 rfl rfl)
theorem dX2_price_83 : decode cX2_price 83 = .ok (.lreturn, 1) := dk_173 (dk_at dksX2_price_3 11 rfl rfl)
abbrev cX2_gives : ByteArray := prog_3_method_9_code
def yX2_gives : MethodName := ⟨RX2, "gives", "(II)I"⟩
def dkwX2_gives_7 : List UInt8 := [29, 172]
abbrev dktX2_gives_7 : List UInt8 := dkwX2_gives_7 ++ []
def dkwX2_gives_6 : List UInt8 := [180, 0, 24, 21, 4, 46, 42, 180, 0, 24, 29, 46, 162, 0, 6, 21, 4, 62, 132, 4, 1, 167, 255, 104]
abbrev dktX2_gives_6 : List UInt8 := dkwX2_gives_6 ++ dktX2_gives_7
def dkwX2_gives_5 : List UInt8 := [22, 5, 105, 55, 9, 22, 7, 22, 9, 148, 155, 0, 27, 22, 7, 22, 9, 148, 154, 0, 22, 42]
abbrev dktX2_gives_5 : List UInt8 := dkwX2_gives_5 ++ dktX2_gives_6
def dkwX2_gives_4 : List UInt8 := [180, 0, 17, 29, 50, 27, 47, 105, 105, 55, 7, 42, 180, 0, 17, 29, 50, 16, 10, 47, 184, 0, 90]
abbrev dktX2_gives_4 : List UInt8 := dkwX2_gives_4 ++ dktX2_gives_5
def dkwX2_gives_3 : List UInt8 := [180, 0, 17, 21, 4, 50, 16, 10, 47, 184, 0, 90, 42, 180, 0, 27, 29, 46, 28, 104, 133, 42]
abbrev dktX2_gives_3 : List UInt8 := dkwX2_gives_3 ++ dktX2_gives_4
def dkwX2_gives_2 : List UInt8 := [22, 5, 9, 148, 157, 0, 6, 167, 0, 100, 29, 2, 160, 0, 9, 21, 4, 62, 167, 0, 89, 42]
abbrev dktX2_gives_2 : List UInt8 := dkwX2_gives_2 ++ dktX2_gives_3
def dkwX2_gives_1 : List UInt8 := [42, 180, 0, 17, 21, 4, 50, 27, 47, 105, 55, 5, 42, 180, 0, 24, 21, 4, 46, 2, 159, 0, 110]
abbrev dktX2_gives_1 : List UInt8 := dkwX2_gives_1 ++ dktX2_gives_2
def dkwX2_gives_0 : List UInt8 := [2, 62, 3, 54, 4, 21, 4, 42, 180, 0, 30, 162, 0, 149, 42, 180, 0, 27, 21, 4, 46, 28, 104, 133]
abbrev dktX2_gives_0 : List UInt8 := dkwX2_gives_0 ++ dktX2_gives_1
theorem dksX2_gives_0 : cX2_gives.data.toList.drop 0 = dktX2_gives_0 := by decide +kernel
theorem dksX2_gives_1 : cX2_gives.data.toList.drop 24 = dktX2_gives_1 := dk_seg dksX2_gives_0 24 rfl rfl
theorem dksX2_gives_2 : cX2_gives.data.toList.drop 47 = dktX2_gives_2 := dk_seg dksX2_gives_1 23 rfl rfl
theorem dksX2_gives_3 : cX2_gives.data.toList.drop 69 = dktX2_gives_3 := dk_seg dksX2_gives_2 22 rfl rfl
theorem dksX2_gives_4 : cX2_gives.data.toList.drop 91 = dktX2_gives_4 := dk_seg dksX2_gives_3 22 rfl rfl
theorem dksX2_gives_5 : cX2_gives.data.toList.drop 114 = dktX2_gives_5 := dk_seg dksX2_gives_4 23 rfl rfl
theorem dksX2_gives_6 : cX2_gives.data.toList.drop 136 = dktX2_gives_6 := dk_seg dksX2_gives_5 22 rfl rfl
theorem dksX2_gives_7 : cX2_gives.data.toList.drop 160 = dktX2_gives_7 := dk_seg dksX2_gives_6 24 rfl rfl
theorem dX2_gives_0 : decode cX2_gives 0 = .ok (.iconst (-1), 1) := dk_2 (dk_at dksX2_gives_0 0 rfl rfl)
theorem dX2_gives_1 : decode cX2_gives 1 = .ok (.istore_n 3, 1) := dk_62 (dk_at dksX2_gives_0 1 rfl rfl)
theorem dX2_gives_2 : decode cX2_gives 2 = .ok (.iconst 0, 1) := dk_3 (dk_at dksX2_gives_0 2 rfl rfl)
theorem dX2_gives_3 : decode cX2_gives 3 = .ok (.istore 4, 2) := dk_54 4 (dk_at dksX2_gives_0 3 rfl rfl)
theorem dX2_gives_5 : decode cX2_gives 5 = .ok (.iload 4, 2) := dk_21 4 (dk_at dksX2_gives_0 5 rfl rfl)
theorem dX2_gives_7 : decode cX2_gives 7 = .ok (.aload_n 0, 1) := dk_42 (dk_at dksX2_gives_0 7 rfl rfl)
theorem dX2_gives_8 : decode cX2_gives 8 = .ok (.getfield 30, 3) := dk_180 0 30 (dk_at dksX2_gives_0 8 rfl rfl)
theorem dX2_gives_11 : decode cX2_gives 11 = .ok (.if_icmp .ge 149, 3) := dk_162 0 149 (dk_at dksX2_gives_0 11 rfl rfl)
theorem dX2_gives_14 : decode cX2_gives 14 = .ok (.aload_n 0, 1) := dk_42 (dk_at dksX2_gives_0 14 rfl rfl)
theorem dX2_gives_15 : decode cX2_gives 15 = .ok (.getfield 27, 3) := dk_180 0 27 (dk_at dksX2_gives_0 15 rfl rfl)
theorem dX2_gives_18 : decode cX2_gives 18 = .ok (.iload 4, 2) := dk_21 4 (dk_at dksX2_gives_0 18 rfl rfl)
theorem dX2_gives_20 : decode cX2_gives 20 = .ok (.iaload, 1) := dk_46 (dk_at dksX2_gives_0 20 rfl rfl)
theorem dX2_gives_21 : decode cX2_gives 21 = .ok (.iload_n 2, 1) := dk_28 (dk_at dksX2_gives_0 21 rfl rfl)
theorem dX2_gives_22 : decode cX2_gives 22 = .ok (.imul, 1) := dk_104 (dk_at dksX2_gives_0 22 rfl rfl)
theorem dX2_gives_23 : decode cX2_gives 23 = .ok (.i2l, 1) := dk_133 (dk_at dksX2_gives_0 23 rfl rfl)
theorem dX2_gives_24 : decode cX2_gives 24 = .ok (.aload_n 0, 1) := dk_42 (dk_at dksX2_gives_1 0 rfl rfl)
theorem dX2_gives_25 : decode cX2_gives 25 = .ok (.getfield 17, 3) := dk_180 0 17 (dk_at dksX2_gives_1 1 rfl rfl)
theorem dX2_gives_28 : decode cX2_gives 28 = .ok (.iload 4, 2) := dk_21 4 (dk_at dksX2_gives_1 4 rfl rfl)
theorem dX2_gives_30 : decode cX2_gives 30 = .ok (.aaload, 1) := dk_50 (dk_at dksX2_gives_1 6 rfl rfl)
theorem dX2_gives_31 : decode cX2_gives 31 = .ok (.iload_n 1, 1) := dk_27 (dk_at dksX2_gives_1 7 rfl rfl)
theorem dX2_gives_32 : decode cX2_gives 32 = .ok (.laload, 1) := dk_47 (dk_at dksX2_gives_1 8 rfl rfl)
theorem dX2_gives_33 : decode cX2_gives 33 = .ok (.lmul, 1) := dk_105 (dk_at dksX2_gives_1 9 rfl rfl)
theorem dX2_gives_34 : decode cX2_gives 34 = .ok (.lstore 5, 2) := dk_55 5 (dk_at dksX2_gives_1 10 rfl rfl)
theorem dX2_gives_36 : decode cX2_gives 36 = .ok (.aload_n 0, 1) := dk_42 (dk_at dksX2_gives_1 12 rfl rfl)
theorem dX2_gives_37 : decode cX2_gives 37 = .ok (.getfield 24, 3) := dk_180 0 24 (dk_at dksX2_gives_1 13 rfl rfl)
theorem dX2_gives_40 : decode cX2_gives 40 = .ok (.iload 4, 2) := dk_21 4 (dk_at dksX2_gives_1 16 rfl rfl)
theorem dX2_gives_42 : decode cX2_gives 42 = .ok (.iaload, 1) := dk_46 (dk_at dksX2_gives_1 18 rfl rfl)
theorem dX2_gives_43 : decode cX2_gives 43 = .ok (.iconst (-1), 1) := dk_2 (dk_at dksX2_gives_1 19 rfl rfl)
theorem dX2_gives_44 : decode cX2_gives 44 = .ok (.if_icmp .eq 110, 3) := dk_159 0 110 (dk_at dksX2_gives_1 20 rfl rfl)
theorem dX2_gives_47 : decode cX2_gives 47 = .ok (.lload 5, 2) := dk_22 5 (dk_at dksX2_gives_2 0 rfl rfl)
theorem dX2_gives_49 : decode cX2_gives 49 = .ok (.lconst 0, 1) := dk_9 (dk_at dksX2_gives_2 2 rfl rfl)
theorem dX2_gives_50 : decode cX2_gives 50 = .ok (.lcmp, 1) := dk_148 (dk_at dksX2_gives_2 3 rfl rfl)
theorem dX2_gives_51 : decode cX2_gives 51 = .ok (.ifCond .gt 6, 3) := dk_157 0 6 (dk_at dksX2_gives_2 4 rfl rfl)
theorem dX2_gives_54 : decode cX2_gives 54 = .ok (.goto 100, 3) := dk_167 0 100 (dk_at dksX2_gives_2 7 rfl rfl)
theorem dX2_gives_57 : decode cX2_gives 57 = .ok (.iload_n 3, 1) := dk_29 (dk_at dksX2_gives_2 10 rfl rfl)
theorem dX2_gives_58 : decode cX2_gives 58 = .ok (.iconst (-1), 1) := dk_2 (dk_at dksX2_gives_2 11 rfl rfl)
theorem dX2_gives_59 : decode cX2_gives 59 = .ok (.if_icmp .ne 9, 3) := dk_160 0 9 (dk_at dksX2_gives_2 12 rfl rfl)
theorem dX2_gives_62 : decode cX2_gives 62 = .ok (.iload 4, 2) := dk_21 4 (dk_at dksX2_gives_2 15 rfl rfl)
theorem dX2_gives_64 : decode cX2_gives 64 = .ok (.istore_n 3, 1) := dk_62 (dk_at dksX2_gives_2 17 rfl rfl)
theorem dX2_gives_65 : decode cX2_gives 65 = .ok (.goto 89, 3) := dk_167 0 89 (dk_at dksX2_gives_2 18 rfl rfl)
theorem dX2_gives_68 : decode cX2_gives 68 = .ok (.aload_n 0, 1) := dk_42 (dk_at dksX2_gives_2 21 rfl rfl)
theorem dX2_gives_69 : decode cX2_gives 69 = .ok (.getfield 17, 3) := dk_180 0 17 (dk_at dksX2_gives_3 0 rfl rfl)
theorem dX2_gives_72 : decode cX2_gives 72 = .ok (.iload 4, 2) := dk_21 4 (dk_at dksX2_gives_3 3 rfl rfl)
theorem dX2_gives_74 : decode cX2_gives 74 = .ok (.aaload, 1) := dk_50 (dk_at dksX2_gives_3 5 rfl rfl)
theorem dX2_gives_75 : decode cX2_gives 75 = .ok (.bipush 10, 2) := dk_16 10 (dk_at dksX2_gives_3 6 rfl rfl)
theorem dX2_gives_77 : decode cX2_gives 77 = .ok (.laload, 1) := dk_47 (dk_at dksX2_gives_3 8 rfl rfl)
theorem dX2_gives_78 : decode cX2_gives 78 = .ok (.invokestatic 90, 3) := dk_184 0 90 (dk_at dksX2_gives_3 9 rfl rfl)
theorem dX2_gives_81 : decode cX2_gives 81 = .ok (.aload_n 0, 1) := dk_42 (dk_at dksX2_gives_3 12 rfl rfl)
theorem dX2_gives_82 : decode cX2_gives 82 = .ok (.getfield 27, 3) := dk_180 0 27 (dk_at dksX2_gives_3 13 rfl rfl)
theorem dX2_gives_85 : decode cX2_gives 85 = .ok (.iload_n 3, 1) := dk_29 (dk_at dksX2_gives_3 16 rfl rfl)
theorem dX2_gives_86 : decode cX2_gives 86 = .ok (.iaload, 1) := dk_46 (dk_at dksX2_gives_3 17 rfl rfl)
theorem dX2_gives_87 : decode cX2_gives 87 = .ok (.iload_n 2, 1) := dk_28 (dk_at dksX2_gives_3 18 rfl rfl)
theorem dX2_gives_88 : decode cX2_gives 88 = .ok (.imul, 1) := dk_104 (dk_at dksX2_gives_3 19 rfl rfl)
theorem dX2_gives_89 : decode cX2_gives 89 = .ok (.i2l, 1) := dk_133 (dk_at dksX2_gives_3 20 rfl rfl)
theorem dX2_gives_90 : decode cX2_gives 90 = .ok (.aload_n 0, 1) := dk_42 (dk_at dksX2_gives_3 21 rfl rfl)
theorem dX2_gives_91 : decode cX2_gives 91 = .ok (.getfield 17, 3) := dk_180 0 17 (dk_at dksX2_gives_4 0 rfl rfl)
theorem dX2_gives_94 : decode cX2_gives 94 = .ok (.iload_n 3, 1) := dk_29 (dk_at dksX2_gives_4 3 rfl rfl)
theorem dX2_gives_95 : decode cX2_gives 95 = .ok (.aaload, 1) := dk_50 (dk_at dksX2_gives_4 4 rfl rfl)
theorem dX2_gives_96 : decode cX2_gives 96 = .ok (.iload_n 1, 1) := dk_27 (dk_at dksX2_gives_4 5 rfl rfl)
theorem dX2_gives_97 : decode cX2_gives 97 = .ok (.laload, 1) := dk_47 (dk_at dksX2_gives_4 6 rfl rfl)
theorem dX2_gives_98 : decode cX2_gives 98 = .ok (.lmul, 1) := dk_105 (dk_at dksX2_gives_4 7 rfl rfl)
theorem dX2_gives_99 : decode cX2_gives 99 = .ok (.lmul, 1) := dk_105 (dk_at dksX2_gives_4 8 rfl rfl)
theorem dX2_gives_100 : decode cX2_gives 100 = .ok (.lstore 7, 2) := dk_55 7 (dk_at dksX2_gives_4 9 rfl rfl)
theorem dX2_gives_102 : decode cX2_gives 102 = .ok (.aload_n 0, 1) := dk_42 (dk_at dksX2_gives_4 11 rfl rfl)
theorem dX2_gives_103 : decode cX2_gives 103 = .ok (.getfield 17, 3) := dk_180 0 17 (dk_at dksX2_gives_4 12 rfl rfl)
theorem dX2_gives_106 : decode cX2_gives 106 = .ok (.iload_n 3, 1) := dk_29 (dk_at dksX2_gives_4 15 rfl rfl)
theorem dX2_gives_107 : decode cX2_gives 107 = .ok (.aaload, 1) := dk_50 (dk_at dksX2_gives_4 16 rfl rfl)
theorem dX2_gives_108 : decode cX2_gives 108 = .ok (.bipush 10, 2) := dk_16 10 (dk_at dksX2_gives_4 17 rfl rfl)
theorem dX2_gives_110 : decode cX2_gives 110 = .ok (.laload, 1) := dk_47 (dk_at dksX2_gives_4 19 rfl rfl)
theorem dX2_gives_111 : decode cX2_gives 111 = .ok (.invokestatic 90, 3) := dk_184 0 90 (dk_at dksX2_gives_4 20 rfl rfl)
theorem dX2_gives_114 : decode cX2_gives 114 = .ok (.lload 5, 2) := dk_22 5 (dk_at dksX2_gives_5 0 rfl rfl)
theorem dX2_gives_116 : decode cX2_gives 116 = .ok (.lmul, 1) := dk_105 (dk_at dksX2_gives_5 2 rfl rfl)
theorem dX2_gives_117 : decode cX2_gives 117 = .ok (.lstore 9, 2) := dk_55 9 (dk_at dksX2_gives_5 3 rfl rfl)
theorem dX2_gives_119 : decode cX2_gives 119 = .ok (.lload 7, 2) := dk_22 7 (dk_at dksX2_gives_5 5 rfl rfl)
theorem dX2_gives_121 : decode cX2_gives 121 = .ok (.lload 9, 2) := dk_22 9 (dk_at dksX2_gives_5 7 rfl rfl)
theorem dX2_gives_123 : decode cX2_gives 123 = .ok (.lcmp, 1) := dk_148 (dk_at dksX2_gives_5 9 rfl rfl)
theorem dX2_gives_124 : decode cX2_gives 124 = .ok (.ifCond .lt 27, 3) := dk_155 0 27 (dk_at dksX2_gives_5 10 rfl rfl)
theorem dX2_gives_127 : decode cX2_gives 127 = .ok (.lload 7, 2) := dk_22 7 (dk_at dksX2_gives_5 13 rfl rfl)
theorem dX2_gives_129 : decode cX2_gives 129 = .ok (.lload 9, 2) := dk_22 9 (dk_at dksX2_gives_5 15 rfl rfl)
theorem dX2_gives_131 : decode cX2_gives 131 = .ok (.lcmp, 1) := dk_148 (dk_at dksX2_gives_5 17 rfl rfl)
theorem dX2_gives_132 : decode cX2_gives 132 = .ok (.ifCond .ne 22, 3) := dk_154 0 22 (dk_at dksX2_gives_5 18 rfl rfl)
theorem dX2_gives_135 : decode cX2_gives 135 = .ok (.aload_n 0, 1) := dk_42 (dk_at dksX2_gives_5 21 rfl rfl)
theorem dX2_gives_136 : decode cX2_gives 136 = .ok (.getfield 24, 3) := dk_180 0 24 (dk_at dksX2_gives_6 0 rfl rfl)
theorem dX2_gives_139 : decode cX2_gives 139 = .ok (.iload 4, 2) := dk_21 4 (dk_at dksX2_gives_6 3 rfl rfl)
theorem dX2_gives_141 : decode cX2_gives 141 = .ok (.iaload, 1) := dk_46 (dk_at dksX2_gives_6 5 rfl rfl)
theorem dX2_gives_142 : decode cX2_gives 142 = .ok (.aload_n 0, 1) := dk_42 (dk_at dksX2_gives_6 6 rfl rfl)
theorem dX2_gives_143 : decode cX2_gives 143 = .ok (.getfield 24, 3) := dk_180 0 24 (dk_at dksX2_gives_6 7 rfl rfl)
theorem dX2_gives_146 : decode cX2_gives 146 = .ok (.iload_n 3, 1) := dk_29 (dk_at dksX2_gives_6 10 rfl rfl)
theorem dX2_gives_147 : decode cX2_gives 147 = .ok (.iaload, 1) := dk_46 (dk_at dksX2_gives_6 11 rfl rfl)
theorem dX2_gives_148 : decode cX2_gives 148 = .ok (.if_icmp .ge 6, 3) := dk_162 0 6 (dk_at dksX2_gives_6 12 rfl rfl)
theorem dX2_gives_151 : decode cX2_gives 151 = .ok (.iload 4, 2) := dk_21 4 (dk_at dksX2_gives_6 15 rfl rfl)
theorem dX2_gives_153 : decode cX2_gives 153 = .ok (.istore_n 3, 1) := dk_62 (dk_at dksX2_gives_6 17 rfl rfl)
theorem dX2_gives_154 : decode cX2_gives 154 = .ok (.iinc 4 1, 3) := dk_132 4 1 (dk_at dksX2_gives_6 18 rfl rfl)
theorem dX2_gives_157 : decode cX2_gives 157 = .ok (.goto (-152), 3) := dk_167 255 104 (dk_at dksX2_gives_6 21 rfl rfl)
theorem dX2_gives_160 : decode cX2_gives 160 = .ok (.iload_n 3, 1) := dk_29 (dk_at dksX2_gives_7 0 rfl rfl)
theorem dX2_gives_161 : decode cX2_gives 161 = .ok (.ireturn, 1) := dk_172 (dk_at dksX2_gives_7 1 rfl rfl)
theorem q87 : (Jvm.Cond.initialized "LeastFrames$Program") ∈ lw_all := lw_g (lw_at lw_m1 3 rfl) rfl
theorem q129 : (Jvm.Cond.fieldLinkNest "LeastFrames$Program" (55 : Nat) "LeastFrames$Point" "loads" "[I" "LeastFrames") ∈ lw_tbl := lw_at lw_m1 45 rfl
theorem q146 : (Jvm.Cond.instantiable "LeastFrames$Program" (7 : Nat)) ∈ lw_all := lw_g (lw_at lw_m1 62 rfl) rfl
theorem q148 : (Jvm.Cond.instanceMethod ({ cls := "LeastFrames$Program", name := "<init>", desc := "(LLeastFrames;)V" } : Jvm.MethodName)) ∈ lw_all := lw_g (lw_at lw_m1 64 rfl) rfl
theorem q149 : (Jvm.Cond.code ({ cls := "LeastFrames$Program", name := "<init>", desc := "(LLeastFrames;)V" } : Jvm.MethodName) prog_3_method_1_code (2 : Nat) (Option.none : Option Jvm.ClassFile.FieldType)) ∈ lw_all := lw_g (lw_at lw_m1 65 rfl) rfl
theorem q150 : (Jvm.Cond.methodLink "LeastFrames$Program" (9 : Nat) ({ cls := "java/lang/Object", name := "<init>", desc := "()V" } : Jvm.MethodName)) ∈ lw_all := lw_g (lw_at lw_m1 66 rfl) rfl
theorem q151 : (Jvm.Cond.classLink "LeastFrames$Program" (15 : Nat) "[[J") ∈ lw_all := lw_g (lw_at lw_m1 67 rfl) rfl
theorem q153 : (Jvm.Cond.fieldLink "LeastFrames$Program" (17 : Nat) "LeastFrames$Program" "rows" "[[J") ∈ lw_all := lw_g (lw_at lw_m1 69 rfl) rfl
theorem q155 : (Jvm.Cond.fieldLink "LeastFrames$Program" (20 : Nat) "LeastFrames$Program" "ways" "[I") ∈ lw_all := lw_g (lw_at lw_m1 71 rfl) rfl
theorem q156 : (Jvm.Cond.fieldLink "LeastFrames$Program" (24 : Nat) "LeastFrames$Program" "basis" "[I") ∈ lw_all := lw_g (lw_at lw_m1 72 rfl) rfl
theorem q158 : (Jvm.Cond.fieldLink "LeastFrames$Program" (27 : Nat) "LeastFrames$Program" "signs" "[I") ∈ lw_all := lw_g (lw_at lw_m1 74 rfl) rfl
theorem q159 : (Jvm.Cond.fieldLink "LeastFrames$Program" (30 : Nat) "LeastFrames$Program" "high" "I") ∈ lw_all := lw_g (lw_at lw_m1 75 rfl) rfl
theorem q161 : (Jvm.Cond.fieldLink "LeastFrames$Program" (34 : Nat) "LeastFrames$Program" "below" "J") ∈ lw_all := lw_g (lw_at lw_m1 77 rfl) rfl
theorem q163 : (Jvm.Cond.fieldLink "LeastFrames$Program" (3 : Nat) "LeastFrames$Program" "this$0" "LLeastFrames;") ∈ lw_all := lw_g (lw_at lw_m1 79 rfl) rfl
theorem q164 : (Jvm.Cond.laysFinal "LeastFrames$Program" "LeastFrames$Program" "rows" "[[J") ∈ lw_all := lw_g (lw_at lw_m1 80 rfl) rfl
theorem q165 : (Jvm.Cond.soleField "LeastFrames$Program" "rows") ∈ lw_all := lw_g (lw_at lw_m1 81 rfl) rfl
theorem q166 : (Jvm.Cond.laysFinal "LeastFrames$Program" "LeastFrames$Program" "ways" "[I") ∈ lw_all := lw_g (lw_at lw_m1 82 rfl) rfl
theorem q167 : (Jvm.Cond.soleField "LeastFrames$Program" "ways") ∈ lw_all := lw_g (lw_at lw_m1 83 rfl) rfl
theorem q168 : (Jvm.Cond.laysFinal "LeastFrames$Program" "LeastFrames$Program" "basis" "[I") ∈ lw_all := lw_g (lw_at lw_m1 84 rfl) rfl
theorem q169 : (Jvm.Cond.soleField "LeastFrames$Program" "basis") ∈ lw_all := lw_g (lw_at lw_m1 85 rfl) rfl
theorem q170 : (Jvm.Cond.laysFinal "LeastFrames$Program" "LeastFrames$Program" "signs" "[I") ∈ lw_all := lw_g (lw_at lw_m1 86 rfl) rfl
theorem q171 : (Jvm.Cond.soleField "LeastFrames$Program" "signs") ∈ lw_all := lw_g (lw_at lw_m1 87 rfl) rfl
theorem q172 : (Jvm.Cond.lays "LeastFrames$Program" "LeastFrames$Program" "high" "I") ∈ lw_all := lw_g (lw_at lw_m1 88 rfl) rfl
theorem q173 : (Jvm.Cond.soleField "LeastFrames$Program" "high") ∈ lw_all := lw_g (lw_at lw_m1 89 rfl) rfl
theorem q174 : (Jvm.Cond.lays "LeastFrames$Program" "LeastFrames$Program" "below" "J") ∈ lw_all := lw_g (lw_at lw_m1 90 rfl) rfl
theorem q175 : (Jvm.Cond.soleField "LeastFrames$Program" "below") ∈ lw_all := lw_g (lw_at lw_m1 91 rfl) rfl
theorem q176 : (Jvm.Cond.laysFinal "LeastFrames$Program" "LeastFrames$Program" "this$0" "LLeastFrames;") ∈ lw_all := lw_g (lw_at lw_m1 92 rfl) rfl
theorem q177 : (Jvm.Cond.soleField "LeastFrames$Program" "this$0") ∈ lw_all := lw_g (lw_at lw_m1 93 rfl) rfl
theorem q178 : (Jvm.Cond.superclass "LeastFrames$Program" "java/lang/Object") ∈ lw_all := lw_g (lw_at lw_m1 94 rfl) rfl
theorem q194 : (Jvm.Cond.fieldLinkNest "LeastFrames$Program" (41 : Nat) "LeastFrames" "points" "[LLeastFrames$Point;" "LeastFrames") ∈ lw_tbl := lw_at lw_m1 110 rfl
theorem q195 : (Jvm.Cond.fieldLinkNest "LeastFrames$Program" (38 : Nat) "LeastFrames" "many" "I" "LeastFrames") ∈ lw_tbl := lw_at lw_m1 111 rfl
theorem q366 : (Jvm.Cond.instanceMethod ({ cls := "LeastFrames$Program", name := "solves", desc := "(I)J" } : Jvm.MethodName)) ∈ lw_all := lw_g (lw_at lw_m2 42 rfl) rfl
theorem q367 : (Jvm.Cond.selects "LeastFrames$Program" ({ cls := "LeastFrames$Program", name := "solves", desc := "(I)J" } : Jvm.MethodName) ({ cls := "LeastFrames$Program", name := "solves", desc := "(I)J" } : Jvm.MethodName)) ∈ lw_all := lw_g (lw_at lw_m2 43 rfl) rfl
theorem q368 : (Jvm.Cond.code ({ cls := "LeastFrames$Program", name := "solves", desc := "(I)J" } : Jvm.MethodName) prog_3_method_11_code (6 : Nat) (Option.some Jvm.ClassFile.FieldType.long)) ∈ lw_all := lw_g (lw_at lw_m2 44 rfl) rfl
theorem q369 : (Jvm.Cond.methodLink "LeastFrames$Program" (84 : Nat) ({ cls := "LeastFrames$Program", name := "clears", desc := "(II)Z" } : Jvm.MethodName)) ∈ lw_all := lw_g (lw_at lw_m2 45 rfl) rfl
theorem q370 : (Jvm.Cond.privateMethod ({ cls := "LeastFrames$Program", name := "clears", desc := "(II)Z" } : Jvm.MethodName)) ∈ lw_tbl := lw_at lw_m2 46 rfl
theorem q371 : (Jvm.Cond.instanceMethod ({ cls := "LeastFrames$Program", name := "clears", desc := "(II)Z" } : Jvm.MethodName)) ∈ lw_all := lw_g (lw_at lw_m2 47 rfl) rfl
theorem q372 : (Jvm.Cond.code ({ cls := "LeastFrames$Program", name := "clears", desc := "(II)Z" } : Jvm.MethodName) prog_3_method_5_code (5 : Nat) (Option.some Jvm.ClassFile.FieldType.boolean)) ∈ lw_all := lw_g (lw_at lw_m2 48 rfl) rfl
theorem q373 : (Jvm.Cond.methodLink "LeastFrames$Program" (77 : Nat) ({ cls := "LeastFrames$Program", name := "lays", desc := "(II)V" } : Jvm.MethodName)) ∈ lw_all := lw_g (lw_at lw_m2 49 rfl) rfl
theorem q374 : (Jvm.Cond.privateMethod ({ cls := "LeastFrames$Program", name := "lays", desc := "(II)V" } : Jvm.MethodName)) ∈ lw_tbl := lw_at lw_m2 50 rfl
theorem q375 : (Jvm.Cond.instanceMethod ({ cls := "LeastFrames$Program", name := "lays", desc := "(II)V" } : Jvm.MethodName)) ∈ lw_all := lw_g (lw_at lw_m2 51 rfl) rfl
theorem q376 : (Jvm.Cond.code ({ cls := "LeastFrames$Program", name := "lays", desc := "(II)V" } : Jvm.MethodName) prog_3_method_2_code (7 : Nat) (Option.none : Option Jvm.ClassFile.FieldType)) ∈ lw_all := lw_g (lw_at lw_m2 52 rfl) rfl
theorem q377 : (Jvm.Cond.methodLink "LeastFrames$Program" (45 : Nat) ({ cls := "LeastFrames$Point", name := "isHeld", desc := "(I)Z" } : Jvm.MethodName)) ∈ lw_all := lw_g (lw_at lw_m2 53 rfl) rfl
theorem q382 : (Jvm.Cond.methodLink "LeastFrames$Program" (51 : Nat) ({ cls := "LeastFrames$Program", name := "brings", desc := "(IIII)J" } : Jvm.MethodName)) ∈ lw_all := lw_g (lw_at lw_m2 58 rfl) rfl
theorem q383 : (Jvm.Cond.privateMethod ({ cls := "LeastFrames$Program", name := "brings", desc := "(IIII)J" } : Jvm.MethodName)) ∈ lw_tbl := lw_at lw_m2 59 rfl
theorem q384 : (Jvm.Cond.instanceMethod ({ cls := "LeastFrames$Program", name := "brings", desc := "(IIII)J" } : Jvm.MethodName)) ∈ lw_all := lw_g (lw_at lw_m2 60 rfl) rfl
theorem q385 : (Jvm.Cond.code ({ cls := "LeastFrames$Program", name := "brings", desc := "(IIII)J" } : Jvm.MethodName) prog_3_method_3_code (5 : Nat) (Option.some Jvm.ClassFile.FieldType.long)) ∈ lw_all := lw_g (lw_at lw_m2 61 rfl) rfl
theorem q386 : (Jvm.Cond.methodLinkNest "LeastFrames$Program" (58 : Nat) ({ cls := "LeastFrames", name := "isIn", desc := "(II)Z" } : Jvm.MethodName) "LeastFrames") ∈ lw_tbl := lw_at lw_m2 62 rfl
theorem q387 : (Jvm.Cond.methodLinkNest "LeastFrames$Program" (62 : Nat) ({ cls := "LeastFrames", name := "pairs", desc := "()I" } : Jvm.MethodName) "LeastFrames") ∈ lw_tbl := lw_at lw_m2 63 rfl
theorem q388 : (Jvm.Cond.methodLinkNest "LeastFrames$Program" (66 : Nat) ({ cls := "LeastFrames", name := "lesser", desc := "(I)I" } : Jvm.MethodName) "LeastFrames") ∈ lw_tbl := lw_at lw_m2 64 rfl
theorem q389 : (Jvm.Cond.methodLinkNest "LeastFrames$Program" (70 : Nat) ({ cls := "LeastFrames", name := "far", desc := "(II)I" } : Jvm.MethodName) "LeastFrames") ∈ lw_tbl := lw_at lw_m2 65 rfl
theorem q390 : (Jvm.Cond.methodLinkNest "LeastFrames$Program" (74 : Nat) ({ cls := "LeastFrames", name := "greater", desc := "(I)I" } : Jvm.MethodName) "LeastFrames") ∈ lw_tbl := lw_at lw_m2 66 rfl
theorem q391 : (Jvm.Cond.methodLink "LeastFrames$Program" (81 : Nat) ({ cls := "LeastFrames$Program", name := "pivots", desc := "(II)V" } : Jvm.MethodName)) ∈ lw_all := lw_g (lw_at lw_m2 67 rfl) rfl
theorem q392 : (Jvm.Cond.privateMethod ({ cls := "LeastFrames$Program", name := "pivots", desc := "(II)V" } : Jvm.MethodName)) ∈ lw_tbl := lw_at lw_m2 68 rfl
theorem q393 : (Jvm.Cond.instanceMethod ({ cls := "LeastFrames$Program", name := "pivots", desc := "(II)V" } : Jvm.MethodName)) ∈ lw_all := lw_g (lw_at lw_m2 69 rfl) rfl
theorem q394 : (Jvm.Cond.code ({ cls := "LeastFrames$Program", name := "pivots", desc := "(II)V" } : Jvm.MethodName) prog_3_method_4_code (9 : Nat) (Option.none : Option Jvm.ClassFile.FieldType)) ∈ lw_all := lw_g (lw_at lw_m2 70 rfl) rfl
theorem q395 : (Jvm.Cond.classLink "LeastFrames$Program" (106 : Nat) "LeastFrames$Unborne") ∈ lw_all := lw_g (lw_at lw_m2 71 rfl) rfl
theorem q452 : (Jvm.Cond.methodLink "LeastFrames$Program" (108 : Nat) ({ cls := "LeastFrames$Program", name := "fault", desc := "(I)I" } : Jvm.MethodName)) ∈ lw_all := lw_g (lw_at lw_m2 128 rfl) rfl
theorem q453 : (Jvm.Cond.privateMethod ({ cls := "LeastFrames$Program", name := "fault", desc := "(I)I" } : Jvm.MethodName)) ∈ lw_tbl := lw_at lw_m2 129 rfl
theorem q454 : (Jvm.Cond.instanceMethod ({ cls := "LeastFrames$Program", name := "fault", desc := "(I)I" } : Jvm.MethodName)) ∈ lw_all := lw_g (lw_at lw_m2 130 rfl) rfl
theorem q455 : (Jvm.Cond.code ({ cls := "LeastFrames$Program", name := "fault", desc := "(I)I" } : Jvm.MethodName) prog_3_method_6_code (3 : Nat) (Option.some Jvm.ClassFile.FieldType.int)) ∈ lw_all := lw_g (lw_at lw_m2 131 rfl) rfl
theorem q456 : (Jvm.Cond.methodLink "LeastFrames$Program" (111 : Nat) ({ cls := "LeastFrames$Unborne", name := "<init>", desc := "(I)V" } : Jvm.MethodName)) ∈ lw_all := lw_g (lw_at lw_m2 132 rfl) rfl
theorem q481 : (Jvm.Cond.methodLink "LeastFrames$Program" (114 : Nat) ({ cls := "LeastFrames$Program", name := "betters", desc := "(I)Z" } : Jvm.MethodName)) ∈ lw_all := lw_g (lw_at lw_m2 157 rfl) rfl
theorem q482 : (Jvm.Cond.privateMethod ({ cls := "LeastFrames$Program", name := "betters", desc := "(I)Z" } : Jvm.MethodName)) ∈ lw_tbl := lw_at lw_m2 158 rfl
theorem q483 : (Jvm.Cond.instanceMethod ({ cls := "LeastFrames$Program", name := "betters", desc := "(I)Z" } : Jvm.MethodName)) ∈ lw_all := lw_g (lw_at lw_m2 159 rfl) rfl
theorem q484 : (Jvm.Cond.code ({ cls := "LeastFrames$Program", name := "betters", desc := "(I)Z" } : Jvm.MethodName) prog_3_method_10_code (5 : Nat) (Option.some Jvm.ClassFile.FieldType.boolean)) ∈ lw_all := lw_g (lw_at lw_m2 160 rfl) rfl
theorem q485 : (Jvm.Cond.methodLink "LeastFrames$Program" (96 : Nat) ({ cls := "LeastFrames$Program", name := "isBasic", desc := "(I)Z" } : Jvm.MethodName)) ∈ lw_all := lw_g (lw_at lw_m2 161 rfl) rfl
theorem q486 : (Jvm.Cond.privateMethod ({ cls := "LeastFrames$Program", name := "isBasic", desc := "(I)Z" } : Jvm.MethodName)) ∈ lw_tbl := lw_at lw_m2 162 rfl
theorem q487 : (Jvm.Cond.instanceMethod ({ cls := "LeastFrames$Program", name := "isBasic", desc := "(I)Z" } : Jvm.MethodName)) ∈ lw_all := lw_g (lw_at lw_m2 163 rfl) rfl
theorem q488 : (Jvm.Cond.code ({ cls := "LeastFrames$Program", name := "isBasic", desc := "(I)Z" } : Jvm.MethodName) prog_3_method_7_code (3 : Nat) (Option.some Jvm.ClassFile.FieldType.boolean)) ∈ lw_all := lw_g (lw_at lw_m2 164 rfl) rfl
theorem q489 : (Jvm.Cond.methodLink "LeastFrames$Program" (99 : Nat) ({ cls := "LeastFrames$Program", name := "price", desc := "(II)J" } : Jvm.MethodName)) ∈ lw_all := lw_g (lw_at lw_m2 165 rfl) rfl
theorem q490 : (Jvm.Cond.privateMethod ({ cls := "LeastFrames$Program", name := "price", desc := "(II)J" } : Jvm.MethodName)) ∈ lw_tbl := lw_at lw_m2 166 rfl
theorem q491 : (Jvm.Cond.instanceMethod ({ cls := "LeastFrames$Program", name := "price", desc := "(II)J" } : Jvm.MethodName)) ∈ lw_all := lw_g (lw_at lw_m2 167 rfl) rfl
theorem q492 : (Jvm.Cond.code ({ cls := "LeastFrames$Program", name := "price", desc := "(II)J" } : Jvm.MethodName) prog_3_method_8_code (6 : Nat) (Option.some Jvm.ClassFile.FieldType.long)) ∈ lw_all := lw_g (lw_at lw_m2 168 rfl) rfl
theorem q493 : (Jvm.Cond.methodLinkNest "LeastFrames$Program" (87 : Nat) ({ cls := "LeastFrames", name := "quad", desc := "(I)I" } : Jvm.MethodName) "LeastFrames") ∈ lw_tbl := lw_at lw_m2 169 rfl
theorem q494 : (Jvm.Cond.methodLink "LeastFrames$Program" (103 : Nat) ({ cls := "LeastFrames$Program", name := "gives", desc := "(II)I" } : Jvm.MethodName)) ∈ lw_all := lw_g (lw_at lw_m2 170 rfl) rfl
theorem q495 : (Jvm.Cond.privateMethod ({ cls := "LeastFrames$Program", name := "gives", desc := "(II)I" } : Jvm.MethodName)) ∈ lw_tbl := lw_at lw_m2 171 rfl
theorem q496 : (Jvm.Cond.instanceMethod ({ cls := "LeastFrames$Program", name := "gives", desc := "(II)I" } : Jvm.MethodName)) ∈ lw_all := lw_g (lw_at lw_m2 172 rfl) rfl
theorem q497 : (Jvm.Cond.code ({ cls := "LeastFrames$Program", name := "gives", desc := "(II)I" } : Jvm.MethodName) prog_3_method_9_code (11 : Nat) (Option.some Jvm.ClassFile.FieldType.int)) ∈ lw_all := lw_g (lw_at lw_m2 173 rfl) rfl
theorem q498 : (Jvm.Cond.methodLink "LeastFrames$Program" (90 : Nat) ({ cls := "java/lang/Math", name := "abs", desc := "(J)J" } : Jvm.MethodName)) ∈ lw_all := lw_g (lw_at lw_m2 174 rfl) rfl
theorem in_X2 : ∀ w ∈ wsX20, w ∈ lw_all := lw_in wsX20 [164, 166, 168, 170, 172, 174, 176] (by decide +kernel) (by decide +kernel)
/-! LeastFrames$Sheet -/
set_option maxRecDepth 100000
def RX3 : String := "LeastFrames$Sheet"
def TX3 : u_T := fun k => match k with
  | _ => ("LeastFrames$Sheet", "row", "Ljava/lang/Object;", false)
def tyX3 : Nat → FieldType := fun k => match k with
  | _ => .object "java/lang/Object"
abbrev wsX30 : List Cond := u_ws RX3 TX3 1
theorem nmX3 : ∀ a, a < 1 → ∀ b, b < 1 → a ≠ b → (TX3 a).2.1 ≠ (TX3 b).2.1 := by decide +kernel
theorem tyX3_ok : ∀ k, k < 1 → parseFieldDescriptor (TX3 k).2.2.1 = some (tyX3 k) := by decide +kernel
abbrev cX3_init : ByteArray := prog_4_method_1_code
def yX3_init : MethodName := ⟨RX3, "<init>", "()V"⟩
theorem dX3_init_0 : decode cX3_init 0 = .ok (.aload_n 0, 1) := by decide +kernel
theorem dX3_init_1 : decode cX3_init 1 = .ok (.invokespecial 1, 3) := by decide +kernel
theorem dX3_init_4 : decode cX3_init 4 = .ok (.return_, 1) := by decide +kernel
abbrev cX3_size : ByteArray := prog_4_method_2_code
def yX3_size : MethodName := ⟨RX3, "size", "()I"⟩
def dkwX3_size_1 : List UInt8 := [180, 0, 7, 192, 0, 15, 190, 172]
abbrev dktX3_size_1 : List UInt8 := dkwX3_size_1 ++ []
def dkwX3_size_0 : List UInt8 := [42, 180, 0, 7, 77, 44, 193, 0, 13, 153, 0, 13, 44, 192, 0, 13, 76, 43, 190, 167, 0, 11, 42]
abbrev dktX3_size_0 : List UInt8 := dkwX3_size_0 ++ dktX3_size_1
theorem dksX3_size_0 : cX3_size.data.toList.drop 0 = dktX3_size_0 := by decide +kernel
theorem dksX3_size_1 : cX3_size.data.toList.drop 23 = dktX3_size_1 := dk_seg dksX3_size_0 23 rfl rfl
theorem dX3_size_0 : decode cX3_size 0 = .ok (.aload_n 0, 1) := dk_42 (dk_at dksX3_size_0 0 rfl rfl)
theorem dX3_size_1 : decode cX3_size 1 = .ok (.getfield 7, 3) := dk_180 0 7 (dk_at dksX3_size_0 1 rfl rfl)
theorem dX3_size_4 : decode cX3_size 4 = .ok (.astore_n 2, 1) := dk_77 (dk_at dksX3_size_0 4 rfl rfl)
theorem dX3_size_5 : decode cX3_size 5 = .ok (.aload_n 2, 1) := dk_44 (dk_at dksX3_size_0 5 rfl rfl)
theorem dX3_size_6 : decode cX3_size 6 = .ok (.instanceof 13, 3) := dk_193 0 13 (dk_at dksX3_size_0 6 rfl rfl)
theorem dX3_size_9 : decode cX3_size 9 = .ok (.ifCond .eq 13, 3) := dk_153 0 13 (dk_at dksX3_size_0 9 rfl rfl)
theorem dX3_size_12 : decode cX3_size 12 = .ok (.aload_n 2, 1) := dk_44 (dk_at dksX3_size_0 12 rfl rfl)
theorem dX3_size_13 : decode cX3_size 13 = .ok (.checkcast 13, 3) := dk_192 0 13 (dk_at dksX3_size_0 13 rfl rfl)
theorem dX3_size_16 : decode cX3_size 16 = .ok (.astore_n 1, 1) := dk_76 (dk_at dksX3_size_0 16 rfl rfl)
theorem dX3_size_17 : decode cX3_size 17 = .ok (.aload_n 1, 1) := dk_43 (dk_at dksX3_size_0 17 rfl rfl)
theorem dX3_size_18 : decode cX3_size 18 = .ok (.arraylength, 1) := dk_190 (dk_at dksX3_size_0 18 rfl rfl)
theorem dX3_size_19 : decode cX3_size 19 = .ok (.goto 11, 3) := dk_167 0 11 (dk_at dksX3_size_0 19 rfl rfl)
theorem dX3_size_22 : decode cX3_size 22 = .ok (.aload_n 0, 1) := dk_42 (dk_at dksX3_size_0 22 rfl rfl)
theorem dX3_size_23 : decode cX3_size 23 = .ok (.getfield 7, 3) := dk_180 0 7 (dk_at dksX3_size_1 0 rfl rfl)
theorem dX3_size_26 : decode cX3_size 26 = .ok (.checkcast 15, 3) := dk_192 0 15 (dk_at dksX3_size_1 3 rfl rfl)
theorem dX3_size_29 : decode cX3_size 29 = .ok (.arraylength, 1) := dk_190 (dk_at dksX3_size_1 6 rfl rfl)
theorem dX3_size_30 : decode cX3_size 30 = .ok (.ireturn, 1) := dk_172 (dk_at dksX3_size_1 7 rfl rfl)
abbrev cX3_item : ByteArray := prog_4_method_3_code
def yX3_item : MethodName := ⟨RX3, "item", "(I)J"⟩
def dkwX3_item_1 : List UInt8 := [42, 180, 0, 7, 192, 0, 15, 27, 47, 173]
abbrev dktX3_item_1 : List UInt8 := dkwX3_item_1 ++ []
def dkwX3_item_0 : List UInt8 := [42, 180, 0, 7, 78, 45, 193, 0, 13, 153, 0, 15, 45, 192, 0, 13, 77, 44, 27, 46, 133, 167, 0, 12]
abbrev dktX3_item_0 : List UInt8 := dkwX3_item_0 ++ dktX3_item_1
theorem dksX3_item_0 : cX3_item.data.toList.drop 0 = dktX3_item_0 := by decide +kernel
theorem dksX3_item_1 : cX3_item.data.toList.drop 24 = dktX3_item_1 := dk_seg dksX3_item_0 24 rfl rfl
theorem dX3_item_0 : decode cX3_item 0 = .ok (.aload_n 0, 1) := dk_42 (dk_at dksX3_item_0 0 rfl rfl)
theorem dX3_item_1 : decode cX3_item 1 = .ok (.getfield 7, 3) := dk_180 0 7 (dk_at dksX3_item_0 1 rfl rfl)
theorem dX3_item_4 : decode cX3_item 4 = .ok (.astore_n 3, 1) := dk_78 (dk_at dksX3_item_0 4 rfl rfl)
theorem dX3_item_5 : decode cX3_item 5 = .ok (.aload_n 3, 1) := dk_45 (dk_at dksX3_item_0 5 rfl rfl)
theorem dX3_item_6 : decode cX3_item 6 = .ok (.instanceof 13, 3) := dk_193 0 13 (dk_at dksX3_item_0 6 rfl rfl)
theorem dX3_item_9 : decode cX3_item 9 = .ok (.ifCond .eq 15, 3) := dk_153 0 15 (dk_at dksX3_item_0 9 rfl rfl)
theorem dX3_item_12 : decode cX3_item 12 = .ok (.aload_n 3, 1) := dk_45 (dk_at dksX3_item_0 12 rfl rfl)
theorem dX3_item_13 : decode cX3_item 13 = .ok (.checkcast 13, 3) := dk_192 0 13 (dk_at dksX3_item_0 13 rfl rfl)
theorem dX3_item_16 : decode cX3_item 16 = .ok (.astore_n 2, 1) := dk_77 (dk_at dksX3_item_0 16 rfl rfl)
theorem dX3_item_17 : decode cX3_item 17 = .ok (.aload_n 2, 1) := dk_44 (dk_at dksX3_item_0 17 rfl rfl)
theorem dX3_item_18 : decode cX3_item 18 = .ok (.iload_n 1, 1) := dk_27 (dk_at dksX3_item_0 18 rfl rfl)
theorem dX3_item_19 : decode cX3_item 19 = .ok (.iaload, 1) := dk_46 (dk_at dksX3_item_0 19 rfl rfl)
theorem dX3_item_20 : decode cX3_item 20 = .ok (.i2l, 1) := dk_133 (dk_at dksX3_item_0 20 rfl rfl)
theorem dX3_item_21 : decode cX3_item 21 = .ok (.goto 12, 3) := dk_167 0 12 (dk_at dksX3_item_0 21 rfl rfl)
theorem dX3_item_24 : decode cX3_item 24 = .ok (.aload_n 0, 1) := dk_42 (dk_at dksX3_item_1 0 rfl rfl)
theorem dX3_item_25 : decode cX3_item 25 = .ok (.getfield 7, 3) := dk_180 0 7 (dk_at dksX3_item_1 1 rfl rfl)
theorem dX3_item_28 : decode cX3_item 28 = .ok (.checkcast 15, 3) := dk_192 0 15 (dk_at dksX3_item_1 4 rfl rfl)
theorem dX3_item_31 : decode cX3_item 31 = .ok (.iload_n 1, 1) := dk_27 (dk_at dksX3_item_1 7 rfl rfl)
theorem dX3_item_32 : decode cX3_item 32 = .ok (.laload, 1) := dk_47 (dk_at dksX3_item_1 8 rfl rfl)
theorem dX3_item_33 : decode cX3_item 33 = .ok (.lreturn, 1) := dk_173 (dk_at dksX3_item_1 9 rfl rfl)
abbrev cX3_lay : ByteArray := prog_4_method_4_code
def yX3_lay : MethodName := ⟨RX3, "lay", "(III)V"⟩
def dkwX3_lay_1 : List UInt8 := [25, 4, 28, 92, 47, 9, 97, 80, 25, 4, 28, 29, 133, 29, 133, 105, 29, 133, 184, 0, 17, 80, 177]
abbrev dktX3_lay_1 : List UInt8 := dkwX3_lay_1 ++ []
def dkwX3_lay_0 : List UInt8 := [27, 154, 0, 14, 42, 180, 0, 7, 192, 0, 13, 28, 29, 79, 177, 42, 180, 0, 7, 192, 0, 15, 58, 4]
abbrev dktX3_lay_0 : List UInt8 := dkwX3_lay_0 ++ dktX3_lay_1
theorem dksX3_lay_0 : cX3_lay.data.toList.drop 0 = dktX3_lay_0 := by decide +kernel
theorem dksX3_lay_1 : cX3_lay.data.toList.drop 24 = dktX3_lay_1 := dk_seg dksX3_lay_0 24 rfl rfl
theorem dX3_lay_0 : decode cX3_lay 0 = .ok (.iload_n 1, 1) := dk_27 (dk_at dksX3_lay_0 0 rfl rfl)
theorem dX3_lay_1 : decode cX3_lay 1 = .ok (.ifCond .ne 14, 3) := dk_154 0 14 (dk_at dksX3_lay_0 1 rfl rfl)
theorem dX3_lay_4 : decode cX3_lay 4 = .ok (.aload_n 0, 1) := dk_42 (dk_at dksX3_lay_0 4 rfl rfl)
theorem dX3_lay_5 : decode cX3_lay 5 = .ok (.getfield 7, 3) := dk_180 0 7 (dk_at dksX3_lay_0 5 rfl rfl)
theorem dX3_lay_8 : decode cX3_lay 8 = .ok (.checkcast 13, 3) := dk_192 0 13 (dk_at dksX3_lay_0 8 rfl rfl)
theorem dX3_lay_11 : decode cX3_lay 11 = .ok (.iload_n 2, 1) := dk_28 (dk_at dksX3_lay_0 11 rfl rfl)
theorem dX3_lay_12 : decode cX3_lay 12 = .ok (.iload_n 3, 1) := dk_29 (dk_at dksX3_lay_0 12 rfl rfl)
theorem dX3_lay_13 : decode cX3_lay 13 = .ok (.iastore, 1) := dk_79 (dk_at dksX3_lay_0 13 rfl rfl)
theorem dX3_lay_14 : decode cX3_lay 14 = .ok (.return_, 1) := dk_177 (dk_at dksX3_lay_0 14 rfl rfl)
theorem dX3_lay_15 : decode cX3_lay 15 = .ok (.aload_n 0, 1) := dk_42 (dk_at dksX3_lay_0 15 rfl rfl)
theorem dX3_lay_16 : decode cX3_lay 16 = .ok (.getfield 7, 3) := dk_180 0 7 (dk_at dksX3_lay_0 16 rfl rfl)
theorem dX3_lay_19 : decode cX3_lay 19 = .ok (.checkcast 15, 3) := dk_192 0 15 (dk_at dksX3_lay_0 19 rfl rfl)
theorem dX3_lay_22 : decode cX3_lay 22 = .ok (.astore 4, 2) := dk_58 4 (dk_at dksX3_lay_0 22 rfl rfl)
theorem dX3_lay_24 : decode cX3_lay 24 = .ok (.aload 4, 2) := dk_25 4 (dk_at dksX3_lay_1 0 rfl rfl)
theorem dX3_lay_26 : decode cX3_lay 26 = .ok (.iload_n 2, 1) := dk_28 (dk_at dksX3_lay_1 2 rfl rfl)
theorem dX3_lay_27 : decode cX3_lay 27 = .ok (.dup2, 1) := dk_92 (dk_at dksX3_lay_1 3 rfl rfl)
theorem dX3_lay_28 : decode cX3_lay 28 = .ok (.laload, 1) := dk_47 (dk_at dksX3_lay_1 4 rfl rfl)
theorem dX3_lay_29 : decode cX3_lay 29 = .ok (.lconst 0, 1) := dk_9 (dk_at dksX3_lay_1 5 rfl rfl)
theorem dX3_lay_30 : decode cX3_lay 30 = .ok (.ladd, 1) := dk_97 (dk_at dksX3_lay_1 6 rfl rfl)
theorem dX3_lay_31 : decode cX3_lay 31 = .ok (.lastore, 1) := dk_80 (dk_at dksX3_lay_1 7 rfl rfl)
theorem dX3_lay_32 : decode cX3_lay 32 = .ok (.aload 4, 2) := dk_25 4 (dk_at dksX3_lay_1 8 rfl rfl)
theorem dX3_lay_34 : decode cX3_lay 34 = .ok (.iload_n 2, 1) := dk_28 (dk_at dksX3_lay_1 10 rfl rfl)
theorem dX3_lay_35 : decode cX3_lay 35 = .ok (.iload_n 3, 1) := dk_29 (dk_at dksX3_lay_1 11 rfl rfl)
theorem dX3_lay_36 : decode cX3_lay 36 = .ok (.i2l, 1) := dk_133 (dk_at dksX3_lay_1 12 rfl rfl)
theorem dX3_lay_37 : decode cX3_lay 37 = .ok (.iload_n 3, 1) := dk_29 (dk_at dksX3_lay_1 13 rfl rfl)
theorem dX3_lay_38 : decode cX3_lay 38 = .ok (.i2l, 1) := dk_133 (dk_at dksX3_lay_1 14 rfl rfl)
theorem dX3_lay_39 : decode cX3_lay 39 = .ok (.lmul, 1) := dk_105 (dk_at dksX3_lay_1 15 rfl rfl)
theorem dX3_lay_40 : decode cX3_lay 40 = .ok (.iload_n 3, 1) := dk_29 (dk_at dksX3_lay_1 16 rfl rfl)
theorem dX3_lay_41 : decode cX3_lay 41 = .ok (.i2l, 1) := dk_133 (dk_at dksX3_lay_1 17 rfl rfl)
theorem dX3_lay_42 : decode cX3_lay 42 = .ok (.invokestatic 17, 3) := dk_184 0 17 (dk_at dksX3_lay_1 18 rfl rfl)
theorem dX3_lay_45 : decode cX3_lay 45 = .ok (.lastore, 1) := dk_80 (dk_at dksX3_lay_1 21 rfl rfl)
theorem dX3_lay_46 : decode cX3_lay 46 = .ok (.return_, 1) := dk_177 (dk_at dksX3_lay_1 22 rfl rfl)
abbrev cX3_lays : ByteArray := prog_4_method_5_code
def yX3_lays : MethodName := ⟨RX3, "lays", "(IJ)V"⟩
def dkwX3_lays_1 : List UInt8 := [32, 136, 79, 167, 0, 13, 42, 180, 0, 7, 192, 0, 15, 27, 32, 80, 177]
abbrev dktX3_lays_1 : List UInt8 := dkwX3_lays_1 ++ []
def dkwX3_lays_0 : List UInt8 := [42, 180, 0, 7, 58, 5, 25, 5, 193, 0, 13, 153, 0, 19, 25, 5, 192, 0, 13, 58, 4, 25, 4, 27]
abbrev dktX3_lays_0 : List UInt8 := dkwX3_lays_0 ++ dktX3_lays_1
theorem dksX3_lays_0 : cX3_lays.data.toList.drop 0 = dktX3_lays_0 := by decide +kernel
theorem dksX3_lays_1 : cX3_lays.data.toList.drop 24 = dktX3_lays_1 := dk_seg dksX3_lays_0 24 rfl rfl
theorem dX3_lays_0 : decode cX3_lays 0 = .ok (.aload_n 0, 1) := dk_42 (dk_at dksX3_lays_0 0 rfl rfl)
theorem dX3_lays_1 : decode cX3_lays 1 = .ok (.getfield 7, 3) := dk_180 0 7 (dk_at dksX3_lays_0 1 rfl rfl)
theorem dX3_lays_4 : decode cX3_lays 4 = .ok (.astore 5, 2) := dk_58 5 (dk_at dksX3_lays_0 4 rfl rfl)
theorem dX3_lays_6 : decode cX3_lays 6 = .ok (.aload 5, 2) := dk_25 5 (dk_at dksX3_lays_0 6 rfl rfl)
theorem dX3_lays_8 : decode cX3_lays 8 = .ok (.instanceof 13, 3) := dk_193 0 13 (dk_at dksX3_lays_0 8 rfl rfl)
theorem dX3_lays_11 : decode cX3_lays 11 = .ok (.ifCond .eq 19, 3) := dk_153 0 19 (dk_at dksX3_lays_0 11 rfl rfl)
theorem dX3_lays_14 : decode cX3_lays 14 = .ok (.aload 5, 2) := dk_25 5 (dk_at dksX3_lays_0 14 rfl rfl)
theorem dX3_lays_16 : decode cX3_lays 16 = .ok (.checkcast 13, 3) := dk_192 0 13 (dk_at dksX3_lays_0 16 rfl rfl)
theorem dX3_lays_19 : decode cX3_lays 19 = .ok (.astore 4, 2) := dk_58 4 (dk_at dksX3_lays_0 19 rfl rfl)
theorem dX3_lays_21 : decode cX3_lays 21 = .ok (.aload 4, 2) := dk_25 4 (dk_at dksX3_lays_0 21 rfl rfl)
theorem dX3_lays_23 : decode cX3_lays 23 = .ok (.iload_n 1, 1) := dk_27 (dk_at dksX3_lays_0 23 rfl rfl)
theorem dX3_lays_24 : decode cX3_lays 24 = .ok (.lload_n 2, 1) := dk_32 (dk_at dksX3_lays_1 0 rfl rfl)
theorem dX3_lays_25 : decode cX3_lays 25 = .ok (.l2i, 1) := dk_136 (dk_at dksX3_lays_1 1 rfl rfl)
theorem dX3_lays_26 : decode cX3_lays 26 = .ok (.iastore, 1) := dk_79 (dk_at dksX3_lays_1 2 rfl rfl)
theorem dX3_lays_27 : decode cX3_lays 27 = .ok (.goto 13, 3) := dk_167 0 13 (dk_at dksX3_lays_1 3 rfl rfl)
theorem dX3_lays_30 : decode cX3_lays 30 = .ok (.aload_n 0, 1) := dk_42 (dk_at dksX3_lays_1 6 rfl rfl)
theorem dX3_lays_31 : decode cX3_lays 31 = .ok (.getfield 7, 3) := dk_180 0 7 (dk_at dksX3_lays_1 7 rfl rfl)
theorem dX3_lays_34 : decode cX3_lays 34 = .ok (.checkcast 15, 3) := dk_192 0 15 (dk_at dksX3_lays_1 10 rfl rfl)
theorem dX3_lays_37 : decode cX3_lays 37 = .ok (.iload_n 1, 1) := dk_27 (dk_at dksX3_lays_1 13 rfl rfl)
theorem dX3_lays_38 : decode cX3_lays 38 = .ok (.lload_n 2, 1) := dk_32 (dk_at dksX3_lays_1 14 rfl rfl)
theorem dX3_lays_39 : decode cX3_lays 39 = .ok (.lastore, 1) := dk_80 (dk_at dksX3_lays_1 15 rfl rfl)
theorem dX3_lays_40 : decode cX3_lays 40 = .ok (.return_, 1) := dk_177 (dk_at dksX3_lays_1 16 rfl rfl)
theorem q88 : (Jvm.Cond.initialized "LeastFrames$Sheet") ∈ lw_all := lw_g (lw_at lw_m1 4 rfl) rfl
theorem q182 : (Jvm.Cond.instantiable "LeastFrames$Sheet" (1 : Nat)) ∈ lw_all := lw_g (lw_at lw_m1 98 rfl) rfl
theorem q184 : (Jvm.Cond.instanceMethod ({ cls := "LeastFrames$Sheet", name := "<init>", desc := "()V" } : Jvm.MethodName)) ∈ lw_all := lw_g (lw_at lw_m1 100 rfl) rfl
theorem q185 : (Jvm.Cond.code ({ cls := "LeastFrames$Sheet", name := "<init>", desc := "()V" } : Jvm.MethodName) prog_4_method_1_code (1 : Nat) (Option.none : Option Jvm.ClassFile.FieldType)) ∈ lw_all := lw_g (lw_at lw_m1 101 rfl) rfl
theorem q186 : (Jvm.Cond.methodLink "LeastFrames$Sheet" (1 : Nat) ({ cls := "java/lang/Object", name := "<init>", desc := "()V" } : Jvm.MethodName)) ∈ lw_all := lw_g (lw_at lw_m1 102 rfl) rfl
theorem q187 : (Jvm.Cond.fieldLink "LeastFrames$Sheet" (7 : Nat) "LeastFrames$Sheet" "row" "Ljava/lang/Object;") ∈ lw_all := lw_g (lw_at lw_m1 103 rfl) rfl
theorem q189 : (Jvm.Cond.lays "LeastFrames$Sheet" "LeastFrames$Sheet" "row" "Ljava/lang/Object;") ∈ lw_all := lw_g (lw_at lw_m1 105 rfl) rfl
theorem q190 : (Jvm.Cond.soleField "LeastFrames$Sheet" "row") ∈ lw_all := lw_g (lw_at lw_m1 106 rfl) rfl
theorem q191 : (Jvm.Cond.superclass "LeastFrames$Sheet" "java/lang/Object") ∈ lw_all := lw_g (lw_at lw_m1 107 rfl) rfl
theorem q297 : (Jvm.Cond.instanceMethod ({ cls := "LeastFrames$Sheet", name := "size", desc := "()I" } : Jvm.MethodName)) ∈ lw_all := lw_g (lw_at lw_m1 213 rfl) rfl
theorem q298 : (Jvm.Cond.selects "LeastFrames$Sheet" ({ cls := "LeastFrames$Sheet", name := "size", desc := "()I" } : Jvm.MethodName) ({ cls := "LeastFrames$Sheet", name := "size", desc := "()I" } : Jvm.MethodName)) ∈ lw_all := lw_g (lw_at lw_m1 214 rfl) rfl
theorem q299 : (Jvm.Cond.code ({ cls := "LeastFrames$Sheet", name := "size", desc := "()I" } : Jvm.MethodName) prog_4_method_2_code (3 : Nat) (Option.some Jvm.ClassFile.FieldType.int)) ∈ lw_all := lw_g (lw_at lw_m1 215 rfl) rfl
theorem q300 : (Jvm.Cond.classLink "LeastFrames$Sheet" (13 : Nat) "[I") ∈ lw_all := lw_g (lw_at lw_m1 216 rfl) rfl
theorem q301 : (Jvm.Cond.classLink "LeastFrames$Sheet" (15 : Nat) "[J") ∈ lw_all := lw_g (lw_at lw_m1 217 rfl) rfl
theorem q303 : (Jvm.Cond.instanceMethod ({ cls := "LeastFrames$Sheet", name := "item", desc := "(I)J" } : Jvm.MethodName)) ∈ lw_all := lw_g (lw_at lw_m1 219 rfl) rfl
theorem q304 : (Jvm.Cond.selects "LeastFrames$Sheet" ({ cls := "LeastFrames$Sheet", name := "item", desc := "(I)J" } : Jvm.MethodName) ({ cls := "LeastFrames$Sheet", name := "item", desc := "(I)J" } : Jvm.MethodName)) ∈ lw_all := lw_g (lw_at lw_m1 220 rfl) rfl
theorem q305 : (Jvm.Cond.code ({ cls := "LeastFrames$Sheet", name := "item", desc := "(I)J" } : Jvm.MethodName) prog_4_method_3_code (4 : Nat) (Option.some Jvm.ClassFile.FieldType.long)) ∈ lw_all := lw_g (lw_at lw_m1 221 rfl) rfl
theorem q832 : (Jvm.Cond.instanceMethod ({ cls := "LeastFrames$Sheet", name := "lay", desc := "(III)V" } : Jvm.MethodName)) ∈ lw_all := lw_g (lw_at lw_m4 28 rfl) rfl
theorem q833 : (Jvm.Cond.selects "LeastFrames$Sheet" ({ cls := "LeastFrames$Sheet", name := "lay", desc := "(III)V" } : Jvm.MethodName) ({ cls := "LeastFrames$Sheet", name := "lay", desc := "(III)V" } : Jvm.MethodName)) ∈ lw_all := lw_g (lw_at lw_m4 29 rfl) rfl
theorem q834 : (Jvm.Cond.code ({ cls := "LeastFrames$Sheet", name := "lay", desc := "(III)V" } : Jvm.MethodName) prog_4_method_4_code (5 : Nat) (Option.none : Option Jvm.ClassFile.FieldType)) ∈ lw_all := lw_g (lw_at lw_m4 30 rfl) rfl
theorem q835 : (Jvm.Cond.methodLink "LeastFrames$Sheet" (17 : Nat) ({ cls := "java/lang/Math", name := "multiplyExact", desc := "(JJ)J" } : Jvm.MethodName)) ∈ lw_all := lw_g (lw_at lw_m4 31 rfl) rfl
theorem q900 : (Jvm.Cond.instanceMethod ({ cls := "LeastFrames$Sheet", name := "lays", desc := "(IJ)V" } : Jvm.MethodName)) ∈ lw_all := lw_g (lw_at lw_m4 96 rfl) rfl
theorem q901 : (Jvm.Cond.selects "LeastFrames$Sheet" ({ cls := "LeastFrames$Sheet", name := "lays", desc := "(IJ)V" } : Jvm.MethodName) ({ cls := "LeastFrames$Sheet", name := "lays", desc := "(IJ)V" } : Jvm.MethodName)) ∈ lw_all := lw_g (lw_at lw_m4 97 rfl) rfl
theorem q902 : (Jvm.Cond.code ({ cls := "LeastFrames$Sheet", name := "lays", desc := "(IJ)V" } : Jvm.MethodName) prog_4_method_5_code (6 : Nat) (Option.none : Option Jvm.ClassFile.FieldType)) ∈ lw_all := lw_g (lw_at lw_m4 98 rfl) rfl
theorem in_X3 : ∀ w ∈ wsX30, w ∈ lw_all := lw_in wsX30 [189] (by decide +kernel) (by decide +kernel)
/-! LeastFrames$Unborne -/
set_option maxRecDepth 100000
def RX5 : String := "LeastFrames$Unborne"
def TX5 : u_T := fun k => match k with
  | 0 => ("java/lang/Throwable", "cause", "Ljava/lang/Throwable;", false)
  | 1 => ("java/lang/Throwable", "stackTrace", "[Ljava/lang/StackTraceElement;", false)
  | 2 => ("java/lang/Throwable", "suppressedExceptions", "Ljava/util/List;", false)
  | 3 => ("java/lang/Throwable", "detailMessage", "Ljava/lang/String;", false)
  | 4 => ("java/lang/Throwable", "backtrace", "Ljava/lang/Object;", false)
  | 5 => ("java/lang/Throwable", "depth", "I", false)
  | _ => ("LeastFrames$Unborne", "way", "I", true)
def tyX5 : Nat → FieldType := fun k => match k with
  | 0 => .object "java/lang/Throwable"
  | 1 => .array (.object "java/lang/StackTraceElement")
  | 2 => .object "java/util/List"
  | 3 => .object "java/lang/String"
  | 4 => .object "java/lang/Object"
  | 5 => .int
  | _ => .int
abbrev wsX50 : List Cond := u_ws RX5 TX5 7
theorem nmX5 : ∀ a, a < 7 → ∀ b, b < 7 → a ≠ b → (TX5 a).2.1 ≠ (TX5 b).2.1 := by decide +kernel
theorem tyX5_ok : ∀ k, k < 7 → parseFieldDescriptor (TX5 k).2.2.1 = some (tyX5 k) := by decide +kernel
abbrev cX5_init : ByteArray := prog_5_method_1_code
def yX5_init : MethodName := ⟨RX5, "<init>", "(I)V"⟩
def dkwX5_init_0 : List UInt8 := [42, 183, 0, 1, 42, 27, 181, 0, 7, 177]
abbrev dktX5_init_0 : List UInt8 := dkwX5_init_0 ++ []
theorem dksX5_init_0 : cX5_init.data.toList.drop 0 = dktX5_init_0 := by decide +kernel
theorem dX5_init_0 : decode cX5_init 0 = .ok (.aload_n 0, 1) := dk_42 (dk_at dksX5_init_0 0 rfl rfl)
theorem dX5_init_1 : decode cX5_init 1 = .ok (.invokespecial 1, 3) := dk_183 0 1 (dk_at dksX5_init_0 1 rfl rfl)
theorem dX5_init_4 : decode cX5_init 4 = .ok (.aload_n 0, 1) := dk_42 (dk_at dksX5_init_0 4 rfl rfl)
theorem dX5_init_5 : decode cX5_init 5 = .ok (.iload_n 1, 1) := dk_27 (dk_at dksX5_init_0 5 rfl rfl)
theorem dX5_init_6 : decode cX5_init 6 = .ok (.putfield 7, 3) := dk_181 0 7 (dk_at dksX5_init_0 6 rfl rfl)
theorem dX5_init_9 : decode cX5_init 9 = .ok (.return_, 1) := dk_177 (dk_at dksX5_init_0 9 rfl rfl)
theorem q92 : (Jvm.Cond.initialized "LeastFrames$Unborne") ∈ lw_all := lw_g (lw_at lw_m1 8 rfl) rfl
theorem q396 : (Jvm.Cond.instantiable "LeastFrames$Unborne" (7 : Nat)) ∈ lw_all := lw_g (lw_at lw_m2 72 rfl) rfl
theorem q397 : (Jvm.Cond.castable "LeastFrames$Unborne" "LeastFrames$Unborne") ∈ lw_tbl := lw_at lw_m2 73 rfl
theorem q402 : (Jvm.Cond.selects "LeastFrames$Unborne" ({ cls := "java/lang/Throwable", name := "fillInStackTrace", desc := "(I)Ljava/lang/Throwable;" } : Jvm.MethodName) ({ cls := "java/lang/Throwable", name := "fillInStackTrace", desc := "(I)Ljava/lang/Throwable;" } : Jvm.MethodName)) ∈ lw_all := lw_g (lw_at lw_m2 78 rfl) rfl
theorem q403 : (Jvm.Cond.selects "LeastFrames$Unborne" ({ cls := "java/lang/Throwable", name := "fillInStackTrace", desc := "()Ljava/lang/Throwable;" } : Jvm.MethodName) ({ cls := "java/lang/Throwable", name := "fillInStackTrace", desc := "()Ljava/lang/Throwable;" } : Jvm.MethodName)) ∈ lw_all := lw_g (lw_at lw_m2 79 rfl) rfl
theorem q404 : (Jvm.Cond.lays "LeastFrames$Unborne" "java/lang/Throwable" "cause" "Ljava/lang/Throwable;") ∈ lw_all := lw_g (lw_at lw_m2 80 rfl) rfl
theorem q406 : (Jvm.Cond.lays "LeastFrames$Unborne" "java/lang/Throwable" "stackTrace" "[Ljava/lang/StackTraceElement;") ∈ lw_all := lw_g (lw_at lw_m2 82 rfl) rfl
theorem q408 : (Jvm.Cond.lays "LeastFrames$Unborne" "java/lang/Throwable" "suppressedExceptions" "Ljava/util/List;") ∈ lw_all := lw_g (lw_at lw_m2 84 rfl) rfl
theorem q410 : (Jvm.Cond.lays "LeastFrames$Unborne" "java/lang/Throwable" "detailMessage" "Ljava/lang/String;") ∈ lw_all := lw_g (lw_at lw_m2 86 rfl) rfl
theorem q412 : (Jvm.Cond.lays "LeastFrames$Unborne" "java/lang/Throwable" "backtrace" "Ljava/lang/Object;") ∈ lw_all := lw_g (lw_at lw_m2 88 rfl) rfl
theorem q457 : (Jvm.Cond.instanceMethod ({ cls := "LeastFrames$Unborne", name := "<init>", desc := "(I)V" } : Jvm.MethodName)) ∈ lw_all := lw_g (lw_at lw_m2 133 rfl) rfl
theorem q458 : (Jvm.Cond.code ({ cls := "LeastFrames$Unborne", name := "<init>", desc := "(I)V" } : Jvm.MethodName) prog_5_method_1_code (2 : Nat) (Option.none : Option Jvm.ClassFile.FieldType)) ∈ lw_all := lw_g (lw_at lw_m2 134 rfl) rfl
theorem q459 : (Jvm.Cond.methodLink "LeastFrames$Unborne" (1 : Nat) ({ cls := "java/lang/Exception", name := "<init>", desc := "()V" } : Jvm.MethodName)) ∈ lw_all := lw_g (lw_at lw_m2 135 rfl) rfl
theorem q463 : (Jvm.Cond.fieldLink "LeastFrames$Unborne" (7 : Nat) "LeastFrames$Unborne" "way" "I") ∈ lw_all := lw_g (lw_at lw_m2 139 rfl) rfl
theorem q471 : (Jvm.Cond.laysFinal "LeastFrames$Unborne" "LeastFrames$Unborne" "way" "I") ∈ lw_all := lw_g (lw_at lw_m2 147 rfl) rfl
theorem q472 : (Jvm.Cond.soleField "LeastFrames$Unborne" "way") ∈ lw_all := lw_g (lw_at lw_m2 148 rfl) rfl
theorem q477 : (Jvm.Cond.lays "LeastFrames$Unborne" "java/lang/Throwable" "depth" "I") ∈ lw_all := lw_g (lw_at lw_m2 153 rfl) rfl
theorem q480 : (Jvm.Cond.superclass "LeastFrames$Unborne" "java/lang/Exception") ∈ lw_all := lw_g (lw_at lw_m2 156 rfl) rfl
theorem in_X5 : ∀ w ∈ wsX50, w ∈ lw_all := lw_in wsX50 [404, 406, 408, 410, 412, 477, 471] (by decide +kernel) (by decide +kernel)
/-! LeastFrames$Volume -/
set_option maxRecDepth 100000
def RX6 : String := "LeastFrames$Volume"
def TX6 : u_T := fun k => match k with
  | 0 => ("LeastFrames$Volume", "above", "J", true)
  | _ => ("LeastFrames$Volume", "below", "J", true)
def tyX6 : Nat → FieldType := fun k => match k with
  | 0 => .long
  | _ => .long
abbrev wsX60 : List Cond := u_ws RX6 TX6 2
theorem nmX6 : ∀ a, a < 2 → ∀ b, b < 2 → a ≠ b → (TX6 a).2.1 ≠ (TX6 b).2.1 := by decide +kernel
theorem tyX6_ok : ∀ k, k < 2 → parseFieldDescriptor (TX6 k).2.2.1 = some (tyX6 k) := by decide +kernel
abbrev cX6_init : ByteArray := prog_7_method_1_code
def yX6_init : MethodName := ⟨RX6, "<init>", "(JJ)V"⟩
def dkwX6_init_1 : List UInt8 := [177]
abbrev dktX6_init_1 : List UInt8 := dkwX6_init_1 ++ []
def dkwX6_init_0 : List UInt8 := [42, 183, 0, 1, 42, 31, 33, 3, 184, 0, 7, 181, 0, 13, 42, 31, 33, 4, 184, 0, 7, 181, 0, 19]
abbrev dktX6_init_0 : List UInt8 := dkwX6_init_0 ++ dktX6_init_1
theorem dksX6_init_0 : cX6_init.data.toList.drop 0 = dktX6_init_0 := by decide +kernel
theorem dksX6_init_1 : cX6_init.data.toList.drop 24 = dktX6_init_1 := dk_seg dksX6_init_0 24 rfl rfl
theorem dX6_init_0 : decode cX6_init 0 = .ok (.aload_n 0, 1) := dk_42 (dk_at dksX6_init_0 0 rfl rfl)
theorem dX6_init_1 : decode cX6_init 1 = .ok (.invokespecial 1, 3) := dk_183 0 1 (dk_at dksX6_init_0 1 rfl rfl)
theorem dX6_init_4 : decode cX6_init 4 = .ok (.aload_n 0, 1) := dk_42 (dk_at dksX6_init_0 4 rfl rfl)
theorem dX6_init_5 : decode cX6_init 5 = .ok (.lload_n 1, 1) := dk_31 (dk_at dksX6_init_0 5 rfl rfl)
theorem dX6_init_6 : decode cX6_init 6 = .ok (.lload_n 3, 1) := dk_33 (dk_at dksX6_init_0 6 rfl rfl)
theorem dX6_init_7 : decode cX6_init 7 = .ok (.iconst 0, 1) := dk_3 (dk_at dksX6_init_0 7 rfl rfl)
theorem dX6_init_8 : decode cX6_init 8 = .ok (.invokestatic 7, 3) := dk_184 0 7 (dk_at dksX6_init_0 8 rfl rfl)
theorem dX6_init_11 : decode cX6_init 11 = .ok (.putfield 13, 3) := dk_181 0 13 (dk_at dksX6_init_0 11 rfl rfl)
theorem dX6_init_14 : decode cX6_init 14 = .ok (.aload_n 0, 1) := dk_42 (dk_at dksX6_init_0 14 rfl rfl)
theorem dX6_init_15 : decode cX6_init 15 = .ok (.lload_n 1, 1) := dk_31 (dk_at dksX6_init_0 15 rfl rfl)
theorem dX6_init_16 : decode cX6_init 16 = .ok (.lload_n 3, 1) := dk_33 (dk_at dksX6_init_0 16 rfl rfl)
theorem dX6_init_17 : decode cX6_init 17 = .ok (.iconst 1, 1) := dk_4 (dk_at dksX6_init_0 17 rfl rfl)
theorem dX6_init_18 : decode cX6_init 18 = .ok (.invokestatic 7, 3) := dk_184 0 7 (dk_at dksX6_init_0 18 rfl rfl)
theorem dX6_init_21 : decode cX6_init 21 = .ok (.putfield 19, 3) := dk_181 0 19 (dk_at dksX6_init_0 21 rfl rfl)
theorem dX6_init_24 : decode cX6_init 24 = .ok (.return_, 1) := dk_177 (dk_at dksX6_init_1 0 rfl rfl)
abbrev cX6_isLess : ByteArray := prog_7_method_2_code
def yX6_isLess : MethodName := ⟨RX6, "isLess", "(LLeastFrames$Volume;)Z"⟩
def dkwX6_isLess_1 : List UInt8 := [167, 0, 4, 3, 172]
abbrev dktX6_isLess_1 : List UInt8 := dkwX6_isLess_1 ++ []
def dkwX6_isLess_0 : List UInt8 := [42, 180, 0, 13, 43, 180, 0, 19, 105, 43, 180, 0, 13, 42, 180, 0, 19, 105, 148, 156, 0, 7, 4]
abbrev dktX6_isLess_0 : List UInt8 := dkwX6_isLess_0 ++ dktX6_isLess_1
theorem dksX6_isLess_0 : cX6_isLess.data.toList.drop 0 = dktX6_isLess_0 := by decide +kernel
theorem dksX6_isLess_1 : cX6_isLess.data.toList.drop 23 = dktX6_isLess_1 := dk_seg dksX6_isLess_0 23 rfl rfl
theorem dX6_isLess_0 : decode cX6_isLess 0 = .ok (.aload_n 0, 1) := dk_42 (dk_at dksX6_isLess_0 0 rfl rfl)
theorem dX6_isLess_1 : decode cX6_isLess 1 = .ok (.getfield 13, 3) := dk_180 0 13 (dk_at dksX6_isLess_0 1 rfl rfl)
theorem dX6_isLess_4 : decode cX6_isLess 4 = .ok (.aload_n 1, 1) := dk_43 (dk_at dksX6_isLess_0 4 rfl rfl)
theorem dX6_isLess_5 : decode cX6_isLess 5 = .ok (.getfield 19, 3) := dk_180 0 19 (dk_at dksX6_isLess_0 5 rfl rfl)
theorem dX6_isLess_8 : decode cX6_isLess 8 = .ok (.lmul, 1) := dk_105 (dk_at dksX6_isLess_0 8 rfl rfl)
theorem dX6_isLess_9 : decode cX6_isLess 9 = .ok (.aload_n 1, 1) := dk_43 (dk_at dksX6_isLess_0 9 rfl rfl)
theorem dX6_isLess_10 : decode cX6_isLess 10 = .ok (.getfield 13, 3) := dk_180 0 13 (dk_at dksX6_isLess_0 10 rfl rfl)
theorem dX6_isLess_13 : decode cX6_isLess 13 = .ok (.aload_n 0, 1) := dk_42 (dk_at dksX6_isLess_0 13 rfl rfl)
theorem dX6_isLess_14 : decode cX6_isLess 14 = .ok (.getfield 19, 3) := dk_180 0 19 (dk_at dksX6_isLess_0 14 rfl rfl)
theorem dX6_isLess_17 : decode cX6_isLess 17 = .ok (.lmul, 1) := dk_105 (dk_at dksX6_isLess_0 17 rfl rfl)
theorem dX6_isLess_18 : decode cX6_isLess 18 = .ok (.lcmp, 1) := dk_148 (dk_at dksX6_isLess_0 18 rfl rfl)
theorem dX6_isLess_19 : decode cX6_isLess 19 = .ok (.ifCond .ge 7, 3) := dk_156 0 7 (dk_at dksX6_isLess_0 19 rfl rfl)
theorem dX6_isLess_22 : decode cX6_isLess 22 = .ok (.iconst 1, 1) := dk_4 (dk_at dksX6_isLess_0 22 rfl rfl)
theorem dX6_isLess_23 : decode cX6_isLess 23 = .ok (.goto 4, 3) := dk_167 0 4 (dk_at dksX6_isLess_1 0 rfl rfl)
theorem dX6_isLess_26 : decode cX6_isLess 26 = .ok (.iconst 0, 1) := dk_3 (dk_at dksX6_isLess_1 3 rfl rfl)
theorem dX6_isLess_27 : decode cX6_isLess 27 = .ok (.ireturn, 1) := dk_172 (dk_at dksX6_isLess_1 4 rfl rfl)
abbrev cX6_tells : ByteArray := prog_7_method_3_code
def yX6_tells : MethodName := ⟨RX6, "tells", "(I)J"⟩
def dkwX6_tells_0 : List UInt8 := [27, 154, 0, 10, 42, 180, 0, 13, 167, 0, 7, 42, 180, 0, 19, 173]
abbrev dktX6_tells_0 : List UInt8 := dkwX6_tells_0 ++ []
theorem dksX6_tells_0 : cX6_tells.data.toList.drop 0 = dktX6_tells_0 := by decide +kernel
theorem dX6_tells_0 : decode cX6_tells 0 = .ok (.iload_n 1, 1) := dk_27 (dk_at dksX6_tells_0 0 rfl rfl)
theorem dX6_tells_1 : decode cX6_tells 1 = .ok (.ifCond .ne 10, 3) := dk_154 0 10 (dk_at dksX6_tells_0 1 rfl rfl)
theorem dX6_tells_4 : decode cX6_tells 4 = .ok (.aload_n 0, 1) := dk_42 (dk_at dksX6_tells_0 4 rfl rfl)
theorem dX6_tells_5 : decode cX6_tells 5 = .ok (.getfield 13, 3) := dk_180 0 13 (dk_at dksX6_tells_0 5 rfl rfl)
theorem dX6_tells_8 : decode cX6_tells 8 = .ok (.goto 7, 3) := dk_167 0 7 (dk_at dksX6_tells_0 8 rfl rfl)
theorem dX6_tells_11 : decode cX6_tells 11 = .ok (.aload_n 0, 1) := dk_42 (dk_at dksX6_tells_0 11 rfl rfl)
theorem dX6_tells_12 : decode cX6_tells 12 = .ok (.getfield 19, 3) := dk_180 0 19 (dk_at dksX6_tells_0 12 rfl rfl)
theorem dX6_tells_15 : decode cX6_tells 15 = .ok (.lreturn, 1) := dk_173 (dk_at dksX6_tells_0 15 rfl rfl)
abbrev cX6_less : ByteArray := prog_7_method_4_code
def yX6_less : MethodName := ⟨RX6, "less", "(LLeastFrames$Volume;)LLeastFrames$Volume;"⟩
def dkwX6_less_1 : List UInt8 := [180, 0, 19, 43, 180, 0, 19, 105, 183, 0, 22, 176]
abbrev dktX6_less_1 : List UInt8 := dkwX6_less_1 ++ []
def dkwX6_less_0 : List UInt8 := [187, 0, 14, 89, 42, 180, 0, 13, 43, 180, 0, 19, 105, 43, 180, 0, 13, 42, 180, 0, 19, 105, 101, 42]
abbrev dktX6_less_0 : List UInt8 := dkwX6_less_0 ++ dktX6_less_1
theorem dksX6_less_0 : cX6_less.data.toList.drop 0 = dktX6_less_0 := by decide +kernel
theorem dksX6_less_1 : cX6_less.data.toList.drop 24 = dktX6_less_1 := dk_seg dksX6_less_0 24 rfl rfl
theorem dX6_less_0 : decode cX6_less 0 = .ok (.new 14, 3) := dk_187 0 14 (dk_at dksX6_less_0 0 rfl rfl)
theorem dX6_less_3 : decode cX6_less 3 = .ok (.dup, 1) := dk_89 (dk_at dksX6_less_0 3 rfl rfl)
theorem dX6_less_4 : decode cX6_less 4 = .ok (.aload_n 0, 1) := dk_42 (dk_at dksX6_less_0 4 rfl rfl)
theorem dX6_less_5 : decode cX6_less 5 = .ok (.getfield 13, 3) := dk_180 0 13 (dk_at dksX6_less_0 5 rfl rfl)
theorem dX6_less_8 : decode cX6_less 8 = .ok (.aload_n 1, 1) := dk_43 (dk_at dksX6_less_0 8 rfl rfl)
theorem dX6_less_9 : decode cX6_less 9 = .ok (.getfield 19, 3) := dk_180 0 19 (dk_at dksX6_less_0 9 rfl rfl)
theorem dX6_less_12 : decode cX6_less 12 = .ok (.lmul, 1) := dk_105 (dk_at dksX6_less_0 12 rfl rfl)
theorem dX6_less_13 : decode cX6_less 13 = .ok (.aload_n 1, 1) := dk_43 (dk_at dksX6_less_0 13 rfl rfl)
theorem dX6_less_14 : decode cX6_less 14 = .ok (.getfield 13, 3) := dk_180 0 13 (dk_at dksX6_less_0 14 rfl rfl)
theorem dX6_less_17 : decode cX6_less 17 = .ok (.aload_n 0, 1) := dk_42 (dk_at dksX6_less_0 17 rfl rfl)
theorem dX6_less_18 : decode cX6_less 18 = .ok (.getfield 19, 3) := dk_180 0 19 (dk_at dksX6_less_0 18 rfl rfl)
theorem dX6_less_21 : decode cX6_less 21 = .ok (.lmul, 1) := dk_105 (dk_at dksX6_less_0 21 rfl rfl)
theorem dX6_less_22 : decode cX6_less 22 = .ok (.lsub, 1) := dk_101 (dk_at dksX6_less_0 22 rfl rfl)
theorem dX6_less_23 : decode cX6_less 23 = .ok (.aload_n 0, 1) := dk_42 (dk_at dksX6_less_0 23 rfl rfl)
theorem dX6_less_24 : decode cX6_less 24 = .ok (.getfield 19, 3) := dk_180 0 19 (dk_at dksX6_less_1 0 rfl rfl)
theorem dX6_less_27 : decode cX6_less 27 = .ok (.aload_n 1, 1) := dk_43 (dk_at dksX6_less_1 3 rfl rfl)
theorem dX6_less_28 : decode cX6_less 28 = .ok (.getfield 19, 3) := dk_180 0 19 (dk_at dksX6_less_1 4 rfl rfl)
theorem dX6_less_31 : decode cX6_less 31 = .ok (.lmul, 1) := dk_105 (dk_at dksX6_less_1 7 rfl rfl)
theorem dX6_less_32 : decode cX6_less 32 = .ok (.invokespecial 22, 3) := dk_183 0 22 (dk_at dksX6_less_1 8 rfl rfl)
theorem dX6_less_35 : decode cX6_less 35 = .ok (.areturn, 1) := dk_176 (dk_at dksX6_less_1 11 rfl rfl)
theorem q94 : (Jvm.Cond.initialized "LeastFrames$Volume") ∈ lw_all := lw_g (lw_at lw_m1 10 rfl) rfl
theorem q502 : (Jvm.Cond.instantiable "LeastFrames$Volume" (2 : Nat)) ∈ lw_all := lw_g (lw_at lw_m2 178 rfl) rfl
theorem q504 : (Jvm.Cond.instanceMethod ({ cls := "LeastFrames$Volume", name := "<init>", desc := "(JJ)V" } : Jvm.MethodName)) ∈ lw_all := lw_g (lw_at lw_m2 180 rfl) rfl
theorem q505 : (Jvm.Cond.code ({ cls := "LeastFrames$Volume", name := "<init>", desc := "(JJ)V" } : Jvm.MethodName) prog_7_method_1_code (5 : Nat) (Option.none : Option Jvm.ClassFile.FieldType)) ∈ lw_all := lw_g (lw_at lw_m2 181 rfl) rfl
theorem q506 : (Jvm.Cond.methodLink "LeastFrames$Volume" (1 : Nat) ({ cls := "java/lang/Object", name := "<init>", desc := "()V" } : Jvm.MethodName)) ∈ lw_all := lw_g (lw_at lw_m2 182 rfl) rfl
theorem q507 : (Jvm.Cond.methodLinkNest "LeastFrames$Volume" (7 : Nat) ({ cls := "LeastFrames", name := "part", desc := "(JJI)J" } : Jvm.MethodName) "LeastFrames") ∈ lw_tbl := lw_at lw_m2 183 rfl
theorem q514 : (Jvm.Cond.fieldLink "LeastFrames$Volume" (13 : Nat) "LeastFrames$Volume" "above" "J") ∈ lw_all := lw_g (lw_at lw_m2 190 rfl) rfl
theorem q516 : (Jvm.Cond.fieldLink "LeastFrames$Volume" (19 : Nat) "LeastFrames$Volume" "below" "J") ∈ lw_all := lw_g (lw_at lw_m2 192 rfl) rfl
theorem q518 : (Jvm.Cond.laysFinal "LeastFrames$Volume" "LeastFrames$Volume" "above" "J") ∈ lw_all := lw_g (lw_at lw_m2 194 rfl) rfl
theorem q519 : (Jvm.Cond.soleField "LeastFrames$Volume" "above") ∈ lw_all := lw_g (lw_at lw_m2 195 rfl) rfl
theorem q520 : (Jvm.Cond.laysFinal "LeastFrames$Volume" "LeastFrames$Volume" "below" "J") ∈ lw_all := lw_g (lw_at lw_m2 196 rfl) rfl
theorem q521 : (Jvm.Cond.soleField "LeastFrames$Volume" "below") ∈ lw_all := lw_g (lw_at lw_m2 197 rfl) rfl
theorem q522 : (Jvm.Cond.superclass "LeastFrames$Volume" "java/lang/Object") ∈ lw_all := lw_g (lw_at lw_m2 198 rfl) rfl
theorem q528 : (Jvm.Cond.instanceMethod ({ cls := "LeastFrames$Volume", name := "isLess", desc := "(LLeastFrames$Volume;)Z" } : Jvm.MethodName)) ∈ lw_all := lw_g (lw_at lw_m2 204 rfl) rfl
theorem q529 : (Jvm.Cond.selects "LeastFrames$Volume" ({ cls := "LeastFrames$Volume", name := "isLess", desc := "(LLeastFrames$Volume;)Z" } : Jvm.MethodName) ({ cls := "LeastFrames$Volume", name := "isLess", desc := "(LLeastFrames$Volume;)Z" } : Jvm.MethodName)) ∈ lw_all := lw_g (lw_at lw_m2 205 rfl) rfl
theorem q530 : (Jvm.Cond.code ({ cls := "LeastFrames$Volume", name := "isLess", desc := "(LLeastFrames$Volume;)Z" } : Jvm.MethodName) prog_7_method_2_code (2 : Nat) (Option.some Jvm.ClassFile.FieldType.boolean)) ∈ lw_all := lw_g (lw_at lw_m2 206 rfl) rfl
theorem q536 : (Jvm.Cond.instanceMethod ({ cls := "LeastFrames$Volume", name := "tells", desc := "(I)J" } : Jvm.MethodName)) ∈ lw_all := lw_g (lw_at lw_m2 212 rfl) rfl
theorem q537 : (Jvm.Cond.selects "LeastFrames$Volume" ({ cls := "LeastFrames$Volume", name := "tells", desc := "(I)J" } : Jvm.MethodName) ({ cls := "LeastFrames$Volume", name := "tells", desc := "(I)J" } : Jvm.MethodName)) ∈ lw_all := lw_g (lw_at lw_m2 213 rfl) rfl
theorem q538 : (Jvm.Cond.code ({ cls := "LeastFrames$Volume", name := "tells", desc := "(I)J" } : Jvm.MethodName) prog_7_method_3_code (2 : Nat) (Option.some Jvm.ClassFile.FieldType.long)) ∈ lw_all := lw_g (lw_at lw_m2 214 rfl) rfl
theorem q644 : (Jvm.Cond.instanceMethod ({ cls := "LeastFrames$Volume", name := "less", desc := "(LLeastFrames$Volume;)LLeastFrames$Volume;" } : Jvm.MethodName)) ∈ lw_all := lw_g (lw_at lw_m3 80 rfl) rfl
theorem q645 : (Jvm.Cond.selects "LeastFrames$Volume" ({ cls := "LeastFrames$Volume", name := "less", desc := "(LLeastFrames$Volume;)LLeastFrames$Volume;" } : Jvm.MethodName) ({ cls := "LeastFrames$Volume", name := "less", desc := "(LLeastFrames$Volume;)LLeastFrames$Volume;" } : Jvm.MethodName)) ∈ lw_all := lw_g (lw_at lw_m3 81 rfl) rfl
theorem q646 : (Jvm.Cond.code ({ cls := "LeastFrames$Volume", name := "less", desc := "(LLeastFrames$Volume;)LLeastFrames$Volume;" } : Jvm.MethodName) prog_7_method_4_code (2 : Nat) (Option.some (Jvm.ClassFile.FieldType.object "LeastFrames$Volume"))) ∈ lw_all := lw_g (lw_at lw_m3 82 rfl) rfl
theorem q647 : (Jvm.Cond.classLink "LeastFrames$Volume" (14 : Nat) "LeastFrames$Volume") ∈ lw_all := lw_g (lw_at lw_m3 83 rfl) rfl
theorem q648 : (Jvm.Cond.methodLink "LeastFrames$Volume" (22 : Nat) ({ cls := "LeastFrames$Volume", name := "<init>", desc := "(JJ)V" } : Jvm.MethodName)) ∈ lw_all := lw_g (lw_at lw_m3 84 rfl) rfl
theorem in_X6 : ∀ w ∈ wsX60, w ∈ lw_all := lw_in wsX60 [518, 520] (by decide +kernel) (by decide +kernel)
/-! LeastFrames$Untried -/
set_option maxRecDepth 100000
def RX7 : String := "LeastFrames$Untried"
def TX7 : u_T := fun k => match k with
  | 0 => ("java/lang/Throwable", "cause", "Ljava/lang/Throwable;", false)
  | 1 => ("java/lang/Throwable", "stackTrace", "[Ljava/lang/StackTraceElement;", false)
  | 2 => ("java/lang/Throwable", "suppressedExceptions", "Ljava/util/List;", false)
  | 3 => ("java/lang/Throwable", "detailMessage", "Ljava/lang/String;", false)
  | 4 => ("java/lang/Throwable", "backtrace", "Ljava/lang/Object;", false)
  | 5 => ("java/lang/Throwable", "depth", "I", false)
  | _ => ("LeastFrames$Untried", "bar", "I", true)
def tyX7 : Nat → FieldType := fun k => match k with
  | 0 => .object "java/lang/Throwable"
  | 1 => .array (.object "java/lang/StackTraceElement")
  | 2 => .object "java/util/List"
  | 3 => .object "java/lang/String"
  | 4 => .object "java/lang/Object"
  | 5 => .int
  | _ => .int
abbrev wsX70 : List Cond := u_ws RX7 TX7 7
theorem nmX7 : ∀ a, a < 7 → ∀ b, b < 7 → a ≠ b → (TX7 a).2.1 ≠ (TX7 b).2.1 := by decide +kernel
theorem tyX7_ok : ∀ k, k < 7 → parseFieldDescriptor (TX7 k).2.2.1 = some (tyX7 k) := by decide +kernel
abbrev cX7_init : ByteArray := prog_6_method_1_code
def yX7_init : MethodName := ⟨RX7, "<init>", "(ILjava/lang/Throwable;)V"⟩
def dkwX7_init_0 : List UInt8 := [42, 1, 44, 183, 0, 3, 42, 27, 181, 0, 9, 177]
abbrev dktX7_init_0 : List UInt8 := dkwX7_init_0 ++ []
theorem dksX7_init_0 : cX7_init.data.toList.drop 0 = dktX7_init_0 := by decide +kernel
theorem dX7_init_0 : decode cX7_init 0 = .ok (.aload_n 0, 1) := dk_42 (dk_at dksX7_init_0 0 rfl rfl)
theorem dX7_init_1 : decode cX7_init 1 = .ok (.aconst_null, 1) := dk_1 (dk_at dksX7_init_0 1 rfl rfl)
theorem dX7_init_2 : decode cX7_init 2 = .ok (.aload_n 2, 1) := dk_44 (dk_at dksX7_init_0 2 rfl rfl)
theorem dX7_init_3 : decode cX7_init 3 = .ok (.invokespecial 3, 3) := dk_183 0 3 (dk_at dksX7_init_0 3 rfl rfl)
theorem dX7_init_6 : decode cX7_init 6 = .ok (.aload_n 0, 1) := dk_42 (dk_at dksX7_init_0 6 rfl rfl)
theorem dX7_init_7 : decode cX7_init 7 = .ok (.iload_n 1, 1) := dk_27 (dk_at dksX7_init_0 7 rfl rfl)
theorem dX7_init_8 : decode cX7_init 8 = .ok (.putfield 9, 3) := dk_181 0 9 (dk_at dksX7_init_0 8 rfl rfl)
theorem dX7_init_11 : decode cX7_init 11 = .ok (.return_, 1) := dk_177 (dk_at dksX7_init_0 11 rfl rfl)
abbrev cX7_way : ByteArray := prog_6_method_2_code
def yX7_way : MethodName := ⟨RX7, "way", "()I"⟩
def dkwX7_way_1 : List UInt8 := [2, 172]
abbrev dktX7_way_1 : List UInt8 := dkwX7_way_1 ++ []
def dkwX7_way_0 : List UInt8 := [42, 182, 0, 15, 77, 44, 193, 0, 19, 153, 0, 15, 44, 192, 0, 19, 76, 43, 180, 0, 21, 167, 0, 4]
abbrev dktX7_way_0 : List UInt8 := dkwX7_way_0 ++ dktX7_way_1
theorem dksX7_way_0 : cX7_way.data.toList.drop 0 = dktX7_way_0 := by decide +kernel
theorem dksX7_way_1 : cX7_way.data.toList.drop 24 = dktX7_way_1 := dk_seg dksX7_way_0 24 rfl rfl
theorem dX7_way_0 : decode cX7_way 0 = .ok (.aload_n 0, 1) := dk_42 (dk_at dksX7_way_0 0 rfl rfl)
theorem dX7_way_1 : decode cX7_way 1 = .ok (.invokevirtual 15, 3) := dk_182 0 15 (dk_at dksX7_way_0 1 rfl rfl)
theorem dX7_way_4 : decode cX7_way 4 = .ok (.astore_n 2, 1) := dk_77 (dk_at dksX7_way_0 4 rfl rfl)
theorem dX7_way_5 : decode cX7_way 5 = .ok (.aload_n 2, 1) := dk_44 (dk_at dksX7_way_0 5 rfl rfl)
theorem dX7_way_6 : decode cX7_way 6 = .ok (.instanceof 19, 3) := dk_193 0 19 (dk_at dksX7_way_0 6 rfl rfl)
theorem dX7_way_9 : decode cX7_way 9 = .ok (.ifCond .eq 15, 3) := dk_153 0 15 (dk_at dksX7_way_0 9 rfl rfl)
theorem dX7_way_12 : decode cX7_way 12 = .ok (.aload_n 2, 1) := dk_44 (dk_at dksX7_way_0 12 rfl rfl)
theorem dX7_way_13 : decode cX7_way 13 = .ok (.checkcast 19, 3) := dk_192 0 19 (dk_at dksX7_way_0 13 rfl rfl)
theorem dX7_way_16 : decode cX7_way 16 = .ok (.astore_n 1, 1) := dk_76 (dk_at dksX7_way_0 16 rfl rfl)
theorem dX7_way_17 : decode cX7_way 17 = .ok (.aload_n 1, 1) := dk_43 (dk_at dksX7_way_0 17 rfl rfl)
theorem dX7_way_18 : decode cX7_way 18 = .ok (.getfield 21, 3) := dk_180 0 21 (dk_at dksX7_way_0 18 rfl rfl)
theorem dX7_way_21 : decode cX7_way 21 = .ok (.goto 4, 3) := dk_167 0 4 (dk_at dksX7_way_0 21 rfl rfl)
theorem dX7_way_24 : decode cX7_way 24 = .ok (.iconst (-1), 1) := dk_2 (dk_at dksX7_way_1 0 rfl rfl)
theorem dX7_way_25 : decode cX7_way 25 = .ok (.ireturn, 1) := dk_172 (dk_at dksX7_way_1 1 rfl rfl)
theorem q95 : (Jvm.Cond.initialized "LeastFrames$Untried") ∈ lw_all := lw_g (lw_at lw_m1 11 rfl) rfl
theorem q426 : (Jvm.Cond.selects "LeastFrames$Untried" ({ cls := "java/lang/Throwable", name := "fillInStackTrace", desc := "()Ljava/lang/Throwable;" } : Jvm.MethodName) ({ cls := "java/lang/Throwable", name := "fillInStackTrace", desc := "()Ljava/lang/Throwable;" } : Jvm.MethodName)) ∈ lw_all := lw_g (lw_at lw_m2 102 rfl) rfl
theorem q464 : (Jvm.Cond.fieldLinkNest "LeastFrames$Untried" (21 : Nat) "LeastFrames$Unborne" "way" "I" "LeastFrames") ∈ lw_tbl := lw_at lw_m2 140 rfl
theorem q573 : (Jvm.Cond.instantiable "LeastFrames$Untried" (7 : Nat)) ∈ lw_all := lw_g (lw_at lw_m3 9 rfl) rfl
theorem q574 : (Jvm.Cond.castable "LeastFrames$Untried" "LeastFrames$Untried") ∈ lw_tbl := lw_at lw_m3 10 rfl
theorem q575 : (Jvm.Cond.selects "LeastFrames$Untried" ({ cls := "java/lang/Throwable", name := "fillInStackTrace", desc := "(I)Ljava/lang/Throwable;" } : Jvm.MethodName) ({ cls := "java/lang/Throwable", name := "fillInStackTrace", desc := "(I)Ljava/lang/Throwable;" } : Jvm.MethodName)) ∈ lw_all := lw_g (lw_at lw_m3 11 rfl) rfl
theorem q576 : (Jvm.Cond.lays "LeastFrames$Untried" "java/lang/Throwable" "cause" "Ljava/lang/Throwable;") ∈ lw_all := lw_g (lw_at lw_m3 12 rfl) rfl
theorem q577 : (Jvm.Cond.lays "LeastFrames$Untried" "java/lang/Throwable" "stackTrace" "[Ljava/lang/StackTraceElement;") ∈ lw_all := lw_g (lw_at lw_m3 13 rfl) rfl
theorem q578 : (Jvm.Cond.lays "LeastFrames$Untried" "java/lang/Throwable" "suppressedExceptions" "Ljava/util/List;") ∈ lw_all := lw_g (lw_at lw_m3 14 rfl) rfl
theorem q579 : (Jvm.Cond.lays "LeastFrames$Untried" "java/lang/Throwable" "detailMessage" "Ljava/lang/String;") ∈ lw_all := lw_g (lw_at lw_m3 15 rfl) rfl
theorem q580 : (Jvm.Cond.lays "LeastFrames$Untried" "java/lang/Throwable" "backtrace" "Ljava/lang/Object;") ∈ lw_all := lw_g (lw_at lw_m3 16 rfl) rfl
theorem q582 : (Jvm.Cond.instanceMethod ({ cls := "LeastFrames$Untried", name := "<init>", desc := "(ILjava/lang/Throwable;)V" } : Jvm.MethodName)) ∈ lw_all := lw_g (lw_at lw_m3 18 rfl) rfl
theorem q583 : (Jvm.Cond.code ({ cls := "LeastFrames$Untried", name := "<init>", desc := "(ILjava/lang/Throwable;)V" } : Jvm.MethodName) prog_6_method_1_code (3 : Nat) (Option.none : Option Jvm.ClassFile.FieldType)) ∈ lw_all := lw_g (lw_at lw_m3 19 rfl) rfl
theorem q584 : (Jvm.Cond.methodLink "LeastFrames$Untried" (3 : Nat) ({ cls := "java/lang/Exception", name := "<init>", desc := "(Ljava/lang/String;Ljava/lang/Throwable;)V" } : Jvm.MethodName)) ∈ lw_all := lw_g (lw_at lw_m3 20 rfl) rfl
theorem q590 : (Jvm.Cond.fieldLink "LeastFrames$Untried" (9 : Nat) "LeastFrames$Untried" "bar" "I") ∈ lw_all := lw_g (lw_at lw_m3 26 rfl) rfl
theorem q592 : (Jvm.Cond.laysFinal "LeastFrames$Untried" "LeastFrames$Untried" "bar" "I") ∈ lw_all := lw_g (lw_at lw_m3 28 rfl) rfl
theorem q593 : (Jvm.Cond.soleField "LeastFrames$Untried" "bar") ∈ lw_all := lw_g (lw_at lw_m3 29 rfl) rfl
theorem q594 : (Jvm.Cond.lays "LeastFrames$Untried" "java/lang/Throwable" "depth" "I") ∈ lw_all := lw_g (lw_at lw_m3 30 rfl) rfl
theorem q595 : (Jvm.Cond.superclass "LeastFrames$Untried" "java/lang/Exception") ∈ lw_all := lw_g (lw_at lw_m3 31 rfl) rfl
theorem q605 : (Jvm.Cond.instanceMethod ({ cls := "LeastFrames$Untried", name := "way", desc := "()I" } : Jvm.MethodName)) ∈ lw_all := lw_g (lw_at lw_m3 41 rfl) rfl
theorem q606 : (Jvm.Cond.selects "LeastFrames$Untried" ({ cls := "LeastFrames$Untried", name := "way", desc := "()I" } : Jvm.MethodName) ({ cls := "LeastFrames$Untried", name := "way", desc := "()I" } : Jvm.MethodName)) ∈ lw_all := lw_g (lw_at lw_m3 42 rfl) rfl
theorem q607 : (Jvm.Cond.code ({ cls := "LeastFrames$Untried", name := "way", desc := "()I" } : Jvm.MethodName) prog_6_method_2_code (3 : Nat) (Option.some Jvm.ClassFile.FieldType.int)) ∈ lw_all := lw_g (lw_at lw_m3 43 rfl) rfl
theorem q608 : (Jvm.Cond.methodLink "LeastFrames$Untried" (15 : Nat) ({ cls := "LeastFrames$Untried", name := "getCause", desc := "()Ljava/lang/Throwable;" } : Jvm.MethodName)) ∈ lw_all := lw_g (lw_at lw_m3 44 rfl) rfl
theorem q609 : (Jvm.Cond.sameMethod "LeastFrames$Untried" "java/lang/Throwable" "getCause" "()Ljava/lang/Throwable;") ∈ lw_all := lw_g (lw_at lw_m3 45 rfl) rfl
theorem q611 : (Jvm.Cond.selects "LeastFrames$Untried" ({ cls := "LeastFrames$Untried", name := "getCause", desc := "()Ljava/lang/Throwable;" } : Jvm.MethodName) ({ cls := "java/lang/Throwable", name := "getCause", desc := "()Ljava/lang/Throwable;" } : Jvm.MethodName)) ∈ lw_all := lw_g (lw_at lw_m3 47 rfl) rfl
theorem q614 : (Jvm.Cond.classLink "LeastFrames$Untried" (19 : Nat) "LeastFrames$Unborne") ∈ lw_all := lw_g (lw_at lw_m3 50 rfl) rfl
theorem in_X7 : ∀ w ∈ wsX70, w ∈ lw_all := lw_in wsX70 [576, 577, 578, 579, 580, 594, 592] (by decide +kernel) (by decide +kernel)
theorem q84 : (Jvm.Cond.initialized "LeastFramesLaw") ∈ lw_all := lw_g (lw_at lw_m1 0 rfl) rfl
set_option maxRecDepth 100000
theorem q107 : (Jvm.Cond.classLink "LeastFramesLaw" (7 : Nat) "LeastFrames") ∈ lw_all := lw_g (lw_at lw_m1 23 rfl) rfl
theorem q109 : (Jvm.Cond.methodLink "LeastFramesLaw" (9 : Nat) ({ cls := "LeastFrames", name := "<init>", desc := "()V" } : Jvm.MethodName)) ∈ lw_all := lw_g (lw_at lw_m1 25 rfl) rfl
theorem q234 : (Jvm.Cond.methodLink "LeastFramesLaw" (13 : Nat) ({ cls := "LeastFrames", name := "point", desc := "(II)I" } : Jvm.MethodName)) ∈ lw_all := lw_g (lw_at lw_m1 150 rfl) rfl
theorem q246 : (Jvm.Cond.methodLink "LeastFramesLaw" (18 : Nat) ({ cls := "LeastFrames", name := "back", desc := "()I" } : Jvm.MethodName)) ∈ lw_all := lw_g (lw_at lw_m1 162 rfl) rfl
theorem q254 : (Jvm.Cond.methodLink "LeastFramesLaw" (23 : Nat) ({ cls := "LeastFrames", name := "hold", desc := "(II)I" } : Jvm.MethodName)) ∈ lw_all := lw_g (lw_at lw_m1 170 rfl) rfl
theorem q263 : (Jvm.Cond.methodLink "LeastFramesLaw" (27 : Nat) ({ cls := "LeastFrames", name := "load", desc := "(III)I" } : Jvm.MethodName)) ∈ lw_all := lw_g (lw_at lw_m1 179 rfl) rfl
theorem q273 : (Jvm.Cond.methodLink "LeastFramesLaw" (32 : Nat) ({ cls := "LeastFrames", name := "bar", desc := "(I)I" } : Jvm.MethodName)) ∈ lw_all := lw_g (lw_at lw_m1 189 rfl) rfl
theorem q281 : (Jvm.Cond.methodLink "LeastFramesLaw" (37 : Nat) ({ cls := "LeastFrames", name := "all", desc := "()I" } : Jvm.MethodName)) ∈ lw_all := lw_g (lw_at lw_m1 197 rfl) rfl
theorem q285 : (Jvm.Cond.methodLink "LeastFramesLaw" (41 : Nat) ({ cls := "LeastFrames", name := "read", desc := "(I)I" } : Jvm.MethodName)) ∈ lw_all := lw_g (lw_at lw_m1 201 rfl) rfl
theorem q306 : (Jvm.Cond.methodLink "LeastFramesLaw" (45 : Nat) ({ cls := "LeastFrames", name := "info", desc := "(II)I" } : Jvm.MethodName)) ∈ lw_all := lw_g (lw_at lw_m1 222 rfl) rfl
theorem q315 : (Jvm.Cond.methodLink "LeastFramesLaw" (49 : Nat) ({ cls := "LeastFrames", name := "pair", desc := "(II)I" } : Jvm.MethodName)) ∈ lw_all := lw_g (lw_at lw_m1 231 rfl) rfl
theorem q344 : (Jvm.Cond.methodLink "LeastFramesLaw" (53 : Nat) ({ cls := "LeastFrames", name := "least", desc := "(I)J" } : Jvm.MethodName)) ∈ lw_all := lw_g (lw_at lw_m2 20 rfl) rfl
theorem q539 : (Jvm.Cond.methodLink "LeastFramesLaw" (58 : Nat) ({ cls := "LeastFrames", name := "fault", desc := "()I" } : Jvm.MethodName)) ∈ lw_all := lw_g (lw_at lw_m2 215 rfl) rfl
theorem q543 : (Jvm.Cond.methodLink "LeastFramesLaw" (62 : Nat) ({ cls := "LeastFrames", name := "frame", desc := "()I" } : Jvm.MethodName)) ∈ lw_all := lw_g (lw_at lw_m2 219 rfl) rfl
theorem q547 : (Jvm.Cond.methodLink "LeastFramesLaw" (66 : Nat) ({ cls := "LeastFrames", name := "pull", desc := "(II)J" } : Jvm.MethodName)) ∈ lw_all := lw_g (lw_at lw_m2 223 rfl) rfl
theorem q556 : (Jvm.Cond.methodLink "LeastFramesLaw" (71 : Nat) ({ cls := "LeastFrames", name := "without", desc := "(II)J" } : Jvm.MethodName)) ∈ lw_all := lw_g (lw_at lw_m2 232 rfl) rfl
theorem q596 : (Jvm.Cond.methodLink "LeastFramesLaw" (75 : Nat) ({ cls := "LeastFrames", name := "why", desc := "(I)I" } : Jvm.MethodName)) ∈ lw_all := lw_g (lw_at lw_m3 32 rfl) rfl
theorem q615 : (Jvm.Cond.methodLink "LeastFramesLaw" (79 : Nat) ({ cls := "LeastFrames", name := "needed", desc := "()I" } : Jvm.MethodName)) ∈ lw_all := lw_g (lw_at lw_m3 51 rfl) rfl
theorem q623 : (Jvm.Cond.methodLink "LeastFramesLaw" (83 : Nat) ({ cls := "LeastFrames", name := "dearest", desc := "()I" } : Jvm.MethodName)) ∈ lw_all := lw_g (lw_at lw_m3 59 rfl) rfl
theorem q631 : (Jvm.Cond.methodLink "LeastFramesLaw" (87 : Nat) ({ cls := "LeastFrames", name := "gain", desc := "(II)J" } : Jvm.MethodName)) ∈ lw_all := lw_g (lw_at lw_m3 67 rfl) rfl
theorem q649 : (Jvm.Cond.methodLink "LeastFramesLaw" (91 : Nat) ({ cls := "LeastFrames", name := "grow", desc := "()I" } : Jvm.MethodName)) ∈ lw_all := lw_g (lw_at lw_m3 85 rfl) rfl
theorem q657 : (Jvm.Cond.methodLink "LeastFramesLaw" (95 : Nat) ({ cls := "LeastFrames", name := "prune", desc := "()I" } : Jvm.MethodName)) ∈ lw_all := lw_g (lw_at lw_m3 93 rfl) rfl
theorem q667 : (Jvm.Cond.methodLink "LeastFramesLaw" (99 : Nat) ({ cls := "LeastFrames", name := "would", desc := "(IIII)J" } : Jvm.MethodName)) ∈ lw_all := lw_g (lw_at lw_m3 103 rfl) rfl
theorem q675 : (Jvm.Cond.methodLink "LeastFramesLaw" (104 : Nat) ({ cls := "LeastFrames", name := "shift", desc := "(III)I" } : Jvm.MethodName)) ∈ lw_all := lw_g (lw_at lw_m3 111 rfl) rfl
theorem q681 : (Jvm.Cond.methodLink "LeastFramesLaw" (108 : Nat) ({ cls := "LeastFrames", name := "stretch", desc := "(II)J" } : Jvm.MethodName)) ∈ lw_all := lw_g (lw_at lw_m3 117 rfl) rfl
theorem q695 : (Jvm.Cond.methodLink "LeastFramesLaw" (112 : Nat) ({ cls := "LeastFrames", name := "work", desc := "(I)J" } : Jvm.MethodName)) ∈ lw_all := lw_g (lw_at lw_m3 131 rfl) rfl
theorem q703 : (Jvm.Cond.methodLink "LeastFramesLaw" (116 : Nat) ({ cls := "LeastFrames", name := "proves", desc := "()I" } : Jvm.MethodName)) ∈ lw_all := lw_g (lw_at lw_m3 139 rfl) rfl
theorem q714 : (Jvm.Cond.methodLink "LeastFramesLaw" (120 : Nat) ({ cls := "LeastFrames", name := "cross", desc := "(II)I" } : Jvm.MethodName)) ∈ lw_all := lw_g (lw_at lw_m3 150 rfl) rfl
theorem q742 : (Jvm.Cond.methodLink "LeastFramesLaw" (124 : Nat) ({ cls := "LeastFrames", name := "sheet", desc := "(III)I" } : Jvm.MethodName)) ∈ lw_all := lw_g (lw_at lw_m3 178 rfl) rfl
theorem q776 : (Jvm.Cond.methodLink "LeastFramesLaw" (128 : Nat) ({ cls := "LeastFrames", name := "lose", desc := "(I)I" } : Jvm.MethodName)) ∈ lw_all := lw_g (lw_at lw_m3 212 rfl) rfl
theorem q780 : (Jvm.Cond.methodLink "LeastFramesLaw" (132 : Nat) ({ cls := "LeastFrames", name := "put", desc := "(IIII)I" } : Jvm.MethodName)) ∈ lw_all := lw_g (lw_at lw_m3 216 rfl) rfl
theorem q844 : (Jvm.Cond.methodLink "LeastFramesLaw" (137 : Nat) ({ cls := "LeastFrames", name := "get", desc := "(II)J" } : Jvm.MethodName)) ∈ lw_all := lw_g (lw_at lw_m4 40 rfl) rfl
theorem q848 : (Jvm.Cond.methodLink "LeastFramesLaw" (141 : Nat) ({ cls := "LeastFrames", name := "copy", desc := "(IIIII)I" } : Jvm.MethodName)) ∈ lw_all := lw_g (lw_at lw_m4 44 rfl) rfl
theorem q892 : (Jvm.Cond.methodLink "LeastFramesLaw" (146 : Nat) ({ cls := "LeastFrames", name := "write", desc := "(I)I" } : Jvm.MethodName)) ∈ lw_all := lw_g (lw_at lw_m4 88 rfl) rfl
theorem q903 : (Jvm.Cond.methodLink "LeastFramesLaw" (150 : Nat) ({ cls := "LeastFrames", name := "count", desc := "(I)I" } : Jvm.MethodName)) ∈ lw_all := lw_g (lw_at lw_m4 99 rfl) rfl
theorem q919 : (Jvm.Cond.methodLink "LeastFramesLaw" (154 : Nat) ({ cls := "LeastFrames", name := "digest", desc := "()J" } : Jvm.MethodName)) ∈ lw_all := lw_g (lw_at lw_m4 115 rfl) rfl
theorem q929 : (Jvm.Cond.classLink "LeastFramesLaw" (10 : Nat) "LeastFramesModel") ∈ lw_all := lw_g (lw_at lw_m4 125 rfl) rfl
theorem q931 : (Jvm.Cond.methodLink "LeastFramesLaw" (12 : Nat) ({ cls := "LeastFramesModel", name := "<init>", desc := "()V" } : Jvm.MethodName)) ∈ lw_all := lw_g (lw_at lw_m4 127 rfl) rfl
theorem q1003 : (Jvm.Cond.methodLink "LeastFramesLaw" (17 : Nat) ({ cls := "LeastFramesModel", name := "point", desc := "(II)I" } : Jvm.MethodName)) ∈ lw_all := lw_g (lw_at lw_m4 199 rfl) rfl
theorem q1010 : (Jvm.Cond.methodLink "LeastFramesLaw" (22 : Nat) ({ cls := "LeastFramesModel", name := "back", desc := "()I" } : Jvm.MethodName)) ∈ lw_all := lw_g (lw_at lw_m4 206 rfl) rfl
theorem q1018 : (Jvm.Cond.methodLink "LeastFramesLaw" (26 : Nat) ({ cls := "LeastFramesModel", name := "hold", desc := "(II)I" } : Jvm.MethodName)) ∈ lw_all := lw_g (lw_at lw_m4 214 rfl) rfl
theorem q1026 : (Jvm.Cond.methodLink "LeastFramesLaw" (31 : Nat) ({ cls := "LeastFramesModel", name := "load", desc := "(III)I" } : Jvm.MethodName)) ∈ lw_all := lw_g (lw_at lw_m4 222 rfl) rfl
theorem q1031 : (Jvm.Cond.methodLink "LeastFramesLaw" (36 : Nat) ({ cls := "LeastFramesModel", name := "bar", desc := "(I)I" } : Jvm.MethodName)) ∈ lw_all := lw_g (lw_at lw_m4 227 rfl) rfl
theorem q1039 : (Jvm.Cond.methodLink "LeastFramesLaw" (40 : Nat) ({ cls := "LeastFramesModel", name := "all", desc := "()I" } : Jvm.MethodName)) ∈ lw_all := lw_g (lw_at lw_m4 235 rfl) rfl
theorem q1043 : (Jvm.Cond.methodLink "LeastFramesLaw" (44 : Nat) ({ cls := "LeastFramesModel", name := "read", desc := "(I)I" } : Jvm.MethodName)) ∈ lw_all := lw_g (lw_at lw_m4 239 rfl) rfl
theorem q1056 : (Jvm.Cond.methodLink "LeastFramesLaw" (48 : Nat) ({ cls := "LeastFramesModel", name := "info", desc := "(II)I" } : Jvm.MethodName)) ∈ lw_all := lw_g (lw_at lw_m5 12 rfl) rfl
theorem q1064 : (Jvm.Cond.methodLink "LeastFramesLaw" (52 : Nat) ({ cls := "LeastFramesModel", name := "pair", desc := "(II)I" } : Jvm.MethodName)) ∈ lw_all := lw_g (lw_at lw_m5 20 rfl) rfl
theorem q1086 : (Jvm.Cond.methodLink "LeastFramesLaw" (57 : Nat) ({ cls := "LeastFramesModel", name := "least", desc := "(I)J" } : Jvm.MethodName)) ∈ lw_all := lw_g (lw_at lw_m5 42 rfl) rfl
theorem q1147 : (Jvm.Cond.methodLink "LeastFramesLaw" (61 : Nat) ({ cls := "LeastFramesModel", name := "fault", desc := "()I" } : Jvm.MethodName)) ∈ lw_all := lw_g (lw_at lw_m5 103 rfl) rfl
theorem q1151 : (Jvm.Cond.methodLink "LeastFramesLaw" (65 : Nat) ({ cls := "LeastFramesModel", name := "frame", desc := "()I" } : Jvm.MethodName)) ∈ lw_all := lw_g (lw_at lw_m5 107 rfl) rfl
theorem q1159 : (Jvm.Cond.methodLink "LeastFramesLaw" (70 : Nat) ({ cls := "LeastFramesModel", name := "pull", desc := "(II)J" } : Jvm.MethodName)) ∈ lw_all := lw_g (lw_at lw_m5 115 rfl) rfl
theorem q1167 : (Jvm.Cond.methodLink "LeastFramesLaw" (74 : Nat) ({ cls := "LeastFramesModel", name := "without", desc := "(II)J" } : Jvm.MethodName)) ∈ lw_all := lw_g (lw_at lw_m5 123 rfl) rfl
theorem q1175 : (Jvm.Cond.methodLink "LeastFramesLaw" (78 : Nat) ({ cls := "LeastFramesModel", name := "why", desc := "(I)I" } : Jvm.MethodName)) ∈ lw_all := lw_g (lw_at lw_m5 131 rfl) rfl
theorem q1179 : (Jvm.Cond.methodLink "LeastFramesLaw" (82 : Nat) ({ cls := "LeastFramesModel", name := "needed", desc := "()I" } : Jvm.MethodName)) ∈ lw_all := lw_g (lw_at lw_m5 135 rfl) rfl
theorem q1191 : (Jvm.Cond.methodLink "LeastFramesLaw" (86 : Nat) ({ cls := "LeastFramesModel", name := "dearest", desc := "()I" } : Jvm.MethodName)) ∈ lw_all := lw_g (lw_at lw_m5 147 rfl) rfl
theorem q1199 : (Jvm.Cond.methodLink "LeastFramesLaw" (90 : Nat) ({ cls := "LeastFramesModel", name := "gain", desc := "(II)J" } : Jvm.MethodName)) ∈ lw_all := lw_g (lw_at lw_m5 155 rfl) rfl
theorem q1207 : (Jvm.Cond.methodLink "LeastFramesLaw" (94 : Nat) ({ cls := "LeastFramesModel", name := "grow", desc := "()I" } : Jvm.MethodName)) ∈ lw_all := lw_g (lw_at lw_m5 163 rfl) rfl
theorem q1215 : (Jvm.Cond.methodLink "LeastFramesLaw" (98 : Nat) ({ cls := "LeastFramesModel", name := "prune", desc := "()I" } : Jvm.MethodName)) ∈ lw_all := lw_g (lw_at lw_m5 171 rfl) rfl
theorem q1219 : (Jvm.Cond.methodLink "LeastFramesLaw" (103 : Nat) ({ cls := "LeastFramesModel", name := "would", desc := "(IIII)J" } : Jvm.MethodName)) ∈ lw_all := lw_g (lw_at lw_m5 175 rfl) rfl
theorem q1227 : (Jvm.Cond.methodLink "LeastFramesLaw" (107 : Nat) ({ cls := "LeastFramesModel", name := "shift", desc := "(III)I" } : Jvm.MethodName)) ∈ lw_all := lw_g (lw_at lw_m5 183 rfl) rfl
theorem q1231 : (Jvm.Cond.methodLink "LeastFramesLaw" (111 : Nat) ({ cls := "LeastFramesModel", name := "stretch", desc := "(II)J" } : Jvm.MethodName)) ∈ lw_all := lw_g (lw_at lw_m5 187 rfl) rfl
theorem q1244 : (Jvm.Cond.methodLink "LeastFramesLaw" (115 : Nat) ({ cls := "LeastFramesModel", name := "work", desc := "(I)J" } : Jvm.MethodName)) ∈ lw_all := lw_g (lw_at lw_m5 200 rfl) rfl
theorem q1252 : (Jvm.Cond.methodLink "LeastFramesLaw" (119 : Nat) ({ cls := "LeastFramesModel", name := "proves", desc := "()I" } : Jvm.MethodName)) ∈ lw_all := lw_g (lw_at lw_m5 208 rfl) rfl
theorem q1260 : (Jvm.Cond.methodLink "LeastFramesLaw" (123 : Nat) ({ cls := "LeastFramesModel", name := "cross", desc := "(II)I" } : Jvm.MethodName)) ∈ lw_all := lw_g (lw_at lw_m5 216 rfl) rfl
theorem q1276 : (Jvm.Cond.methodLink "LeastFramesLaw" (127 : Nat) ({ cls := "LeastFramesModel", name := "sheet", desc := "(III)I" } : Jvm.MethodName)) ∈ lw_all := lw_g (lw_at lw_m5 232 rfl) rfl
theorem q1280 : (Jvm.Cond.methodLink "LeastFramesLaw" (131 : Nat) ({ cls := "LeastFramesModel", name := "lose", desc := "(I)I" } : Jvm.MethodName)) ∈ lw_all := lw_g (lw_at lw_m5 236 rfl) rfl
theorem q1284 : (Jvm.Cond.methodLink "LeastFramesLaw" (136 : Nat) ({ cls := "LeastFramesModel", name := "put", desc := "(IIII)I" } : Jvm.MethodName)) ∈ lw_all := lw_g (lw_at lw_m6 0 rfl) rfl
theorem q1290 : (Jvm.Cond.methodLink "LeastFramesLaw" (140 : Nat) ({ cls := "LeastFramesModel", name := "get", desc := "(II)J" } : Jvm.MethodName)) ∈ lw_all := lw_g (lw_at lw_m6 6 rfl) rfl
theorem q1294 : (Jvm.Cond.methodLink "LeastFramesLaw" (145 : Nat) ({ cls := "LeastFramesModel", name := "copy", desc := "(IIIII)I" } : Jvm.MethodName)) ∈ lw_all := lw_g (lw_at lw_m6 10 rfl) rfl
theorem q1298 : (Jvm.Cond.methodLink "LeastFramesLaw" (149 : Nat) ({ cls := "LeastFramesModel", name := "write", desc := "(I)I" } : Jvm.MethodName)) ∈ lw_all := lw_g (lw_at lw_m6 14 rfl) rfl
theorem q1302 : (Jvm.Cond.methodLink "LeastFramesLaw" (153 : Nat) ({ cls := "LeastFramesModel", name := "count", desc := "(I)I" } : Jvm.MethodName)) ∈ lw_all := lw_g (lw_at lw_m6 18 rfl) rfl
theorem q1314 : (Jvm.Cond.methodLink "LeastFramesLaw" (158 : Nat) ({ cls := "LeastFramesModel", name := "digest", desc := "()J" } : Jvm.MethodName)) ∈ lw_all := lw_g (lw_at lw_m6 30 rfl) rfl
theorem q106 : (Jvm.Cond.initialized "java/lang/System") ∈ lw_all := lw_g (lw_at lw_m1 22 rfl) rfl
set_option maxRecDepth 100000
theorem q890 : (Jvm.Cond.static ({ cls := "java/lang/System", name := "arraycopy", desc := "(Ljava/lang/Object;ILjava/lang/Object;II)V" } : Jvm.MethodName)) ∈ lw_all := lw_g (lw_at lw_m4 86 rfl) rfl
theorem q891 : (Jvm.Cond.native ({ cls := "java/lang/System", name := "arraycopy", desc := "(Ljava/lang/Object;ILjava/lang/Object;II)V" } : Jvm.MethodName)) ∈ lw_all := lw_g (lw_at lw_m4 87 rfl) rfl
theorem q116 : (Jvm.Cond.arrayOver (Jvm.ClassFile.FieldType.object "LeastFrames$Point")) ∈ lw_tbl := lw_at lw_m1 32 rfl
set_option maxRecDepth 100000
theorem q144 : (Jvm.Cond.arrayClass Jvm.ClassFile.FieldType.int) ∈ lw_all := lw_g (lw_at lw_m1 60 rfl) rfl
theorem q152 : (Jvm.Cond.arrayOver (Jvm.ClassFile.FieldType.array Jvm.ClassFile.FieldType.long)) ∈ lw_tbl := lw_at lw_m1 68 rfl
theorem q179 : (Jvm.Cond.arrayClass Jvm.ClassFile.FieldType.long) ∈ lw_all := lw_g (lw_at lw_m1 95 rfl) rfl
theorem q181 : (Jvm.Cond.arrayOver (Jvm.ClassFile.FieldType.object "LeastFrames$Sheet")) ∈ lw_tbl := lw_at lw_m1 97 rfl
theorem q771 : (Jvm.Cond.arrayClass Jvm.ClassFile.FieldType.byte) ∈ lw_all := lw_g (lw_at lw_m3 207 rfl) rfl
theorem q1002 : (Jvm.Cond.arrayClass Jvm.ClassFile.FieldType.boolean) ∈ lw_all := lw_g (lw_at lw_m4 198 rfl) rfl
