/-! GENERAL ROWS: a world is a function from pure states to lists of cells; a method's body, its entry, its calls, its ends -/
abbrev clL : List vw_C := [(RX0, TX0, 13), (RX1, TX1, 5), (RX2, TX2, 7), (RX3, TX3, 1), (RX4, TX4, 22), (RX5, TX5, 7), (RX6, TX6, 2), (RX7, TX7, 7), ("java/lang/ArithmeticException", TX0, 0)]
abbrev tysL (dT : Nat → ClassId) : List (ClassId × FieldType) := [(dT 0, .int), (dT 1, .long), (dT 2, .boolean), (dT 3, .object "LeastFrames$Point"), (dT 4, .object "LeastFrames$Sheet"), (dT 5, .array .long)]
def nwKind (w : Cond) : Bool := match w with
  | .fieldLinkNest .. => true
  | .methodLinkNest .. => true
  | .castable .. => true
  | .declares .. => true
  | _ => false
theorem nw_warm {w : Cond} {s U : State} (h : nwKind w = true) (hW : s.WarmedH U.vm) (hZ : va_Nw w s) : va_Nw w U := by
  cases w <;> first | exact va_Nw.warmF hW hZ | exact va_Nw.warmM hW hZ | exact va_Nw.warmC hW hZ | exact va_Nw.warmD hW hZ | exact absurd h Bool.false_ne_true
theorem nw_tab {w : Cond} (h : nwKind w = true) : w.onTables = true := by
  cases w <;> first | rfl | exact absurd h Bool.false_ne_true
def nwL : List Cond := [(Jvm.Cond.declares ({ cls := "java/lang/Throwable", name := "<init>", desc := "()V" } : Jvm.MethodName)), (Jvm.Cond.declares ({ cls := "java/lang/Throwable", name := "<init>", desc := "(Ljava/lang/String;)V" } : Jvm.MethodName)), (Jvm.Cond.declares ({ cls := "java/lang/Throwable", name := "fillInStackTrace", desc := "()Ljava/lang/Throwable;" } : Jvm.MethodName)), (Jvm.Cond.declares ({ cls := "java/lang/Throwable", name := "getCause", desc := "()Ljava/lang/Throwable;" } : Jvm.MethodName)), (Jvm.Cond.declares ({ cls := "java/lang/Exception", name := "<init>", desc := "()V" } : Jvm.MethodName)), (Jvm.Cond.declares ({ cls := "java/lang/Exception", name := "<init>", desc := "(Ljava/lang/String;)V" } : Jvm.MethodName)), (Jvm.Cond.castable "java/lang/ArithmeticException" "java/lang/ArithmeticException"), (Jvm.Cond.castable "java/lang/NullPointerException" "java/lang/NullPointerException"), (Jvm.Cond.castable "java/lang/ArrayStoreException" "java/lang/ArrayStoreException"), (Jvm.Cond.declares ({ cls := "java/lang/RuntimeException", name := "<init>", desc := "()V" } : Jvm.MethodName)), (Jvm.Cond.declares ({ cls := "java/lang/RuntimeException", name := "<init>", desc := "(Ljava/lang/String;)V" } : Jvm.MethodName)), (Jvm.Cond.castable "java/lang/RuntimeException" "java/lang/Throwable"), (Jvm.Cond.castable "java/lang/NegativeArraySizeException" "java/lang/NegativeArraySizeException"), (Jvm.Cond.castable "java/lang/ClassCastException" "java/lang/ClassCastException"), (Jvm.Cond.declares ({ cls := "java/lang/IndexOutOfBoundsException", name := "<init>", desc := "()V" } : Jvm.MethodName)), (Jvm.Cond.declares ({ cls := "java/lang/IndexOutOfBoundsException", name := "<init>", desc := "(Ljava/lang/String;)V" } : Jvm.MethodName)), (Jvm.Cond.castable "java/lang/ArrayIndexOutOfBoundsException" "java/lang/ArrayIndexOutOfBoundsException"), (Jvm.Cond.castable "java/lang/ArrayIndexOutOfBoundsException" "java/lang/IndexOutOfBoundsException"), (Jvm.Cond.methodLinkNest "LeastFrames" (13 : Nat) ({ cls := "LeastFrames$Point", name := "<init>", desc := "()V" } : Jvm.MethodName) "LeastFrames"), (Jvm.Cond.fieldLinkNest "LeastFrames" (143 : Nat) "LeastFrames$Point" "x" "I" "LeastFrames"), (Jvm.Cond.fieldLinkNest "LeastFrames" (146 : Nat) "LeastFrames$Point" "y" "I" "LeastFrames"), (Jvm.Cond.fieldLinkNest "LeastFrames" (165 : Nat) "LeastFrames$Point" "held" "I" "LeastFrames"), (Jvm.Cond.fieldLinkNest "LeastFrames" (176 : Nat) "LeastFrames$Point" "loads" "[I" "LeastFrames"), (Jvm.Cond.fieldLinkNest "LeastFrames" (278 : Nat) "LeastFrames$Point" "shifts" "[I" "LeastFrames"), (Jvm.Cond.methodLinkNest "LeastFrames" (22 : Nat) ({ cls := "LeastFrames$Program", name := "<init>", desc := "(LLeastFrames;)V" } : Jvm.MethodName) "LeastFrames"), (Jvm.Cond.fieldLinkNest "LeastFrames" (131 : Nat) "LeastFrames$Program" "rows" "[[J" "LeastFrames"), (Jvm.Cond.fieldLinkNest "LeastFrames" (127 : Nat) "LeastFrames$Program" "basis" "[I" "LeastFrames"), (Jvm.Cond.fieldLinkNest "LeastFrames" (124 : Nat) "LeastFrames$Program" "high" "I" "LeastFrames"), (Jvm.Cond.fieldLinkNest "LeastFrames" (83 : Nat) "LeastFrames$Program" "below" "J" "LeastFrames"), (Jvm.Cond.methodLinkNest "LeastFrames" (35 : Nat) ({ cls := "LeastFrames$Sheet", name := "<init>", desc := "()V" } : Jvm.MethodName) "LeastFrames"), (Jvm.Cond.fieldLinkNest "LeastFrames" (182 : Nat) "LeastFrames$Sheet" "row" "Ljava/lang/Object;" "LeastFrames"), (Jvm.Cond.fieldLinkNest "LeastFrames" (121 : Nat) "LeastFrames$Unborne" "way" "I" "LeastFrames"), (Jvm.Cond.fieldLinkNest "LeastFrames" (294 : Nat) "LeastFrames$Volume" "above" "J" "LeastFrames"), (Jvm.Cond.fieldLinkNest "LeastFrames" (297 : Nat) "LeastFrames$Volume" "below" "J" "LeastFrames"), (Jvm.Cond.fieldLinkNest "LeastFrames" (245 : Nat) "LeastFrames$Untried" "bar" "I" "LeastFrames"), (Jvm.Cond.methodLinkNest "LeastFrames$Point" (26 : Nat) ({ cls := "LeastFrames", name := "isIn", desc := "(II)Z" } : Jvm.MethodName) "LeastFrames"), (Jvm.Cond.fieldLinkNest "LeastFrames$Program" (55 : Nat) "LeastFrames$Point" "loads" "[I" "LeastFrames"), (Jvm.Cond.fieldLinkNest "LeastFrames$Program" (41 : Nat) "LeastFrames" "points" "[LLeastFrames$Point;" "LeastFrames"), (Jvm.Cond.fieldLinkNest "LeastFrames$Program" (38 : Nat) "LeastFrames" "many" "I" "LeastFrames"), (Jvm.Cond.methodLinkNest "LeastFrames$Program" (58 : Nat) ({ cls := "LeastFrames", name := "isIn", desc := "(II)Z" } : Jvm.MethodName) "LeastFrames"), (Jvm.Cond.methodLinkNest "LeastFrames$Program" (62 : Nat) ({ cls := "LeastFrames", name := "pairs", desc := "()I" } : Jvm.MethodName) "LeastFrames"), (Jvm.Cond.methodLinkNest "LeastFrames$Program" (66 : Nat) ({ cls := "LeastFrames", name := "lesser", desc := "(I)I" } : Jvm.MethodName) "LeastFrames"), (Jvm.Cond.methodLinkNest "LeastFrames$Program" (70 : Nat) ({ cls := "LeastFrames", name := "far", desc := "(II)I" } : Jvm.MethodName) "LeastFrames"), (Jvm.Cond.methodLinkNest "LeastFrames$Program" (74 : Nat) ({ cls := "LeastFrames", name := "greater", desc := "(I)I" } : Jvm.MethodName) "LeastFrames"), (Jvm.Cond.methodLinkNest "LeastFrames$Program" (87 : Nat) ({ cls := "LeastFrames", name := "quad", desc := "(I)I" } : Jvm.MethodName) "LeastFrames"), (Jvm.Cond.castable "LeastFrames$Unborne" "LeastFrames$Unborne"), (Jvm.Cond.methodLinkNest "LeastFrames$Volume" (7 : Nat) ({ cls := "LeastFrames", name := "part", desc := "(JJI)J" } : Jvm.MethodName) "LeastFrames"), (Jvm.Cond.fieldLinkNest "LeastFrames$Untried" (21 : Nat) "LeastFrames$Unborne" "way" "I" "LeastFrames"), (Jvm.Cond.castable "LeastFrames$Untried" "LeastFrames$Untried")]
theorem nwL_kind : ∀ w ∈ nwL, nwKind w = true := by decide +kernel
theorem nw_q400 : (Jvm.Cond.declares ({ cls := "java/lang/Throwable", name := "<init>", desc := "()V" } : Jvm.MethodName)) ∈ nwL := List.mem_of_getElem? (i := 0) rfl
theorem nw_q401 : (Jvm.Cond.declares ({ cls := "java/lang/Throwable", name := "<init>", desc := "(Ljava/lang/String;)V" } : Jvm.MethodName)) ∈ nwL := List.mem_of_getElem? (i := 1) rfl
theorem nw_q442 : (Jvm.Cond.declares ({ cls := "java/lang/Throwable", name := "fillInStackTrace", desc := "()Ljava/lang/Throwable;" } : Jvm.MethodName)) ∈ nwL := List.mem_of_getElem? (i := 2) rfl
theorem nw_q610 : (Jvm.Cond.declares ({ cls := "java/lang/Throwable", name := "getCause", desc := "()Ljava/lang/Throwable;" } : Jvm.MethodName)) ∈ nwL := List.mem_of_getElem? (i := 3) rfl
theorem nw_q398 : (Jvm.Cond.declares ({ cls := "java/lang/Exception", name := "<init>", desc := "()V" } : Jvm.MethodName)) ∈ nwL := List.mem_of_getElem? (i := 4) rfl
theorem nw_q399 : (Jvm.Cond.declares ({ cls := "java/lang/Exception", name := "<init>", desc := "(Ljava/lang/String;)V" } : Jvm.MethodName)) ∈ nwL := List.mem_of_getElem? (i := 5) rfl
theorem nw_q829 : (Jvm.Cond.castable "java/lang/ArithmeticException" "java/lang/ArithmeticException") ∈ nwL := List.mem_of_getElem? (i := 6) rfl
theorem nw_q871 : (Jvm.Cond.castable "java/lang/NullPointerException" "java/lang/NullPointerException") ∈ nwL := List.mem_of_getElem? (i := 7) rfl
theorem nw_q886 : (Jvm.Cond.castable "java/lang/ArrayStoreException" "java/lang/ArrayStoreException") ∈ nwL := List.mem_of_getElem? (i := 8) rfl
theorem nw_q767 : (Jvm.Cond.declares ({ cls := "java/lang/RuntimeException", name := "<init>", desc := "()V" } : Jvm.MethodName)) ∈ nwL := List.mem_of_getElem? (i := 9) rfl
theorem nw_q768 : (Jvm.Cond.declares ({ cls := "java/lang/RuntimeException", name := "<init>", desc := "(Ljava/lang/String;)V" } : Jvm.MethodName)) ∈ nwL := List.mem_of_getElem? (i := 10) rfl
theorem nw_q873 : (Jvm.Cond.castable "java/lang/RuntimeException" "java/lang/Throwable") ∈ nwL := List.mem_of_getElem? (i := 11) rfl
theorem nw_q766 : (Jvm.Cond.castable "java/lang/NegativeArraySizeException" "java/lang/NegativeArraySizeException") ∈ nwL := List.mem_of_getElem? (i := 12) rfl
theorem nw_q796 : (Jvm.Cond.castable "java/lang/ClassCastException" "java/lang/ClassCastException") ∈ nwL := List.mem_of_getElem? (i := 13) rfl
theorem nw_q814 : (Jvm.Cond.declares ({ cls := "java/lang/IndexOutOfBoundsException", name := "<init>", desc := "()V" } : Jvm.MethodName)) ∈ nwL := List.mem_of_getElem? (i := 14) rfl
theorem nw_q815 : (Jvm.Cond.declares ({ cls := "java/lang/IndexOutOfBoundsException", name := "<init>", desc := "(Ljava/lang/String;)V" } : Jvm.MethodName)) ∈ nwL := List.mem_of_getElem? (i := 15) rfl
theorem nw_q813 : (Jvm.Cond.castable "java/lang/ArrayIndexOutOfBoundsException" "java/lang/ArrayIndexOutOfBoundsException") ∈ nwL := List.mem_of_getElem? (i := 16) rfl
theorem nw_q1331 : (Jvm.Cond.castable "java/lang/ArrayIndexOutOfBoundsException" "java/lang/IndexOutOfBoundsException") ∈ nwL := List.mem_of_getElem? (i := 17) rfl
theorem nw_q118 : (Jvm.Cond.methodLinkNest "LeastFrames" (13 : Nat) ({ cls := "LeastFrames$Point", name := "<init>", desc := "()V" } : Jvm.MethodName) "LeastFrames") ∈ nwL := List.mem_of_getElem? (i := 18) rfl
theorem nw_q123 : (Jvm.Cond.fieldLinkNest "LeastFrames" (143 : Nat) "LeastFrames$Point" "x" "I" "LeastFrames") ∈ nwL := List.mem_of_getElem? (i := 19) rfl
theorem nw_q125 : (Jvm.Cond.fieldLinkNest "LeastFrames" (146 : Nat) "LeastFrames$Point" "y" "I" "LeastFrames") ∈ nwL := List.mem_of_getElem? (i := 20) rfl
theorem nw_q127 : (Jvm.Cond.fieldLinkNest "LeastFrames" (165 : Nat) "LeastFrames$Point" "held" "I" "LeastFrames") ∈ nwL := List.mem_of_getElem? (i := 21) rfl
theorem nw_q130 : (Jvm.Cond.fieldLinkNest "LeastFrames" (176 : Nat) "LeastFrames$Point" "loads" "[I" "LeastFrames") ∈ nwL := List.mem_of_getElem? (i := 22) rfl
theorem nw_q132 : (Jvm.Cond.fieldLinkNest "LeastFrames" (278 : Nat) "LeastFrames$Point" "shifts" "[I" "LeastFrames") ∈ nwL := List.mem_of_getElem? (i := 23) rfl
theorem nw_q147 : (Jvm.Cond.methodLinkNest "LeastFrames" (22 : Nat) ({ cls := "LeastFrames$Program", name := "<init>", desc := "(LLeastFrames;)V" } : Jvm.MethodName) "LeastFrames") ∈ nwL := List.mem_of_getElem? (i := 24) rfl
theorem nw_q154 : (Jvm.Cond.fieldLinkNest "LeastFrames" (131 : Nat) "LeastFrames$Program" "rows" "[[J" "LeastFrames") ∈ nwL := List.mem_of_getElem? (i := 25) rfl
theorem nw_q157 : (Jvm.Cond.fieldLinkNest "LeastFrames" (127 : Nat) "LeastFrames$Program" "basis" "[I" "LeastFrames") ∈ nwL := List.mem_of_getElem? (i := 26) rfl
theorem nw_q160 : (Jvm.Cond.fieldLinkNest "LeastFrames" (124 : Nat) "LeastFrames$Program" "high" "I" "LeastFrames") ∈ nwL := List.mem_of_getElem? (i := 27) rfl
theorem nw_q162 : (Jvm.Cond.fieldLinkNest "LeastFrames" (83 : Nat) "LeastFrames$Program" "below" "J" "LeastFrames") ∈ nwL := List.mem_of_getElem? (i := 28) rfl
theorem nw_q183 : (Jvm.Cond.methodLinkNest "LeastFrames" (35 : Nat) ({ cls := "LeastFrames$Sheet", name := "<init>", desc := "()V" } : Jvm.MethodName) "LeastFrames") ∈ nwL := List.mem_of_getElem? (i := 29) rfl
theorem nw_q188 : (Jvm.Cond.fieldLinkNest "LeastFrames" (182 : Nat) "LeastFrames$Sheet" "row" "Ljava/lang/Object;" "LeastFrames") ∈ nwL := List.mem_of_getElem? (i := 30) rfl
theorem nw_q465 : (Jvm.Cond.fieldLinkNest "LeastFrames" (121 : Nat) "LeastFrames$Unborne" "way" "I" "LeastFrames") ∈ nwL := List.mem_of_getElem? (i := 31) rfl
theorem nw_q515 : (Jvm.Cond.fieldLinkNest "LeastFrames" (294 : Nat) "LeastFrames$Volume" "above" "J" "LeastFrames") ∈ nwL := List.mem_of_getElem? (i := 32) rfl
theorem nw_q517 : (Jvm.Cond.fieldLinkNest "LeastFrames" (297 : Nat) "LeastFrames$Volume" "below" "J" "LeastFrames") ∈ nwL := List.mem_of_getElem? (i := 33) rfl
theorem nw_q591 : (Jvm.Cond.fieldLinkNest "LeastFrames" (245 : Nat) "LeastFrames$Untried" "bar" "I" "LeastFrames") ∈ nwL := List.mem_of_getElem? (i := 34) rfl
theorem nw_q381 : (Jvm.Cond.methodLinkNest "LeastFrames$Point" (26 : Nat) ({ cls := "LeastFrames", name := "isIn", desc := "(II)Z" } : Jvm.MethodName) "LeastFrames") ∈ nwL := List.mem_of_getElem? (i := 35) rfl
theorem nw_q129 : (Jvm.Cond.fieldLinkNest "LeastFrames$Program" (55 : Nat) "LeastFrames$Point" "loads" "[I" "LeastFrames") ∈ nwL := List.mem_of_getElem? (i := 36) rfl
theorem nw_q194 : (Jvm.Cond.fieldLinkNest "LeastFrames$Program" (41 : Nat) "LeastFrames" "points" "[LLeastFrames$Point;" "LeastFrames") ∈ nwL := List.mem_of_getElem? (i := 37) rfl
theorem nw_q195 : (Jvm.Cond.fieldLinkNest "LeastFrames$Program" (38 : Nat) "LeastFrames" "many" "I" "LeastFrames") ∈ nwL := List.mem_of_getElem? (i := 38) rfl
theorem nw_q386 : (Jvm.Cond.methodLinkNest "LeastFrames$Program" (58 : Nat) ({ cls := "LeastFrames", name := "isIn", desc := "(II)Z" } : Jvm.MethodName) "LeastFrames") ∈ nwL := List.mem_of_getElem? (i := 39) rfl
theorem nw_q387 : (Jvm.Cond.methodLinkNest "LeastFrames$Program" (62 : Nat) ({ cls := "LeastFrames", name := "pairs", desc := "()I" } : Jvm.MethodName) "LeastFrames") ∈ nwL := List.mem_of_getElem? (i := 40) rfl
theorem nw_q388 : (Jvm.Cond.methodLinkNest "LeastFrames$Program" (66 : Nat) ({ cls := "LeastFrames", name := "lesser", desc := "(I)I" } : Jvm.MethodName) "LeastFrames") ∈ nwL := List.mem_of_getElem? (i := 41) rfl
theorem nw_q389 : (Jvm.Cond.methodLinkNest "LeastFrames$Program" (70 : Nat) ({ cls := "LeastFrames", name := "far", desc := "(II)I" } : Jvm.MethodName) "LeastFrames") ∈ nwL := List.mem_of_getElem? (i := 42) rfl
theorem nw_q390 : (Jvm.Cond.methodLinkNest "LeastFrames$Program" (74 : Nat) ({ cls := "LeastFrames", name := "greater", desc := "(I)I" } : Jvm.MethodName) "LeastFrames") ∈ nwL := List.mem_of_getElem? (i := 43) rfl
theorem nw_q493 : (Jvm.Cond.methodLinkNest "LeastFrames$Program" (87 : Nat) ({ cls := "LeastFrames", name := "quad", desc := "(I)I" } : Jvm.MethodName) "LeastFrames") ∈ nwL := List.mem_of_getElem? (i := 44) rfl
theorem nw_q397 : (Jvm.Cond.castable "LeastFrames$Unborne" "LeastFrames$Unborne") ∈ nwL := List.mem_of_getElem? (i := 45) rfl
theorem nw_q507 : (Jvm.Cond.methodLinkNest "LeastFrames$Volume" (7 : Nat) ({ cls := "LeastFrames", name := "part", desc := "(JJI)J" } : Jvm.MethodName) "LeastFrames") ∈ nwL := List.mem_of_getElem? (i := 46) rfl
theorem nw_q464 : (Jvm.Cond.fieldLinkNest "LeastFrames$Untried" (21 : Nat) "LeastFrames$Unborne" "way" "I" "LeastFrames") ∈ nwL := List.mem_of_getElem? (i := 47) rfl
theorem nw_q574 : (Jvm.Cond.castable "LeastFrames$Untried" "LeastFrames$Untried") ∈ nwL := List.mem_of_getElem? (i := 48) rfl
def ncL : List (String × String) := [("[J", "[I"), ("[I", "[J"), ("LeastFrames$Untried", "LeastFrames$Unborne"), ("java/lang/ArrayIndexOutOfBoundsException", "java/lang/ClassCastException"), ("java/lang/ArithmeticException", "java/lang/ClassCastException"), ("java/lang/ArithmeticException", "java/lang/ArrayIndexOutOfBoundsException"), ("java/lang/ArrayStoreException", "java/lang/NullPointerException"), ("java/lang/ArrayIndexOutOfBoundsException", "java/lang/NullPointerException"), ("java/lang/ArrayIndexOutOfBoundsException", "java/lang/ArrayStoreException")]
theorem nc_0 : (("[J", "[I") : String × String) ∈ ncL := List.mem_of_getElem? (i := 0) rfl
theorem nc_1 : (("[I", "[J") : String × String) ∈ ncL := List.mem_of_getElem? (i := 1) rfl
theorem nc_2 : (("LeastFrames$Untried", "LeastFrames$Unborne") : String × String) ∈ ncL := List.mem_of_getElem? (i := 2) rfl
theorem nc_3 : (("java/lang/ArrayIndexOutOfBoundsException", "java/lang/ClassCastException") : String × String) ∈ ncL := List.mem_of_getElem? (i := 3) rfl
theorem nc_4 : (("java/lang/ArithmeticException", "java/lang/ClassCastException") : String × String) ∈ ncL := List.mem_of_getElem? (i := 4) rfl
theorem nc_5 : (("java/lang/ArithmeticException", "java/lang/ArrayIndexOutOfBoundsException") : String × String) ∈ ncL := List.mem_of_getElem? (i := 5) rfl
theorem nc_6 : (("java/lang/ArrayStoreException", "java/lang/NullPointerException") : String × String) ∈ ncL := List.mem_of_getElem? (i := 6) rfl
theorem nc_7 : (("java/lang/ArrayIndexOutOfBoundsException", "java/lang/NullPointerException") : String × String) ∈ ncL := List.mem_of_getElem? (i := 7) rfl
theorem nc_8 : (("java/lang/ArrayIndexOutOfBoundsException", "java/lang/ArrayStoreException") : String × String) ∈ ncL := List.mem_of_getElem? (i := 8) rfl
/-- what every method of the two worlds knows of the tables -/
def KN (D : va_G) (dT : Nat → ClassId) (U : State) : Prop := va_K D clL (tysL dT) U ∧ (∀ w ∈ nwL, va_Nw w U) ∧ va_AO "LeastFrames$Point" U ∧ (va_AO "LeastFrames$Sheet" U ∧ ∃ sa : Nat, vk_R "java/lang/Math" 116 "long overflow" sa U) ∧ ∀ z ∈ ncL, va_Nc z.1 z.2 U
theorem KN.warm {D : va_G} {dT : Nat → ClassId} {s U : State} (h : KN D dT s) (hW : s.WarmedH U.vm) : KN D dT U := ⟨va_K.moved hW.alike h.1, fun w hw => nw_warm (nwL_kind w hw) hW (h.2.1 w hw), va_AO.moved hW.alike h.2.2.1, ⟨va_AO.moved hW.alike h.2.2.2.1.1, by obtain ⟨sa, hs⟩ := h.2.2.2.1.2; exact ⟨sa, vk_R.warm hW hs⟩⟩, fun z hz => va_Nc.moved hW.alike (h.2.2.2.2 z hz)⟩
theorem KN.calling {D : va_G} {dT : Nat → ClassId} {U : State} {a : Array Value} {g : JFrame} {mk : MethodId} (h : KN D dT U) : KN D dT (U.calling g mk a) := ⟨va_K.moved (u := U) (U := U.calling g mk a) (Vm.Alike.refl U.vm) h.1, fun w hw => va_Nw.same (nw_tab (nwL_kind w hw)) (u := U) rfl (h.2.1 w hw), va_AO.moved (u := U) (U := U.calling g mk a) (Vm.Alike.refl U.vm) h.2.2.1, ⟨va_AO.moved (u := U) (U := U.calling g mk a) (Vm.Alike.refl U.vm) h.2.2.2.1.1, by obtain ⟨sa, hs⟩ := h.2.2.2.1.2; exact ⟨sa, vk_R.same (u := U) rfl hs⟩⟩, fun z hz => va_Nc.moved (u := U) (U := U.calling g mk a) (Vm.Alike.refl U.vm) (h.2.2.2.2 z hz)⟩
/-- Throwable's two statics lie apart from what a method may change -/
def ZZ (A : Nat → Prop) (s : State) : Prop := vx_Zq Bundle.tN "UNASSIGNED_STACK" Bundle.steD A s s.heap ∧ vx_Zq Bundle.tN "SUPPRESSED_SENTINEL" Bundle.listD A s s.heap
def wAz (A : Nat → Prop) (s : State) : Prop := (∀ q : Nat, s.heap.size ≤ q → A q) ∧ ZZ A s
theorem ZZ.same {A : Nat → Prop} {u U : State} (h : ZZ A u) (hvm : u.vm.Alike U.vm) (hh : U.heap = u.heap) : ZZ A U := by
  unfold ZZ
  rw [hh]
  exact ⟨vx_Zq.moved hvm h.1, vx_Zq.moved hvm h.2⟩
theorem ZZ.at {A B : Nat → Prop} {s U : State} {H : Heap} (h : ZZ A s) (hk : ∀ q : Nat, q < s.heap.size → ¬ A q → H[q]? = s.heap[q]?) (hBA : ∀ q, B q → A q) (hvm : s.vm.Alike U.vm) (hU : U.heap = H) : ZZ B U := by
  unfold ZZ
  rw [hU]
  exact ⟨vx_Zq.moved hvm ((vx_Zq.kept h.1 hk).narrow hBA), vx_Zq.moved hvm ((vx_Zq.kept h.2 hk).narrow hBA)⟩
def wSt {σ : Type} (D : va_G) (Wd : σ → va_W) (I : σ → Prop) (A : Nat → Prop) (s : State) (x : σ) (H : Heap) (locs : List Loc) : Prop := va_P D clL (Wd x) H ∧ va_D A (Wd x) ∧ va_S A s.heap H locs ∧ I x
def wPc {σ : Type} (D : va_G) (dT : Nat → ClassId) (Wd : σ → va_W) (I : σ → Prop) (sz : Nat) (x : σ) (av : List Value) : Array Value → State → Prop := va_Pc av (fun U => U.heap.size = sz ∧ va_P D clL (Wd x) U.heap ∧ KN D dT U ∧ va_D (fun _ => True) (Wd x) ∧ I x ∧ ZZ (va_A (Wd x) sz) U)
def wB {σ : Type} (D : va_G) (Wd : σ → va_W) (I : σ → Prop) (A : Nat → Prop) : σ → State → Prop := fun x t => va_P D clL (Wd x) t.heap ∧ va_D A (Wd x) ∧ I x
/-- the method that runs: machine, code, class, words, tables -/
def wCx (own : String) (cc : ByteArray) (nL : Nat) (ret : Option FieldType) (D : va_G) (dT : Nat → ClassId) (p : Program) (s : State) (m : MethodId) (args : Array Value) (meth : Method) (c : Code) : Prop :=
  p.tables.exec = Jvm.exec ∧ c.code = cc ∧ c.maxLocals = nL ∧ s.vm.findClass own = some m.cls ∧ (∀ w ∈ lw_all, w.before args s = true) ∧ meth.sig.returnType = ret ∧ meth.locks = false ∧ KN D dT s
/-- the same of a static method that touches no cell -/
def sCx (own : String) (cc : ByteArray) (nL : Nat) (ret : Option FieldType) (p : Program) (s : State) (m : MethodId) (args : Array Value) (meth : Method) (c : Code) : Prop :=
  p.tables.exec = Jvm.exec ∧ c.code = cc ∧ c.maxLocals = nL ∧ s.vm.findClass own = some m.cls ∧ (∀ w ∈ lw_all, w.before args s = true) ∧ meth.sig.returnType = ret ∧ meth.locks = false
theorem sCx.of {own : String} {cc : ByteArray} {nL : Nat} {ret : Option FieldType} {D : va_G} {dT : Nat → ClassId} {p : Program} {s : State} {m : MethodId} {args : Array Value} {meth : Method} {c : Code} (h : wCx own cc nL ret D dT p s m args meth c) : sCx own cc nL ret p s m args meth c := ⟨h.1, h.2.1, h.2.2.1, h.2.2.2.1, h.2.2.2.2.1, h.2.2.2.2.2.1, h.2.2.2.2.2.2.1⟩
/-- an entry of a method of a world -/
theorem wEnt {σ : Type} {l : Launch} {y : MethodName} {cc : ByteArray} {maxL : Nat} {ret : Option FieldType} {rm : Room} {D : va_G} {dT : Nat → ClassId} {Wd : σ → va_W} {I : σ → Prop} {x : σ} {av : List Value} {Q : (Nat → Prop) → Array Value → State → Outcome → State → Prop} {mc ms : Nat} (hy : plainName y.cls = true) (hlen : (lg_sl av).length ≤ maxL)
    (body : ∀ (p : Program) (e : Env) (s : State) (m : MethodId) (below : List Frame) (meth : Method) (c : Code) (A : Nat → Prop) (ls : Array Slot), wCx y.cls cc maxL ret D dT p s m av.toArray meth c → meth.name = y.name → wAz A s → wSt D Wd I A s x s.heap [] → lv_has ls maxL (lv_args 0 av) → W p l e rm s m av.toArray below meth c s.heap [] 0 0 (MQ below (Q A) av.toArray s mc ms A) (F0 m 0 ls [])) (sz : Nat) :
    Met l y (ws_ y cc maxL ret) rm (wPc D dT Wd I sz x av) (Q (va_A (Wd x) sz)) mc ms (va_A (Wd x) sz) := by
  refine Met.ofW (cc := cc) (maxL := maxL) (ret := ret) hy rfl ?_
  intro p e s m args below meth c s₁ B hml hv
  obtain ⟨rfl, hsz, hP, hK, hD0, hI, hZ⟩ := hv
  have hts := atoms_spec (ws := ws_ y cc maxL ret) B.pre
  have hts : ∀ w ∈ lw_all, w.before _ s = true := fun w h => hts w (List.mem_cons_of_mem _ h)
  have hown : s.vm.findClass y.cls = some m.cls := findClass_of_methodNamed B.named
  have hin : meth.name = y.name := (name_of_methodNamed B.named B.method).1
  subst hsz
  have hD := hD0.self (sz := s.heap.size)
  rw [lg_entry_eq]
  exact body p e s m below meth c _ _ ⟨B.exec, B.bytes, hml, hown, hts, B.returns, B.notSynchronized, hK⟩ hin ⟨fun q h => Or.inr h, hZ⟩ ⟨hP, hD, va_S.rf, hI⟩ (lv_entry av hlen)
theorem sEnt {l : Launch} {y : MethodName} {cc : ByteArray} {maxL : Nat} {ret : Option FieldType} {rm : Room} {av : List Value} {Q : Array Value → State → Outcome → State → Prop} (hy : plainName y.cls = true) (hlen : (lg_sl av).length ≤ maxL)
    (body : ∀ (p : Program) (e : Env) (s : State) (m : MethodId) (below : List Frame) (meth : Method) (c : Code) (ls : Array Slot), sCx y.cls cc maxL ret p s m av.toArray meth c → va_S (fun _ => False) s.heap s.heap [] → lv_has ls maxL (lv_args 0 av) → W p l e rm s m av.toArray below meth c s.heap [] 0 0 (MQ below Q av.toArray s 0 0 (fun _ => False)) (F0 m 0 ls [])) :
    Met l y (ws_ y cc maxL ret) rm (va_Pc av (fun _ => True)) Q 0 0 (fun _ => False) := by
  refine Met.ofW (cc := cc) (maxL := maxL) (ret := ret) hy rfl ?_
  intro p e s m args below meth c s₁ B hml hv
  obtain ⟨rfl, -⟩ := hv
  have hts := atoms_spec (ws := ws_ y cc maxL ret) B.pre
  have hts : ∀ w ∈ lw_all, w.before _ s = true := fun w h => hts w (List.mem_cons_of_mem _ h)
  have hown : s.vm.findClass y.cls = some m.cls := findClass_of_methodNamed B.named
  rw [lg_entry_eq]
  exact body p e s m below meth c _ ⟨B.exec, B.bytes, hml, hown, hts, B.returns, B.notSynchronized⟩ va_S.rf (lv_entry av hlen)
theorem sEntF {l : Launch} {y : MethodName} {cc : ByteArray} {maxL : Nat} {ret : Option FieldType} {rm : Room} {av : List Value} {Q : Array Value → State → Outcome → State → Prop} (hy : plainFor y = true) (hlen : (lg_sl av).length ≤ maxL)
    (body : ∀ (p : Program) (e : Env) (s : State) (m : MethodId) (below : List Frame) (meth : Method) (c : Code) (ls : Array Slot), sCx y.cls cc maxL ret p s m av.toArray meth c → va_S (fun _ => False) s.heap s.heap [] → lv_has ls maxL (lv_args 0 av) → W p l e rm s m av.toArray below meth c s.heap [] 0 0 (MQ below Q av.toArray s 0 0 (fun _ => False)) (F0 m 0 ls [])) :
    Met l y (ws_ y cc maxL ret) rm (va_Pc av (fun _ => True)) Q 0 0 (fun _ => False) := by
  refine va_MetF (cc := cc) (maxL := maxL) (ret := ret) hy rfl ?_
  intro p e s m args below meth c s₁ B hml hv
  obtain ⟨rfl, -⟩ := hv
  have hts := atoms_spec (ws := ws_ y cc maxL ret) B.pre
  have hts : ∀ w ∈ lw_all, w.before _ s = true := fun w h => hts w (List.mem_cons_of_mem _ h)
  have hown : s.vm.findClass y.cls = some m.cls := findClass_of_methodNamed B.named
  rw [lg_entry_eq]
  exact body p e s m below meth c _ ⟨B.exec, B.bytes, hml, hown, hts, B.returns, B.notSynchronized⟩ va_S.rf (lv_entry av hlen)
section GENC
variable {p : Program} {l : Launch} {e : Env} {R : Room} {s : State} {m : MethodId} {args : Array Value} {below : List Frame} {meth : Method} {c : Code} {H : Heap} {locs : List Loc} {cells slots : Nat} {Q : State → Prop}
variable {σ : Type} {D : va_G} {dT : Nat → ClassId} {Wd : σ → va_W} {I : σ → Prop} {A : Nat → Prop} {x : σ} {own : String} {cc bytes : ByteArray} {nL maxL : Nat} {ret ret' : Option FieldType} {pc : Nat} {ls : Array Slot} {y : MethodName} {index mc ms : Nat} {rm : Room} {st0 rest As : List Value} {b : Nat}
theorem wFree (hA : wAz A s) (hS : wSt D Wd I A s x H locs) : ∀ q, va_A (Wd x) H.size q → A q := by
  intro q h
  rcases h with ⟨k, e, h⟩ | h
  · exact hS.2.1.2 k (q, e) h
  · exact hA.1 q (Nat.le_trans hS.2.2.1.1 h)
theorem wBack {u : σ} {t : State} {H1 : Heap} {locs1 : List Loc} (hA : wAz A s) (hS : wSt D Wd I A s x H locs) (ht : t.heap = H1) (hB : wB D Wd I (va_A (Wd x) H.size) u t) (hS1 : va_S A s.heap H1 locs1) : wSt D Wd I A s u H1 locs1 := by
  obtain ⟨h1, h2, h3⟩ := hB
  rw [ht] at h1
  exact ⟨h1, h2.weaken (fun _ _ _ h => wFree hA hS _ h), hS1, h3⟩
theorem wBlind {sz : Nat} {av : List Value} : FrameBlind (wPc D dT Wd I sz x av) := by
  intro a U g mk q
  obtain ⟨q0, q1, qP, qK, qD, qI, qZ⟩ := q
  exact ⟨q0, q1, qP, qK.calling, qD, qI, qZ.same (u := U) (U := U.calling g mk a) (Vm.Alike.refl U.vm) rfl⟩
theorem wPreU {av : List Value} (hK : KN D dT s) (hA : wAz A s) (hS : wSt D Wd I A s x H locs) : ∀ U : State, U.heap = H → s.WarmedH U.vm → wPc D dT Wd I H.size x av av.toArray U :=
  fun U hU hW => ⟨rfl, by rw [hU], by rw [hU]; exact hS.1, hK.warm hW, hS.2.1.weaken (fun _ _ _ _ => trivial), hS.2.2.2, ZZ.at hA.2 hS.2.2.1.2.1 (wFree hA hS) hW.alike hU⟩
/-- what a call's own words and room must be -/
def wCal (R : Room) (own : String) (index : Nat) (y : MethodName) (bytes : ByteArray) (maxL : Nat) (ret' : Option FieldType) (rm : Room) (mc ms n cells slots : Nat) : Prop :=
  (rm.cells = mc ∧ rm.slots = ms) ∧ (y.cls ≠ "java/lang/invoke/MethodHandle" ∧ y.cls ≠ "java/lang/invoke/VarHandle" ∧ (parseMethodDescriptor y.desc).map (fun d => d.parameters.length) = some n) ∧ (rm.frames + 1 ≤ R.frames ∧ 8 + (maxL + 11) + rm.locals ≤ R.locals) ∧ (cells + mc ≤ R.cells ∧ slots + ms ≤ R.slots)
theorem wRunV {Qc : Array Value → State → Outcome → State → Prop} {ci : Nat} {q : vw_C} {fs : List Value} (q0 : Nat) (hC : wCx own cc nL ret D dT p s m args meth c) (hM : Met l y (ws_ y bytes maxL ret') rm (wPc D dT Wd I H.size x (.ref b :: As)) Qc mc ms (va_A (Wd x) H.size)) (hg : GoodIn lw_all (wsV own index y.cls y (ws_ y bytes maxL ret')))
    (hc : wCal R own index y bytes maxL ret' rm mc ms As.length cells slots) (hr : (Wd x)[q0]? = some (b, .inr (ci, fs))) (hq : clL[ci]? = some q) (hqc : q.1 = y.cls) (hA : wAz A s) (hS : wSt D Wd I A s x H locs) (hl : ls.size = nL) (hst : st0 = As.reverse ++ .ref b :: rest) (hrest : (rest.map fun v => v.category).sum ≤ 8) (hdg : decode cc pc = .ok (.invokevirtual index, 3)) :
    va_Run p l e R s m args below meth c H locs cells slots mc ms (F0 m pc ls st0) rest (Qc (Value.ref b :: As).toArray) (va_A (Wd x) H.size) :=
  va_runV (As := As) (rest := rest) ⟨hC.1, hC.2.1, hC.2.2.1, hC.2.2.2.1, hC.2.2.2.2.1⟩ hM (cwV As.length hC.2.2.2.2.1 hg rfl hc.1.1 hc.1.2 ⟨rfl, hc.2.1⟩ hc.2.2.1) ⟨wBlind, by rw [← hqc]; exact va_recv hC.2.2.2.2.2.2.2.1 hS.1 (q0 := q0) hq hr, wPreU hC.2.2.2.2.2.2.2 hA hS⟩ rfl rfl hl hst (lv_room hrest) hdg hc.2.2.2
theorem wCallVi {post : Int32 → σ → Prop} {ci : Nat} {q : vw_C} {fs : List Value} (q0 : Nat) (hC : wCx own cc nL ret D dT p s m args meth c) (hM : Met l y (ws_ y bytes maxL ret') rm (wPc D dT Wd I H.size x (.ref b :: As)) (va_Qi post (wB D Wd I (va_A (Wd x) H.size)) (va_A (Wd x) H.size)) mc ms (va_A (Wd x) H.size)) (hg : GoodIn lw_all (wsV own index y.cls y (ws_ y bytes maxL ret')))
    (hc : wCal R own index y bytes maxL ret' rm mc ms As.length cells slots) (hr : (Wd x)[q0]? = some (b, .inr (ci, fs))) (hq : clL[ci]? = some q) (hqc : q.1 = y.cls) (hA : wAz A s) (hS : wSt D Wd I A s x H locs) (hl : ls.size = nL) (hst : st0 = As.reverse ++ .ref b :: rest) (hrest : (rest.map fun v => v.category).sum ≤ 8) (hdg : decode cc pc = .ok (.invokevirtual index, 3))
    (kk : ∀ (r : Int32) (u : σ) (H1 : Heap) (locs1 : List Loc), post r u → wSt D Wd I A s u H1 locs1 → W p l e R s m args below meth c H1 locs1 (cells + mc) (slots + ms) Q (F0 m (pc + 3) ls (.int r :: rest))) : W p l e R s m args below meth c H locs cells slots Q (F0 m pc ls st0) :=
  va_calli (wRunV q0 hC hM hg hc hr hq hqc hA hS hl hst hrest hdg) hS.2.2.1 (fun q _ h => wFree hA hS q h) (wFree hA hS) (fun r u t H1 locs1 ht _ hp hB _ _ hS1 => kk r u H1 locs1 hp (wBack hA hS ht hB hS1))
theorem wCallVl {post : Int64 → σ → Prop} {ci : Nat} {q : vw_C} {fs : List Value} (q0 : Nat) (hC : wCx own cc nL ret D dT p s m args meth c) (hM : Met l y (ws_ y bytes maxL ret') rm (wPc D dT Wd I H.size x (.ref b :: As)) (va_Ql post (wB D Wd I (va_A (Wd x) H.size)) (va_A (Wd x) H.size)) mc ms (va_A (Wd x) H.size)) (hg : GoodIn lw_all (wsV own index y.cls y (ws_ y bytes maxL ret')))
    (hc : wCal R own index y bytes maxL ret' rm mc ms As.length cells slots) (hr : (Wd x)[q0]? = some (b, .inr (ci, fs))) (hq : clL[ci]? = some q) (hqc : q.1 = y.cls) (hA : wAz A s) (hS : wSt D Wd I A s x H locs) (hl : ls.size = nL) (hst : st0 = As.reverse ++ .ref b :: rest) (hrest : (rest.map fun v => v.category).sum ≤ 8) (hdg : decode cc pc = .ok (.invokevirtual index, 3))
    (kk : ∀ (r : Int64) (u : σ) (H1 : Heap) (locs1 : List Loc), post r u → wSt D Wd I A s u H1 locs1 → W p l e R s m args below meth c H1 locs1 (cells + mc) (slots + ms) Q (F0 m (pc + 3) ls (.long r :: rest))) : W p l e R s m args below meth c H locs cells slots Q (F0 m pc ls st0) :=
  va_calll (wRunV q0 hC hM hg hc hr hq hqc hA hS hl hst hrest hdg) hS.2.2.1 (fun q _ h => wFree hA hS q h) (wFree hA hS) (fun r u t H1 locs1 ht _ hp hB _ _ hS1 => kk r u H1 locs1 hp (wBack hA hS ht hB hS1))
theorem wCallVv {post : σ → Prop} {ci : Nat} {q : vw_C} {fs : List Value} (q0 : Nat) (hC : wCx own cc nL ret D dT p s m args meth c) (hM : Met l y (ws_ y bytes maxL ret') rm (wPc D dT Wd I H.size x (.ref b :: As)) (va_Qv post (wB D Wd I (va_A (Wd x) H.size)) (va_A (Wd x) H.size)) mc ms (va_A (Wd x) H.size)) (hg : GoodIn lw_all (wsV own index y.cls y (ws_ y bytes maxL ret')))
    (hc : wCal R own index y bytes maxL ret' rm mc ms As.length cells slots) (hr : (Wd x)[q0]? = some (b, .inr (ci, fs))) (hq : clL[ci]? = some q) (hqc : q.1 = y.cls) (hA : wAz A s) (hS : wSt D Wd I A s x H locs) (hl : ls.size = nL) (hst : st0 = As.reverse ++ .ref b :: rest) (hrest : (rest.map fun v => v.category).sum ≤ 8) (hdg : decode cc pc = .ok (.invokevirtual index, 3))
    (kk : ∀ (u : σ) (H1 : Heap) (locs1 : List Loc), post u → wSt D Wd I A s u H1 locs1 → W p l e R s m args below meth c H1 locs1 (cells + mc) (slots + ms) Q (F0 m (pc + 3) ls rest)) : W p l e R s m args below meth c H locs cells slots Q (F0 m pc ls st0) :=
  va_callv (wRunV q0 hC hM hg hc hr hq hqc hA hS hl hst hrest hdg) hS.2.2.1 (fun q _ h => wFree hA hS q h) (wFree hA hS) (fun u t H1 locs1 ht _ hp hB _ _ hS1 => kk u H1 locs1 hp (wBack hA hS ht hB hS1))
/-- a static method that touches no cell, called from anywhere -/
theorem sBlind {av : List Value} : FrameBlind (va_Pc av (fun _ => True)) := fun _ _ _ _ q => q
theorem sRun {Qc : Array Value → State → Outcome → State → Prop} (hC : sCx own cc nL ret p s m args meth c) (hM : Met l y (ws_ y bytes maxL ret') rm (va_Pc As (fun _ => True)) Qc 0 0 (fun _ => False)) (hg : GoodIn lw_all (va_wsS own index y (ws_ y bytes maxL ret')))
    (hc : wCal R own index y bytes maxL ret' rm 0 0 As.length cells slots) (hl : ls.size = nL) (hst : st0 = As.reverse ++ rest) (hrest : (rest.map fun v => v.category).sum ≤ 8) (hdg : decode cc pc = .ok (.invokestatic index, 3)) :
    va_Run p l e R s m args below meth c H locs cells slots 0 0 (F0 m pc ls st0) rest (Qc As.toArray) (fun _ => False) :=
  va_runS (As := As) (rest := rest) ⟨hC.1, hC.2.1, hC.2.2.1, hC.2.2.2.1, hC.2.2.2.2.1⟩ hM (va_cwS As.length hC.2.2.2.2.1 hg rfl hc.1.1 hc.1.2 hc.2.1 hc.2.2.1) ⟨sBlind, fun U _ _ => ⟨rfl, trivial⟩⟩ rfl rfl hl hst (lv_room hrest) hdg hc.2.2.2
theorem sSame {H1 : Heap} {locs1 : List Loc} (hS : wSt D Wd I A s x H locs) (hk : ∀ q : Nat, q < H.size → ¬ False → H1[q]? = H[q]?) (hS1 : va_S A s.heap H1 locs1) : wSt D Wd I A s x H1 locs1 :=
  ⟨hS.1.kept (fun k q h => hk q.1 (hS.1 k q h).lt (fun z => z)), hS.2.1, hS1, hS.2.2.2⟩
theorem wCallSi {post : Int32 → Prop} (hC : wCx own cc nL ret D dT p s m args meth c) (hM : Met l y (ws_ y bytes maxL ret') rm (va_Pc As (fun _ => True)) (va_Qi (fun r (_ : Unit) => post r) (fun _ _ => True) (fun _ => False)) 0 0 (fun _ => False)) (hg : GoodIn lw_all (va_wsS own index y (ws_ y bytes maxL ret')))
    (hc : wCal R own index y bytes maxL ret' rm 0 0 As.length cells slots) (hS : wSt D Wd I A s x H locs) (hl : ls.size = nL) (hst : st0 = As.reverse ++ rest) (hrest : (rest.map fun v => v.category).sum ≤ 8) (hdg : decode cc pc = .ok (.invokestatic index, 3))
    (kk : ∀ (r : Int32) (H1 : Heap) (locs1 : List Loc), post r → wSt D Wd I A s x H1 locs1 → W p l e R s m args below meth c H1 locs1 cells slots Q (F0 m (pc + 3) ls (.int r :: rest))) : W p l e R s m args below meth c H locs cells slots Q (F0 m pc ls st0) :=
  va_calli (sRun (sCx.of hC) hM hg hc hl hst hrest hdg) hS.2.2.1 (fun _ _ h => h.elim) (fun _ h => h.elim) (fun r _ _ H1 locs1 _ _ hp _ _ hk hS1 => kk r H1 locs1 hp (sSame hS hk hS1))
theorem wCallSl {post : Int64 → Prop} (hC : wCx own cc nL ret D dT p s m args meth c) (hM : Met l y (ws_ y bytes maxL ret') rm (va_Pc As (fun _ => True)) (va_Ql (fun r (_ : Unit) => post r) (fun _ _ => True) (fun _ => False)) 0 0 (fun _ => False)) (hg : GoodIn lw_all (va_wsS own index y (ws_ y bytes maxL ret')))
    (hc : wCal R own index y bytes maxL ret' rm 0 0 As.length cells slots) (hS : wSt D Wd I A s x H locs) (hl : ls.size = nL) (hst : st0 = As.reverse ++ rest) (hrest : (rest.map fun v => v.category).sum ≤ 8) (hdg : decode cc pc = .ok (.invokestatic index, 3))
    (kk : ∀ (r : Int64) (H1 : Heap) (locs1 : List Loc), post r → wSt D Wd I A s x H1 locs1 → W p l e R s m args below meth c H1 locs1 cells slots Q (F0 m (pc + 3) ls (.long r :: rest))) : W p l e R s m args below meth c H locs cells slots Q (F0 m pc ls st0) :=
  va_calll (sRun (sCx.of hC) hM hg hc hl hst hrest hdg) hS.2.2.1 (fun _ _ h => h.elim) (fun _ h => h.elim) (fun r _ _ H1 locs1 _ _ hp _ _ hk hS1 => kk r H1 locs1 hp (sSame hS hk hS1))
theorem sCallSi {post : Int32 → Prop} (hC : sCx own cc nL ret p s m args meth c) (hM : Met l y (ws_ y bytes maxL ret') rm (va_Pc As (fun _ => True)) (va_Qi (fun r (_ : Unit) => post r) (fun _ _ => True) (fun _ => False)) 0 0 (fun _ => False)) (hg : GoodIn lw_all (va_wsS own index y (ws_ y bytes maxL ret')))
    (hc : wCal R own index y bytes maxL ret' rm 0 0 As.length cells slots) (hS : va_S (fun _ => False) s.heap H locs) (hl : ls.size = nL) (hst : st0 = As.reverse ++ rest) (hrest : (rest.map fun v => v.category).sum ≤ 8) (hdg : decode cc pc = .ok (.invokestatic index, 3))
    (kk : ∀ (r : Int32) (H1 : Heap) (locs1 : List Loc), post r → va_S (fun _ => False) s.heap H1 locs1 → W p l e R s m args below meth c H1 locs1 cells slots Q (F0 m (pc + 3) ls (.int r :: rest))) : W p l e R s m args below meth c H locs cells slots Q (F0 m pc ls st0) :=
  va_calli (sRun hC hM hg hc hl hst hrest hdg) hS (fun _ _ h => h.elim) (fun _ h => h.elim) (fun r _ _ H1 locs1 _ _ hp _ _ _ hS1 => kk r H1 locs1 hp hS1)
theorem sCallSl {post : Int64 → Prop} (hC : sCx own cc nL ret p s m args meth c) (hM : Met l y (ws_ y bytes maxL ret') rm (va_Pc As (fun _ => True)) (va_Ql (fun r (_ : Unit) => post r) (fun _ _ => True) (fun _ => False)) 0 0 (fun _ => False)) (hg : GoodIn lw_all (va_wsS own index y (ws_ y bytes maxL ret')))
    (hc : wCal R own index y bytes maxL ret' rm 0 0 As.length cells slots) (hS : va_S (fun _ => False) s.heap H locs) (hl : ls.size = nL) (hst : st0 = As.reverse ++ rest) (hrest : (rest.map fun v => v.category).sum ≤ 8) (hdg : decode cc pc = .ok (.invokestatic index, 3))
    (kk : ∀ (r : Int64) (H1 : Heap) (locs1 : List Loc), post r → va_S (fun _ => False) s.heap H1 locs1 → W p l e R s m args below meth c H1 locs1 cells slots Q (F0 m (pc + 3) ls (.long r :: rest))) : W p l e R s m args below meth c H locs cells slots Q (F0 m pc ls st0) :=
  va_calll (sRun hC hM hg hc hl hst hrest hdg) hS (fun _ _ h => h.elim) (fun _ h => h.elim) (fun r _ _ H1 locs1 _ _ hp _ _ _ hS1 => kk r H1 locs1 hp hS1)
/-! calls between nest mates -/
theorem wRunVN {host : String} {Qc : Array Value → State → Outcome → State → Prop} {ci : Nat} {q : vw_C} {fs : List Value} (q0 : Nat) (hC : wCx own cc nL ret D dT p s m args meth c) (hM : Met l y (ws_ y bytes maxL ret') rm (wPc D dT Wd I H.size x (.ref b :: As)) Qc mc ms (va_A (Wd x) H.size)) (hnw : Cond.methodLinkNest own index y host ∈ nwL) (hg : Cond.code y bytes maxL ret' ∈ lw_all) (hini : Cond.initialized y.cls ∈ lw_all) (hin : Cond.instanceMethod y ∈ lw_all) (hse : Cond.selects y.cls y y ∈ lw_all)
    (hc : wCal R own index y bytes maxL ret' rm mc ms As.length cells slots) (hr : (Wd x)[q0]? = some (b, .inr (ci, fs))) (hq : clL[ci]? = some q) (hqc : q.1 = y.cls) (hA : wAz A s) (hS : wSt D Wd I A s x H locs) (hl : ls.size = nL) (hst : st0 = As.reverse ++ .ref b :: rest) (hrest : (rest.map fun v => v.category).sum ≤ 8) (hdg : decode cc pc = .ok (.invokevirtual index, 3)) :
    va_Run p l e R s m args below meth c H locs cells slots mc ms (F0 m pc ls st0) rest (Qc (Value.ref b :: As).toArray) (va_A (Wd x) H.size) :=
  va_runVN (C := y.cls) (host := host) (As := As) (rest := rest) ⟨hC.1, hC.2.1, hC.2.2.1, hC.2.2.2.1, hC.2.2.2.2.1⟩ hM ⟨va_cnB As.length hC.2.2.2.2.1 (lw_meth hg) rfl hc.1.1 hc.1.2 (hC.2.2.2.2.2.2.2.2.1 _ hnw) (hC.2.2.2.2.1 _ hini) hc.2.1 hc.2.2.1, hC.2.2.2.2.1 _ hin, hC.2.2.2.2.1 _ hse⟩ ⟨wBlind, by rw [← hqc]; exact va_recv hC.2.2.2.2.2.2.2.1 hS.1 (q0 := q0) hq hr, wPreU hC.2.2.2.2.2.2.2 hA hS⟩ rfl rfl hl hst (lv_room hrest) hdg hc.2.2.2
theorem wCallVNi {host : String} {post : Int32 → σ → Prop} {ci : Nat} {q : vw_C} {fs : List Value} (q0 : Nat) (hC : wCx own cc nL ret D dT p s m args meth c) (hM : Met l y (ws_ y bytes maxL ret') rm (wPc D dT Wd I H.size x (.ref b :: As)) (va_Qi post (wB D Wd I (va_A (Wd x) H.size)) (va_A (Wd x) H.size)) mc ms (va_A (Wd x) H.size)) (hnw : Cond.methodLinkNest own index y host ∈ nwL) (hg : Cond.code y bytes maxL ret' ∈ lw_all) (hini : Cond.initialized y.cls ∈ lw_all) (hin : Cond.instanceMethod y ∈ lw_all) (hse : Cond.selects y.cls y y ∈ lw_all)
    (hc : wCal R own index y bytes maxL ret' rm mc ms As.length cells slots) (hr : (Wd x)[q0]? = some (b, .inr (ci, fs))) (hq : clL[ci]? = some q) (hqc : q.1 = y.cls) (hA : wAz A s) (hS : wSt D Wd I A s x H locs) (hl : ls.size = nL) (hst : st0 = As.reverse ++ .ref b :: rest) (hrest : (rest.map fun v => v.category).sum ≤ 8) (hdg : decode cc pc = .ok (.invokevirtual index, 3))
    (kk : ∀ (r : Int32) (u : σ) (H1 : Heap) (locs1 : List Loc), post r u → wSt D Wd I A s u H1 locs1 → W p l e R s m args below meth c H1 locs1 (cells + mc) (slots + ms) Q (F0 m (pc + 3) ls (.int r :: rest))) : W p l e R s m args below meth c H locs cells slots Q (F0 m pc ls st0) :=
  va_calli (wRunVN q0 hC hM hnw hg hini hin hse hc hr hq hqc hA hS hl hst hrest hdg) hS.2.2.1 (fun q _ h => wFree hA hS q h) (wFree hA hS) (fun r u t H1 locs1 ht _ hp hB _ _ hS1 => kk r u H1 locs1 hp (wBack hA hS ht hB hS1))
theorem wCallVNl {host : String} {post : Int64 → σ → Prop} {ci : Nat} {q : vw_C} {fs : List Value} (q0 : Nat) (hC : wCx own cc nL ret D dT p s m args meth c) (hM : Met l y (ws_ y bytes maxL ret') rm (wPc D dT Wd I H.size x (.ref b :: As)) (va_Ql post (wB D Wd I (va_A (Wd x) H.size)) (va_A (Wd x) H.size)) mc ms (va_A (Wd x) H.size)) (hnw : Cond.methodLinkNest own index y host ∈ nwL) (hg : Cond.code y bytes maxL ret' ∈ lw_all) (hini : Cond.initialized y.cls ∈ lw_all) (hin : Cond.instanceMethod y ∈ lw_all) (hse : Cond.selects y.cls y y ∈ lw_all)
    (hc : wCal R own index y bytes maxL ret' rm mc ms As.length cells slots) (hr : (Wd x)[q0]? = some (b, .inr (ci, fs))) (hq : clL[ci]? = some q) (hqc : q.1 = y.cls) (hA : wAz A s) (hS : wSt D Wd I A s x H locs) (hl : ls.size = nL) (hst : st0 = As.reverse ++ .ref b :: rest) (hrest : (rest.map fun v => v.category).sum ≤ 8) (hdg : decode cc pc = .ok (.invokevirtual index, 3))
    (kk : ∀ (r : Int64) (u : σ) (H1 : Heap) (locs1 : List Loc), post r u → wSt D Wd I A s u H1 locs1 → W p l e R s m args below meth c H1 locs1 (cells + mc) (slots + ms) Q (F0 m (pc + 3) ls (.long r :: rest))) : W p l e R s m args below meth c H locs cells slots Q (F0 m pc ls st0) :=
  va_calll (wRunVN q0 hC hM hnw hg hini hin hse hc hr hq hqc hA hS hl hst hrest hdg) hS.2.2.1 (fun q _ h => wFree hA hS q h) (wFree hA hS) (fun r u t H1 locs1 ht _ hp hB _ _ hS1 => kk r u H1 locs1 hp (wBack hA hS ht hB hS1))
theorem sRunN {host : String} {Qc : Array Value → State → Outcome → State → Prop} (hC : wCx own cc nL ret D dT p s m args meth c) (hM : Met l y (ws_ y bytes maxL ret') rm (va_Pc As (fun _ => True)) Qc 0 0 (fun _ => False)) (hnw : Cond.methodLinkNest own index y host ∈ nwL) (hg : Cond.code y bytes maxL ret' ∈ lw_all) (hini : Cond.initialized y.cls ∈ lw_all) (hin : Cond.static y ∈ lw_all)
    (hc : wCal R own index y bytes maxL ret' rm 0 0 As.length cells slots) (hl : ls.size = nL) (hst : st0 = As.reverse ++ rest) (hrest : (rest.map fun v => v.category).sum ≤ 8) (hdg : decode cc pc = .ok (.invokestatic index, 3)) :
    va_Run p l e R s m args below meth c H locs cells slots 0 0 (F0 m pc ls st0) rest (Qc As.toArray) (fun _ => False) :=
  va_runSN (host := host) (As := As) (rest := rest) ⟨hC.1, hC.2.1, hC.2.2.1, hC.2.2.2.1, hC.2.2.2.2.1⟩ hM ⟨va_cnB As.length hC.2.2.2.2.1 (lw_meth hg) rfl hc.1.1 hc.1.2 (hC.2.2.2.2.2.2.2.2.1 _ hnw) (hC.2.2.2.2.1 _ hini) hc.2.1 hc.2.2.1, hC.2.2.2.2.1 _ hin, trivial⟩ ⟨sBlind, fun U _ _ => ⟨rfl, trivial⟩⟩ rfl rfl hl hst (lv_room hrest) hdg hc.2.2.2
theorem wCallSNi {host : String} {post : Int32 → Prop} (hC : wCx own cc nL ret D dT p s m args meth c) (hM : Met l y (ws_ y bytes maxL ret') rm (va_Pc As (fun _ => True)) (va_Qi (fun r (_ : Unit) => post r) (fun _ _ => True) (fun _ => False)) 0 0 (fun _ => False)) (hnw : Cond.methodLinkNest own index y host ∈ nwL) (hg : Cond.code y bytes maxL ret' ∈ lw_all) (hini : Cond.initialized y.cls ∈ lw_all) (hin : Cond.static y ∈ lw_all)
    (hc : wCal R own index y bytes maxL ret' rm 0 0 As.length cells slots) (hS : wSt D Wd I A s x H locs) (hl : ls.size = nL) (hst : st0 = As.reverse ++ rest) (hrest : (rest.map fun v => v.category).sum ≤ 8) (hdg : decode cc pc = .ok (.invokestatic index, 3))
    (kk : ∀ (r : Int32) (H1 : Heap) (locs1 : List Loc), post r → wSt D Wd I A s x H1 locs1 → W p l e R s m args below meth c H1 locs1 cells slots Q (F0 m (pc + 3) ls (.int r :: rest))) : W p l e R s m args below meth c H locs cells slots Q (F0 m pc ls st0) :=
  va_calli (sRunN hC hM hnw hg hini hin hc hl hst hrest hdg) hS.2.2.1 (fun _ _ h => h.elim) (fun _ h => h.elim) (fun r _ _ H1 locs1 _ _ hp _ _ hk hS1 => kk r H1 locs1 hp (sSame hS hk hS1))
theorem wCallSNl {host : String} {post : Int64 → Prop} (hC : wCx own cc nL ret D dT p s m args meth c) (hM : Met l y (ws_ y bytes maxL ret') rm (va_Pc As (fun _ => True)) (va_Ql (fun r (_ : Unit) => post r) (fun _ _ => True) (fun _ => False)) 0 0 (fun _ => False)) (hnw : Cond.methodLinkNest own index y host ∈ nwL) (hg : Cond.code y bytes maxL ret' ∈ lw_all) (hini : Cond.initialized y.cls ∈ lw_all) (hin : Cond.static y ∈ lw_all)
    (hc : wCal R own index y bytes maxL ret' rm 0 0 As.length cells slots) (hS : wSt D Wd I A s x H locs) (hl : ls.size = nL) (hst : st0 = As.reverse ++ rest) (hrest : (rest.map fun v => v.category).sum ≤ 8) (hdg : decode cc pc = .ok (.invokestatic index, 3))
    (kk : ∀ (r : Int64) (H1 : Heap) (locs1 : List Loc), post r → wSt D Wd I A s x H1 locs1 → W p l e R s m args below meth c H1 locs1 cells slots Q (F0 m (pc + 3) ls (.long r :: rest))) : W p l e R s m args below meth c H locs cells slots Q (F0 m pc ls st0) :=
  va_calll (sRunN hC hM hnw hg hini hin hc hl hst hrest hdg) hS.2.2.1 (fun _ _ h => h.elim) (fun _ h => h.elim) (fun r _ _ H1 locs1 _ _ hp _ _ hk hS1 => kk r H1 locs1 hp (sSame hS hk hS1))
/-! references that may be null -/
theorem opt_nn {α : Type} {f : α → Nat} {o : Option α} (hexec : p.tables.exec = Jvm.exec) (hb : c.code = cc) {off : Int} {tgt : Nat} (hdg : decode cc pc = .ok (.ifnonnull off, 3)) (ht : (pc : Int) + off = (tgt : Int)) (kn : o = none → W p l e R s m args below meth c H locs cells slots Q (F0 m (pc + 3) ls rest)) (ks : ∀ v, o = some v → W p l e R s m args below meth c H locs cells slots Q (F0 m tgt ls rest)) : W p l e R s m args below meth c H locs cells slots Q (F0 m pc ls (va_rf (o.map f) :: rest)) := by
  cases o with
  | none => exact lv_ifnonnullN hexec hb hdg (kn rfl)
  | some v => exact lv_ifnonnull hexec hb hdg ht (ks v rfl)
theorem opt_nu {α : Type} {f : α → Nat} {o : Option α} (hexec : p.tables.exec = Jvm.exec) (hb : c.code = cc) {off : Int} {tgt : Nat} (hdg : decode cc pc = .ok (.ifnull off, 3)) (ht : (pc : Int) + off = (tgt : Int)) (kn : o = none → W p l e R s m args below meth c H locs cells slots Q (F0 m tgt ls rest)) (ks : ∀ v, o = some v → W p l e R s m args below meth c H locs cells slots Q (F0 m (pc + 3) ls rest)) : W p l e R s m args below meth c H locs cells slots Q (F0 m pc ls (va_rf (o.map f) :: rest)) := by
  cases o with
  | none => exact lv_ifnullN hexec hb hdg ht (kn rfl)
  | some v => exact lv_ifnull hexec hb hdg (ks v rfl)
theorem opt_ref {α : Type} {f : α → Nat} {o : Option α} {v : α} (h : o = some v) (k : W p l e R s m args below meth c H locs cells slots Q (F0 m pc ls (.ref (f v) :: rest))) : W p l e R s m args below meth c H locs cells slots Q (F0 m pc ls (va_rf (o.map f) :: rest)) := by
  subst h; exact k
theorem vp_lt {i : Int32} {n : Nat} (h : vp_in i n) : i.toNatClampNeg < n := Nat.not_le.mp fun q => h (Or.inr q)
/-- a place of an array of arrays -/
theorem aldqA {ws : va_W} {tys : List (ClassId × FieldType)} {a : Nat} (hexec : p.tables.exec = Jvm.exec) (hb : c.code = cc) (hK : va_K D clL tys s) (hP : va_P D clL ws H) (q0 t0 : Nat) {cA : ClassId} {t : FieldType} {n : Nat} {f : Nat → Option Nat} (ha : ws[q0]? = some (a, .inl (cA, n, .inr (.inr (.inr (.inr f)))))) (ht : tys[t0]? = some (cA, .array t)) {i : Int32} (hin : vp_in i n) (hdg : decode cc pc = .ok (.aaload, 1))
    (kk : W p l e R s m args below meth c H locs cells slots Q (F0 m (pc + 1) ls (va_rf (f i.toNatClampNeg) :: rest))) : W p l e R s m args below meth c H locs cells slots Q (F0 m pc ls (.int i :: .ref a :: rest)) := by
  have hlt : i.toNatClampNeg < n := Nat.not_le.mp fun q => hin (Or.inr q)
  exact W.aald (v := va_rf (f i.toNatClampNeg)) (ty := .array t) hexec hb (hP q0 _ ha) ((hK.2 t0 _ ht).1 n (fun j => va_rf (f j))) rfl (fun q => by cases q) (by show ¬ (i < 0 ∨ (arrV _ _ _).slots.size ≤ _); rw [arrV_size]; exact hin) (by show (arrV _ _ _).slots[_]? = _; rw [arrV_read _ _ hlt]) rfl rfl hdg kk
/-! ends -/
theorem wReti {post : Int32 → σ → Prop} {v : Int32} (hC : wCx own cc nL (some .int) D dT p s m args meth c) (hS : wSt D Wd I A s x H locs) (hp : post v x) (h1 : cells ≤ mc) (h2 : slots ≤ ms) (hdg : decode cc pc = .ok (.ireturn, 1)) : W p l e R s m args below meth c H locs cells slots (MQ below (va_Qi post (wB D Wd I A) A) args s mc ms A) (F0 m pc ls [.int v]) :=
  W.widen h1 h2 (W.iret (v := v) hC.1 hC.2.1 hC.2.2.2.2.2.1 (fun t ht _ => ⟨⟨v, x, rfl, hp, by rw [ht]; exact hS.1, hS.2.1, hS.2.2.2⟩, hS.2.2.1.F ht⟩) hS.2.2.1.2.2 hdg hC.2.2.2.2.2.2.1)
theorem wRetz {post : Int32 → σ → Prop} {v : Int32} (hC : wCx own cc nL (some .boolean) D dT p s m args meth c) (hS : wSt D Wd I A s x H locs) (hv : v &&& 1 = v) (hp : post v x) (h1 : cells ≤ mc) (h2 : slots ≤ ms) (hdg : decode cc pc = .ok (.ireturn, 1)) : W p l e R s m args below meth c H locs cells slots (MQ below (va_Qi post (wB D Wd I A) A) args s mc ms A) (F0 m pc ls [.int v]) :=
  W.widen h1 h2 (W.zret (v := v) hC.1 hC.2.1 hC.2.2.2.2.2.1 (by show Value.int (v &&& 1) = _; rw [hv]) (fun t ht _ => ⟨⟨v, x, rfl, hp, by rw [ht]; exact hS.1, hS.2.1, hS.2.2.2⟩, hS.2.2.1.F ht⟩) hS.2.2.1.2.2 hdg hC.2.2.2.2.2.2.1)
theorem wRetl {post : Int64 → σ → Prop} {v : Int64} (hC : wCx own cc nL (some .long) D dT p s m args meth c) (hS : wSt D Wd I A s x H locs) (hp : post v x) (h1 : cells ≤ mc) (h2 : slots ≤ ms) (hdg : decode cc pc = .ok (.lreturn, 1)) : W p l e R s m args below meth c H locs cells slots (MQ below (va_Ql post (wB D Wd I A) A) args s mc ms A) (F0 m pc ls [.long v]) :=
  W.widen h1 h2 (W.lret (v := v) hC.1 hC.2.1 hC.2.2.2.2.2.1 (fun t ht _ => ⟨⟨v, x, rfl, hp, by rw [ht]; exact hS.1, hS.2.1, hS.2.2.2⟩, hS.2.2.1.F ht⟩) hS.2.2.1.2.2 hdg hC.2.2.2.2.2.2.1)
theorem wRetv {post : σ → Prop} (hC : wCx own cc nL none D dT p s m args meth c) (hS : wSt D Wd I A s x H locs) (hp : post x) (h1 : cells ≤ mc) (h2 : slots ≤ ms) (hdg : decode cc pc = .ok (.return_, 1)) : W p l e R s m args below meth c H locs cells slots (MQ below (va_Qv post (wB D Wd I A) A) args s mc ms A) (F0 m pc ls []) :=
  W.widen h1 h2 (W.vret hC.1 hC.2.1 hC.2.2.2.2.2.1 (fun t ht _ => ⟨⟨x, rfl, hp, by rw [ht]; exact hS.1, hS.2.1, hS.2.2.2⟩, hS.2.2.1.F ht⟩) hS.2.2.1.2.2 hdg hC.2.2.2.2.2.2.1)
theorem sReti {post : Int32 → Prop} {v : Int32} (hC : sCx own cc nL (some .int) p s m args meth c) (hS : va_S (fun _ => False) s.heap H locs) (hp : post v) (hdg : decode cc pc = .ok (.ireturn, 1)) : W p l e R s m args below meth c H locs 0 0 (MQ below (va_Qi (fun r (_ : Unit) => post r) (fun _ _ => True) (fun _ => False)) args s 0 0 (fun _ => False)) (F0 m pc ls [.int v]) :=
  W.iret (v := v) hC.1 hC.2.1 hC.2.2.2.2.2.1 (fun t ht _ => ⟨⟨v, (), rfl, hp, trivial⟩, hS.F ht⟩) hS.2.2 hdg hC.2.2.2.2.2.2
theorem sRetz {post : Int32 → Prop} {v : Int32} (hC : sCx own cc nL (some .boolean) p s m args meth c) (hS : va_S (fun _ => False) s.heap H locs) (hv : v &&& 1 = v) (hp : post v) (hdg : decode cc pc = .ok (.ireturn, 1)) : W p l e R s m args below meth c H locs 0 0 (MQ below (va_Qi (fun r (_ : Unit) => post r) (fun _ _ => True) (fun _ => False)) args s 0 0 (fun _ => False)) (F0 m pc ls [.int v]) :=
  W.zret (v := v) hC.1 hC.2.1 hC.2.2.2.2.2.1 (by show Value.int (v &&& 1) = _; rw [hv]) (fun t ht _ => ⟨⟨v, (), rfl, hp, trivial⟩, hS.F ht⟩) hS.2.2 hdg hC.2.2.2.2.2.2
theorem sRetl {post : Int64 → Prop} {v : Int64} (hC : sCx own cc nL (some .long) p s m args meth c) (hS : va_S (fun _ => False) s.heap H locs) (hp : post v) (hdg : decode cc pc = .ok (.lreturn, 1)) : W p l e R s m args below meth c H locs 0 0 (MQ below (va_Ql (fun r (_ : Unit) => post r) (fun _ _ => True) (fun _ => False)) args s 0 0 (fun _ => False)) (F0 m pc ls [.long v]) :=
  W.lret (v := v) hC.1 hC.2.1 hC.2.2.2.2.2.1 (fun t ht _ => ⟨⟨v, (), rfl, hp, trivial⟩, hS.F ht⟩) hS.2.2 hdg hC.2.2.2.2.2.2
/-! a compare of longs and the branch behind it -/
theorem lc_if_eq (hexec : p.tables.exec = Jvm.exec) (hb : c.code = cc) {x y : Int64} {off : Int} {tgt : Nat} (h1 : decode cc pc = .ok (.lcmp, 1)) (h2 : decode cc (pc + 1) = .ok (.ifCond .eq off, 3)) (ht : ((pc + 1 : Nat) : Int) + off = (tgt : Int)) (kt : x = y → W p l e R s m args below meth c H locs cells slots Q (F0 m tgt ls rest)) (kf : ¬ x = y → W p l e R s m args below meth c H locs cells slots Q (F0 m (pc + 1 + 3) ls rest)) : W p l e R s m args below meth c H locs cells slots Q (F0 m pc ls (.long y :: .long x :: rest)) :=
  W.lcmp hexec hb h1 (lv_if_eq hexec hb h2 ht (fun h => kt ((lg_cmp_eq x y).mp h)) (fun h => kf (fun g => h ((lg_cmp_eq x y).mpr g))))
theorem lc_if_lt (hexec : p.tables.exec = Jvm.exec) (hb : c.code = cc) {x y : Int64} {off : Int} {tgt : Nat} (h1 : decode cc pc = .ok (.lcmp, 1)) (h2 : decode cc (pc + 1) = .ok (.ifCond .lt off, 3)) (ht : ((pc + 1 : Nat) : Int) + off = (tgt : Int)) (kt : x < y → W p l e R s m args below meth c H locs cells slots Q (F0 m tgt ls rest)) (kf : ¬ x < y → W p l e R s m args below meth c H locs cells slots Q (F0 m (pc + 1 + 3) ls rest)) : W p l e R s m args below meth c H locs cells slots Q (F0 m pc ls (.long y :: .long x :: rest)) :=
  W.lcmp hexec hb h1 (lv_if_lt hexec hb h2 ht (fun h => kt ((lg_cmp_lt x y).mp h)) (fun h => kf (fun g => h ((lg_cmp_lt x y).mpr g))))
theorem lc_if_ge (hexec : p.tables.exec = Jvm.exec) (hb : c.code = cc) {x y : Int64} {off : Int} {tgt : Nat} (h1 : decode cc pc = .ok (.lcmp, 1)) (h2 : decode cc (pc + 1) = .ok (.ifCond .ge off, 3)) (ht : ((pc + 1 : Nat) : Int) + off = (tgt : Int)) (kt : y ≤ x → W p l e R s m args below meth c H locs cells slots Q (F0 m tgt ls rest)) (kf : ¬ y ≤ x → W p l e R s m args below meth c H locs cells slots Q (F0 m (pc + 1 + 3) ls rest)) : W p l e R s m args below meth c H locs cells slots Q (F0 m pc ls (.long y :: .long x :: rest)) :=
  W.lcmp hexec hb h1 (lv_if_ge hexec hb h2 ht (fun h => kt ((lg_cmp_ge x y).mp h)) (fun h => kf (fun g => h ((lg_cmp_ge x y).mpr g))))
theorem lc_if_gt (hexec : p.tables.exec = Jvm.exec) (hb : c.code = cc) {x y : Int64} {off : Int} {tgt : Nat} (h1 : decode cc pc = .ok (.lcmp, 1)) (h2 : decode cc (pc + 1) = .ok (.ifCond .gt off, 3)) (ht : ((pc + 1 : Nat) : Int) + off = (tgt : Int)) (kt : y < x → W p l e R s m args below meth c H locs cells slots Q (F0 m tgt ls rest)) (kf : ¬ y < x → W p l e R s m args below meth c H locs cells slots Q (F0 m (pc + 1 + 3) ls rest)) : W p l e R s m args below meth c H locs cells slots Q (F0 m pc ls (.long y :: .long x :: rest)) :=
  W.lcmp hexec hb h1 (lv_if_gt hexec hb h2 ht (fun h => kt ((lg_cmp_gt x y).mp h)) (fun h => kf (fun g => h ((lg_cmp_gt x y).mpr g))))
theorem lc_if_le (hexec : p.tables.exec = Jvm.exec) (hb : c.code = cc) {x y : Int64} {off : Int} {tgt : Nat} (h1 : decode cc pc = .ok (.lcmp, 1)) (h2 : decode cc (pc + 1) = .ok (.ifCond .le off, 3)) (ht : ((pc + 1 : Nat) : Int) + off = (tgt : Int)) (kt : x ≤ y → W p l e R s m args below meth c H locs cells slots Q (F0 m tgt ls rest)) (kf : ¬ x ≤ y → W p l e R s m args below meth c H locs cells slots Q (F0 m (pc + 1 + 3) ls rest)) : W p l e R s m args below meth c H locs cells slots Q (F0 m pc ls (.long y :: .long x :: rest)) :=
  W.lcmp hexec hb h1 (lv_if_le hexec hb h2 ht (fun h => kt ((lg_cmp_le x y).mp h)) (fun h => kf (fun g => h ((lg_cmp_le x y).mpr g))))
theorem lc_if_ne (hexec : p.tables.exec = Jvm.exec) (hb : c.code = cc) {x y : Int64} {off : Int} {tgt : Nat} (h1 : decode cc pc = .ok (.lcmp, 1)) (h2 : decode cc (pc + 1) = .ok (.ifCond .ne off, 3)) (ht : ((pc + 1 : Nat) : Int) + off = (tgt : Int)) (kt : ¬ x = y → W p l e R s m args below meth c H locs cells slots Q (F0 m tgt ls rest)) (kf : x = y → W p l e R s m args below meth c H locs cells slots Q (F0 m (pc + 1 + 3) ls rest)) : W p l e R s m args below meth c H locs cells slots Q (F0 m pc ls (.long y :: .long x :: rest)) :=
  W.lcmp hexec hb h1 (lv_if_ne hexec hb h2 ht (fun h => kt (fun g => h ((lg_cmp_eq x y).mpr g))) (fun h => kf ((lg_cmp_eq x y).mp h)))
end GENC
theorem bz_01 {v : Int32} (hv : v &&& 1 = v) : v = 0 ∨ v = 1 := by
  obtain ⟨j, hj, e⟩ := pk_andE v (m := 1) 1 (by decide)
  rw [← hv, e]
  have : j = 0 ∨ j = 1 := by omega
  rcases this with rfl | rfl
  · exact Or.inl (by decide)
  · exact Or.inr (by decide)
theorem fits_z (v : Int32) (hv : v &&& 1 = v) : fits .boolean (.int v) = true := by
  rcases bz_01 hv with rfl | rfl <;> decide
/-! switches -/
theorem sw_out {x : Int32} {n : Nat} {hi : Int} (h : ∀ k, k < n → ¬ x = Int32.ofNat k) (hn : n < 2 ^ 31) (hh : hi = (n : Int) - 1) : x.toInt < 0 ∨ hi < x.toInt := by
  by_cases h0 : x < 0
  · exact Or.inl (Int32.lt_iff_toInt_lt.mp h0)
  · obtain ⟨j, hj, e⟩ := nI_of h0
    refine Or.inr ?_
    have hjn : n ≤ j := Nat.le_of_not_lt fun q => h j q e
    rw [e, nI_toInt hj, hh]
    omega
theorem sw_lk2 {x : Int32} {a b d : Int} (h0 : ¬ x = 0) (h1 : ¬ x = 1) : Op.lookupswitch.offset [(0, a), (1, b)] d x.toInt = d := by
  have e0 : ¬ (0 : Int) = x.toInt := fun h => h0 (Int32.toInt_inj.mp h.symm)
  have e1 : ¬ (1 : Int) = x.toInt := fun h => h1 (Int32.toInt_inj.mp h.symm)
  simp [Op.lookupswitch.offset, e0, e1]
