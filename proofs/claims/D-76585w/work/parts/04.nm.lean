/-! java/lang/Throwable -/
set_option maxRecDepth 100000
def RJ0 : String := "java/lang/Throwable"
def TJ0 : u_T := fun k => match k with
  | 0 => ("java/lang/Throwable", "cause", "Ljava/lang/Throwable;", false)
  | 1 => ("java/lang/Throwable", "stackTrace", "[Ljava/lang/StackTraceElement;", false)
  | 2 => ("java/lang/Throwable", "suppressedExceptions", "Ljava/util/List;", false)
  | 3 => ("java/lang/Throwable", "detailMessage", "Ljava/lang/String;", false)
  | _ => ("java/lang/Throwable", "backtrace", "Ljava/lang/Object;", false)
def tyJ0 : Nat → FieldType := fun k => match k with
  | 0 => .object "java/lang/Throwable"
  | 1 => .array (.object "java/lang/StackTraceElement")
  | 2 => .object "java/util/List"
  | 3 => .object "java/lang/String"
  | _ => .object "java/lang/Object"
abbrev wsJ00 : List Cond := u_ws RJ0 TJ0 5
theorem nmJ0 : ∀ a, a < 5 → ∀ b, b < 5 → a ≠ b → (TJ0 a).2.1 ≠ (TJ0 b).2.1 := by decide +kernel
theorem tyJ0_ok : ∀ k, k < 5 → parseFieldDescriptor (TJ0 k).2.2.1 = some (tyJ0 k) := by decide +kernel
abbrev cJ0_init : ByteArray := prog_29_method_1_code
def yJ0_init : MethodName := ⟨RJ0, "<init>", "()V"⟩
def dkwJ0_init_1 : List UInt8 := [182, 0, 27, 87, 177]
abbrev dktJ0_init_1 : List UInt8 := dkwJ0_init_1 ++ []
def dkwJ0_init_0 : List UInt8 := [42, 183, 0, 1, 42, 42, 181, 0, 7, 42, 178, 0, 13, 181, 0, 17, 42, 178, 0, 20, 181, 0, 24, 42]
abbrev dktJ0_init_0 : List UInt8 := dkwJ0_init_0 ++ dktJ0_init_1
theorem dksJ0_init_0 : cJ0_init.data.toList.drop 0 = dktJ0_init_0 := by decide +kernel
theorem dksJ0_init_1 : cJ0_init.data.toList.drop 24 = dktJ0_init_1 := dk_seg dksJ0_init_0 24 rfl rfl
theorem dJ0_init_0 : decode cJ0_init 0 = .ok (.aload_n 0, 1) := dk_42 (dk_at dksJ0_init_0 0 rfl rfl)
theorem dJ0_init_1 : decode cJ0_init 1 = .ok (.invokespecial 1, 3) := dk_183 0 1 (dk_at dksJ0_init_0 1 rfl rfl)
theorem dJ0_init_4 : decode cJ0_init 4 = .ok (.aload_n 0, 1) := dk_42 (dk_at dksJ0_init_0 4 rfl rfl)
theorem dJ0_init_5 : decode cJ0_init 5 = .ok (.aload_n 0, 1) := dk_42 (dk_at dksJ0_init_0 5 rfl rfl)
theorem dJ0_init_6 : decode cJ0_init 6 = .ok (.putfield 7, 3) := dk_181 0 7 (dk_at dksJ0_init_0 6 rfl rfl)
theorem dJ0_init_9 : decode cJ0_init 9 = .ok (.aload_n 0, 1) := dk_42 (dk_at dksJ0_init_0 9 rfl rfl)
theorem dJ0_init_10 : decode cJ0_init 10 = .ok (.getstatic 13, 3) := dk_178 0 13 (dk_at dksJ0_init_0 10 rfl rfl)
theorem dJ0_init_13 : decode cJ0_init 13 = .ok (.putfield 17, 3) := dk_181 0 17 (dk_at dksJ0_init_0 13 rfl rfl)
theorem dJ0_init_16 : decode cJ0_init 16 = .ok (.aload_n 0, 1) := dk_42 (dk_at dksJ0_init_0 16 rfl rfl)
theorem dJ0_init_17 : decode cJ0_init 17 = .ok (.getstatic 20, 3) := dk_178 0 20 (dk_at dksJ0_init_0 17 rfl rfl)
theorem dJ0_init_20 : decode cJ0_init 20 = .ok (.putfield 24, 3) := dk_181 0 24 (dk_at dksJ0_init_0 20 rfl rfl)
theorem dJ0_init_23 : decode cJ0_init 23 = .ok (.aload_n 0, 1) := dk_42 (dk_at dksJ0_init_0 23 rfl rfl)
theorem dJ0_init_24 : decode cJ0_init 24 = .ok (.invokevirtual 27, 3) := dk_182 0 27 (dk_at dksJ0_init_1 0 rfl rfl)
theorem dJ0_init_27 : decode cJ0_init 27 = .ok (.pop, 1) := dk_87 (dk_at dksJ0_init_1 3 rfl rfl)
theorem dJ0_init_28 : decode cJ0_init 28 = .ok (.return_, 1) := dk_177 (dk_at dksJ0_init_1 4 rfl rfl)
theorem q95 : (Jvm.Cond.initialized "java/lang/Throwable") ∈ lw_all := lw_g (lw_at lw_m1 11 rfl) rfl
theorem q311 : (Jvm.Cond.declares ({ cls := "java/lang/Throwable", name := "<init>", desc := "()V" } : Jvm.MethodName)) ∈ lw_tbl := lw_at lw_m1 227 rfl
theorem q312 : (Jvm.Cond.declares ({ cls := "java/lang/Throwable", name := "<init>", desc := "(Ljava/lang/String;)V" } : Jvm.MethodName)) ∈ lw_tbl := lw_at lw_m1 228 rfl
theorem q316 : (Jvm.Cond.lays "java/lang/Throwable" "java/lang/Throwable" "cause" "Ljava/lang/Throwable;") ∈ lw_all := lw_g (lw_at lw_m1 232 rfl) rfl
theorem q318 : (Jvm.Cond.lays "java/lang/Throwable" "java/lang/Throwable" "stackTrace" "[Ljava/lang/StackTraceElement;") ∈ lw_all := lw_g (lw_at lw_m1 234 rfl) rfl
theorem q320 : (Jvm.Cond.lays "java/lang/Throwable" "java/lang/Throwable" "suppressedExceptions" "Ljava/util/List;") ∈ lw_all := lw_g (lw_at lw_m1 236 rfl) rfl
theorem q322 : (Jvm.Cond.lays "java/lang/Throwable" "java/lang/Throwable" "detailMessage" "Ljava/lang/String;") ∈ lw_all := lw_g (lw_at lw_m1 238 rfl) rfl
theorem q324 : (Jvm.Cond.lays "java/lang/Throwable" "java/lang/Throwable" "backtrace" "Ljava/lang/Object;") ∈ lw_all := lw_g (lw_at lw_m2 0 rfl) rfl
theorem q325 : (Jvm.Cond.fieldLink "java/lang/Throwable" (198 : Nat) "java/lang/Throwable" "backtrace" "Ljava/lang/Object;") ∈ lw_all := lw_g (lw_at lw_m2 1 rfl) rfl
theorem q326 : (Jvm.Cond.superclass "java/lang/Throwable" "java/lang/Object") ∈ lw_all := lw_g (lw_at lw_m2 2 rfl) rfl
theorem q327 : (Jvm.Cond.instanceMethod ({ cls := "java/lang/Throwable", name := "<init>", desc := "()V" } : Jvm.MethodName)) ∈ lw_all := lw_g (lw_at lw_m2 3 rfl) rfl
theorem q328 : (Jvm.Cond.code ({ cls := "java/lang/Throwable", name := "<init>", desc := "()V" } : Jvm.MethodName) prog_29_method_1_code (1 : Nat) (Option.none : Option Jvm.ClassFile.FieldType)) ∈ lw_all := lw_g (lw_at lw_m2 4 rfl) rfl
theorem q329 : (Jvm.Cond.methodLink "java/lang/Throwable" (1 : Nat) ({ cls := "java/lang/Object", name := "<init>", desc := "()V" } : Jvm.MethodName)) ∈ lw_all := lw_g (lw_at lw_m2 5 rfl) rfl
theorem q330 : (Jvm.Cond.fieldLink "java/lang/Throwable" (13 : Nat) "java/lang/Throwable" "UNASSIGNED_STACK" "[Ljava/lang/StackTraceElement;") ∈ lw_all := lw_g (lw_at lw_m2 6 rfl) rfl
theorem q331 : (Jvm.Cond.laysStatic "java/lang/Throwable" "UNASSIGNED_STACK" "[Ljava/lang/StackTraceElement;") ∈ lw_tbl := lw_at lw_m2 7 rfl
theorem q332 : (Jvm.Cond.fieldLink "java/lang/Throwable" (20 : Nat) "java/lang/Throwable" "SUPPRESSED_SENTINEL" "Ljava/util/List;") ∈ lw_all := lw_g (lw_at lw_m2 8 rfl) rfl
theorem q333 : (Jvm.Cond.laysStatic "java/lang/Throwable" "SUPPRESSED_SENTINEL" "Ljava/util/List;") ∈ lw_tbl := lw_at lw_m2 9 rfl
theorem q334 : (Jvm.Cond.methodLink "java/lang/Throwable" (27 : Nat) ({ cls := "java/lang/Throwable", name := "fillInStackTrace", desc := "()Ljava/lang/Throwable;" } : Jvm.MethodName)) ∈ lw_all := lw_g (lw_at lw_m2 10 rfl) rfl
theorem q335 : (Jvm.Cond.instanceMethod ({ cls := "java/lang/Throwable", name := "fillInStackTrace", desc := "()Ljava/lang/Throwable;" } : Jvm.MethodName)) ∈ lw_all := lw_g (lw_at lw_m2 11 rfl) rfl
theorem q336 : (Jvm.Cond.sameMethod "java/lang/Throwable" "java/lang/Throwable" "fillInStackTrace" "()Ljava/lang/Throwable;") ∈ lw_all := lw_g (lw_at lw_m2 12 rfl) rfl
theorem q338 : (Jvm.Cond.codeSync ({ cls := "java/lang/Throwable", name := "fillInStackTrace", desc := "()Ljava/lang/Throwable;" } : Jvm.MethodName) prog_29_method_18_code (1 : Nat) (Option.some (Jvm.ClassFile.FieldType.object "java/lang/Throwable"))) ∈ lw_all := lw_g (lw_at lw_m2 14 rfl) rfl
theorem q339 : (Jvm.Cond.methodLink "java/lang/Throwable" (202 : Nat) ({ cls := "java/lang/Throwable", name := "fillInStackTrace", desc := "(I)Ljava/lang/Throwable;" } : Jvm.MethodName)) ∈ lw_all := lw_g (lw_at lw_m2 15 rfl) rfl
theorem q340 : (Jvm.Cond.privateMethod ({ cls := "java/lang/Throwable", name := "fillInStackTrace", desc := "(I)Ljava/lang/Throwable;" } : Jvm.MethodName)) ∈ lw_tbl := lw_at lw_m2 16 rfl
theorem q341 : (Jvm.Cond.instanceMethod ({ cls := "java/lang/Throwable", name := "fillInStackTrace", desc := "(I)Ljava/lang/Throwable;" } : Jvm.MethodName)) ∈ lw_all := lw_g (lw_at lw_m2 17 rfl) rfl
theorem q342 : (Jvm.Cond.instantiable "java/lang/Throwable" (6 : Nat)) ∈ lw_all := lw_g (lw_at lw_m2 18 rfl) rfl
theorem q343 : (Jvm.Cond.native ({ cls := "java/lang/Throwable", name := "fillInStackTrace", desc := "(I)Ljava/lang/Throwable;" } : Jvm.MethodName)) ∈ lw_all := lw_g (lw_at lw_m2 19 rfl) rfl
theorem q358 : (Jvm.Cond.fieldLink "java/lang/Throwable" (198 : Nat) "java/lang/Throwable" "backtrace" "Ljava/lang/Object;") ∈ lw_all := lw_g (lw_at lw_m2 34 rfl) rfl
theorem q359 : (Jvm.Cond.fieldLink "java/lang/Throwable" (7 : Nat) "java/lang/Throwable" "cause" "Ljava/lang/Throwable;") ∈ lw_all := lw_g (lw_at lw_m2 35 rfl) rfl
theorem q360 : (Jvm.Cond.fieldLink "java/lang/Throwable" (17 : Nat) "java/lang/Throwable" "stackTrace" "[Ljava/lang/StackTraceElement;") ∈ lw_all := lw_g (lw_at lw_m2 36 rfl) rfl
theorem q361 : (Jvm.Cond.fieldLink "java/lang/Throwable" (24 : Nat) "java/lang/Throwable" "suppressedExceptions" "Ljava/util/List;") ∈ lw_all := lw_g (lw_at lw_m2 37 rfl) rfl
theorem q364 : (Jvm.Cond.soleField "java/lang/Throwable" "backtrace") ∈ lw_all := lw_g (lw_at lw_m2 40 rfl) rfl
theorem q365 : (Jvm.Cond.soleField "java/lang/Throwable" "detailMessage") ∈ lw_all := lw_g (lw_at lw_m2 41 rfl) rfl
theorem q366 : (Jvm.Cond.soleField "java/lang/Throwable" "cause") ∈ lw_all := lw_g (lw_at lw_m2 42 rfl) rfl
theorem q367 : (Jvm.Cond.soleField "java/lang/Throwable" "stackTrace") ∈ lw_all := lw_g (lw_at lw_m2 43 rfl) rfl
theorem q369 : (Jvm.Cond.soleField "java/lang/Throwable" "depth") ∈ lw_all := lw_g (lw_at lw_m2 45 rfl) rfl
theorem q370 : (Jvm.Cond.soleField "java/lang/Throwable" "suppressedExceptions") ∈ lw_all := lw_g (lw_at lw_m2 46 rfl) rfl
theorem q1509 : (Jvm.Cond.sameMethod "java/lang/Throwable" "java/lang/Throwable" "fillInStackTrace" "(I)Ljava/lang/Throwable;") ∈ lw_all := lw_g (lw_at lw_m6 225 rfl) rfl
theorem in_J0 : ∀ w ∈ wsJ00, w ∈ lw_all := lw_in wsJ00 [316, 318, 320, 322, 324] (by decide +kernel) (by decide +kernel)
/-! java/lang/Exception -/
set_option maxRecDepth 100000
def RJ1 : String := "java/lang/Exception"
abbrev cJ1_init : ByteArray := prog_25_method_1_code
def yJ1_init : MethodName := ⟨RJ1, "<init>", "()V"⟩
theorem dJ1_init_0 : decode cJ1_init 0 = .ok (.aload_n 0, 1) := by decide +kernel
theorem dJ1_init_1 : decode cJ1_init 1 = .ok (.invokespecial 1, 3) := by decide +kernel
theorem dJ1_init_4 : decode cJ1_init 4 = .ok (.return_, 1) := by decide +kernel
theorem q96 : (Jvm.Cond.initialized "java/lang/Exception") ∈ lw_all := lw_g (lw_at lw_m1 12 rfl) rfl
theorem q309 : (Jvm.Cond.declares ({ cls := "java/lang/Exception", name := "<init>", desc := "()V" } : Jvm.MethodName)) ∈ lw_tbl := lw_at lw_m1 225 rfl
theorem q310 : (Jvm.Cond.declares ({ cls := "java/lang/Exception", name := "<init>", desc := "(Ljava/lang/String;)V" } : Jvm.MethodName)) ∈ lw_tbl := lw_at lw_m1 226 rfl
theorem q354 : (Jvm.Cond.instanceMethod ({ cls := "java/lang/Exception", name := "<init>", desc := "()V" } : Jvm.MethodName)) ∈ lw_all := lw_g (lw_at lw_m2 30 rfl) rfl
theorem q355 : (Jvm.Cond.code ({ cls := "java/lang/Exception", name := "<init>", desc := "()V" } : Jvm.MethodName) prog_25_method_1_code (1 : Nat) (Option.none : Option Jvm.ClassFile.FieldType)) ∈ lw_all := lw_g (lw_at lw_m2 31 rfl) rfl
theorem q356 : (Jvm.Cond.methodLink "java/lang/Exception" (1 : Nat) ({ cls := "java/lang/Throwable", name := "<init>", desc := "()V" } : Jvm.MethodName)) ∈ lw_all := lw_g (lw_at lw_m2 32 rfl) rfl
/-! java/lang/RuntimeException -/
set_option maxRecDepth 100000
def RJ2 : String := "java/lang/RuntimeException"
abbrev cJ2_init : ByteArray := prog_27_method_1_code
def yJ2_init : MethodName := ⟨RJ2, "<init>", "()V"⟩
theorem dJ2_init_0 : decode cJ2_init 0 = .ok (.aload_n 0, 1) := by decide +kernel
theorem dJ2_init_1 : decode cJ2_init 1 = .ok (.invokespecial 1, 3) := by decide +kernel
theorem dJ2_init_4 : decode cJ2_init 4 = .ok (.return_, 1) := by decide +kernel
theorem q97 : (Jvm.Cond.initialized "java/lang/RuntimeException") ∈ lw_all := lw_g (lw_at lw_m1 13 rfl) rfl
theorem q307 : (Jvm.Cond.declares ({ cls := "java/lang/RuntimeException", name := "<init>", desc := "()V" } : Jvm.MethodName)) ∈ lw_tbl := lw_at lw_m1 223 rfl
theorem q308 : (Jvm.Cond.declares ({ cls := "java/lang/RuntimeException", name := "<init>", desc := "(Ljava/lang/String;)V" } : Jvm.MethodName)) ∈ lw_tbl := lw_at lw_m1 224 rfl
theorem q351 : (Jvm.Cond.instanceMethod ({ cls := "java/lang/RuntimeException", name := "<init>", desc := "()V" } : Jvm.MethodName)) ∈ lw_all := lw_g (lw_at lw_m2 27 rfl) rfl
theorem q352 : (Jvm.Cond.code ({ cls := "java/lang/RuntimeException", name := "<init>", desc := "()V" } : Jvm.MethodName) prog_27_method_1_code (1 : Nat) (Option.none : Option Jvm.ClassFile.FieldType)) ∈ lw_all := lw_g (lw_at lw_m2 28 rfl) rfl
theorem q353 : (Jvm.Cond.methodLink "java/lang/RuntimeException" (1 : Nat) ({ cls := "java/lang/Exception", name := "<init>", desc := "()V" } : Jvm.MethodName)) ∈ lw_all := lw_g (lw_at lw_m2 29 rfl) rfl
/-! java/lang/Math -/
set_option maxRecDepth 100000
def RJ3 : String := "java/lang/Math"
abbrev cJ3_min : ByteArray := prog_26_method_69_code
def yJ3_min : MethodName := ⟨RJ3, "min", "(II)I"⟩
def dkwJ3_min_0 : List UInt8 := [26, 27, 163, 0, 7, 26, 167, 0, 4, 27, 172]
abbrev dktJ3_min_0 : List UInt8 := dkwJ3_min_0 ++ []
theorem dksJ3_min_0 : cJ3_min.data.toList.drop 0 = dktJ3_min_0 := by decide +kernel
theorem dJ3_min_0 : decode cJ3_min 0 = .ok (.iload_n 0, 1) := dk_26 (dk_at dksJ3_min_0 0 rfl rfl)
theorem dJ3_min_1 : decode cJ3_min 1 = .ok (.iload_n 1, 1) := dk_27 (dk_at dksJ3_min_0 1 rfl rfl)
theorem dJ3_min_2 : decode cJ3_min 2 = .ok (.if_icmp .gt 7, 3) := dk_163 0 7 (dk_at dksJ3_min_0 2 rfl rfl)
theorem dJ3_min_5 : decode cJ3_min 5 = .ok (.iload_n 0, 1) := dk_26 (dk_at dksJ3_min_0 5 rfl rfl)
theorem dJ3_min_6 : decode cJ3_min 6 = .ok (.goto 4, 3) := dk_167 0 4 (dk_at dksJ3_min_0 6 rfl rfl)
theorem dJ3_min_9 : decode cJ3_min 9 = .ok (.iload_n 1, 1) := dk_27 (dk_at dksJ3_min_0 9 rfl rfl)
theorem dJ3_min_10 : decode cJ3_min 10 = .ok (.ireturn, 1) := dk_172 (dk_at dksJ3_min_0 10 rfl rfl)
abbrev cJ3_max : ByteArray := prog_26_method_65_code
def yJ3_max : MethodName := ⟨RJ3, "max", "(II)I"⟩
def dkwJ3_max_0 : List UInt8 := [26, 27, 161, 0, 7, 26, 167, 0, 4, 27, 172]
abbrev dktJ3_max_0 : List UInt8 := dkwJ3_max_0 ++ []
theorem dksJ3_max_0 : cJ3_max.data.toList.drop 0 = dktJ3_max_0 := by decide +kernel
theorem dJ3_max_0 : decode cJ3_max 0 = .ok (.iload_n 0, 1) := dk_26 (dk_at dksJ3_max_0 0 rfl rfl)
theorem dJ3_max_1 : decode cJ3_max 1 = .ok (.iload_n 1, 1) := dk_27 (dk_at dksJ3_max_0 1 rfl rfl)
theorem dJ3_max_2 : decode cJ3_max 2 = .ok (.if_icmp .lt 7, 3) := dk_161 0 7 (dk_at dksJ3_max_0 2 rfl rfl)
theorem dJ3_max_5 : decode cJ3_max 5 = .ok (.iload_n 0, 1) := dk_26 (dk_at dksJ3_max_0 5 rfl rfl)
theorem dJ3_max_6 : decode cJ3_max 6 = .ok (.goto 4, 3) := dk_167 0 4 (dk_at dksJ3_max_0 6 rfl rfl)
theorem dJ3_max_9 : decode cJ3_max 9 = .ok (.iload_n 1, 1) := dk_27 (dk_at dksJ3_max_0 9 rfl rfl)
theorem dJ3_max_10 : decode cJ3_max 10 = .ok (.ireturn, 1) := dk_172 (dk_at dksJ3_max_0 10 rfl rfl)
theorem q112 : (Jvm.Cond.initialized "java/lang/Math") ∈ lw_all := lw_g (lw_at lw_m1 28 rfl) rfl
theorem q624 : (Jvm.Cond.static ({ cls := "java/lang/Math", name := "min", desc := "(II)I" } : Jvm.MethodName)) ∈ lw_all := lw_g (lw_at lw_m3 60 rfl) rfl
theorem q625 : (Jvm.Cond.code ({ cls := "java/lang/Math", name := "min", desc := "(II)I" } : Jvm.MethodName) prog_26_method_69_code (2 : Nat) (Option.some Jvm.ClassFile.FieldType.int)) ∈ lw_all := lw_g (lw_at lw_m3 61 rfl) rfl
theorem q696 : (Jvm.Cond.static ({ cls := "java/lang/Math", name := "max", desc := "(II)I" } : Jvm.MethodName)) ∈ lw_all := lw_g (lw_at lw_m3 132 rfl) rfl
theorem q697 : (Jvm.Cond.code ({ cls := "java/lang/Math", name := "max", desc := "(II)I" } : Jvm.MethodName) prog_26_method_65_code (2 : Nat) (Option.some Jvm.ClassFile.FieldType.int)) ∈ lw_all := lw_g (lw_at lw_m3 133 rfl) rfl
/-! java/lang/Object -/
set_option maxRecDepth 100000
def RJ4 : String := "java/lang/Object"
abbrev cJ4_init : ByteArray := object_method_1_code
def yJ4_init : MethodName := ⟨RJ4, "<init>", "()V"⟩
theorem dJ4_init_0 : decode cJ4_init 0 = .ok (.return_, 1) := by decide +kernel
theorem q119 : (Jvm.Cond.instanceMethod ({ cls := "java/lang/Object", name := "<init>", desc := "()V" } : Jvm.MethodName)) ∈ lw_all := lw_g (lw_at lw_m1 35 rfl) rfl
theorem q120 : (Jvm.Cond.code ({ cls := "java/lang/Object", name := "<init>", desc := "()V" } : Jvm.MethodName) object_method_1_code (1 : Nat) (Option.none : Option Jvm.ClassFile.FieldType)) ∈ lw_all := lw_g (lw_at lw_m1 36 rfl) rfl
/-! WellOfTheSilent$Kind -/
set_option maxRecDepth 100000
def RX1 : String := "WellOfTheSilent$Kind"
abbrev cX1_init : ByteArray := prog_7_method_1_code
def yX1_init : MethodName := ⟨RX1, "<init>", "()V"⟩
theorem dX1_init_0 : decode cX1_init 0 = .ok (.aload_n 0, 1) := by decide +kernel
theorem dX1_init_1 : decode cX1_init 1 = .ok (.invokespecial 1, 3) := by decide +kernel
theorem dX1_init_4 : decode cX1_init 4 = .ok (.return_, 1) := by decide +kernel
abbrev cX1_drawsSpoken : ByteArray := prog_7_method_5_code
def yX1_drawsSpoken : MethodName := ⟨RX1, "drawsSpoken", "()Z"⟩
theorem dX1_drawsSpoken_0 : decode cX1_drawsSpoken 0 = .ok (.iconst 0, 1) := by decide +kernel
theorem dX1_drawsSpoken_1 : decode cX1_drawsSpoken 1 = .ok (.ireturn, 1) := by decide +kernel
theorem q86 : (Jvm.Cond.initialized "WellOfTheSilent$Kind") ∈ lw_all := lw_g (lw_at lw_m1 2 rfl) rfl
theorem q129 : (Jvm.Cond.instanceMethod ({ cls := "WellOfTheSilent$Kind", name := "<init>", desc := "()V" } : Jvm.MethodName)) ∈ lw_all := lw_g (lw_at lw_m1 45 rfl) rfl
theorem q130 : (Jvm.Cond.code ({ cls := "WellOfTheSilent$Kind", name := "<init>", desc := "()V" } : Jvm.MethodName) prog_7_method_1_code (1 : Nat) (Option.none : Option Jvm.ClassFile.FieldType)) ∈ lw_all := lw_g (lw_at lw_m1 46 rfl) rfl
theorem q131 : (Jvm.Cond.methodLink "WellOfTheSilent$Kind" (1 : Nat) ({ cls := "java/lang/Object", name := "<init>", desc := "()V" } : Jvm.MethodName)) ∈ lw_all := lw_g (lw_at lw_m1 47 rfl) rfl
theorem q634 : (Jvm.Cond.declares ({ cls := "WellOfTheSilent$Kind", name := "speaksIn", desc := "(I)I" } : Jvm.MethodName)) ∈ lw_tbl := lw_at lw_m3 70 rfl
theorem q635 : (Jvm.Cond.sameMethod "WellOfTheSilent$Kind" "WellOfTheSilent$Kind" "speaksIn" "(I)I") ∈ lw_all := lw_g (lw_at lw_m3 71 rfl) rfl
theorem q661 : (Jvm.Cond.instanceMethod ({ cls := "WellOfTheSilent$Kind", name := "drawsSpoken", desc := "()Z" } : Jvm.MethodName)) ∈ lw_all := lw_g (lw_at lw_m3 97 rfl) rfl
theorem q662 : (Jvm.Cond.sameMethod "WellOfTheSilent$Kind" "WellOfTheSilent$Kind" "drawsSpoken" "()Z") ∈ lw_all := lw_g (lw_at lw_m3 98 rfl) rfl
theorem q671 : (Jvm.Cond.code ({ cls := "WellOfTheSilent$Kind", name := "drawsSpoken", desc := "()Z" } : Jvm.MethodName) prog_7_method_5_code (1 : Nat) (Option.some Jvm.ClassFile.FieldType.boolean)) ∈ lw_all := lw_g (lw_at lw_m3 107 rfl) rfl
theorem q677 : (Jvm.Cond.declares ({ cls := "WellOfTheSilent$Kind", name := "drinks", desc := "()I" } : Jvm.MethodName)) ∈ lw_tbl := lw_at lw_m3 113 rfl
theorem q678 : (Jvm.Cond.sameMethod "WellOfTheSilent$Kind" "WellOfTheSilent$Kind" "drinks" "()I") ∈ lw_all := lw_g (lw_at lw_m3 114 rfl) rfl
theorem q730 : (Jvm.Cond.declares ({ cls := "WellOfTheSilent$Kind", name := "kind", desc := "()I" } : Jvm.MethodName)) ∈ lw_tbl := lw_at lw_m3 166 rfl
theorem q731 : (Jvm.Cond.sameMethod "WellOfTheSilent$Kind" "WellOfTheSilent$Kind" "kind" "()I") ∈ lw_all := lw_g (lw_at lw_m3 167 rfl) rfl
/-! WellOfTheSilent$Refusal -/
set_option maxRecDepth 100000
def RX10 : String := "WellOfTheSilent$Refusal"
abbrev cX10_init : ByteArray := prog_16_method_1_code
def yX10_init : MethodName := ⟨RX10, "<init>", "()V"⟩
theorem dX10_init_0 : decode cX10_init 0 = .ok (.aload_n 0, 1) := by decide +kernel
theorem dX10_init_1 : decode cX10_init 1 = .ok (.invokespecial 1, 3) := by decide +kernel
theorem dX10_init_4 : decode cX10_init 4 = .ok (.return_, 1) := by decide +kernel
theorem q98 : (Jvm.Cond.initialized "WellOfTheSilent$Refusal") ∈ lw_all := lw_g (lw_at lw_m1 14 rfl) rfl
theorem q306 : (Jvm.Cond.declares ({ cls := "WellOfTheSilent$Refusal", name := "<init>", desc := "()V" } : Jvm.MethodName)) ∈ lw_tbl := lw_at lw_m1 222 rfl
theorem q348 : (Jvm.Cond.instanceMethod ({ cls := "WellOfTheSilent$Refusal", name := "<init>", desc := "()V" } : Jvm.MethodName)) ∈ lw_all := lw_g (lw_at lw_m2 24 rfl) rfl
theorem q349 : (Jvm.Cond.code ({ cls := "WellOfTheSilent$Refusal", name := "<init>", desc := "()V" } : Jvm.MethodName) prog_16_method_1_code (1 : Nat) (Option.none : Option Jvm.ClassFile.FieldType)) ∈ lw_all := lw_g (lw_at lw_m2 25 rfl) rfl
theorem q350 : (Jvm.Cond.methodLink "WellOfTheSilent$Refusal" (1 : Nat) ({ cls := "java/lang/RuntimeException", name := "<init>", desc := "()V" } : Jvm.MethodName)) ∈ lw_all := lw_g (lw_at lw_m2 26 rfl) rfl
theorem q975 : (Jvm.Cond.declares ({ cls := "WellOfTheSilent$Refusal", name := "number", desc := "()I" } : Jvm.MethodName)) ∈ lw_tbl := lw_at lw_m4 171 rfl
theorem q976 : (Jvm.Cond.sameMethod "WellOfTheSilent$Refusal" "WellOfTheSilent$Refusal" "number" "()I") ∈ lw_all := lw_g (lw_at lw_m4 172 rfl) rfl
/-! WellOfTheSilent$Refused -/
set_option maxRecDepth 100000
def RX11 : String := "WellOfTheSilent$Refused"
def TX11 : u_T := fun k => match k with
  | 0 => ("java/lang/Throwable", "cause", "Ljava/lang/Throwable;", false)
  | 1 => ("java/lang/Throwable", "stackTrace", "[Ljava/lang/StackTraceElement;", false)
  | 2 => ("java/lang/Throwable", "suppressedExceptions", "Ljava/util/List;", false)
  | 3 => ("java/lang/Throwable", "detailMessage", "Ljava/lang/String;", false)
  | 4 => ("java/lang/Throwable", "backtrace", "Ljava/lang/Object;", false)
  | 5 => ("java/lang/Throwable", "depth", "I", false)
  | _ => ("WellOfTheSilent$Refused", "number", "I", true)
def tyX11 : Nat → FieldType := fun k => match k with
  | 0 => .object "java/lang/Throwable"
  | 1 => .array (.object "java/lang/StackTraceElement")
  | 2 => .object "java/util/List"
  | 3 => .object "java/lang/String"
  | 4 => .object "java/lang/Object"
  | 5 => .int
  | _ => .int
abbrev wsX110 : List Cond := u_ws RX11 TX11 7
theorem nmX11 : ∀ a, a < 7 → ∀ b, b < 7 → a ≠ b → (TX11 a).2.1 ≠ (TX11 b).2.1 := by decide +kernel
theorem tyX11_ok : ∀ k, k < 7 → parseFieldDescriptor (TX11 k).2.2.1 = some (tyX11 k) := by decide +kernel
abbrev cX11_init : ByteArray := prog_17_method_1_code
def yX11_init : MethodName := ⟨RX11, "<init>", "(I)V"⟩
def dkwX11_init_0 : List UInt8 := [42, 183, 0, 1, 42, 27, 181, 0, 7, 177]
abbrev dktX11_init_0 : List UInt8 := dkwX11_init_0 ++ []
theorem dksX11_init_0 : cX11_init.data.toList.drop 0 = dktX11_init_0 := by decide +kernel
theorem dX11_init_0 : decode cX11_init 0 = .ok (.aload_n 0, 1) := dk_42 (dk_at dksX11_init_0 0 rfl rfl)
theorem dX11_init_1 : decode cX11_init 1 = .ok (.invokespecial 1, 3) := dk_183 0 1 (dk_at dksX11_init_0 1 rfl rfl)
theorem dX11_init_4 : decode cX11_init 4 = .ok (.aload_n 0, 1) := dk_42 (dk_at dksX11_init_0 4 rfl rfl)
theorem dX11_init_5 : decode cX11_init 5 = .ok (.iload_n 1, 1) := dk_27 (dk_at dksX11_init_0 5 rfl rfl)
theorem dX11_init_6 : decode cX11_init 6 = .ok (.putfield 7, 3) := dk_181 0 7 (dk_at dksX11_init_0 6 rfl rfl)
theorem dX11_init_9 : decode cX11_init 9 = .ok (.return_, 1) := dk_177 (dk_at dksX11_init_0 9 rfl rfl)
abbrev cX11_number : ByteArray := prog_17_method_2_code
def yX11_number : MethodName := ⟨RX11, "number", "()I"⟩
theorem dX11_number_0 : decode cX11_number 0 = .ok (.aload_n 0, 1) := by decide +kernel
theorem dX11_number_1 : decode cX11_number 1 = .ok (.getfield 7, 3) := by decide +kernel
theorem dX11_number_4 : decode cX11_number 4 = .ok (.ireturn, 1) := by decide +kernel
theorem q99 : (Jvm.Cond.initialized "WellOfTheSilent$Refused") ∈ lw_all := lw_g (lw_at lw_m1 15 rfl) rfl
theorem q304 : (Jvm.Cond.instantiable "WellOfTheSilent$Refused" (7 : Nat)) ∈ lw_all := lw_g (lw_at lw_m1 220 rfl) rfl
theorem q305 : (Jvm.Cond.castable "WellOfTheSilent$Refused" "WellOfTheSilent$Refused") ∈ lw_tbl := lw_at lw_m1 221 rfl
theorem q313 : (Jvm.Cond.selects "WellOfTheSilent$Refused" ({ cls := "java/lang/Throwable", name := "fillInStackTrace", desc := "(I)Ljava/lang/Throwable;" } : Jvm.MethodName) ({ cls := "java/lang/Throwable", name := "fillInStackTrace", desc := "(I)Ljava/lang/Throwable;" } : Jvm.MethodName)) ∈ lw_all := lw_g (lw_at lw_m1 229 rfl) rfl
theorem q314 : (Jvm.Cond.selects "WellOfTheSilent$Refused" ({ cls := "java/lang/Throwable", name := "fillInStackTrace", desc := "()Ljava/lang/Throwable;" } : Jvm.MethodName) ({ cls := "java/lang/Throwable", name := "fillInStackTrace", desc := "()Ljava/lang/Throwable;" } : Jvm.MethodName)) ∈ lw_all := lw_g (lw_at lw_m1 230 rfl) rfl
theorem q315 : (Jvm.Cond.lays "WellOfTheSilent$Refused" "java/lang/Throwable" "cause" "Ljava/lang/Throwable;") ∈ lw_all := lw_g (lw_at lw_m1 231 rfl) rfl
theorem q317 : (Jvm.Cond.lays "WellOfTheSilent$Refused" "java/lang/Throwable" "stackTrace" "[Ljava/lang/StackTraceElement;") ∈ lw_all := lw_g (lw_at lw_m1 233 rfl) rfl
theorem q319 : (Jvm.Cond.lays "WellOfTheSilent$Refused" "java/lang/Throwable" "suppressedExceptions" "Ljava/util/List;") ∈ lw_all := lw_g (lw_at lw_m1 235 rfl) rfl
theorem q321 : (Jvm.Cond.lays "WellOfTheSilent$Refused" "java/lang/Throwable" "detailMessage" "Ljava/lang/String;") ∈ lw_all := lw_g (lw_at lw_m1 237 rfl) rfl
theorem q323 : (Jvm.Cond.lays "WellOfTheSilent$Refused" "java/lang/Throwable" "backtrace" "Ljava/lang/Object;") ∈ lw_all := lw_g (lw_at lw_m1 239 rfl) rfl
theorem q345 : (Jvm.Cond.instanceMethod ({ cls := "WellOfTheSilent$Refused", name := "<init>", desc := "(I)V" } : Jvm.MethodName)) ∈ lw_all := lw_g (lw_at lw_m2 21 rfl) rfl
theorem q346 : (Jvm.Cond.code ({ cls := "WellOfTheSilent$Refused", name := "<init>", desc := "(I)V" } : Jvm.MethodName) prog_17_method_1_code (2 : Nat) (Option.none : Option Jvm.ClassFile.FieldType)) ∈ lw_all := lw_g (lw_at lw_m2 22 rfl) rfl
theorem q347 : (Jvm.Cond.methodLinkNest "WellOfTheSilent$Refused" (1 : Nat) ({ cls := "WellOfTheSilent$Refusal", name := "<init>", desc := "()V" } : Jvm.MethodName) "WellOfTheSilent") ∈ lw_tbl := lw_at lw_m2 23 rfl
theorem q357 : (Jvm.Cond.fieldLink "WellOfTheSilent$Refused" (7 : Nat) "WellOfTheSilent$Refused" "number" "I") ∈ lw_all := lw_g (lw_at lw_m2 33 rfl) rfl
theorem q362 : (Jvm.Cond.laysFinal "WellOfTheSilent$Refused" "WellOfTheSilent$Refused" "number" "I") ∈ lw_all := lw_g (lw_at lw_m2 38 rfl) rfl
theorem q363 : (Jvm.Cond.soleField "WellOfTheSilent$Refused" "number") ∈ lw_all := lw_g (lw_at lw_m2 39 rfl) rfl
theorem q368 : (Jvm.Cond.lays "WellOfTheSilent$Refused" "java/lang/Throwable" "depth" "I") ∈ lw_all := lw_g (lw_at lw_m2 44 rfl) rfl
theorem q371 : (Jvm.Cond.superclass "WellOfTheSilent$Refused" "WellOfTheSilent$Refusal") ∈ lw_all := lw_g (lw_at lw_m2 47 rfl) rfl
theorem q980 : (Jvm.Cond.selects "WellOfTheSilent$Refused" ({ cls := "WellOfTheSilent$Refusal", name := "number", desc := "()I" } : Jvm.MethodName) ({ cls := "WellOfTheSilent$Refused", name := "number", desc := "()I" } : Jvm.MethodName)) ∈ lw_all := lw_g (lw_at lw_m4 176 rfl) rfl
theorem q981 : (Jvm.Cond.instanceMethod ({ cls := "WellOfTheSilent$Refused", name := "number", desc := "()I" } : Jvm.MethodName)) ∈ lw_all := lw_g (lw_at lw_m4 177 rfl) rfl
theorem q982 : (Jvm.Cond.code ({ cls := "WellOfTheSilent$Refused", name := "number", desc := "()I" } : Jvm.MethodName) prog_17_method_2_code (1 : Nat) (Option.some Jvm.ClassFile.FieldType.int)) ∈ lw_all := lw_g (lw_at lw_m4 178 rfl) rfl
theorem q1516 : (Jvm.Cond.castable "WellOfTheSilent$Refused" "WellOfTheSilent$Refusal") ∈ lw_tbl := lw_at lw_m6 232 rfl
theorem in_X11 : ∀ w ∈ wsX110, w ∈ lw_all := lw_in wsX110 [315, 317, 319, 321, 323, 368, 362] (by decide +kernel) (by decide +kernel)
/-! WellOfTheSilent$Reader -/
set_option maxRecDepth 100000
def RX12 : String := "WellOfTheSilent$Reader"
def TX12 : u_T := fun k => match k with
  | 0 => ("WellOfTheSilent$Reader", "size", "I", true)
  | 1 => ("WellOfTheSilent$Reader", "at", "I", false)
  | _ => ("WellOfTheSilent$Reader", "this$0", "LWellOfTheSilent;", true)
def tyX12 : Nat → FieldType := fun k => match k with
  | 0 => .int
  | 1 => .int
  | _ => .object "WellOfTheSilent"
abbrev wsX120 : List Cond := u_ws RX12 TX12 3
theorem nmX12 : ∀ a, a < 3 → ∀ b, b < 3 → a ≠ b → (TX12 a).2.1 ≠ (TX12 b).2.1 := by decide +kernel
theorem tyX12_ok : ∀ k, k < 3 → parseFieldDescriptor (TX12 k).2.2.1 = some (tyX12 k) := by decide +kernel
abbrev cX12_init : ByteArray := prog_15_method_1_code
def yX12_init : MethodName := ⟨RX12, "<init>", "(LWellOfTheSilent;)V"⟩
def dkwX12_init_0 : List UInt8 := [42, 43, 181, 0, 1, 42, 183, 0, 7, 42, 42, 180, 0, 1, 180, 0, 13, 181, 0, 19, 177]
abbrev dktX12_init_0 : List UInt8 := dkwX12_init_0 ++ []
theorem dksX12_init_0 : cX12_init.data.toList.drop 0 = dktX12_init_0 := by decide +kernel
theorem dX12_init_0 : decode cX12_init 0 = .ok (.aload_n 0, 1) := dk_42 (dk_at dksX12_init_0 0 rfl rfl)
theorem dX12_init_1 : decode cX12_init 1 = .ok (.aload_n 1, 1) := dk_43 (dk_at dksX12_init_0 1 rfl rfl)
theorem dX12_init_2 : decode cX12_init 2 = .ok (.putfield 1, 3) := dk_181 0 1 (dk_at dksX12_init_0 2 rfl rfl)
theorem dX12_init_5 : decode cX12_init 5 = .ok (.aload_n 0, 1) := dk_42 (dk_at dksX12_init_0 5 rfl rfl)
theorem dX12_init_6 : decode cX12_init 6 = .ok (.invokespecial 7, 3) := dk_183 0 7 (dk_at dksX12_init_0 6 rfl rfl)
theorem dX12_init_9 : decode cX12_init 9 = .ok (.aload_n 0, 1) := dk_42 (dk_at dksX12_init_0 9 rfl rfl)
theorem dX12_init_10 : decode cX12_init 10 = .ok (.aload_n 0, 1) := dk_42 (dk_at dksX12_init_0 10 rfl rfl)
theorem dX12_init_11 : decode cX12_init 11 = .ok (.getfield 1, 3) := dk_180 0 1 (dk_at dksX12_init_0 11 rfl rfl)
theorem dX12_init_14 : decode cX12_init 14 = .ok (.getfield 13, 3) := dk_180 0 13 (dk_at dksX12_init_0 14 rfl rfl)
theorem dX12_init_17 : decode cX12_init 17 = .ok (.putfield 19, 3) := dk_181 0 19 (dk_at dksX12_init_0 17 rfl rfl)
theorem dX12_init_20 : decode cX12_init 20 = .ok (.return_, 1) := dk_177 (dk_at dksX12_init_0 20 rfl rfl)
abbrev cX12_statement : ByteArray := prog_15_method_7_code
def yX12_statement : MethodName := ⟨RX12, "statement", "()LWellOfTheSilent$Told;"⟩
def dkwX12_statement_4 : List UInt8 := [182, 0, 61, 45, 176]
abbrev dktX12_statement_4 : List UInt8 := dkwX12_statement_4 ++ []
def dkwX12_statement_3 : List UInt8 := [16, 112, 160, 0, 11, 42, 27, 182, 0, 53, 167, 0, 9, 42, 28, 27, 182, 0, 57, 78, 42, 16, 59]
abbrev dktX12_statement_3 : List UInt8 := dkwX12_statement_3 ++ dktX12_statement_4
def dkwX12_statement_2 : List UInt8 := [16, 104, 160, 0, 7, 4, 167, 0, 4, 3, 182, 0, 38, 42, 89, 180, 0, 22, 4, 96, 181, 0, 22, 28]
abbrev dktX12_statement_2 : List UInt8 := dkwX12_statement_2 ++ dktX12_statement_3
def dkwX12_statement_1 : List UInt8 := [16, 103, 159, 0, 27, 28, 16, 119, 159, 0, 21, 28, 16, 108, 159, 0, 15, 28, 16, 115, 159, 0, 9, 28]
abbrev dktX12_statement_1 : List UInt8 := dkwX12_statement_1 ++ dktX12_statement_2
def dkwX12_statement_0 : List UInt8 := [42, 180, 0, 22, 60, 42, 182, 0, 34, 61, 42, 28, 16, 112, 159, 0, 39, 28, 16, 102, 159, 0, 33, 28]
abbrev dktX12_statement_0 : List UInt8 := dkwX12_statement_0 ++ dktX12_statement_1
theorem dksX12_statement_0 : cX12_statement.data.toList.drop 0 = dktX12_statement_0 := by decide +kernel
theorem dksX12_statement_1 : cX12_statement.data.toList.drop 24 = dktX12_statement_1 := dk_seg dksX12_statement_0 24 rfl rfl
theorem dksX12_statement_2 : cX12_statement.data.toList.drop 48 = dktX12_statement_2 := dk_seg dksX12_statement_1 24 rfl rfl
theorem dksX12_statement_3 : cX12_statement.data.toList.drop 72 = dktX12_statement_3 := dk_seg dksX12_statement_2 24 rfl rfl
theorem dksX12_statement_4 : cX12_statement.data.toList.drop 95 = dktX12_statement_4 := dk_seg dksX12_statement_3 23 rfl rfl
theorem dX12_statement_0 : decode cX12_statement 0 = .ok (.aload_n 0, 1) := dk_42 (dk_at dksX12_statement_0 0 rfl rfl)
theorem dX12_statement_1 : decode cX12_statement 1 = .ok (.getfield 22, 3) := dk_180 0 22 (dk_at dksX12_statement_0 1 rfl rfl)
theorem dX12_statement_4 : decode cX12_statement 4 = .ok (.istore_n 1, 1) := dk_60 (dk_at dksX12_statement_0 4 rfl rfl)
theorem dX12_statement_5 : decode cX12_statement 5 = .ok (.aload_n 0, 1) := dk_42 (dk_at dksX12_statement_0 5 rfl rfl)
theorem dX12_statement_6 : decode cX12_statement 6 = .ok (.invokevirtual 34, 3) := dk_182 0 34 (dk_at dksX12_statement_0 6 rfl rfl)
theorem dX12_statement_9 : decode cX12_statement 9 = .ok (.istore_n 2, 1) := dk_61 (dk_at dksX12_statement_0 9 rfl rfl)
theorem dX12_statement_10 : decode cX12_statement 10 = .ok (.aload_n 0, 1) := dk_42 (dk_at dksX12_statement_0 10 rfl rfl)
theorem dX12_statement_11 : decode cX12_statement 11 = .ok (.iload_n 2, 1) := dk_28 (dk_at dksX12_statement_0 11 rfl rfl)
theorem dX12_statement_12 : decode cX12_statement 12 = .ok (.bipush 112, 2) := dk_16 112 (dk_at dksX12_statement_0 12 rfl rfl)
theorem dX12_statement_14 : decode cX12_statement 14 = .ok (.if_icmp .eq 39, 3) := dk_159 0 39 (dk_at dksX12_statement_0 14 rfl rfl)
theorem dX12_statement_17 : decode cX12_statement 17 = .ok (.iload_n 2, 1) := dk_28 (dk_at dksX12_statement_0 17 rfl rfl)
theorem dX12_statement_18 : decode cX12_statement 18 = .ok (.bipush 102, 2) := dk_16 102 (dk_at dksX12_statement_0 18 rfl rfl)
theorem dX12_statement_20 : decode cX12_statement 20 = .ok (.if_icmp .eq 33, 3) := dk_159 0 33 (dk_at dksX12_statement_0 20 rfl rfl)
theorem dX12_statement_23 : decode cX12_statement 23 = .ok (.iload_n 2, 1) := dk_28 (dk_at dksX12_statement_0 23 rfl rfl)
theorem dX12_statement_24 : decode cX12_statement 24 = .ok (.bipush 103, 2) := dk_16 103 (dk_at dksX12_statement_1 0 rfl rfl)
theorem dX12_statement_26 : decode cX12_statement 26 = .ok (.if_icmp .eq 27, 3) := dk_159 0 27 (dk_at dksX12_statement_1 2 rfl rfl)
theorem dX12_statement_29 : decode cX12_statement 29 = .ok (.iload_n 2, 1) := dk_28 (dk_at dksX12_statement_1 5 rfl rfl)
theorem dX12_statement_30 : decode cX12_statement 30 = .ok (.bipush 119, 2) := dk_16 119 (dk_at dksX12_statement_1 6 rfl rfl)
theorem dX12_statement_32 : decode cX12_statement 32 = .ok (.if_icmp .eq 21, 3) := dk_159 0 21 (dk_at dksX12_statement_1 8 rfl rfl)
theorem dX12_statement_35 : decode cX12_statement 35 = .ok (.iload_n 2, 1) := dk_28 (dk_at dksX12_statement_1 11 rfl rfl)
theorem dX12_statement_36 : decode cX12_statement 36 = .ok (.bipush 108, 2) := dk_16 108 (dk_at dksX12_statement_1 12 rfl rfl)
theorem dX12_statement_38 : decode cX12_statement 38 = .ok (.if_icmp .eq 15, 3) := dk_159 0 15 (dk_at dksX12_statement_1 14 rfl rfl)
theorem dX12_statement_41 : decode cX12_statement 41 = .ok (.iload_n 2, 1) := dk_28 (dk_at dksX12_statement_1 17 rfl rfl)
theorem dX12_statement_42 : decode cX12_statement 42 = .ok (.bipush 115, 2) := dk_16 115 (dk_at dksX12_statement_1 18 rfl rfl)
theorem dX12_statement_44 : decode cX12_statement 44 = .ok (.if_icmp .eq 9, 3) := dk_159 0 9 (dk_at dksX12_statement_1 20 rfl rfl)
theorem dX12_statement_47 : decode cX12_statement 47 = .ok (.iload_n 2, 1) := dk_28 (dk_at dksX12_statement_1 23 rfl rfl)
theorem dX12_statement_48 : decode cX12_statement 48 = .ok (.bipush 104, 2) := dk_16 104 (dk_at dksX12_statement_2 0 rfl rfl)
theorem dX12_statement_50 : decode cX12_statement 50 = .ok (.if_icmp .ne 7, 3) := dk_160 0 7 (dk_at dksX12_statement_2 2 rfl rfl)
theorem dX12_statement_53 : decode cX12_statement 53 = .ok (.iconst 1, 1) := dk_4 (dk_at dksX12_statement_2 5 rfl rfl)
theorem dX12_statement_54 : decode cX12_statement 54 = .ok (.goto 4, 3) := dk_167 0 4 (dk_at dksX12_statement_2 6 rfl rfl)
theorem dX12_statement_57 : decode cX12_statement 57 = .ok (.iconst 0, 1) := dk_3 (dk_at dksX12_statement_2 9 rfl rfl)
theorem dX12_statement_58 : decode cX12_statement 58 = .ok (.invokevirtual 38, 3) := dk_182 0 38 (dk_at dksX12_statement_2 10 rfl rfl)
theorem dX12_statement_61 : decode cX12_statement 61 = .ok (.aload_n 0, 1) := dk_42 (dk_at dksX12_statement_2 13 rfl rfl)
theorem dX12_statement_62 : decode cX12_statement 62 = .ok (.dup, 1) := dk_89 (dk_at dksX12_statement_2 14 rfl rfl)
theorem dX12_statement_63 : decode cX12_statement 63 = .ok (.getfield 22, 3) := dk_180 0 22 (dk_at dksX12_statement_2 15 rfl rfl)
theorem dX12_statement_66 : decode cX12_statement 66 = .ok (.iconst 1, 1) := dk_4 (dk_at dksX12_statement_2 18 rfl rfl)
theorem dX12_statement_67 : decode cX12_statement 67 = .ok (.iadd, 1) := dk_96 (dk_at dksX12_statement_2 19 rfl rfl)
theorem dX12_statement_68 : decode cX12_statement 68 = .ok (.putfield 22, 3) := dk_181 0 22 (dk_at dksX12_statement_2 20 rfl rfl)
theorem dX12_statement_71 : decode cX12_statement 71 = .ok (.iload_n 2, 1) := dk_28 (dk_at dksX12_statement_2 23 rfl rfl)
theorem dX12_statement_72 : decode cX12_statement 72 = .ok (.bipush 112, 2) := dk_16 112 (dk_at dksX12_statement_3 0 rfl rfl)
theorem dX12_statement_74 : decode cX12_statement 74 = .ok (.if_icmp .ne 11, 3) := dk_160 0 11 (dk_at dksX12_statement_3 2 rfl rfl)
theorem dX12_statement_77 : decode cX12_statement 77 = .ok (.aload_n 0, 1) := dk_42 (dk_at dksX12_statement_3 5 rfl rfl)
theorem dX12_statement_78 : decode cX12_statement 78 = .ok (.iload_n 1, 1) := dk_27 (dk_at dksX12_statement_3 6 rfl rfl)
theorem dX12_statement_79 : decode cX12_statement 79 = .ok (.invokevirtual 53, 3) := dk_182 0 53 (dk_at dksX12_statement_3 7 rfl rfl)
theorem dX12_statement_82 : decode cX12_statement 82 = .ok (.goto 9, 3) := dk_167 0 9 (dk_at dksX12_statement_3 10 rfl rfl)
theorem dX12_statement_85 : decode cX12_statement 85 = .ok (.aload_n 0, 1) := dk_42 (dk_at dksX12_statement_3 13 rfl rfl)
theorem dX12_statement_86 : decode cX12_statement 86 = .ok (.iload_n 2, 1) := dk_28 (dk_at dksX12_statement_3 14 rfl rfl)
theorem dX12_statement_87 : decode cX12_statement 87 = .ok (.iload_n 1, 1) := dk_27 (dk_at dksX12_statement_3 15 rfl rfl)
theorem dX12_statement_88 : decode cX12_statement 88 = .ok (.invokevirtual 57, 3) := dk_182 0 57 (dk_at dksX12_statement_3 16 rfl rfl)
theorem dX12_statement_91 : decode cX12_statement 91 = .ok (.astore_n 3, 1) := dk_78 (dk_at dksX12_statement_3 19 rfl rfl)
theorem dX12_statement_92 : decode cX12_statement 92 = .ok (.aload_n 0, 1) := dk_42 (dk_at dksX12_statement_3 20 rfl rfl)
theorem dX12_statement_93 : decode cX12_statement 93 = .ok (.bipush 59, 2) := dk_16 59 (dk_at dksX12_statement_3 21 rfl rfl)
theorem dX12_statement_95 : decode cX12_statement 95 = .ok (.invokevirtual 61, 3) := dk_182 0 61 (dk_at dksX12_statement_4 0 rfl rfl)
theorem dX12_statement_98 : decode cX12_statement 98 = .ok (.aload_n 3, 1) := dk_45 (dk_at dksX12_statement_4 3 rfl rfl)
theorem dX12_statement_99 : decode cX12_statement 99 = .ok (.areturn, 1) := dk_176 (dk_at dksX12_statement_4 4 rfl rfl)
abbrev cX12_here : ByteArray := prog_15_method_2_code
def yX12_here : MethodName := ⟨RX12, "here", "()I"⟩
def dkwX12_here_1 : List UInt8 := [167, 0, 4, 2, 172]
abbrev dktX12_here_1 : List UInt8 := dkwX12_here_1 ++ []
def dkwX12_here_0 : List UInt8 := [42, 180, 0, 22, 42, 180, 0, 19, 162, 0, 18, 42, 180, 0, 1, 180, 0, 25, 42, 180, 0, 22, 52]
abbrev dktX12_here_0 : List UInt8 := dkwX12_here_0 ++ dktX12_here_1
theorem dksX12_here_0 : cX12_here.data.toList.drop 0 = dktX12_here_0 := by decide +kernel
theorem dksX12_here_1 : cX12_here.data.toList.drop 23 = dktX12_here_1 := dk_seg dksX12_here_0 23 rfl rfl
theorem dX12_here_0 : decode cX12_here 0 = .ok (.aload_n 0, 1) := dk_42 (dk_at dksX12_here_0 0 rfl rfl)
theorem dX12_here_1 : decode cX12_here 1 = .ok (.getfield 22, 3) := dk_180 0 22 (dk_at dksX12_here_0 1 rfl rfl)
theorem dX12_here_4 : decode cX12_here 4 = .ok (.aload_n 0, 1) := dk_42 (dk_at dksX12_here_0 4 rfl rfl)
theorem dX12_here_5 : decode cX12_here 5 = .ok (.getfield 19, 3) := dk_180 0 19 (dk_at dksX12_here_0 5 rfl rfl)
theorem dX12_here_8 : decode cX12_here 8 = .ok (.if_icmp .ge 18, 3) := dk_162 0 18 (dk_at dksX12_here_0 8 rfl rfl)
theorem dX12_here_11 : decode cX12_here 11 = .ok (.aload_n 0, 1) := dk_42 (dk_at dksX12_here_0 11 rfl rfl)
theorem dX12_here_12 : decode cX12_here 12 = .ok (.getfield 1, 3) := dk_180 0 1 (dk_at dksX12_here_0 12 rfl rfl)
theorem dX12_here_15 : decode cX12_here 15 = .ok (.getfield 25, 3) := dk_180 0 25 (dk_at dksX12_here_0 15 rfl rfl)
theorem dX12_here_18 : decode cX12_here 18 = .ok (.aload_n 0, 1) := dk_42 (dk_at dksX12_here_0 18 rfl rfl)
theorem dX12_here_19 : decode cX12_here 19 = .ok (.getfield 22, 3) := dk_180 0 22 (dk_at dksX12_here_0 19 rfl rfl)
theorem dX12_here_22 : decode cX12_here 22 = .ok (.caload, 1) := dk_52 (dk_at dksX12_here_0 22 rfl rfl)
theorem dX12_here_23 : decode cX12_here 23 = .ok (.goto 4, 3) := dk_167 0 4 (dk_at dksX12_here_1 0 rfl rfl)
theorem dX12_here_26 : decode cX12_here 26 = .ok (.iconst (-1), 1) := dk_2 (dk_at dksX12_here_1 3 rfl rfl)
theorem dX12_here_27 : decode cX12_here 27 = .ok (.ireturn, 1) := dk_172 (dk_at dksX12_here_1 4 rfl rfl)
abbrev cX12_mustStand : ByteArray := prog_15_method_3_code
def yX12_mustStand : MethodName := ⟨RX12, "mustStand", "(Z)V"⟩
def dkwX12_mustStand_0 : List UInt8 := [27, 154, 0, 19, 187, 0, 29, 89, 17, 252, 24, 42, 180, 0, 22, 100, 183, 0, 31, 191, 177]
abbrev dktX12_mustStand_0 : List UInt8 := dkwX12_mustStand_0 ++ []
theorem dksX12_mustStand_0 : cX12_mustStand.data.toList.drop 0 = dktX12_mustStand_0 := by decide +kernel
theorem dX12_mustStand_0 : decode cX12_mustStand 0 = .ok (.iload_n 1, 1) := dk_27 (dk_at dksX12_mustStand_0 0 rfl rfl)
theorem dX12_mustStand_1 : decode cX12_mustStand 1 = .ok (.ifCond .ne 19, 3) := dk_154 0 19 (dk_at dksX12_mustStand_0 1 rfl rfl)
theorem dX12_mustStand_4 : decode cX12_mustStand 4 = .ok (.new 29, 3) := dk_187 0 29 (dk_at dksX12_mustStand_0 4 rfl rfl)
theorem dX12_mustStand_7 : decode cX12_mustStand 7 = .ok (.dup, 1) := dk_89 (dk_at dksX12_mustStand_0 7 rfl rfl)
theorem dX12_mustStand_8 : decode cX12_mustStand 8 = .ok (.sipush (-1000), 3) := dk_17 252 24 (dk_at dksX12_mustStand_0 8 rfl rfl)
theorem dX12_mustStand_11 : decode cX12_mustStand 11 = .ok (.aload_n 0, 1) := dk_42 (dk_at dksX12_mustStand_0 11 rfl rfl)
theorem dX12_mustStand_12 : decode cX12_mustStand 12 = .ok (.getfield 22, 3) := dk_180 0 22 (dk_at dksX12_mustStand_0 12 rfl rfl)
theorem dX12_mustStand_15 : decode cX12_mustStand 15 = .ok (.isub, 1) := dk_100 (dk_at dksX12_mustStand_0 15 rfl rfl)
theorem dX12_mustStand_16 : decode cX12_mustStand 16 = .ok (.invokespecial 31, 3) := dk_183 0 31 (dk_at dksX12_mustStand_0 16 rfl rfl)
theorem dX12_mustStand_19 : decode cX12_mustStand 19 = .ok (.athrow, 1) := dk_191 (dk_at dksX12_mustStand_0 19 rfl rfl)
theorem dX12_mustStand_20 : decode cX12_mustStand 20 = .ok (.return_, 1) := dk_177 (dk_at dksX12_mustStand_0 20 rfl rfl)
abbrev cX12_personTold : ByteArray := prog_15_method_8_code
def yX12_personTold : MethodName := ⟨RX12, "personTold", "(I)LWellOfTheSilent$Told;"⟩
def dkwX12_personTold_2 : List UInt8 := [180, 0, 1, 180, 0, 70, 28, 50, 29, 42, 182, 0, 50, 183, 0, 74, 176]
abbrev dktX12_personTold_2 : List UInt8 := dkwX12_personTold_2 ++ []
def dkwX12_personTold_1 : List UInt8 := [182, 0, 38, 42, 89, 180, 0, 22, 4, 96, 181, 0, 22, 42, 182, 0, 50, 62, 187, 0, 68, 89, 27, 42]
abbrev dktX12_personTold_1 : List UInt8 := dkwX12_personTold_1 ++ dktX12_personTold_2
def dkwX12_personTold_0 : List UInt8 := [42, 180, 0, 1, 42, 182, 0, 34, 182, 0, 64, 61, 42, 28, 155, 0, 7, 4, 167, 0, 4, 3]
abbrev dktX12_personTold_0 : List UInt8 := dkwX12_personTold_0 ++ dktX12_personTold_1
theorem dksX12_personTold_0 : cX12_personTold.data.toList.drop 0 = dktX12_personTold_0 := by decide +kernel
theorem dksX12_personTold_1 : cX12_personTold.data.toList.drop 22 = dktX12_personTold_1 := dk_seg dksX12_personTold_0 22 rfl rfl
theorem dksX12_personTold_2 : cX12_personTold.data.toList.drop 46 = dktX12_personTold_2 := dk_seg dksX12_personTold_1 24 rfl rfl
theorem dX12_personTold_0 : decode cX12_personTold 0 = .ok (.aload_n 0, 1) := dk_42 (dk_at dksX12_personTold_0 0 rfl rfl)
theorem dX12_personTold_1 : decode cX12_personTold 1 = .ok (.getfield 1, 3) := dk_180 0 1 (dk_at dksX12_personTold_0 1 rfl rfl)
theorem dX12_personTold_4 : decode cX12_personTold 4 = .ok (.aload_n 0, 1) := dk_42 (dk_at dksX12_personTold_0 4 rfl rfl)
theorem dX12_personTold_5 : decode cX12_personTold 5 = .ok (.invokevirtual 34, 3) := dk_182 0 34 (dk_at dksX12_personTold_0 5 rfl rfl)
theorem dX12_personTold_8 : decode cX12_personTold 8 = .ok (.invokevirtual 64, 3) := dk_182 0 64 (dk_at dksX12_personTold_0 8 rfl rfl)
theorem dX12_personTold_11 : decode cX12_personTold 11 = .ok (.istore_n 2, 1) := dk_61 (dk_at dksX12_personTold_0 11 rfl rfl)
theorem dX12_personTold_12 : decode cX12_personTold 12 = .ok (.aload_n 0, 1) := dk_42 (dk_at dksX12_personTold_0 12 rfl rfl)
theorem dX12_personTold_13 : decode cX12_personTold 13 = .ok (.iload_n 2, 1) := dk_28 (dk_at dksX12_personTold_0 13 rfl rfl)
theorem dX12_personTold_14 : decode cX12_personTold 14 = .ok (.ifCond .lt 7, 3) := dk_155 0 7 (dk_at dksX12_personTold_0 14 rfl rfl)
theorem dX12_personTold_17 : decode cX12_personTold 17 = .ok (.iconst 1, 1) := dk_4 (dk_at dksX12_personTold_0 17 rfl rfl)
theorem dX12_personTold_18 : decode cX12_personTold 18 = .ok (.goto 4, 3) := dk_167 0 4 (dk_at dksX12_personTold_0 18 rfl rfl)
theorem dX12_personTold_21 : decode cX12_personTold 21 = .ok (.iconst 0, 1) := dk_3 (dk_at dksX12_personTold_0 21 rfl rfl)
theorem dX12_personTold_22 : decode cX12_personTold 22 = .ok (.invokevirtual 38, 3) := dk_182 0 38 (dk_at dksX12_personTold_1 0 rfl rfl)
theorem dX12_personTold_25 : decode cX12_personTold 25 = .ok (.aload_n 0, 1) := dk_42 (dk_at dksX12_personTold_1 3 rfl rfl)
theorem dX12_personTold_26 : decode cX12_personTold 26 = .ok (.dup, 1) := dk_89 (dk_at dksX12_personTold_1 4 rfl rfl)
theorem dX12_personTold_27 : decode cX12_personTold 27 = .ok (.getfield 22, 3) := dk_180 0 22 (dk_at dksX12_personTold_1 5 rfl rfl)
theorem dX12_personTold_30 : decode cX12_personTold 30 = .ok (.iconst 1, 1) := dk_4 (dk_at dksX12_personTold_1 8 rfl rfl)
theorem dX12_personTold_31 : decode cX12_personTold 31 = .ok (.iadd, 1) := dk_96 (dk_at dksX12_personTold_1 9 rfl rfl)
theorem dX12_personTold_32 : decode cX12_personTold 32 = .ok (.putfield 22, 3) := dk_181 0 22 (dk_at dksX12_personTold_1 10 rfl rfl)
theorem dX12_personTold_35 : decode cX12_personTold 35 = .ok (.aload_n 0, 1) := dk_42 (dk_at dksX12_personTold_1 13 rfl rfl)
theorem dX12_personTold_36 : decode cX12_personTold 36 = .ok (.invokevirtual 50, 3) := dk_182 0 50 (dk_at dksX12_personTold_1 14 rfl rfl)
theorem dX12_personTold_39 : decode cX12_personTold 39 = .ok (.istore_n 3, 1) := dk_62 (dk_at dksX12_personTold_1 17 rfl rfl)
theorem dX12_personTold_40 : decode cX12_personTold 40 = .ok (.new 68, 3) := dk_187 0 68 (dk_at dksX12_personTold_1 18 rfl rfl)
theorem dX12_personTold_43 : decode cX12_personTold 43 = .ok (.dup, 1) := dk_89 (dk_at dksX12_personTold_1 21 rfl rfl)
theorem dX12_personTold_44 : decode cX12_personTold 44 = .ok (.iload_n 1, 1) := dk_27 (dk_at dksX12_personTold_1 22 rfl rfl)
theorem dX12_personTold_45 : decode cX12_personTold 45 = .ok (.aload_n 0, 1) := dk_42 (dk_at dksX12_personTold_1 23 rfl rfl)
theorem dX12_personTold_46 : decode cX12_personTold 46 = .ok (.getfield 1, 3) := dk_180 0 1 (dk_at dksX12_personTold_2 0 rfl rfl)
theorem dX12_personTold_49 : decode cX12_personTold 49 = .ok (.getfield 70, 3) := dk_180 0 70 (dk_at dksX12_personTold_2 3 rfl rfl)
theorem dX12_personTold_52 : decode cX12_personTold 52 = .ok (.iload_n 2, 1) := dk_28 (dk_at dksX12_personTold_2 6 rfl rfl)
theorem dX12_personTold_53 : decode cX12_personTold 53 = .ok (.aaload, 1) := dk_50 (dk_at dksX12_personTold_2 7 rfl rfl)
theorem dX12_personTold_54 : decode cX12_personTold 54 = .ok (.iload_n 3, 1) := dk_29 (dk_at dksX12_personTold_2 8 rfl rfl)
theorem dX12_personTold_55 : decode cX12_personTold 55 = .ok (.aload_n 0, 1) := dk_42 (dk_at dksX12_personTold_2 9 rfl rfl)
theorem dX12_personTold_56 : decode cX12_personTold 56 = .ok (.invokevirtual 50, 3) := dk_182 0 50 (dk_at dksX12_personTold_2 10 rfl rfl)
theorem dX12_personTold_59 : decode cX12_personTold 59 = .ok (.invokespecial 74, 3) := dk_183 0 74 (dk_at dksX12_personTold_2 13 rfl rfl)
theorem dX12_personTold_62 : decode cX12_personTold 62 = .ok (.areturn, 1) := dk_176 (dk_at dksX12_personTold_2 16 rfl rfl)
abbrev cX12_digit : ByteArray := prog_15_method_5_code
def yX12_digit : MethodName := ⟨RX12, "digit", "()I"⟩
def dkwX12_digit_1 : List UInt8 := [96, 181, 0, 22, 42, 180, 0, 1, 180, 0, 25, 42, 180, 0, 22, 4, 100, 52, 16, 48, 100, 172]
abbrev dktX12_digit_1 : List UInt8 := dkwX12_digit_1 ++ []
def dkwX12_digit_0 : List UInt8 := [42, 42, 182, 0, 34, 133, 20, 0, 42, 20, 0, 44, 184, 0, 46, 182, 0, 38, 42, 89, 180, 0, 22, 4]
abbrev dktX12_digit_0 : List UInt8 := dkwX12_digit_0 ++ dktX12_digit_1
theorem dksX12_digit_0 : cX12_digit.data.toList.drop 0 = dktX12_digit_0 := by decide +kernel
theorem dksX12_digit_1 : cX12_digit.data.toList.drop 24 = dktX12_digit_1 := dk_seg dksX12_digit_0 24 rfl rfl
theorem dX12_digit_0 : decode cX12_digit 0 = .ok (.aload_n 0, 1) := dk_42 (dk_at dksX12_digit_0 0 rfl rfl)
theorem dX12_digit_1 : decode cX12_digit 1 = .ok (.aload_n 0, 1) := dk_42 (dk_at dksX12_digit_0 1 rfl rfl)
theorem dX12_digit_2 : decode cX12_digit 2 = .ok (.invokevirtual 34, 3) := dk_182 0 34 (dk_at dksX12_digit_0 2 rfl rfl)
theorem dX12_digit_5 : decode cX12_digit 5 = .ok (.i2l, 1) := dk_133 (dk_at dksX12_digit_0 5 rfl rfl)
theorem dX12_digit_6 : decode cX12_digit 6 = .ok (.ldc2_w 42, 3) := dk_20 0 42 (dk_at dksX12_digit_0 6 rfl rfl)
theorem dX12_digit_9 : decode cX12_digit 9 = .ok (.ldc2_w 44, 3) := dk_20 0 44 (dk_at dksX12_digit_0 9 rfl rfl)
theorem dX12_digit_12 : decode cX12_digit 12 = .ok (.invokestatic 46, 3) := dk_184 0 46 (dk_at dksX12_digit_0 12 rfl rfl)
theorem dX12_digit_15 : decode cX12_digit 15 = .ok (.invokevirtual 38, 3) := dk_182 0 38 (dk_at dksX12_digit_0 15 rfl rfl)
theorem dX12_digit_18 : decode cX12_digit 18 = .ok (.aload_n 0, 1) := dk_42 (dk_at dksX12_digit_0 18 rfl rfl)
theorem dX12_digit_19 : decode cX12_digit 19 = .ok (.dup, 1) := dk_89 (dk_at dksX12_digit_0 19 rfl rfl)
theorem dX12_digit_20 : decode cX12_digit 20 = .ok (.getfield 22, 3) := dk_180 0 22 (dk_at dksX12_digit_0 20 rfl rfl)
theorem dX12_digit_23 : decode cX12_digit 23 = .ok (.iconst 1, 1) := dk_4 (dk_at dksX12_digit_0 23 rfl rfl)
theorem dX12_digit_24 : decode cX12_digit 24 = .ok (.iadd, 1) := dk_96 (dk_at dksX12_digit_1 0 rfl rfl)
theorem dX12_digit_25 : decode cX12_digit 25 = .ok (.putfield 22, 3) := dk_181 0 22 (dk_at dksX12_digit_1 1 rfl rfl)
theorem dX12_digit_28 : decode cX12_digit 28 = .ok (.aload_n 0, 1) := dk_42 (dk_at dksX12_digit_1 4 rfl rfl)
theorem dX12_digit_29 : decode cX12_digit 29 = .ok (.getfield 1, 3) := dk_180 0 1 (dk_at dksX12_digit_1 5 rfl rfl)
theorem dX12_digit_32 : decode cX12_digit 32 = .ok (.getfield 25, 3) := dk_180 0 25 (dk_at dksX12_digit_1 8 rfl rfl)
theorem dX12_digit_35 : decode cX12_digit 35 = .ok (.aload_n 0, 1) := dk_42 (dk_at dksX12_digit_1 11 rfl rfl)
theorem dX12_digit_36 : decode cX12_digit 36 = .ok (.getfield 22, 3) := dk_180 0 22 (dk_at dksX12_digit_1 12 rfl rfl)
theorem dX12_digit_39 : decode cX12_digit 39 = .ok (.iconst 1, 1) := dk_4 (dk_at dksX12_digit_1 15 rfl rfl)
theorem dX12_digit_40 : decode cX12_digit 40 = .ok (.isub, 1) := dk_100 (dk_at dksX12_digit_1 16 rfl rfl)
theorem dX12_digit_41 : decode cX12_digit 41 = .ok (.caload, 1) := dk_52 (dk_at dksX12_digit_1 17 rfl rfl)
theorem dX12_digit_42 : decode cX12_digit 42 = .ok (.bipush 48, 2) := dk_16 48 (dk_at dksX12_digit_1 18 rfl rfl)
theorem dX12_digit_44 : decode cX12_digit 44 = .ok (.isub, 1) := dk_100 (dk_at dksX12_digit_1 20 rfl rfl)
theorem dX12_digit_45 : decode cX12_digit 45 = .ok (.ireturn, 1) := dk_172 (dk_at dksX12_digit_1 21 rfl rfl)
abbrev cX12_told : ByteArray := prog_15_method_9_code
def yX12_told : MethodName := ⟨RX12, "told", "(II)LWellOfTheSilent$Told;"⟩
def dkwX12_told_6 : List UInt8 := [176]
abbrev dktX12_told_6 : List UInt8 := dkwX12_told_6 ++ []
def dkwX12_told_5 : List UInt8 := [183, 0, 96, 176, 42, 182, 0, 50, 54, 4, 187, 0, 99, 89, 28, 21, 4, 42, 182, 0, 79, 183, 0, 101]
abbrev dktX12_told_5 : List UInt8 := dkwX12_told_5 ++ dktX12_told_6
def dkwX12_told_4 : List UInt8 := [182, 0, 50, 183, 0, 93, 176, 42, 182, 0, 50, 62, 187, 0, 94, 89, 28, 29, 42, 182, 0, 50]
abbrev dktX12_told_4 : List UInt8 := dkwX12_told_4 ++ dktX12_told_5
def dkwX12_told_3 : List UInt8 := [183, 0, 87, 176, 187, 0, 88, 89, 28, 42, 182, 0, 79, 183, 0, 90, 176, 187, 0, 91, 89, 28, 42]
abbrev dktX12_told_3 : List UInt8 := dkwX12_told_3 ++ dktX12_told_4
def dkwX12_told_2 : List UInt8 := [187, 0, 77, 89, 28, 42, 182, 0, 79, 183, 0, 82, 176, 187, 0, 85, 89, 28, 42, 182, 0, 79]
abbrev dktX12_told_2 : List UInt8 := dkwX12_told_2 ++ dktX12_told_3
def dkwX12_told_1 : List UInt8 := [171, 0, 0, 0, 0, 0, 122, 0, 0, 0, 5, 0, 0, 0, 102, 0, 0, 0, 103, 0, 0, 0, 104, 0, 0, 0, 77, 0, 0, 0, 108, 0, 0, 0, 64, 0, 0, 0, 115, 0, 0, 0, 90, 0, 0, 0, 119, 0, 0, 0, 51]
abbrev dktX12_told_1 : List UInt8 := dkwX12_told_1 ++ dktX12_told_2
def dkwX12_told_0 : List UInt8 := [27]
abbrev dktX12_told_0 : List UInt8 := dkwX12_told_0 ++ dktX12_told_1
theorem dksX12_told_0 : cX12_told.data.toList.drop 0 = dktX12_told_0 := by decide +kernel
theorem dksX12_told_1 : cX12_told.data.toList.drop 1 = dktX12_told_1 := dk_seg dksX12_told_0 1 rfl rfl
theorem dksX12_told_2 : cX12_told.data.toList.drop 52 = dktX12_told_2 := dk_seg dksX12_told_1 51 rfl rfl
theorem dksX12_told_3 : cX12_told.data.toList.drop 74 = dktX12_told_3 := dk_seg dksX12_told_2 22 rfl rfl
theorem dksX12_told_4 : cX12_told.data.toList.drop 97 = dktX12_told_4 := dk_seg dksX12_told_3 23 rfl rfl
theorem dksX12_told_5 : cX12_told.data.toList.drop 119 = dktX12_told_5 := dk_seg dksX12_told_4 22 rfl rfl
theorem dksX12_told_6 : cX12_told.data.toList.drop 143 = dktX12_told_6 := dk_seg dksX12_told_5 24 rfl rfl
theorem dX12_told_0 : decode cX12_told 0 = .ok (.iload_n 1, 1) := dk_27 (dk_at dksX12_told_0 0 rfl rfl)
theorem dX12_told_1 : decode cX12_told 1 = .ok (.lookupswitch 122 #[(102, 103), (104, 77), (108, 64), (115, 90), (119, 51)], 51) := by decide +kernel
theorem dX12_told_52 : decode cX12_told 52 = .ok (.new 77, 3) := dk_187 0 77 (dk_at dksX12_told_2 0 rfl rfl)
theorem dX12_told_55 : decode cX12_told 55 = .ok (.dup, 1) := dk_89 (dk_at dksX12_told_2 3 rfl rfl)
theorem dX12_told_56 : decode cX12_told 56 = .ok (.iload_n 2, 1) := dk_28 (dk_at dksX12_told_2 4 rfl rfl)
theorem dX12_told_57 : decode cX12_told 57 = .ok (.aload_n 0, 1) := dk_42 (dk_at dksX12_told_2 5 rfl rfl)
theorem dX12_told_58 : decode cX12_told 58 = .ok (.invokevirtual 79, 3) := dk_182 0 79 (dk_at dksX12_told_2 6 rfl rfl)
theorem dX12_told_61 : decode cX12_told 61 = .ok (.invokespecial 82, 3) := dk_183 0 82 (dk_at dksX12_told_2 9 rfl rfl)
theorem dX12_told_64 : decode cX12_told 64 = .ok (.areturn, 1) := dk_176 (dk_at dksX12_told_2 12 rfl rfl)
theorem dX12_told_65 : decode cX12_told 65 = .ok (.new 85, 3) := dk_187 0 85 (dk_at dksX12_told_2 13 rfl rfl)
theorem dX12_told_68 : decode cX12_told 68 = .ok (.dup, 1) := dk_89 (dk_at dksX12_told_2 16 rfl rfl)
theorem dX12_told_69 : decode cX12_told 69 = .ok (.iload_n 2, 1) := dk_28 (dk_at dksX12_told_2 17 rfl rfl)
theorem dX12_told_70 : decode cX12_told 70 = .ok (.aload_n 0, 1) := dk_42 (dk_at dksX12_told_2 18 rfl rfl)
theorem dX12_told_71 : decode cX12_told 71 = .ok (.invokevirtual 79, 3) := dk_182 0 79 (dk_at dksX12_told_2 19 rfl rfl)
theorem dX12_told_74 : decode cX12_told 74 = .ok (.invokespecial 87, 3) := dk_183 0 87 (dk_at dksX12_told_3 0 rfl rfl)
theorem dX12_told_77 : decode cX12_told 77 = .ok (.areturn, 1) := dk_176 (dk_at dksX12_told_3 3 rfl rfl)
theorem dX12_told_78 : decode cX12_told 78 = .ok (.new 88, 3) := dk_187 0 88 (dk_at dksX12_told_3 4 rfl rfl)
theorem dX12_told_81 : decode cX12_told 81 = .ok (.dup, 1) := dk_89 (dk_at dksX12_told_3 7 rfl rfl)
theorem dX12_told_82 : decode cX12_told 82 = .ok (.iload_n 2, 1) := dk_28 (dk_at dksX12_told_3 8 rfl rfl)
theorem dX12_told_83 : decode cX12_told 83 = .ok (.aload_n 0, 1) := dk_42 (dk_at dksX12_told_3 9 rfl rfl)
theorem dX12_told_84 : decode cX12_told 84 = .ok (.invokevirtual 79, 3) := dk_182 0 79 (dk_at dksX12_told_3 10 rfl rfl)
theorem dX12_told_87 : decode cX12_told 87 = .ok (.invokespecial 90, 3) := dk_183 0 90 (dk_at dksX12_told_3 13 rfl rfl)
theorem dX12_told_90 : decode cX12_told 90 = .ok (.areturn, 1) := dk_176 (dk_at dksX12_told_3 16 rfl rfl)
theorem dX12_told_91 : decode cX12_told 91 = .ok (.new 91, 3) := dk_187 0 91 (dk_at dksX12_told_3 17 rfl rfl)
theorem dX12_told_94 : decode cX12_told 94 = .ok (.dup, 1) := dk_89 (dk_at dksX12_told_3 20 rfl rfl)
theorem dX12_told_95 : decode cX12_told 95 = .ok (.iload_n 2, 1) := dk_28 (dk_at dksX12_told_3 21 rfl rfl)
theorem dX12_told_96 : decode cX12_told 96 = .ok (.aload_n 0, 1) := dk_42 (dk_at dksX12_told_3 22 rfl rfl)
theorem dX12_told_97 : decode cX12_told 97 = .ok (.invokevirtual 50, 3) := dk_182 0 50 (dk_at dksX12_told_4 0 rfl rfl)
theorem dX12_told_100 : decode cX12_told 100 = .ok (.invokespecial 93, 3) := dk_183 0 93 (dk_at dksX12_told_4 3 rfl rfl)
theorem dX12_told_103 : decode cX12_told 103 = .ok (.areturn, 1) := dk_176 (dk_at dksX12_told_4 6 rfl rfl)
theorem dX12_told_104 : decode cX12_told 104 = .ok (.aload_n 0, 1) := dk_42 (dk_at dksX12_told_4 7 rfl rfl)
theorem dX12_told_105 : decode cX12_told 105 = .ok (.invokevirtual 50, 3) := dk_182 0 50 (dk_at dksX12_told_4 8 rfl rfl)
theorem dX12_told_108 : decode cX12_told 108 = .ok (.istore_n 3, 1) := dk_62 (dk_at dksX12_told_4 11 rfl rfl)
theorem dX12_told_109 : decode cX12_told 109 = .ok (.new 94, 3) := dk_187 0 94 (dk_at dksX12_told_4 12 rfl rfl)
theorem dX12_told_112 : decode cX12_told 112 = .ok (.dup, 1) := dk_89 (dk_at dksX12_told_4 15 rfl rfl)
theorem dX12_told_113 : decode cX12_told 113 = .ok (.iload_n 2, 1) := dk_28 (dk_at dksX12_told_4 16 rfl rfl)
theorem dX12_told_114 : decode cX12_told 114 = .ok (.iload_n 3, 1) := dk_29 (dk_at dksX12_told_4 17 rfl rfl)
theorem dX12_told_115 : decode cX12_told 115 = .ok (.aload_n 0, 1) := dk_42 (dk_at dksX12_told_4 18 rfl rfl)
theorem dX12_told_116 : decode cX12_told 116 = .ok (.invokevirtual 50, 3) := dk_182 0 50 (dk_at dksX12_told_4 19 rfl rfl)
theorem dX12_told_119 : decode cX12_told 119 = .ok (.invokespecial 96, 3) := dk_183 0 96 (dk_at dksX12_told_5 0 rfl rfl)
theorem dX12_told_122 : decode cX12_told 122 = .ok (.areturn, 1) := dk_176 (dk_at dksX12_told_5 3 rfl rfl)
theorem dX12_told_123 : decode cX12_told 123 = .ok (.aload_n 0, 1) := dk_42 (dk_at dksX12_told_5 4 rfl rfl)
theorem dX12_told_124 : decode cX12_told 124 = .ok (.invokevirtual 50, 3) := dk_182 0 50 (dk_at dksX12_told_5 5 rfl rfl)
theorem dX12_told_127 : decode cX12_told 127 = .ok (.istore 4, 2) := dk_54 4 (dk_at dksX12_told_5 8 rfl rfl)
theorem dX12_told_129 : decode cX12_told 129 = .ok (.new 99, 3) := dk_187 0 99 (dk_at dksX12_told_5 10 rfl rfl)
theorem dX12_told_132 : decode cX12_told 132 = .ok (.dup, 1) := dk_89 (dk_at dksX12_told_5 13 rfl rfl)
theorem dX12_told_133 : decode cX12_told 133 = .ok (.iload_n 2, 1) := dk_28 (dk_at dksX12_told_5 14 rfl rfl)
theorem dX12_told_134 : decode cX12_told 134 = .ok (.iload 4, 2) := dk_21 4 (dk_at dksX12_told_5 15 rfl rfl)
theorem dX12_told_136 : decode cX12_told 136 = .ok (.aload_n 0, 1) := dk_42 (dk_at dksX12_told_5 17 rfl rfl)
theorem dX12_told_137 : decode cX12_told 137 = .ok (.invokevirtual 79, 3) := dk_182 0 79 (dk_at dksX12_told_5 18 rfl rfl)
theorem dX12_told_140 : decode cX12_told 140 = .ok (.invokespecial 101, 3) := dk_183 0 101 (dk_at dksX12_told_5 21 rfl rfl)
theorem dX12_told_143 : decode cX12_told 143 = .ok (.areturn, 1) := dk_176 (dk_at dksX12_told_6 0 rfl rfl)
abbrev cX12_pair : ByteArray := prog_15_method_6_code
def yX12_pair : MethodName := ⟨RX12, "pair", "()I"⟩
def dkwX12_pair_0 : List UInt8 := [42, 182, 0, 50, 60, 16, 10, 27, 104, 42, 182, 0, 50, 96, 172]
abbrev dktX12_pair_0 : List UInt8 := dkwX12_pair_0 ++ []
theorem dksX12_pair_0 : cX12_pair.data.toList.drop 0 = dktX12_pair_0 := by decide +kernel
theorem dX12_pair_0 : decode cX12_pair 0 = .ok (.aload_n 0, 1) := dk_42 (dk_at dksX12_pair_0 0 rfl rfl)
theorem dX12_pair_1 : decode cX12_pair 1 = .ok (.invokevirtual 50, 3) := dk_182 0 50 (dk_at dksX12_pair_0 1 rfl rfl)
theorem dX12_pair_4 : decode cX12_pair 4 = .ok (.istore_n 1, 1) := dk_60 (dk_at dksX12_pair_0 4 rfl rfl)
theorem dX12_pair_5 : decode cX12_pair 5 = .ok (.bipush 10, 2) := dk_16 10 (dk_at dksX12_pair_0 5 rfl rfl)
theorem dX12_pair_7 : decode cX12_pair 7 = .ok (.iload_n 1, 1) := dk_27 (dk_at dksX12_pair_0 7 rfl rfl)
theorem dX12_pair_8 : decode cX12_pair 8 = .ok (.imul, 1) := dk_104 (dk_at dksX12_pair_0 8 rfl rfl)
theorem dX12_pair_9 : decode cX12_pair 9 = .ok (.aload_n 0, 1) := dk_42 (dk_at dksX12_pair_0 9 rfl rfl)
theorem dX12_pair_10 : decode cX12_pair 10 = .ok (.invokevirtual 50, 3) := dk_182 0 50 (dk_at dksX12_pair_0 10 rfl rfl)
theorem dX12_pair_13 : decode cX12_pair 13 = .ok (.iadd, 1) := dk_96 (dk_at dksX12_pair_0 13 rfl rfl)
theorem dX12_pair_14 : decode cX12_pair 14 = .ok (.ireturn, 1) := dk_172 (dk_at dksX12_pair_0 14 rfl rfl)
abbrev cX12_take : ByteArray := prog_15_method_4_code
def yX12_take : MethodName := ⟨RX12, "take", "(I)V"⟩
def dkwX12_take_1 : List UInt8 := [181, 0, 22, 177]
abbrev dktX12_take_1 : List UInt8 := dkwX12_take_1 ++ []
def dkwX12_take_0 : List UInt8 := [42, 42, 182, 0, 34, 27, 160, 0, 7, 4, 167, 0, 4, 3, 182, 0, 38, 42, 89, 180, 0, 22, 4, 96]
abbrev dktX12_take_0 : List UInt8 := dkwX12_take_0 ++ dktX12_take_1
theorem dksX12_take_0 : cX12_take.data.toList.drop 0 = dktX12_take_0 := by decide +kernel
theorem dksX12_take_1 : cX12_take.data.toList.drop 24 = dktX12_take_1 := dk_seg dksX12_take_0 24 rfl rfl
theorem dX12_take_0 : decode cX12_take 0 = .ok (.aload_n 0, 1) := dk_42 (dk_at dksX12_take_0 0 rfl rfl)
theorem dX12_take_1 : decode cX12_take 1 = .ok (.aload_n 0, 1) := dk_42 (dk_at dksX12_take_0 1 rfl rfl)
theorem dX12_take_2 : decode cX12_take 2 = .ok (.invokevirtual 34, 3) := dk_182 0 34 (dk_at dksX12_take_0 2 rfl rfl)
theorem dX12_take_5 : decode cX12_take 5 = .ok (.iload_n 1, 1) := dk_27 (dk_at dksX12_take_0 5 rfl rfl)
theorem dX12_take_6 : decode cX12_take 6 = .ok (.if_icmp .ne 7, 3) := dk_160 0 7 (dk_at dksX12_take_0 6 rfl rfl)
theorem dX12_take_9 : decode cX12_take 9 = .ok (.iconst 1, 1) := dk_4 (dk_at dksX12_take_0 9 rfl rfl)
theorem dX12_take_10 : decode cX12_take 10 = .ok (.goto 4, 3) := dk_167 0 4 (dk_at dksX12_take_0 10 rfl rfl)
theorem dX12_take_13 : decode cX12_take 13 = .ok (.iconst 0, 1) := dk_3 (dk_at dksX12_take_0 13 rfl rfl)
theorem dX12_take_14 : decode cX12_take 14 = .ok (.invokevirtual 38, 3) := dk_182 0 38 (dk_at dksX12_take_0 14 rfl rfl)
theorem dX12_take_17 : decode cX12_take 17 = .ok (.aload_n 0, 1) := dk_42 (dk_at dksX12_take_0 17 rfl rfl)
theorem dX12_take_18 : decode cX12_take 18 = .ok (.dup, 1) := dk_89 (dk_at dksX12_take_0 18 rfl rfl)
theorem dX12_take_19 : decode cX12_take 19 = .ok (.getfield 22, 3) := dk_180 0 22 (dk_at dksX12_take_0 19 rfl rfl)
theorem dX12_take_22 : decode cX12_take 22 = .ok (.iconst 1, 1) := dk_4 (dk_at dksX12_take_0 22 rfl rfl)
theorem dX12_take_23 : decode cX12_take 23 = .ok (.iadd, 1) := dk_96 (dk_at dksX12_take_0 23 rfl rfl)
theorem dX12_take_24 : decode cX12_take 24 = .ok (.putfield 22, 3) := dk_181 0 22 (dk_at dksX12_take_1 0 rfl rfl)
theorem dX12_take_27 : decode cX12_take 27 = .ok (.return_, 1) := dk_177 (dk_at dksX12_take_1 3 rfl rfl)
theorem q100 : (Jvm.Cond.initialized "WellOfTheSilent$Reader") ∈ lw_all := lw_g (lw_at lw_m1 16 rfl) rfl
theorem q237 : (Jvm.Cond.fieldLinkNest "WellOfTheSilent$Reader" (70 : Nat) "WellOfTheSilent" "kinds" "[LWellOfTheSilent$Kind;" "WellOfTheSilent") ∈ lw_tbl := lw_at lw_m1 153 rfl
theorem q245 : (Jvm.Cond.fieldLinkNest "WellOfTheSilent$Reader" (25 : Nat) "WellOfTheSilent" "letters" "[C" "WellOfTheSilent") ∈ lw_tbl := lw_at lw_m1 161 rfl
theorem q247 : (Jvm.Cond.fieldLinkNest "WellOfTheSilent$Reader" (13 : Nat) "WellOfTheSilent" "letterMany" "I" "WellOfTheSilent") ∈ lw_tbl := lw_at lw_m1 163 rfl
theorem q377 : (Jvm.Cond.instantiable "WellOfTheSilent$Reader" (3 : Nat)) ∈ lw_all := lw_g (lw_at lw_m2 53 rfl) rfl
theorem q379 : (Jvm.Cond.instanceMethod ({ cls := "WellOfTheSilent$Reader", name := "<init>", desc := "(LWellOfTheSilent;)V" } : Jvm.MethodName)) ∈ lw_all := lw_g (lw_at lw_m2 55 rfl) rfl
theorem q380 : (Jvm.Cond.code ({ cls := "WellOfTheSilent$Reader", name := "<init>", desc := "(LWellOfTheSilent;)V" } : Jvm.MethodName) prog_15_method_1_code (2 : Nat) (Option.none : Option Jvm.ClassFile.FieldType)) ∈ lw_all := lw_g (lw_at lw_m2 56 rfl) rfl
theorem q381 : (Jvm.Cond.methodLink "WellOfTheSilent$Reader" (7 : Nat) ({ cls := "java/lang/Object", name := "<init>", desc := "()V" } : Jvm.MethodName)) ∈ lw_all := lw_g (lw_at lw_m2 57 rfl) rfl
theorem q382 : (Jvm.Cond.fieldLink "WellOfTheSilent$Reader" (19 : Nat) "WellOfTheSilent$Reader" "size" "I") ∈ lw_all := lw_g (lw_at lw_m2 58 rfl) rfl
theorem q384 : (Jvm.Cond.fieldLink "WellOfTheSilent$Reader" (22 : Nat) "WellOfTheSilent$Reader" "at" "I") ∈ lw_all := lw_g (lw_at lw_m2 60 rfl) rfl
theorem q386 : (Jvm.Cond.fieldLink "WellOfTheSilent$Reader" (1 : Nat) "WellOfTheSilent$Reader" "this$0" "LWellOfTheSilent;") ∈ lw_all := lw_g (lw_at lw_m2 62 rfl) rfl
theorem q387 : (Jvm.Cond.laysFinal "WellOfTheSilent$Reader" "WellOfTheSilent$Reader" "size" "I") ∈ lw_all := lw_g (lw_at lw_m2 63 rfl) rfl
theorem q388 : (Jvm.Cond.soleField "WellOfTheSilent$Reader" "size") ∈ lw_all := lw_g (lw_at lw_m2 64 rfl) rfl
theorem q389 : (Jvm.Cond.lays "WellOfTheSilent$Reader" "WellOfTheSilent$Reader" "at" "I") ∈ lw_all := lw_g (lw_at lw_m2 65 rfl) rfl
theorem q390 : (Jvm.Cond.soleField "WellOfTheSilent$Reader" "at") ∈ lw_all := lw_g (lw_at lw_m2 66 rfl) rfl
theorem q391 : (Jvm.Cond.laysFinal "WellOfTheSilent$Reader" "WellOfTheSilent$Reader" "this$0" "LWellOfTheSilent;") ∈ lw_all := lw_g (lw_at lw_m2 67 rfl) rfl
theorem q392 : (Jvm.Cond.soleField "WellOfTheSilent$Reader" "this$0") ∈ lw_all := lw_g (lw_at lw_m2 68 rfl) rfl
theorem q393 : (Jvm.Cond.superclass "WellOfTheSilent$Reader" "java/lang/Object") ∈ lw_all := lw_g (lw_at lw_m2 69 rfl) rfl
theorem q397 : (Jvm.Cond.instanceMethod ({ cls := "WellOfTheSilent$Reader", name := "statement", desc := "()LWellOfTheSilent$Told;" } : Jvm.MethodName)) ∈ lw_all := lw_g (lw_at lw_m2 73 rfl) rfl
theorem q398 : (Jvm.Cond.selects "WellOfTheSilent$Reader" ({ cls := "WellOfTheSilent$Reader", name := "statement", desc := "()LWellOfTheSilent$Told;" } : Jvm.MethodName) ({ cls := "WellOfTheSilent$Reader", name := "statement", desc := "()LWellOfTheSilent$Told;" } : Jvm.MethodName)) ∈ lw_all := lw_g (lw_at lw_m2 74 rfl) rfl
theorem q399 : (Jvm.Cond.code ({ cls := "WellOfTheSilent$Reader", name := "statement", desc := "()LWellOfTheSilent$Told;" } : Jvm.MethodName) prog_15_method_7_code (4 : Nat) (Option.some (Jvm.ClassFile.FieldType.object "WellOfTheSilent$Told"))) ∈ lw_all := lw_g (lw_at lw_m2 75 rfl) rfl
theorem q400 : (Jvm.Cond.methodLink "WellOfTheSilent$Reader" (34 : Nat) ({ cls := "WellOfTheSilent$Reader", name := "here", desc := "()I" } : Jvm.MethodName)) ∈ lw_all := lw_g (lw_at lw_m2 76 rfl) rfl
theorem q401 : (Jvm.Cond.privateMethod ({ cls := "WellOfTheSilent$Reader", name := "here", desc := "()I" } : Jvm.MethodName)) ∈ lw_tbl := lw_at lw_m2 77 rfl
theorem q402 : (Jvm.Cond.instanceMethod ({ cls := "WellOfTheSilent$Reader", name := "here", desc := "()I" } : Jvm.MethodName)) ∈ lw_all := lw_g (lw_at lw_m2 78 rfl) rfl
theorem q403 : (Jvm.Cond.code ({ cls := "WellOfTheSilent$Reader", name := "here", desc := "()I" } : Jvm.MethodName) prog_15_method_2_code (1 : Nat) (Option.some Jvm.ClassFile.FieldType.int)) ∈ lw_all := lw_g (lw_at lw_m2 79 rfl) rfl
theorem q404 : (Jvm.Cond.methodLink "WellOfTheSilent$Reader" (38 : Nat) ({ cls := "WellOfTheSilent$Reader", name := "mustStand", desc := "(Z)V" } : Jvm.MethodName)) ∈ lw_all := lw_g (lw_at lw_m2 80 rfl) rfl
theorem q405 : (Jvm.Cond.privateMethod ({ cls := "WellOfTheSilent$Reader", name := "mustStand", desc := "(Z)V" } : Jvm.MethodName)) ∈ lw_tbl := lw_at lw_m2 81 rfl
theorem q406 : (Jvm.Cond.instanceMethod ({ cls := "WellOfTheSilent$Reader", name := "mustStand", desc := "(Z)V" } : Jvm.MethodName)) ∈ lw_all := lw_g (lw_at lw_m2 82 rfl) rfl
theorem q407 : (Jvm.Cond.code ({ cls := "WellOfTheSilent$Reader", name := "mustStand", desc := "(Z)V" } : Jvm.MethodName) prog_15_method_3_code (2 : Nat) (Option.none : Option Jvm.ClassFile.FieldType)) ∈ lw_all := lw_g (lw_at lw_m2 83 rfl) rfl
theorem q408 : (Jvm.Cond.classLink "WellOfTheSilent$Reader" (29 : Nat) "WellOfTheSilent$Fault") ∈ lw_all := lw_g (lw_at lw_m2 84 rfl) rfl
theorem q417 : (Jvm.Cond.methodLink "WellOfTheSilent$Reader" (31 : Nat) ({ cls := "WellOfTheSilent$Fault", name := "<init>", desc := "(I)V" } : Jvm.MethodName)) ∈ lw_all := lw_g (lw_at lw_m2 93 rfl) rfl
theorem q426 : (Jvm.Cond.methodLink "WellOfTheSilent$Reader" (53 : Nat) ({ cls := "WellOfTheSilent$Reader", name := "personTold", desc := "(I)LWellOfTheSilent$Told;" } : Jvm.MethodName)) ∈ lw_all := lw_g (lw_at lw_m2 102 rfl) rfl
theorem q427 : (Jvm.Cond.privateMethod ({ cls := "WellOfTheSilent$Reader", name := "personTold", desc := "(I)LWellOfTheSilent$Told;" } : Jvm.MethodName)) ∈ lw_tbl := lw_at lw_m2 103 rfl
theorem q428 : (Jvm.Cond.instanceMethod ({ cls := "WellOfTheSilent$Reader", name := "personTold", desc := "(I)LWellOfTheSilent$Told;" } : Jvm.MethodName)) ∈ lw_all := lw_g (lw_at lw_m2 104 rfl) rfl
theorem q429 : (Jvm.Cond.code ({ cls := "WellOfTheSilent$Reader", name := "personTold", desc := "(I)LWellOfTheSilent$Told;" } : Jvm.MethodName) prog_15_method_8_code (4 : Nat) (Option.some (Jvm.ClassFile.FieldType.object "WellOfTheSilent$Told"))) ∈ lw_all := lw_g (lw_at lw_m2 105 rfl) rfl
theorem q430 : (Jvm.Cond.methodLinkNest "WellOfTheSilent$Reader" (64 : Nat) ({ cls := "WellOfTheSilent", name := "kindOf", desc := "(I)I" } : Jvm.MethodName) "WellOfTheSilent") ∈ lw_tbl := lw_at lw_m2 106 rfl
theorem q434 : (Jvm.Cond.methodLink "WellOfTheSilent$Reader" (50 : Nat) ({ cls := "WellOfTheSilent$Reader", name := "digit", desc := "()I" } : Jvm.MethodName)) ∈ lw_all := lw_g (lw_at lw_m2 110 rfl) rfl
theorem q435 : (Jvm.Cond.privateMethod ({ cls := "WellOfTheSilent$Reader", name := "digit", desc := "()I" } : Jvm.MethodName)) ∈ lw_tbl := lw_at lw_m2 111 rfl
theorem q436 : (Jvm.Cond.instanceMethod ({ cls := "WellOfTheSilent$Reader", name := "digit", desc := "()I" } : Jvm.MethodName)) ∈ lw_all := lw_g (lw_at lw_m2 112 rfl) rfl
theorem q437 : (Jvm.Cond.code ({ cls := "WellOfTheSilent$Reader", name := "digit", desc := "()I" } : Jvm.MethodName) prog_15_method_5_code (1 : Nat) (Option.some Jvm.ClassFile.FieldType.int)) ∈ lw_all := lw_g (lw_at lw_m2 113 rfl) rfl
theorem q438 : (Jvm.Cond.constantLong "WellOfTheSilent$Reader" (42 : Nat) (48 : Int64)) ∈ lw_all := lw_g (lw_at lw_m2 114 rfl) rfl
theorem q439 : (Jvm.Cond.constantLong "WellOfTheSilent$Reader" (44 : Nat) (57 : Int64)) ∈ lw_all := lw_g (lw_at lw_m2 115 rfl) rfl
theorem q440 : (Jvm.Cond.methodLinkNest "WellOfTheSilent$Reader" (46 : Nat) ({ cls := "WellOfTheSilent", name := "in", desc := "(JJJ)Z" } : Jvm.MethodName) "WellOfTheSilent") ∈ lw_tbl := lw_at lw_m2 116 rfl
theorem q443 : (Jvm.Cond.classLink "WellOfTheSilent$Reader" (68 : Nat) "WellOfTheSilent$PersonTold") ∈ lw_all := lw_g (lw_at lw_m2 119 rfl) rfl
theorem q445 : (Jvm.Cond.methodLink "WellOfTheSilent$Reader" (74 : Nat) ({ cls := "WellOfTheSilent$PersonTold", name := "<init>", desc := "(ILWellOfTheSilent$Kind;II)V" } : Jvm.MethodName)) ∈ lw_all := lw_g (lw_at lw_m2 121 rfl) rfl
theorem q482 : (Jvm.Cond.methodLink "WellOfTheSilent$Reader" (57 : Nat) ({ cls := "WellOfTheSilent$Reader", name := "told", desc := "(II)LWellOfTheSilent$Told;" } : Jvm.MethodName)) ∈ lw_all := lw_g (lw_at lw_m2 158 rfl) rfl
theorem q483 : (Jvm.Cond.privateMethod ({ cls := "WellOfTheSilent$Reader", name := "told", desc := "(II)LWellOfTheSilent$Told;" } : Jvm.MethodName)) ∈ lw_tbl := lw_at lw_m2 159 rfl
theorem q484 : (Jvm.Cond.instanceMethod ({ cls := "WellOfTheSilent$Reader", name := "told", desc := "(II)LWellOfTheSilent$Told;" } : Jvm.MethodName)) ∈ lw_all := lw_g (lw_at lw_m2 160 rfl) rfl
theorem q485 : (Jvm.Cond.code ({ cls := "WellOfTheSilent$Reader", name := "told", desc := "(II)LWellOfTheSilent$Told;" } : Jvm.MethodName) prog_15_method_9_code (5 : Nat) (Option.some (Jvm.ClassFile.FieldType.object "WellOfTheSilent$Told"))) ∈ lw_all := lw_g (lw_at lw_m2 161 rfl) rfl
theorem q486 : (Jvm.Cond.classLink "WellOfTheSilent$Reader" (77 : Nat) "WellOfTheSilent$WaterTold") ∈ lw_all := lw_g (lw_at lw_m2 162 rfl) rfl
theorem q488 : (Jvm.Cond.methodLink "WellOfTheSilent$Reader" (79 : Nat) ({ cls := "WellOfTheSilent$Reader", name := "pair", desc := "()I" } : Jvm.MethodName)) ∈ lw_all := lw_g (lw_at lw_m2 164 rfl) rfl
theorem q489 : (Jvm.Cond.privateMethod ({ cls := "WellOfTheSilent$Reader", name := "pair", desc := "()I" } : Jvm.MethodName)) ∈ lw_tbl := lw_at lw_m2 165 rfl
theorem q490 : (Jvm.Cond.instanceMethod ({ cls := "WellOfTheSilent$Reader", name := "pair", desc := "()I" } : Jvm.MethodName)) ∈ lw_all := lw_g (lw_at lw_m2 166 rfl) rfl
theorem q491 : (Jvm.Cond.code ({ cls := "WellOfTheSilent$Reader", name := "pair", desc := "()I" } : Jvm.MethodName) prog_15_method_6_code (2 : Nat) (Option.some Jvm.ClassFile.FieldType.int)) ∈ lw_all := lw_g (lw_at lw_m2 167 rfl) rfl
theorem q492 : (Jvm.Cond.methodLink "WellOfTheSilent$Reader" (82 : Nat) ({ cls := "WellOfTheSilent$WaterTold", name := "<init>", desc := "(II)V" } : Jvm.MethodName)) ∈ lw_all := lw_g (lw_at lw_m2 168 rfl) rfl
theorem q499 : (Jvm.Cond.classLink "WellOfTheSilent$Reader" (85 : Nat) "WellOfTheSilent$FlowTold") ∈ lw_all := lw_g (lw_at lw_m2 175 rfl) rfl
theorem q501 : (Jvm.Cond.methodLink "WellOfTheSilent$Reader" (87 : Nat) ({ cls := "WellOfTheSilent$FlowTold", name := "<init>", desc := "(II)V" } : Jvm.MethodName)) ∈ lw_all := lw_g (lw_at lw_m2 177 rfl) rfl
theorem q508 : (Jvm.Cond.classLink "WellOfTheSilent$Reader" (88 : Nat) "WellOfTheSilent$HoursTold") ∈ lw_all := lw_g (lw_at lw_m2 184 rfl) rfl
theorem q510 : (Jvm.Cond.methodLink "WellOfTheSilent$Reader" (90 : Nat) ({ cls := "WellOfTheSilent$HoursTold", name := "<init>", desc := "(II)V" } : Jvm.MethodName)) ∈ lw_all := lw_g (lw_at lw_m2 186 rfl) rfl
theorem q517 : (Jvm.Cond.classLink "WellOfTheSilent$Reader" (91 : Nat) "WellOfTheSilent$WordTold") ∈ lw_all := lw_g (lw_at lw_m2 193 rfl) rfl
theorem q519 : (Jvm.Cond.methodLink "WellOfTheSilent$Reader" (93 : Nat) ({ cls := "WellOfTheSilent$WordTold", name := "<init>", desc := "(II)V" } : Jvm.MethodName)) ∈ lw_all := lw_g (lw_at lw_m2 195 rfl) rfl
theorem q536 : (Jvm.Cond.classLink "WellOfTheSilent$Reader" (94 : Nat) "WellOfTheSilent$FriendTold") ∈ lw_all := lw_g (lw_at lw_m2 212 rfl) rfl
theorem q538 : (Jvm.Cond.methodLink "WellOfTheSilent$Reader" (96 : Nat) ({ cls := "WellOfTheSilent$FriendTold", name := "<init>", desc := "(III)V" } : Jvm.MethodName)) ∈ lw_all := lw_g (lw_at lw_m2 214 rfl) rfl
theorem q546 : (Jvm.Cond.classLink "WellOfTheSilent$Reader" (99 : Nat) "WellOfTheSilent$PourTold") ∈ lw_all := lw_g (lw_at lw_m2 222 rfl) rfl
theorem q548 : (Jvm.Cond.methodLink "WellOfTheSilent$Reader" (101 : Nat) ({ cls := "WellOfTheSilent$PourTold", name := "<init>", desc := "(III)V" } : Jvm.MethodName)) ∈ lw_all := lw_g (lw_at lw_m2 224 rfl) rfl
theorem q556 : (Jvm.Cond.methodLink "WellOfTheSilent$Reader" (61 : Nat) ({ cls := "WellOfTheSilent$Reader", name := "take", desc := "(I)V" } : Jvm.MethodName)) ∈ lw_all := lw_g (lw_at lw_m2 232 rfl) rfl
theorem q557 : (Jvm.Cond.privateMethod ({ cls := "WellOfTheSilent$Reader", name := "take", desc := "(I)V" } : Jvm.MethodName)) ∈ lw_tbl := lw_at lw_m2 233 rfl
theorem q558 : (Jvm.Cond.instanceMethod ({ cls := "WellOfTheSilent$Reader", name := "take", desc := "(I)V" } : Jvm.MethodName)) ∈ lw_all := lw_g (lw_at lw_m2 234 rfl) rfl
theorem q559 : (Jvm.Cond.code ({ cls := "WellOfTheSilent$Reader", name := "take", desc := "(I)V" } : Jvm.MethodName) prog_15_method_4_code (2 : Nat) (Option.none : Option Jvm.ClassFile.FieldType)) ∈ lw_all := lw_g (lw_at lw_m2 235 rfl) rfl
theorem in_X12 : ∀ w ∈ wsX120, w ∈ lw_all := lw_in wsX120 [387, 389, 391] (by decide +kernel) (by decide +kernel)
/-! WellOfTheSilent$Fault -/
set_option maxRecDepth 100000
def RX13 : String := "WellOfTheSilent$Fault"
def TX13 : u_T := fun k => match k with
  | 0 => ("java/lang/Throwable", "cause", "Ljava/lang/Throwable;", false)
  | 1 => ("java/lang/Throwable", "stackTrace", "[Ljava/lang/StackTraceElement;", false)
  | 2 => ("java/lang/Throwable", "suppressedExceptions", "Ljava/util/List;", false)
  | 3 => ("java/lang/Throwable", "detailMessage", "Ljava/lang/String;", false)
  | 4 => ("java/lang/Throwable", "backtrace", "Ljava/lang/Object;", false)
  | 5 => ("java/lang/Throwable", "depth", "I", false)
  | _ => ("WellOfTheSilent$Fault", "told", "I", true)
def tyX13 : Nat → FieldType := fun k => match k with
  | 0 => .object "java/lang/Throwable"
  | 1 => .array (.object "java/lang/StackTraceElement")
  | 2 => .object "java/util/List"
  | 3 => .object "java/lang/String"
  | 4 => .object "java/lang/Object"
  | 5 => .int
  | _ => .int
abbrev wsX130 : List Cond := u_ws RX13 TX13 7
theorem nmX13 : ∀ a, a < 7 → ∀ b, b < 7 → a ≠ b → (TX13 a).2.1 ≠ (TX13 b).2.1 := by decide +kernel
theorem tyX13_ok : ∀ k, k < 7 → parseFieldDescriptor (TX13 k).2.2.1 = some (tyX13 k) := by decide +kernel
abbrev cX13_init : ByteArray := prog_2_method_1_code
def yX13_init : MethodName := ⟨RX13, "<init>", "(I)V"⟩
def dkwX13_init_0 : List UInt8 := [42, 183, 0, 1, 42, 27, 181, 0, 7, 177]
abbrev dktX13_init_0 : List UInt8 := dkwX13_init_0 ++ []
theorem dksX13_init_0 : cX13_init.data.toList.drop 0 = dktX13_init_0 := by decide +kernel
theorem dX13_init_0 : decode cX13_init 0 = .ok (.aload_n 0, 1) := dk_42 (dk_at dksX13_init_0 0 rfl rfl)
theorem dX13_init_1 : decode cX13_init 1 = .ok (.invokespecial 1, 3) := dk_183 0 1 (dk_at dksX13_init_0 1 rfl rfl)
theorem dX13_init_4 : decode cX13_init 4 = .ok (.aload_n 0, 1) := dk_42 (dk_at dksX13_init_0 4 rfl rfl)
theorem dX13_init_5 : decode cX13_init 5 = .ok (.iload_n 1, 1) := dk_27 (dk_at dksX13_init_0 5 rfl rfl)
theorem dX13_init_6 : decode cX13_init 6 = .ok (.putfield 7, 3) := dk_181 0 7 (dk_at dksX13_init_0 6 rfl rfl)
theorem dX13_init_9 : decode cX13_init 9 = .ok (.return_, 1) := dk_177 (dk_at dksX13_init_0 9 rfl rfl)
abbrev cX13_number : ByteArray := prog_2_method_2_code
def yX13_number : MethodName := ⟨RX13, "number", "()I"⟩
theorem dX13_number_0 : decode cX13_number 0 = .ok (.aload_n 0, 1) := by decide +kernel
theorem dX13_number_1 : decode cX13_number 1 = .ok (.getfield 7, 3) := by decide +kernel
theorem dX13_number_4 : decode cX13_number 4 = .ok (.ireturn, 1) := by decide +kernel
theorem q101 : (Jvm.Cond.initialized "WellOfTheSilent$Fault") ∈ lw_all := lw_g (lw_at lw_m1 17 rfl) rfl
theorem q337 : (Jvm.Cond.selects "WellOfTheSilent$Fault" ({ cls := "java/lang/Throwable", name := "fillInStackTrace", desc := "()Ljava/lang/Throwable;" } : Jvm.MethodName) ({ cls := "java/lang/Throwable", name := "fillInStackTrace", desc := "()Ljava/lang/Throwable;" } : Jvm.MethodName)) ∈ lw_all := lw_g (lw_at lw_m2 13 rfl) rfl
theorem q409 : (Jvm.Cond.instantiable "WellOfTheSilent$Fault" (7 : Nat)) ∈ lw_all := lw_g (lw_at lw_m2 85 rfl) rfl
theorem q410 : (Jvm.Cond.castable "WellOfTheSilent$Fault" "WellOfTheSilent$Fault") ∈ lw_tbl := lw_at lw_m2 86 rfl
theorem q411 : (Jvm.Cond.selects "WellOfTheSilent$Fault" ({ cls := "java/lang/Throwable", name := "fillInStackTrace", desc := "(I)Ljava/lang/Throwable;" } : Jvm.MethodName) ({ cls := "java/lang/Throwable", name := "fillInStackTrace", desc := "(I)Ljava/lang/Throwable;" } : Jvm.MethodName)) ∈ lw_all := lw_g (lw_at lw_m2 87 rfl) rfl
theorem q412 : (Jvm.Cond.lays "WellOfTheSilent$Fault" "java/lang/Throwable" "cause" "Ljava/lang/Throwable;") ∈ lw_all := lw_g (lw_at lw_m2 88 rfl) rfl
theorem q413 : (Jvm.Cond.lays "WellOfTheSilent$Fault" "java/lang/Throwable" "stackTrace" "[Ljava/lang/StackTraceElement;") ∈ lw_all := lw_g (lw_at lw_m2 89 rfl) rfl
theorem q414 : (Jvm.Cond.lays "WellOfTheSilent$Fault" "java/lang/Throwable" "suppressedExceptions" "Ljava/util/List;") ∈ lw_all := lw_g (lw_at lw_m2 90 rfl) rfl
theorem q415 : (Jvm.Cond.lays "WellOfTheSilent$Fault" "java/lang/Throwable" "detailMessage" "Ljava/lang/String;") ∈ lw_all := lw_g (lw_at lw_m2 91 rfl) rfl
theorem q416 : (Jvm.Cond.lays "WellOfTheSilent$Fault" "java/lang/Throwable" "backtrace" "Ljava/lang/Object;") ∈ lw_all := lw_g (lw_at lw_m2 92 rfl) rfl
theorem q418 : (Jvm.Cond.instanceMethod ({ cls := "WellOfTheSilent$Fault", name := "<init>", desc := "(I)V" } : Jvm.MethodName)) ∈ lw_all := lw_g (lw_at lw_m2 94 rfl) rfl
theorem q419 : (Jvm.Cond.code ({ cls := "WellOfTheSilent$Fault", name := "<init>", desc := "(I)V" } : Jvm.MethodName) prog_2_method_1_code (2 : Nat) (Option.none : Option Jvm.ClassFile.FieldType)) ∈ lw_all := lw_g (lw_at lw_m2 95 rfl) rfl
theorem q420 : (Jvm.Cond.methodLinkNest "WellOfTheSilent$Fault" (1 : Nat) ({ cls := "WellOfTheSilent$Refusal", name := "<init>", desc := "()V" } : Jvm.MethodName) "WellOfTheSilent") ∈ lw_tbl := lw_at lw_m2 96 rfl
theorem q421 : (Jvm.Cond.fieldLink "WellOfTheSilent$Fault" (7 : Nat) "WellOfTheSilent$Fault" "told" "I") ∈ lw_all := lw_g (lw_at lw_m2 97 rfl) rfl
theorem q422 : (Jvm.Cond.laysFinal "WellOfTheSilent$Fault" "WellOfTheSilent$Fault" "told" "I") ∈ lw_all := lw_g (lw_at lw_m2 98 rfl) rfl
theorem q423 : (Jvm.Cond.soleField "WellOfTheSilent$Fault" "told") ∈ lw_all := lw_g (lw_at lw_m2 99 rfl) rfl
theorem q424 : (Jvm.Cond.lays "WellOfTheSilent$Fault" "java/lang/Throwable" "depth" "I") ∈ lw_all := lw_g (lw_at lw_m2 100 rfl) rfl
theorem q425 : (Jvm.Cond.superclass "WellOfTheSilent$Fault" "WellOfTheSilent$Refusal") ∈ lw_all := lw_g (lw_at lw_m2 101 rfl) rfl
theorem q977 : (Jvm.Cond.selects "WellOfTheSilent$Fault" ({ cls := "WellOfTheSilent$Refusal", name := "number", desc := "()I" } : Jvm.MethodName) ({ cls := "WellOfTheSilent$Fault", name := "number", desc := "()I" } : Jvm.MethodName)) ∈ lw_all := lw_g (lw_at lw_m4 173 rfl) rfl
theorem q978 : (Jvm.Cond.instanceMethod ({ cls := "WellOfTheSilent$Fault", name := "number", desc := "()I" } : Jvm.MethodName)) ∈ lw_all := lw_g (lw_at lw_m4 174 rfl) rfl
theorem q979 : (Jvm.Cond.code ({ cls := "WellOfTheSilent$Fault", name := "number", desc := "()I" } : Jvm.MethodName) prog_2_method_2_code (1 : Nat) (Option.some Jvm.ClassFile.FieldType.int)) ∈ lw_all := lw_g (lw_at lw_m4 175 rfl) rfl
theorem q1515 : (Jvm.Cond.castable "WellOfTheSilent$Fault" "WellOfTheSilent$Refusal") ∈ lw_tbl := lw_at lw_m6 231 rfl
theorem in_X13 : ∀ w ∈ wsX130, w ∈ lw_all := lw_in wsX130 [412, 413, 414, 415, 416, 424, 422] (by decide +kernel) (by decide +kernel)
/-! WellOfTheSilent$Told -/
set_option maxRecDepth 100000
def RX14 : String := "WellOfTheSilent$Told"
abbrev cX14_init : ByteArray := prog_19_method_1_code
def yX14_init : MethodName := ⟨RX14, "<init>", "(II)V"⟩
def dkwX14_init_0 : List UInt8 := [42, 183, 0, 1, 42, 27, 181, 0, 7, 42, 28, 181, 0, 13, 177]
abbrev dktX14_init_0 : List UInt8 := dkwX14_init_0 ++ []
theorem dksX14_init_0 : cX14_init.data.toList.drop 0 = dktX14_init_0 := by decide +kernel
theorem dX14_init_0 : decode cX14_init 0 = .ok (.aload_n 0, 1) := dk_42 (dk_at dksX14_init_0 0 rfl rfl)
theorem dX14_init_1 : decode cX14_init 1 = .ok (.invokespecial 1, 3) := dk_183 0 1 (dk_at dksX14_init_0 1 rfl rfl)
theorem dX14_init_4 : decode cX14_init 4 = .ok (.aload_n 0, 1) := dk_42 (dk_at dksX14_init_0 4 rfl rfl)
theorem dX14_init_5 : decode cX14_init 5 = .ok (.iload_n 1, 1) := dk_27 (dk_at dksX14_init_0 5 rfl rfl)
theorem dX14_init_6 : decode cX14_init 6 = .ok (.putfield 7, 3) := dk_181 0 7 (dk_at dksX14_init_0 6 rfl rfl)
theorem dX14_init_9 : decode cX14_init 9 = .ok (.aload_n 0, 1) := dk_42 (dk_at dksX14_init_0 9 rfl rfl)
theorem dX14_init_10 : decode cX14_init 10 = .ok (.iload_n 2, 1) := dk_28 (dk_at dksX14_init_0 10 rfl rfl)
theorem dX14_init_11 : decode cX14_init 11 = .ok (.putfield 13, 3) := dk_181 0 13 (dk_at dksX14_init_0 11 rfl rfl)
theorem dX14_init_14 : decode cX14_init 14 = .ok (.return_, 1) := dk_177 (dk_at dksX14_init_0 14 rfl rfl)
abbrev cX14_comes : ByteArray := prog_19_method_4_code
def yX14_comes : MethodName := ⟨RX14, "comes", "(LWellOfTheSilent$Hill;)Z"⟩
def dkwX14_comes_0 : List UInt8 := [42, 43, 182, 0, 16, 61, 28, 153, 0, 8, 42, 43, 182, 0, 20, 28, 172]
abbrev dktX14_comes_0 : List UInt8 := dkwX14_comes_0 ++ []
theorem dksX14_comes_0 : cX14_comes.data.toList.drop 0 = dktX14_comes_0 := by decide +kernel
theorem dX14_comes_0 : decode cX14_comes 0 = .ok (.aload_n 0, 1) := dk_42 (dk_at dksX14_comes_0 0 rfl rfl)
theorem dX14_comes_1 : decode cX14_comes 1 = .ok (.aload_n 1, 1) := dk_43 (dk_at dksX14_comes_0 1 rfl rfl)
theorem dX14_comes_2 : decode cX14_comes 2 = .ok (.invokevirtual 16, 3) := dk_182 0 16 (dk_at dksX14_comes_0 2 rfl rfl)
theorem dX14_comes_5 : decode cX14_comes 5 = .ok (.istore_n 2, 1) := dk_61 (dk_at dksX14_comes_0 5 rfl rfl)
theorem dX14_comes_6 : decode cX14_comes 6 = .ok (.iload_n 2, 1) := dk_28 (dk_at dksX14_comes_0 6 rfl rfl)
theorem dX14_comes_7 : decode cX14_comes 7 = .ok (.ifCond .eq 8, 3) := dk_153 0 8 (dk_at dksX14_comes_0 7 rfl rfl)
theorem dX14_comes_10 : decode cX14_comes 10 = .ok (.aload_n 0, 1) := dk_42 (dk_at dksX14_comes_0 10 rfl rfl)
theorem dX14_comes_11 : decode cX14_comes 11 = .ok (.aload_n 1, 1) := dk_43 (dk_at dksX14_comes_0 11 rfl rfl)
theorem dX14_comes_12 : decode cX14_comes 12 = .ok (.invokevirtual 20, 3) := dk_182 0 20 (dk_at dksX14_comes_0 12 rfl rfl)
theorem dX14_comes_15 : decode cX14_comes 15 = .ok (.iload_n 2, 1) := dk_28 (dk_at dksX14_comes_0 15 rfl rfl)
theorem dX14_comes_16 : decode cX14_comes 16 = .ok (.ireturn, 1) := dk_172 (dk_at dksX14_comes_0 16 rfl rfl)
theorem q102 : (Jvm.Cond.initialized "WellOfTheSilent$Told") ∈ lw_all := lw_g (lw_at lw_m1 18 rfl) rfl
theorem q449 : (Jvm.Cond.instanceMethod ({ cls := "WellOfTheSilent$Told", name := "<init>", desc := "(II)V" } : Jvm.MethodName)) ∈ lw_all := lw_g (lw_at lw_m2 125 rfl) rfl
theorem q450 : (Jvm.Cond.code ({ cls := "WellOfTheSilent$Told", name := "<init>", desc := "(II)V" } : Jvm.MethodName) prog_19_method_1_code (3 : Nat) (Option.none : Option Jvm.ClassFile.FieldType)) ∈ lw_all := lw_g (lw_at lw_m2 126 rfl) rfl
theorem q451 : (Jvm.Cond.methodLink "WellOfTheSilent$Told" (1 : Nat) ({ cls := "java/lang/Object", name := "<init>", desc := "()V" } : Jvm.MethodName)) ∈ lw_all := lw_g (lw_at lw_m2 127 rfl) rfl
theorem q454 : (Jvm.Cond.fieldLink "WellOfTheSilent$Told" (7 : Nat) "WellOfTheSilent$Told" "start" "I") ∈ lw_all := lw_g (lw_at lw_m2 130 rfl) rfl
theorem q456 : (Jvm.Cond.fieldLink "WellOfTheSilent$Told" (13 : Nat) "WellOfTheSilent$Told" "first" "I") ∈ lw_all := lw_g (lw_at lw_m2 132 rfl) rfl
theorem q478 : (Jvm.Cond.soleField "WellOfTheSilent$Told" "start") ∈ lw_all := lw_g (lw_at lw_m2 154 rfl) rfl
theorem q480 : (Jvm.Cond.soleField "WellOfTheSilent$Told" "first") ∈ lw_all := lw_g (lw_at lw_m2 156 rfl) rfl
theorem q568 : (Jvm.Cond.instanceMethod ({ cls := "WellOfTheSilent$Told", name := "comes", desc := "(LWellOfTheSilent$Hill;)Z" } : Jvm.MethodName)) ∈ lw_all := lw_g (lw_at lw_m3 4 rfl) rfl
theorem q569 : (Jvm.Cond.sameMethod "WellOfTheSilent$Told" "WellOfTheSilent$Told" "comes" "(LWellOfTheSilent$Hill;)Z") ∈ lw_all := lw_g (lw_at lw_m3 5 rfl) rfl
theorem q577 : (Jvm.Cond.code ({ cls := "WellOfTheSilent$Told", name := "comes", desc := "(LWellOfTheSilent$Hill;)Z" } : Jvm.MethodName) prog_19_method_4_code (3 : Nat) (Option.some Jvm.ClassFile.FieldType.boolean)) ∈ lw_all := lw_g (lw_at lw_m3 13 rfl) rfl
theorem q578 : (Jvm.Cond.methodLink "WellOfTheSilent$Told" (16 : Nat) ({ cls := "WellOfTheSilent$Told", name := "isGood", desc := "(LWellOfTheSilent$Hill;)Z" } : Jvm.MethodName)) ∈ lw_all := lw_g (lw_at lw_m3 14 rfl) rfl
theorem q579 : (Jvm.Cond.declares ({ cls := "WellOfTheSilent$Told", name := "isGood", desc := "(LWellOfTheSilent$Hill;)Z" } : Jvm.MethodName)) ∈ lw_tbl := lw_at lw_m3 15 rfl
theorem q580 : (Jvm.Cond.sameMethod "WellOfTheSilent$Told" "WellOfTheSilent$Told" "isGood" "(LWellOfTheSilent$Hill;)Z") ∈ lw_all := lw_g (lw_at lw_m3 16 rfl) rfl
theorem q603 : (Jvm.Cond.methodLink "WellOfTheSilent$Told" (20 : Nat) ({ cls := "WellOfTheSilent$Told", name := "become", desc := "(LWellOfTheSilent$Hill;)V" } : Jvm.MethodName)) ∈ lw_all := lw_g (lw_at lw_m3 39 rfl) rfl
theorem q604 : (Jvm.Cond.declares ({ cls := "WellOfTheSilent$Told", name := "become", desc := "(LWellOfTheSilent$Hill;)V" } : Jvm.MethodName)) ∈ lw_tbl := lw_at lw_m3 40 rfl
theorem q605 : (Jvm.Cond.sameMethod "WellOfTheSilent$Told" "WellOfTheSilent$Told" "become" "(LWellOfTheSilent$Hill;)V") ∈ lw_all := lw_g (lw_at lw_m3 41 rfl) rfl
/-! WellOfTheSilent$PersonTold -/
set_option maxRecDepth 100000
def RX15 : String := "WellOfTheSilent$PersonTold"
def TX15 : u_T := fun k => match k with
  | 0 => ("WellOfTheSilent$Told", "start", "I", true)
  | 1 => ("WellOfTheSilent$Told", "first", "I", true)
  | 2 => ("WellOfTheSilent$PersonTold", "kind", "LWellOfTheSilent$Kind;", true)
  | _ => ("WellOfTheSilent$PersonTold", "can", "I", true)
def tyX15 : Nat → FieldType := fun k => match k with
  | 0 => .int
  | 1 => .int
  | 2 => .object "WellOfTheSilent$Kind"
  | _ => .int
abbrev wsX150 : List Cond := u_ws RX15 TX15 4
theorem nmX15 : ∀ a, a < 4 → ∀ b, b < 4 → a ≠ b → (TX15 a).2.1 ≠ (TX15 b).2.1 := by decide +kernel
theorem tyX15_ok : ∀ k, k < 4 → parseFieldDescriptor (TX15 k).2.2.1 = some (tyX15 k) := by decide +kernel
abbrev cX15_init : ByteArray := prog_12_method_1_code
def yX15_init : MethodName := ⟨RX15, "<init>", "(ILWellOfTheSilent$Kind;II)V"⟩
def dkwX15_init_0 : List UInt8 := [42, 27, 29, 183, 0, 3, 42, 44, 181, 0, 9, 42, 21, 4, 181, 0, 15, 177]
abbrev dktX15_init_0 : List UInt8 := dkwX15_init_0 ++ []
theorem dksX15_init_0 : cX15_init.data.toList.drop 0 = dktX15_init_0 := by decide +kernel
theorem dX15_init_0 : decode cX15_init 0 = .ok (.aload_n 0, 1) := dk_42 (dk_at dksX15_init_0 0 rfl rfl)
theorem dX15_init_1 : decode cX15_init 1 = .ok (.iload_n 1, 1) := dk_27 (dk_at dksX15_init_0 1 rfl rfl)
theorem dX15_init_2 : decode cX15_init 2 = .ok (.iload_n 3, 1) := dk_29 (dk_at dksX15_init_0 2 rfl rfl)
theorem dX15_init_3 : decode cX15_init 3 = .ok (.invokespecial 3, 3) := dk_183 0 3 (dk_at dksX15_init_0 3 rfl rfl)
theorem dX15_init_6 : decode cX15_init 6 = .ok (.aload_n 0, 1) := dk_42 (dk_at dksX15_init_0 6 rfl rfl)
theorem dX15_init_7 : decode cX15_init 7 = .ok (.aload_n 2, 1) := dk_44 (dk_at dksX15_init_0 7 rfl rfl)
theorem dX15_init_8 : decode cX15_init 8 = .ok (.putfield 9, 3) := dk_181 0 9 (dk_at dksX15_init_0 8 rfl rfl)
theorem dX15_init_11 : decode cX15_init 11 = .ok (.aload_n 0, 1) := dk_42 (dk_at dksX15_init_0 11 rfl rfl)
theorem dX15_init_12 : decode cX15_init 12 = .ok (.iload 4, 2) := dk_21 4 (dk_at dksX15_init_0 12 rfl rfl)
theorem dX15_init_14 : decode cX15_init 14 = .ok (.putfield 15, 3) := dk_181 0 15 (dk_at dksX15_init_0 14 rfl rfl)
theorem dX15_init_17 : decode cX15_init 17 = .ok (.return_, 1) := dk_177 (dk_at dksX15_init_0 17 rfl rfl)
abbrev cX15_isGood : ByteArray := prog_12_method_2_code
def yX15_isGood : MethodName := ⟨RX15, "isGood", "(LWellOfTheSilent$Hill;)Z"⟩
def dkwX15_isGood_0 : List UInt8 := [43, 180, 0, 19, 16, 6, 162, 0, 7, 4, 167, 0, 4, 3, 172]
abbrev dktX15_isGood_0 : List UInt8 := dkwX15_isGood_0 ++ []
theorem dksX15_isGood_0 : cX15_isGood.data.toList.drop 0 = dktX15_isGood_0 := by decide +kernel
theorem dX15_isGood_0 : decode cX15_isGood 0 = .ok (.aload_n 1, 1) := dk_43 (dk_at dksX15_isGood_0 0 rfl rfl)
theorem dX15_isGood_1 : decode cX15_isGood 1 = .ok (.getfield 19, 3) := dk_180 0 19 (dk_at dksX15_isGood_0 1 rfl rfl)
theorem dX15_isGood_4 : decode cX15_isGood 4 = .ok (.bipush 6, 2) := dk_16 6 (dk_at dksX15_isGood_0 4 rfl rfl)
theorem dX15_isGood_6 : decode cX15_isGood 6 = .ok (.if_icmp .ge 7, 3) := dk_162 0 7 (dk_at dksX15_isGood_0 6 rfl rfl)
theorem dX15_isGood_9 : decode cX15_isGood 9 = .ok (.iconst 1, 1) := dk_4 (dk_at dksX15_isGood_0 9 rfl rfl)
theorem dX15_isGood_10 : decode cX15_isGood 10 = .ok (.goto 4, 3) := dk_167 0 4 (dk_at dksX15_isGood_0 10 rfl rfl)
theorem dX15_isGood_13 : decode cX15_isGood 13 = .ok (.iconst 0, 1) := dk_3 (dk_at dksX15_isGood_0 13 rfl rfl)
theorem dX15_isGood_14 : decode cX15_isGood 14 = .ok (.ireturn, 1) := dk_172 (dk_at dksX15_isGood_0 14 rfl rfl)
abbrev cX15_become : ByteArray := prog_12_method_3_code
def yX15_become : MethodName := ⟨RX15, "become", "(LWellOfTheSilent$Hill;)V"⟩
def dkwX15_become_0 : List UInt8 := [43, 42, 180, 0, 9, 42, 180, 0, 24, 42, 180, 0, 15, 182, 0, 27, 177]
abbrev dktX15_become_0 : List UInt8 := dkwX15_become_0 ++ []
theorem dksX15_become_0 : cX15_become.data.toList.drop 0 = dktX15_become_0 := by decide +kernel
theorem dX15_become_0 : decode cX15_become 0 = .ok (.aload_n 1, 1) := dk_43 (dk_at dksX15_become_0 0 rfl rfl)
theorem dX15_become_1 : decode cX15_become 1 = .ok (.aload_n 0, 1) := dk_42 (dk_at dksX15_become_0 1 rfl rfl)
theorem dX15_become_2 : decode cX15_become 2 = .ok (.getfield 9, 3) := dk_180 0 9 (dk_at dksX15_become_0 2 rfl rfl)
theorem dX15_become_5 : decode cX15_become 5 = .ok (.aload_n 0, 1) := dk_42 (dk_at dksX15_become_0 5 rfl rfl)
theorem dX15_become_6 : decode cX15_become 6 = .ok (.getfield 24, 3) := dk_180 0 24 (dk_at dksX15_become_0 6 rfl rfl)
theorem dX15_become_9 : decode cX15_become 9 = .ok (.aload_n 0, 1) := dk_42 (dk_at dksX15_become_0 9 rfl rfl)
theorem dX15_become_10 : decode cX15_become 10 = .ok (.getfield 15, 3) := dk_180 0 15 (dk_at dksX15_become_0 10 rfl rfl)
theorem dX15_become_13 : decode cX15_become 13 = .ok (.invokevirtual 27, 3) := dk_182 0 27 (dk_at dksX15_become_0 13 rfl rfl)
theorem dX15_become_16 : decode cX15_become 16 = .ok (.return_, 1) := dk_177 (dk_at dksX15_become_0 16 rfl rfl)
theorem q103 : (Jvm.Cond.initialized "WellOfTheSilent$PersonTold") ∈ lw_all := lw_g (lw_at lw_m1 19 rfl) rfl
theorem q175 : (Jvm.Cond.fieldLinkNest "WellOfTheSilent$PersonTold" (19 : Nat) "WellOfTheSilent$Hill" "people" "I" "WellOfTheSilent") ∈ lw_tbl := lw_at lw_m1 91 rfl
theorem q444 : (Jvm.Cond.instantiable "WellOfTheSilent$PersonTold" (4 : Nat)) ∈ lw_all := lw_g (lw_at lw_m2 120 rfl) rfl
theorem q446 : (Jvm.Cond.instanceMethod ({ cls := "WellOfTheSilent$PersonTold", name := "<init>", desc := "(ILWellOfTheSilent$Kind;II)V" } : Jvm.MethodName)) ∈ lw_all := lw_g (lw_at lw_m2 122 rfl) rfl
theorem q447 : (Jvm.Cond.code ({ cls := "WellOfTheSilent$PersonTold", name := "<init>", desc := "(ILWellOfTheSilent$Kind;II)V" } : Jvm.MethodName) prog_12_method_1_code (5 : Nat) (Option.none : Option Jvm.ClassFile.FieldType)) ∈ lw_all := lw_g (lw_at lw_m2 123 rfl) rfl
theorem q448 : (Jvm.Cond.methodLink "WellOfTheSilent$PersonTold" (3 : Nat) ({ cls := "WellOfTheSilent$Told", name := "<init>", desc := "(II)V" } : Jvm.MethodName)) ∈ lw_all := lw_g (lw_at lw_m2 124 rfl) rfl
theorem q452 : (Jvm.Cond.fieldLink "WellOfTheSilent$PersonTold" (9 : Nat) "WellOfTheSilent$PersonTold" "kind" "LWellOfTheSilent$Kind;") ∈ lw_all := lw_g (lw_at lw_m2 128 rfl) rfl
theorem q453 : (Jvm.Cond.fieldLink "WellOfTheSilent$PersonTold" (15 : Nat) "WellOfTheSilent$PersonTold" "can" "I") ∈ lw_all := lw_g (lw_at lw_m2 129 rfl) rfl
theorem q471 : (Jvm.Cond.fieldLink "WellOfTheSilent$PersonTold" (24 : Nat) "WellOfTheSilent$PersonTold" "first" "I") ∈ lw_all := lw_g (lw_at lw_m2 147 rfl) rfl
theorem q472 : (Jvm.Cond.sameField "WellOfTheSilent$PersonTold" "WellOfTheSilent$Told" "first" "I") ∈ lw_all := lw_g (lw_at lw_m2 148 rfl) rfl
theorem q473 : (Jvm.Cond.laysFinal "WellOfTheSilent$PersonTold" "WellOfTheSilent$PersonTold" "kind" "LWellOfTheSilent$Kind;") ∈ lw_all := lw_g (lw_at lw_m2 149 rfl) rfl
theorem q474 : (Jvm.Cond.soleField "WellOfTheSilent$PersonTold" "kind") ∈ lw_all := lw_g (lw_at lw_m2 150 rfl) rfl
theorem q475 : (Jvm.Cond.laysFinal "WellOfTheSilent$PersonTold" "WellOfTheSilent$PersonTold" "can" "I") ∈ lw_all := lw_g (lw_at lw_m2 151 rfl) rfl
theorem q476 : (Jvm.Cond.soleField "WellOfTheSilent$PersonTold" "can") ∈ lw_all := lw_g (lw_at lw_m2 152 rfl) rfl
theorem q477 : (Jvm.Cond.laysFinal "WellOfTheSilent$PersonTold" "WellOfTheSilent$Told" "start" "I") ∈ lw_all := lw_g (lw_at lw_m2 153 rfl) rfl
theorem q479 : (Jvm.Cond.laysFinal "WellOfTheSilent$PersonTold" "WellOfTheSilent$Told" "first" "I") ∈ lw_all := lw_g (lw_at lw_m2 155 rfl) rfl
theorem q481 : (Jvm.Cond.superclass "WellOfTheSilent$PersonTold" "WellOfTheSilent$Told") ∈ lw_all := lw_g (lw_at lw_m2 157 rfl) rfl
theorem q573 : (Jvm.Cond.selects "WellOfTheSilent$PersonTold" ({ cls := "WellOfTheSilent$Told", name := "comes", desc := "(LWellOfTheSilent$Hill;)Z" } : Jvm.MethodName) ({ cls := "WellOfTheSilent$Told", name := "comes", desc := "(LWellOfTheSilent$Hill;)Z" } : Jvm.MethodName)) ∈ lw_all := lw_g (lw_at lw_m3 9 rfl) rfl
theorem q595 : (Jvm.Cond.selects "WellOfTheSilent$PersonTold" ({ cls := "WellOfTheSilent$Told", name := "isGood", desc := "(LWellOfTheSilent$Hill;)Z" } : Jvm.MethodName) ({ cls := "WellOfTheSilent$PersonTold", name := "isGood", desc := "(LWellOfTheSilent$Hill;)Z" } : Jvm.MethodName)) ∈ lw_all := lw_g (lw_at lw_m3 31 rfl) rfl
theorem q596 : (Jvm.Cond.instanceMethod ({ cls := "WellOfTheSilent$PersonTold", name := "isGood", desc := "(LWellOfTheSilent$Hill;)Z" } : Jvm.MethodName)) ∈ lw_all := lw_g (lw_at lw_m3 32 rfl) rfl
theorem q597 : (Jvm.Cond.code ({ cls := "WellOfTheSilent$PersonTold", name := "isGood", desc := "(LWellOfTheSilent$Hill;)Z" } : Jvm.MethodName) prog_12_method_2_code (2 : Nat) (Option.some Jvm.ClassFile.FieldType.boolean)) ∈ lw_all := lw_g (lw_at lw_m3 33 rfl) rfl
theorem q698 : (Jvm.Cond.selects "WellOfTheSilent$PersonTold" ({ cls := "WellOfTheSilent$Told", name := "become", desc := "(LWellOfTheSilent$Hill;)V" } : Jvm.MethodName) ({ cls := "WellOfTheSilent$PersonTold", name := "become", desc := "(LWellOfTheSilent$Hill;)V" } : Jvm.MethodName)) ∈ lw_all := lw_g (lw_at lw_m3 134 rfl) rfl
theorem q699 : (Jvm.Cond.instanceMethod ({ cls := "WellOfTheSilent$PersonTold", name := "become", desc := "(LWellOfTheSilent$Hill;)V" } : Jvm.MethodName)) ∈ lw_all := lw_g (lw_at lw_m3 135 rfl) rfl
theorem q700 : (Jvm.Cond.code ({ cls := "WellOfTheSilent$PersonTold", name := "become", desc := "(LWellOfTheSilent$Hill;)V" } : Jvm.MethodName) prog_12_method_3_code (2 : Nat) (Option.none : Option Jvm.ClassFile.FieldType)) ∈ lw_all := lw_g (lw_at lw_m3 136 rfl) rfl
theorem q701 : (Jvm.Cond.methodLink "WellOfTheSilent$PersonTold" (27 : Nat) ({ cls := "WellOfTheSilent$Hill", name := "comes", desc := "(LWellOfTheSilent$Kind;II)V" } : Jvm.MethodName)) ∈ lw_all := lw_g (lw_at lw_m3 137 rfl) rfl
theorem q1523 : (Jvm.Cond.castable "WellOfTheSilent$PersonTold" "WellOfTheSilent$Told") ∈ lw_tbl := lw_at lw_m6 239 rfl
theorem in_X15 : ∀ w ∈ wsX150, w ∈ lw_all := lw_in wsX150 [477, 479, 473, 475] (by decide +kernel) (by decide +kernel)
/-! WellOfTheSilent$WaterTold -/
set_option maxRecDepth 100000
def RX16 : String := "WellOfTheSilent$WaterTold"
def TX16 : u_T := fun k => match k with
  | 0 => ("WellOfTheSilent$Told", "start", "I", true)
  | _ => ("WellOfTheSilent$Told", "first", "I", true)
def tyX16 : Nat → FieldType := fun k => match k with
  | 0 => .int
  | _ => .int
abbrev wsX160 : List Cond := u_ws RX16 TX16 2
theorem nmX16 : ∀ a, a < 2 → ∀ b, b < 2 → a ≠ b → (TX16 a).2.1 ≠ (TX16 b).2.1 := by decide +kernel
theorem tyX16_ok : ∀ k, k < 2 → parseFieldDescriptor (TX16 k).2.2.1 = some (tyX16 k) := by decide +kernel
abbrev cX16_init : ByteArray := prog_20_method_1_code
def yX16_init : MethodName := ⟨RX16, "<init>", "(II)V"⟩
def dkwX16_init_0 : List UInt8 := [42, 27, 28, 183, 0, 1, 177]
abbrev dktX16_init_0 : List UInt8 := dkwX16_init_0 ++ []
theorem dksX16_init_0 : cX16_init.data.toList.drop 0 = dktX16_init_0 := by decide +kernel
theorem dX16_init_0 : decode cX16_init 0 = .ok (.aload_n 0, 1) := dk_42 (dk_at dksX16_init_0 0 rfl rfl)
theorem dX16_init_1 : decode cX16_init 1 = .ok (.iload_n 1, 1) := dk_27 (dk_at dksX16_init_0 1 rfl rfl)
theorem dX16_init_2 : decode cX16_init 2 = .ok (.iload_n 2, 1) := dk_28 (dk_at dksX16_init_0 2 rfl rfl)
theorem dX16_init_3 : decode cX16_init 3 = .ok (.invokespecial 1, 3) := dk_183 0 1 (dk_at dksX16_init_0 3 rfl rfl)
theorem dX16_init_6 : decode cX16_init 6 = .ok (.return_, 1) := dk_177 (dk_at dksX16_init_0 6 rfl rfl)
abbrev cX16_isGood : ByteArray := prog_20_method_2_code
def yX16_isGood : MethodName := ⟨RX16, "isGood", "(LWellOfTheSilent$Hill;)Z"⟩
theorem dX16_isGood_0 : decode cX16_isGood 0 = .ok (.iconst 1, 1) := by decide +kernel
theorem dX16_isGood_1 : decode cX16_isGood 1 = .ok (.ireturn, 1) := by decide +kernel
abbrev cX16_become : ByteArray := prog_20_method_3_code
def yX16_become : MethodName := ⟨RX16, "become", "(LWellOfTheSilent$Hill;)V"⟩
def dkwX16_become_0 : List UInt8 := [43, 42, 180, 0, 7, 181, 0, 13, 177]
abbrev dktX16_become_0 : List UInt8 := dkwX16_become_0 ++ []
theorem dksX16_become_0 : cX16_become.data.toList.drop 0 = dktX16_become_0 := by decide +kernel
theorem dX16_become_0 : decode cX16_become 0 = .ok (.aload_n 1, 1) := dk_43 (dk_at dksX16_become_0 0 rfl rfl)
theorem dX16_become_1 : decode cX16_become 1 = .ok (.aload_n 0, 1) := dk_42 (dk_at dksX16_become_0 1 rfl rfl)
theorem dX16_become_2 : decode cX16_become 2 = .ok (.getfield 7, 3) := dk_180 0 7 (dk_at dksX16_become_0 2 rfl rfl)
theorem dX16_become_5 : decode cX16_become 5 = .ok (.putfield 13, 3) := dk_181 0 13 (dk_at dksX16_become_0 5 rfl rfl)
theorem dX16_become_8 : decode cX16_become 8 = .ok (.return_, 1) := dk_177 (dk_at dksX16_become_0 8 rfl rfl)
theorem q104 : (Jvm.Cond.initialized "WellOfTheSilent$WaterTold") ∈ lw_all := lw_g (lw_at lw_m1 20 rfl) rfl
theorem q197 : (Jvm.Cond.fieldLinkNest "WellOfTheSilent$WaterTold" (13 : Nat) "WellOfTheSilent$Hill" "well" "I" "WellOfTheSilent") ∈ lw_tbl := lw_at lw_m1 113 rfl
theorem q467 : (Jvm.Cond.fieldLink "WellOfTheSilent$WaterTold" (7 : Nat) "WellOfTheSilent$WaterTold" "first" "I") ∈ lw_all := lw_g (lw_at lw_m2 143 rfl) rfl
theorem q468 : (Jvm.Cond.sameField "WellOfTheSilent$WaterTold" "WellOfTheSilent$Told" "first" "I") ∈ lw_all := lw_g (lw_at lw_m2 144 rfl) rfl
theorem q487 : (Jvm.Cond.instantiable "WellOfTheSilent$WaterTold" (2 : Nat)) ∈ lw_all := lw_g (lw_at lw_m2 163 rfl) rfl
theorem q493 : (Jvm.Cond.instanceMethod ({ cls := "WellOfTheSilent$WaterTold", name := "<init>", desc := "(II)V" } : Jvm.MethodName)) ∈ lw_all := lw_g (lw_at lw_m2 169 rfl) rfl
theorem q494 : (Jvm.Cond.code ({ cls := "WellOfTheSilent$WaterTold", name := "<init>", desc := "(II)V" } : Jvm.MethodName) prog_20_method_1_code (3 : Nat) (Option.none : Option Jvm.ClassFile.FieldType)) ∈ lw_all := lw_g (lw_at lw_m2 170 rfl) rfl
theorem q495 : (Jvm.Cond.methodLink "WellOfTheSilent$WaterTold" (1 : Nat) ({ cls := "WellOfTheSilent$Told", name := "<init>", desc := "(II)V" } : Jvm.MethodName)) ∈ lw_all := lw_g (lw_at lw_m2 171 rfl) rfl
theorem q496 : (Jvm.Cond.laysFinal "WellOfTheSilent$WaterTold" "WellOfTheSilent$Told" "start" "I") ∈ lw_all := lw_g (lw_at lw_m2 172 rfl) rfl
theorem q497 : (Jvm.Cond.laysFinal "WellOfTheSilent$WaterTold" "WellOfTheSilent$Told" "first" "I") ∈ lw_all := lw_g (lw_at lw_m2 173 rfl) rfl
theorem q498 : (Jvm.Cond.superclass "WellOfTheSilent$WaterTold" "WellOfTheSilent$Told") ∈ lw_all := lw_g (lw_at lw_m2 174 rfl) rfl
theorem q575 : (Jvm.Cond.selects "WellOfTheSilent$WaterTold" ({ cls := "WellOfTheSilent$Told", name := "comes", desc := "(LWellOfTheSilent$Hill;)Z" } : Jvm.MethodName) ({ cls := "WellOfTheSilent$Told", name := "comes", desc := "(LWellOfTheSilent$Hill;)Z" } : Jvm.MethodName)) ∈ lw_all := lw_g (lw_at lw_m3 11 rfl) rfl
theorem q599 : (Jvm.Cond.selects "WellOfTheSilent$WaterTold" ({ cls := "WellOfTheSilent$Told", name := "isGood", desc := "(LWellOfTheSilent$Hill;)Z" } : Jvm.MethodName) ({ cls := "WellOfTheSilent$WaterTold", name := "isGood", desc := "(LWellOfTheSilent$Hill;)Z" } : Jvm.MethodName)) ∈ lw_all := lw_g (lw_at lw_m3 35 rfl) rfl
theorem q600 : (Jvm.Cond.instanceMethod ({ cls := "WellOfTheSilent$WaterTold", name := "isGood", desc := "(LWellOfTheSilent$Hill;)Z" } : Jvm.MethodName)) ∈ lw_all := lw_g (lw_at lw_m3 36 rfl) rfl
theorem q601 : (Jvm.Cond.code ({ cls := "WellOfTheSilent$WaterTold", name := "isGood", desc := "(LWellOfTheSilent$Hill;)Z" } : Jvm.MethodName) prog_20_method_2_code (2 : Nat) (Option.some Jvm.ClassFile.FieldType.boolean)) ∈ lw_all := lw_g (lw_at lw_m3 37 rfl) rfl
theorem q708 : (Jvm.Cond.selects "WellOfTheSilent$WaterTold" ({ cls := "WellOfTheSilent$Told", name := "become", desc := "(LWellOfTheSilent$Hill;)V" } : Jvm.MethodName) ({ cls := "WellOfTheSilent$WaterTold", name := "become", desc := "(LWellOfTheSilent$Hill;)V" } : Jvm.MethodName)) ∈ lw_all := lw_g (lw_at lw_m3 144 rfl) rfl
theorem q709 : (Jvm.Cond.instanceMethod ({ cls := "WellOfTheSilent$WaterTold", name := "become", desc := "(LWellOfTheSilent$Hill;)V" } : Jvm.MethodName)) ∈ lw_all := lw_g (lw_at lw_m3 145 rfl) rfl
theorem q710 : (Jvm.Cond.code ({ cls := "WellOfTheSilent$WaterTold", name := "become", desc := "(LWellOfTheSilent$Hill;)V" } : Jvm.MethodName) prog_20_method_3_code (2 : Nat) (Option.none : Option Jvm.ClassFile.FieldType)) ∈ lw_all := lw_g (lw_at lw_m3 146 rfl) rfl
theorem q1524 : (Jvm.Cond.castable "WellOfTheSilent$WaterTold" "WellOfTheSilent$Told") ∈ lw_tbl := lw_at lw_m7 0 rfl
theorem in_X16 : ∀ w ∈ wsX160, w ∈ lw_all := lw_in wsX160 [496, 497] (by decide +kernel) (by decide +kernel)
/-! WellOfTheSilent$FlowTold -/
set_option maxRecDepth 100000
def RX17 : String := "WellOfTheSilent$FlowTold"
def TX17 : u_T := fun k => match k with
  | 0 => ("WellOfTheSilent$Told", "start", "I", true)
  | _ => ("WellOfTheSilent$Told", "first", "I", true)
def tyX17 : Nat → FieldType := fun k => match k with
  | 0 => .int
  | _ => .int
abbrev wsX170 : List Cond := u_ws RX17 TX17 2
theorem nmX17 : ∀ a, a < 2 → ∀ b, b < 2 → a ≠ b → (TX17 a).2.1 ≠ (TX17 b).2.1 := by decide +kernel
theorem tyX17_ok : ∀ k, k < 2 → parseFieldDescriptor (TX17 k).2.2.1 = some (tyX17 k) := by decide +kernel
abbrev cX17_init : ByteArray := prog_3_method_1_code
def yX17_init : MethodName := ⟨RX17, "<init>", "(II)V"⟩
def dkwX17_init_0 : List UInt8 := [42, 27, 28, 183, 0, 3, 177]
abbrev dktX17_init_0 : List UInt8 := dkwX17_init_0 ++ []
theorem dksX17_init_0 : cX17_init.data.toList.drop 0 = dktX17_init_0 := by decide +kernel
theorem dX17_init_0 : decode cX17_init 0 = .ok (.aload_n 0, 1) := dk_42 (dk_at dksX17_init_0 0 rfl rfl)
theorem dX17_init_1 : decode cX17_init 1 = .ok (.iload_n 1, 1) := dk_27 (dk_at dksX17_init_0 1 rfl rfl)
theorem dX17_init_2 : decode cX17_init 2 = .ok (.iload_n 2, 1) := dk_28 (dk_at dksX17_init_0 2 rfl rfl)
theorem dX17_init_3 : decode cX17_init 3 = .ok (.invokespecial 3, 3) := dk_183 0 3 (dk_at dksX17_init_0 3 rfl rfl)
theorem dX17_init_6 : decode cX17_init 6 = .ok (.return_, 1) := dk_177 (dk_at dksX17_init_0 6 rfl rfl)
abbrev cX17_isGood : ByteArray := prog_3_method_2_code
def yX17_isGood : MethodName := ⟨RX17, "isGood", "(LWellOfTheSilent$Hill;)Z"⟩
def dkwX17_isGood_0 : List UInt8 := [42, 180, 0, 9, 16, 30, 163, 0, 7, 4, 167, 0, 4, 3, 172]
abbrev dktX17_isGood_0 : List UInt8 := dkwX17_isGood_0 ++ []
theorem dksX17_isGood_0 : cX17_isGood.data.toList.drop 0 = dktX17_isGood_0 := by decide +kernel
theorem dX17_isGood_0 : decode cX17_isGood 0 = .ok (.aload_n 0, 1) := dk_42 (dk_at dksX17_isGood_0 0 rfl rfl)
theorem dX17_isGood_1 : decode cX17_isGood 1 = .ok (.getfield 9, 3) := dk_180 0 9 (dk_at dksX17_isGood_0 1 rfl rfl)
theorem dX17_isGood_4 : decode cX17_isGood 4 = .ok (.bipush 30, 2) := dk_16 30 (dk_at dksX17_isGood_0 4 rfl rfl)
theorem dX17_isGood_6 : decode cX17_isGood 6 = .ok (.if_icmp .gt 7, 3) := dk_163 0 7 (dk_at dksX17_isGood_0 6 rfl rfl)
theorem dX17_isGood_9 : decode cX17_isGood 9 = .ok (.iconst 1, 1) := dk_4 (dk_at dksX17_isGood_0 9 rfl rfl)
theorem dX17_isGood_10 : decode cX17_isGood 10 = .ok (.goto 4, 3) := dk_167 0 4 (dk_at dksX17_isGood_0 10 rfl rfl)
theorem dX17_isGood_13 : decode cX17_isGood 13 = .ok (.iconst 0, 1) := dk_3 (dk_at dksX17_isGood_0 13 rfl rfl)
theorem dX17_isGood_14 : decode cX17_isGood 14 = .ok (.ireturn, 1) := dk_172 (dk_at dksX17_isGood_0 14 rfl rfl)
abbrev cX17_become : ByteArray := prog_3_method_3_code
def yX17_become : MethodName := ⟨RX17, "become", "(LWellOfTheSilent$Hill;)V"⟩
def dkwX17_become_0 : List UInt8 := [43, 42, 180, 0, 9, 181, 0, 15, 177]
abbrev dktX17_become_0 : List UInt8 := dkwX17_become_0 ++ []
theorem dksX17_become_0 : cX17_become.data.toList.drop 0 = dktX17_become_0 := by decide +kernel
theorem dX17_become_0 : decode cX17_become 0 = .ok (.aload_n 1, 1) := dk_43 (dk_at dksX17_become_0 0 rfl rfl)
theorem dX17_become_1 : decode cX17_become 1 = .ok (.aload_n 0, 1) := dk_42 (dk_at dksX17_become_0 1 rfl rfl)
theorem dX17_become_2 : decode cX17_become 2 = .ok (.getfield 9, 3) := dk_180 0 9 (dk_at dksX17_become_0 2 rfl rfl)
theorem dX17_become_5 : decode cX17_become 5 = .ok (.putfield 15, 3) := dk_181 0 15 (dk_at dksX17_become_0 5 rfl rfl)
theorem dX17_become_8 : decode cX17_become 8 = .ok (.return_, 1) := dk_177 (dk_at dksX17_become_0 8 rfl rfl)
theorem q105 : (Jvm.Cond.initialized "WellOfTheSilent$FlowTold") ∈ lw_all := lw_g (lw_at lw_m1 21 rfl) rfl
theorem q200 : (Jvm.Cond.fieldLinkNest "WellOfTheSilent$FlowTold" (15 : Nat) "WellOfTheSilent$Hill" "comes" "I" "WellOfTheSilent") ∈ lw_tbl := lw_at lw_m1 116 rfl
theorem q457 : (Jvm.Cond.fieldLink "WellOfTheSilent$FlowTold" (9 : Nat) "WellOfTheSilent$FlowTold" "first" "I") ∈ lw_all := lw_g (lw_at lw_m2 133 rfl) rfl
theorem q458 : (Jvm.Cond.sameField "WellOfTheSilent$FlowTold" "WellOfTheSilent$Told" "first" "I") ∈ lw_all := lw_g (lw_at lw_m2 134 rfl) rfl
theorem q500 : (Jvm.Cond.instantiable "WellOfTheSilent$FlowTold" (2 : Nat)) ∈ lw_all := lw_g (lw_at lw_m2 176 rfl) rfl
theorem q502 : (Jvm.Cond.instanceMethod ({ cls := "WellOfTheSilent$FlowTold", name := "<init>", desc := "(II)V" } : Jvm.MethodName)) ∈ lw_all := lw_g (lw_at lw_m2 178 rfl) rfl
theorem q503 : (Jvm.Cond.code ({ cls := "WellOfTheSilent$FlowTold", name := "<init>", desc := "(II)V" } : Jvm.MethodName) prog_3_method_1_code (3 : Nat) (Option.none : Option Jvm.ClassFile.FieldType)) ∈ lw_all := lw_g (lw_at lw_m2 179 rfl) rfl
theorem q504 : (Jvm.Cond.methodLink "WellOfTheSilent$FlowTold" (3 : Nat) ({ cls := "WellOfTheSilent$Told", name := "<init>", desc := "(II)V" } : Jvm.MethodName)) ∈ lw_all := lw_g (lw_at lw_m2 180 rfl) rfl
theorem q505 : (Jvm.Cond.laysFinal "WellOfTheSilent$FlowTold" "WellOfTheSilent$Told" "start" "I") ∈ lw_all := lw_g (lw_at lw_m2 181 rfl) rfl
theorem q506 : (Jvm.Cond.laysFinal "WellOfTheSilent$FlowTold" "WellOfTheSilent$Told" "first" "I") ∈ lw_all := lw_g (lw_at lw_m2 182 rfl) rfl
theorem q507 : (Jvm.Cond.superclass "WellOfTheSilent$FlowTold" "WellOfTheSilent$Told") ∈ lw_all := lw_g (lw_at lw_m2 183 rfl) rfl
theorem q570 : (Jvm.Cond.selects "WellOfTheSilent$FlowTold" ({ cls := "WellOfTheSilent$Told", name := "comes", desc := "(LWellOfTheSilent$Hill;)Z" } : Jvm.MethodName) ({ cls := "WellOfTheSilent$Told", name := "comes", desc := "(LWellOfTheSilent$Hill;)Z" } : Jvm.MethodName)) ∈ lw_all := lw_g (lw_at lw_m3 6 rfl) rfl
theorem q581 : (Jvm.Cond.selects "WellOfTheSilent$FlowTold" ({ cls := "WellOfTheSilent$Told", name := "isGood", desc := "(LWellOfTheSilent$Hill;)Z" } : Jvm.MethodName) ({ cls := "WellOfTheSilent$FlowTold", name := "isGood", desc := "(LWellOfTheSilent$Hill;)Z" } : Jvm.MethodName)) ∈ lw_all := lw_g (lw_at lw_m3 17 rfl) rfl
theorem q582 : (Jvm.Cond.instanceMethod ({ cls := "WellOfTheSilent$FlowTold", name := "isGood", desc := "(LWellOfTheSilent$Hill;)Z" } : Jvm.MethodName)) ∈ lw_all := lw_g (lw_at lw_m3 18 rfl) rfl
theorem q583 : (Jvm.Cond.code ({ cls := "WellOfTheSilent$FlowTold", name := "isGood", desc := "(LWellOfTheSilent$Hill;)Z" } : Jvm.MethodName) prog_3_method_2_code (2 : Nat) (Option.some Jvm.ClassFile.FieldType.boolean)) ∈ lw_all := lw_g (lw_at lw_m3 19 rfl) rfl
theorem q606 : (Jvm.Cond.selects "WellOfTheSilent$FlowTold" ({ cls := "WellOfTheSilent$Told", name := "become", desc := "(LWellOfTheSilent$Hill;)V" } : Jvm.MethodName) ({ cls := "WellOfTheSilent$FlowTold", name := "become", desc := "(LWellOfTheSilent$Hill;)V" } : Jvm.MethodName)) ∈ lw_all := lw_g (lw_at lw_m3 42 rfl) rfl
theorem q607 : (Jvm.Cond.instanceMethod ({ cls := "WellOfTheSilent$FlowTold", name := "become", desc := "(LWellOfTheSilent$Hill;)V" } : Jvm.MethodName)) ∈ lw_all := lw_g (lw_at lw_m3 43 rfl) rfl
theorem q608 : (Jvm.Cond.code ({ cls := "WellOfTheSilent$FlowTold", name := "become", desc := "(LWellOfTheSilent$Hill;)V" } : Jvm.MethodName) prog_3_method_3_code (2 : Nat) (Option.none : Option Jvm.ClassFile.FieldType)) ∈ lw_all := lw_g (lw_at lw_m3 44 rfl) rfl
theorem q1525 : (Jvm.Cond.castable "WellOfTheSilent$FlowTold" "WellOfTheSilent$Told") ∈ lw_tbl := lw_at lw_m7 1 rfl
theorem in_X17 : ∀ w ∈ wsX170, w ∈ lw_all := lw_in wsX170 [505, 506] (by decide +kernel) (by decide +kernel)
/-! WellOfTheSilent$HoursTold -/
set_option maxRecDepth 100000
def RX18 : String := "WellOfTheSilent$HoursTold"
def TX18 : u_T := fun k => match k with
  | 0 => ("WellOfTheSilent$Told", "start", "I", true)
  | _ => ("WellOfTheSilent$Told", "first", "I", true)
def tyX18 : Nat → FieldType := fun k => match k with
  | 0 => .int
  | _ => .int
abbrev wsX180 : List Cond := u_ws RX18 TX18 2
theorem nmX18 : ∀ a, a < 2 → ∀ b, b < 2 → a ≠ b → (TX18 a).2.1 ≠ (TX18 b).2.1 := by decide +kernel
theorem tyX18_ok : ∀ k, k < 2 → parseFieldDescriptor (TX18 k).2.2.1 = some (tyX18 k) := by decide +kernel
abbrev cX18_init : ByteArray := prog_6_method_1_code
def yX18_init : MethodName := ⟨RX18, "<init>", "(II)V"⟩
def dkwX18_init_0 : List UInt8 := [42, 27, 28, 183, 0, 3, 177]
abbrev dktX18_init_0 : List UInt8 := dkwX18_init_0 ++ []
theorem dksX18_init_0 : cX18_init.data.toList.drop 0 = dktX18_init_0 := by decide +kernel
theorem dX18_init_0 : decode cX18_init 0 = .ok (.aload_n 0, 1) := dk_42 (dk_at dksX18_init_0 0 rfl rfl)
theorem dX18_init_1 : decode cX18_init 1 = .ok (.iload_n 1, 1) := dk_27 (dk_at dksX18_init_0 1 rfl rfl)
theorem dX18_init_2 : decode cX18_init 2 = .ok (.iload_n 2, 1) := dk_28 (dk_at dksX18_init_0 2 rfl rfl)
theorem dX18_init_3 : decode cX18_init 3 = .ok (.invokespecial 3, 3) := dk_183 0 3 (dk_at dksX18_init_0 3 rfl rfl)
theorem dX18_init_6 : decode cX18_init 6 = .ok (.return_, 1) := dk_177 (dk_at dksX18_init_0 6 rfl rfl)
abbrev cX18_isGood : ByteArray := prog_6_method_2_code
def yX18_isGood : MethodName := ⟨RX18, "isGood", "(LWellOfTheSilent$Hill;)Z"⟩
def dkwX18_isGood_1 : List UInt8 := [17, 3, 231, 163, 0, 7, 4, 167, 0, 4, 3, 172]
abbrev dktX18_isGood_1 : List UInt8 := dkwX18_isGood_1 ++ []
def dkwX18_isGood_0 : List UInt8 := [42, 180, 0, 9, 133, 10, 20, 0, 15, 184, 0, 17, 153, 0, 22, 43, 180, 0, 21, 42, 180, 0, 9, 96]
abbrev dktX18_isGood_0 : List UInt8 := dkwX18_isGood_0 ++ dktX18_isGood_1
theorem dksX18_isGood_0 : cX18_isGood.data.toList.drop 0 = dktX18_isGood_0 := by decide +kernel
theorem dksX18_isGood_1 : cX18_isGood.data.toList.drop 24 = dktX18_isGood_1 := dk_seg dksX18_isGood_0 24 rfl rfl
theorem dX18_isGood_0 : decode cX18_isGood 0 = .ok (.aload_n 0, 1) := dk_42 (dk_at dksX18_isGood_0 0 rfl rfl)
theorem dX18_isGood_1 : decode cX18_isGood 1 = .ok (.getfield 9, 3) := dk_180 0 9 (dk_at dksX18_isGood_0 1 rfl rfl)
theorem dX18_isGood_4 : decode cX18_isGood 4 = .ok (.i2l, 1) := dk_133 (dk_at dksX18_isGood_0 4 rfl rfl)
theorem dX18_isGood_5 : decode cX18_isGood 5 = .ok (.lconst 1, 1) := dk_10 (dk_at dksX18_isGood_0 5 rfl rfl)
theorem dX18_isGood_6 : decode cX18_isGood 6 = .ok (.ldc2_w 15, 3) := dk_20 0 15 (dk_at dksX18_isGood_0 6 rfl rfl)
theorem dX18_isGood_9 : decode cX18_isGood 9 = .ok (.invokestatic 17, 3) := dk_184 0 17 (dk_at dksX18_isGood_0 9 rfl rfl)
theorem dX18_isGood_12 : decode cX18_isGood 12 = .ok (.ifCond .eq 22, 3) := dk_153 0 22 (dk_at dksX18_isGood_0 12 rfl rfl)
theorem dX18_isGood_15 : decode cX18_isGood 15 = .ok (.aload_n 1, 1) := dk_43 (dk_at dksX18_isGood_0 15 rfl rfl)
theorem dX18_isGood_16 : decode cX18_isGood 16 = .ok (.getfield 21, 3) := dk_180 0 21 (dk_at dksX18_isGood_0 16 rfl rfl)
theorem dX18_isGood_19 : decode cX18_isGood 19 = .ok (.aload_n 0, 1) := dk_42 (dk_at dksX18_isGood_0 19 rfl rfl)
theorem dX18_isGood_20 : decode cX18_isGood 20 = .ok (.getfield 9, 3) := dk_180 0 9 (dk_at dksX18_isGood_0 20 rfl rfl)
theorem dX18_isGood_23 : decode cX18_isGood 23 = .ok (.iadd, 1) := dk_96 (dk_at dksX18_isGood_0 23 rfl rfl)
theorem dX18_isGood_24 : decode cX18_isGood 24 = .ok (.sipush 999, 3) := dk_17 3 231 (dk_at dksX18_isGood_1 0 rfl rfl)
theorem dX18_isGood_27 : decode cX18_isGood 27 = .ok (.if_icmp .gt 7, 3) := dk_163 0 7 (dk_at dksX18_isGood_1 3 rfl rfl)
theorem dX18_isGood_30 : decode cX18_isGood 30 = .ok (.iconst 1, 1) := dk_4 (dk_at dksX18_isGood_1 6 rfl rfl)
theorem dX18_isGood_31 : decode cX18_isGood 31 = .ok (.goto 4, 3) := dk_167 0 4 (dk_at dksX18_isGood_1 7 rfl rfl)
theorem dX18_isGood_34 : decode cX18_isGood 34 = .ok (.iconst 0, 1) := dk_3 (dk_at dksX18_isGood_1 10 rfl rfl)
theorem dX18_isGood_35 : decode cX18_isGood 35 = .ok (.ireturn, 1) := dk_172 (dk_at dksX18_isGood_1 11 rfl rfl)
abbrev cX18_become : ByteArray := prog_6_method_3_code
def yX18_become : MethodName := ⟨RX18, "become", "(LWellOfTheSilent$Hill;)V"⟩
def dkwX18_become_0 : List UInt8 := [43, 42, 180, 0, 9, 182, 0, 26, 87, 177]
abbrev dktX18_become_0 : List UInt8 := dkwX18_become_0 ++ []
theorem dksX18_become_0 : cX18_become.data.toList.drop 0 = dktX18_become_0 := by decide +kernel
theorem dX18_become_0 : decode cX18_become 0 = .ok (.aload_n 1, 1) := dk_43 (dk_at dksX18_become_0 0 rfl rfl)
theorem dX18_become_1 : decode cX18_become 1 = .ok (.aload_n 0, 1) := dk_42 (dk_at dksX18_become_0 1 rfl rfl)
theorem dX18_become_2 : decode cX18_become 2 = .ok (.getfield 9, 3) := dk_180 0 9 (dk_at dksX18_become_0 2 rfl rfl)
theorem dX18_become_5 : decode cX18_become 5 = .ok (.invokevirtual 26, 3) := dk_182 0 26 (dk_at dksX18_become_0 5 rfl rfl)
theorem dX18_become_8 : decode cX18_become 8 = .ok (.pop, 1) := dk_87 (dk_at dksX18_become_0 8 rfl rfl)
theorem dX18_become_9 : decode cX18_become 9 = .ok (.return_, 1) := dk_177 (dk_at dksX18_become_0 9 rfl rfl)
theorem q106 : (Jvm.Cond.initialized "WellOfTheSilent$HoursTold") ∈ lw_all := lw_g (lw_at lw_m1 22 rfl) rfl
theorem q202 : (Jvm.Cond.fieldLinkNest "WellOfTheSilent$HoursTold" (21 : Nat) "WellOfTheSilent$Hill" "hour" "I" "WellOfTheSilent") ∈ lw_tbl := lw_at lw_m1 118 rfl
theorem q461 : (Jvm.Cond.fieldLink "WellOfTheSilent$HoursTold" (9 : Nat) "WellOfTheSilent$HoursTold" "first" "I") ∈ lw_all := lw_g (lw_at lw_m2 137 rfl) rfl
theorem q462 : (Jvm.Cond.sameField "WellOfTheSilent$HoursTold" "WellOfTheSilent$Told" "first" "I") ∈ lw_all := lw_g (lw_at lw_m2 138 rfl) rfl
theorem q509 : (Jvm.Cond.instantiable "WellOfTheSilent$HoursTold" (2 : Nat)) ∈ lw_all := lw_g (lw_at lw_m2 185 rfl) rfl
theorem q511 : (Jvm.Cond.instanceMethod ({ cls := "WellOfTheSilent$HoursTold", name := "<init>", desc := "(II)V" } : Jvm.MethodName)) ∈ lw_all := lw_g (lw_at lw_m2 187 rfl) rfl
theorem q512 : (Jvm.Cond.code ({ cls := "WellOfTheSilent$HoursTold", name := "<init>", desc := "(II)V" } : Jvm.MethodName) prog_6_method_1_code (3 : Nat) (Option.none : Option Jvm.ClassFile.FieldType)) ∈ lw_all := lw_g (lw_at lw_m2 188 rfl) rfl
theorem q513 : (Jvm.Cond.methodLink "WellOfTheSilent$HoursTold" (3 : Nat) ({ cls := "WellOfTheSilent$Told", name := "<init>", desc := "(II)V" } : Jvm.MethodName)) ∈ lw_all := lw_g (lw_at lw_m2 189 rfl) rfl
theorem q514 : (Jvm.Cond.laysFinal "WellOfTheSilent$HoursTold" "WellOfTheSilent$Told" "start" "I") ∈ lw_all := lw_g (lw_at lw_m2 190 rfl) rfl
theorem q515 : (Jvm.Cond.laysFinal "WellOfTheSilent$HoursTold" "WellOfTheSilent$Told" "first" "I") ∈ lw_all := lw_g (lw_at lw_m2 191 rfl) rfl
theorem q516 : (Jvm.Cond.superclass "WellOfTheSilent$HoursTold" "WellOfTheSilent$Told") ∈ lw_all := lw_g (lw_at lw_m2 192 rfl) rfl
theorem q572 : (Jvm.Cond.selects "WellOfTheSilent$HoursTold" ({ cls := "WellOfTheSilent$Told", name := "comes", desc := "(LWellOfTheSilent$Hill;)Z" } : Jvm.MethodName) ({ cls := "WellOfTheSilent$Told", name := "comes", desc := "(LWellOfTheSilent$Hill;)Z" } : Jvm.MethodName)) ∈ lw_all := lw_g (lw_at lw_m3 8 rfl) rfl
theorem q590 : (Jvm.Cond.selects "WellOfTheSilent$HoursTold" ({ cls := "WellOfTheSilent$Told", name := "isGood", desc := "(LWellOfTheSilent$Hill;)Z" } : Jvm.MethodName) ({ cls := "WellOfTheSilent$HoursTold", name := "isGood", desc := "(LWellOfTheSilent$Hill;)Z" } : Jvm.MethodName)) ∈ lw_all := lw_g (lw_at lw_m3 26 rfl) rfl
theorem q591 : (Jvm.Cond.instanceMethod ({ cls := "WellOfTheSilent$HoursTold", name := "isGood", desc := "(LWellOfTheSilent$Hill;)Z" } : Jvm.MethodName)) ∈ lw_all := lw_g (lw_at lw_m3 27 rfl) rfl
theorem q592 : (Jvm.Cond.code ({ cls := "WellOfTheSilent$HoursTold", name := "isGood", desc := "(LWellOfTheSilent$Hill;)Z" } : Jvm.MethodName) prog_6_method_2_code (2 : Nat) (Option.some Jvm.ClassFile.FieldType.boolean)) ∈ lw_all := lw_g (lw_at lw_m3 28 rfl) rfl
theorem q593 : (Jvm.Cond.constantLong "WellOfTheSilent$HoursTold" (15 : Nat) (60 : Int64)) ∈ lw_all := lw_g (lw_at lw_m3 29 rfl) rfl
theorem q594 : (Jvm.Cond.methodLinkNest "WellOfTheSilent$HoursTold" (17 : Nat) ({ cls := "WellOfTheSilent", name := "in", desc := "(JJJ)Z" } : Jvm.MethodName) "WellOfTheSilent") ∈ lw_tbl := lw_at lw_m3 30 rfl
theorem q612 : (Jvm.Cond.selects "WellOfTheSilent$HoursTold" ({ cls := "WellOfTheSilent$Told", name := "become", desc := "(LWellOfTheSilent$Hill;)V" } : Jvm.MethodName) ({ cls := "WellOfTheSilent$HoursTold", name := "become", desc := "(LWellOfTheSilent$Hill;)V" } : Jvm.MethodName)) ∈ lw_all := lw_g (lw_at lw_m3 48 rfl) rfl
theorem q613 : (Jvm.Cond.instanceMethod ({ cls := "WellOfTheSilent$HoursTold", name := "become", desc := "(LWellOfTheSilent$Hill;)V" } : Jvm.MethodName)) ∈ lw_all := lw_g (lw_at lw_m3 49 rfl) rfl
theorem q614 : (Jvm.Cond.code ({ cls := "WellOfTheSilent$HoursTold", name := "become", desc := "(LWellOfTheSilent$Hill;)V" } : Jvm.MethodName) prog_6_method_3_code (2 : Nat) (Option.none : Option Jvm.ClassFile.FieldType)) ∈ lw_all := lw_g (lw_at lw_m3 50 rfl) rfl
theorem q615 : (Jvm.Cond.methodLink "WellOfTheSilent$HoursTold" (26 : Nat) ({ cls := "WellOfTheSilent$Hill", name := "hoursOn", desc := "(I)LWellOfTheSilent$Hill;" } : Jvm.MethodName)) ∈ lw_all := lw_g (lw_at lw_m3 51 rfl) rfl
theorem q1526 : (Jvm.Cond.castable "WellOfTheSilent$HoursTold" "WellOfTheSilent$Told") ∈ lw_tbl := lw_at lw_m7 2 rfl
theorem in_X18 : ∀ w ∈ wsX180, w ∈ lw_all := lw_in wsX180 [514, 515] (by decide +kernel) (by decide +kernel)
/-! WellOfTheSilent$OneTold -/
set_option maxRecDepth 100000
def RX19 : String := "WellOfTheSilent$OneTold"
abbrev cX19_init : ByteArray := prog_10_method_1_code
def yX19_init : MethodName := ⟨RX19, "<init>", "(III)V"⟩
def dkwX19_init_0 : List UInt8 := [42, 27, 28, 183, 0, 1, 42, 29, 181, 0, 7, 177]
abbrev dktX19_init_0 : List UInt8 := dkwX19_init_0 ++ []
theorem dksX19_init_0 : cX19_init.data.toList.drop 0 = dktX19_init_0 := by decide +kernel
theorem dX19_init_0 : decode cX19_init 0 = .ok (.aload_n 0, 1) := dk_42 (dk_at dksX19_init_0 0 rfl rfl)
theorem dX19_init_1 : decode cX19_init 1 = .ok (.iload_n 1, 1) := dk_27 (dk_at dksX19_init_0 1 rfl rfl)
theorem dX19_init_2 : decode cX19_init 2 = .ok (.iload_n 2, 1) := dk_28 (dk_at dksX19_init_0 2 rfl rfl)
theorem dX19_init_3 : decode cX19_init 3 = .ok (.invokespecial 1, 3) := dk_183 0 1 (dk_at dksX19_init_0 3 rfl rfl)
theorem dX19_init_6 : decode cX19_init 6 = .ok (.aload_n 0, 1) := dk_42 (dk_at dksX19_init_0 6 rfl rfl)
theorem dX19_init_7 : decode cX19_init 7 = .ok (.iload_n 3, 1) := dk_29 (dk_at dksX19_init_0 7 rfl rfl)
theorem dX19_init_8 : decode cX19_init 8 = .ok (.putfield 7, 3) := dk_181 0 7 (dk_at dksX19_init_0 8 rfl rfl)
theorem dX19_init_11 : decode cX19_init 11 = .ok (.return_, 1) := dk_177 (dk_at dksX19_init_0 11 rfl rfl)
abbrev cX19_isGood : ByteArray := prog_10_method_2_code
def yX19_isGood : MethodName := ⟨RX19, "isGood", "(LWellOfTheSilent$Hill;)Z"⟩
def dkwX19_isGood_0 : List UInt8 := [42, 180, 0, 13, 43, 180, 0, 16, 162, 0, 7, 4, 167, 0, 4, 3, 172]
abbrev dktX19_isGood_0 : List UInt8 := dkwX19_isGood_0 ++ []
theorem dksX19_isGood_0 : cX19_isGood.data.toList.drop 0 = dktX19_isGood_0 := by decide +kernel
theorem dX19_isGood_0 : decode cX19_isGood 0 = .ok (.aload_n 0, 1) := dk_42 (dk_at dksX19_isGood_0 0 rfl rfl)
theorem dX19_isGood_1 : decode cX19_isGood 1 = .ok (.getfield 13, 3) := dk_180 0 13 (dk_at dksX19_isGood_0 1 rfl rfl)
theorem dX19_isGood_4 : decode cX19_isGood 4 = .ok (.aload_n 1, 1) := dk_43 (dk_at dksX19_isGood_0 4 rfl rfl)
theorem dX19_isGood_5 : decode cX19_isGood 5 = .ok (.getfield 16, 3) := dk_180 0 16 (dk_at dksX19_isGood_0 5 rfl rfl)
theorem dX19_isGood_8 : decode cX19_isGood 8 = .ok (.if_icmp .ge 7, 3) := dk_162 0 7 (dk_at dksX19_isGood_0 8 rfl rfl)
theorem dX19_isGood_11 : decode cX19_isGood 11 = .ok (.iconst 1, 1) := dk_4 (dk_at dksX19_isGood_0 11 rfl rfl)
theorem dX19_isGood_12 : decode cX19_isGood 12 = .ok (.goto 4, 3) := dk_167 0 4 (dk_at dksX19_isGood_0 12 rfl rfl)
theorem dX19_isGood_15 : decode cX19_isGood 15 = .ok (.iconst 0, 1) := dk_3 (dk_at dksX19_isGood_0 15 rfl rfl)
theorem dX19_isGood_16 : decode cX19_isGood 16 = .ok (.ireturn, 1) := dk_172 (dk_at dksX19_isGood_0 16 rfl rfl)
theorem q107 : (Jvm.Cond.initialized "WellOfTheSilent$OneTold") ∈ lw_all := lw_g (lw_at lw_m1 23 rfl) rfl
theorem q177 : (Jvm.Cond.fieldLinkNest "WellOfTheSilent$OneTold" (16 : Nat) "WellOfTheSilent$Hill" "people" "I" "WellOfTheSilent") ∈ lw_tbl := lw_at lw_m1 93 rfl
theorem q459 : (Jvm.Cond.fieldLink "WellOfTheSilent$OneTold" (13 : Nat) "WellOfTheSilent$OneTold" "first" "I") ∈ lw_all := lw_g (lw_at lw_m2 135 rfl) rfl
theorem q460 : (Jvm.Cond.sameField "WellOfTheSilent$OneTold" "WellOfTheSilent$Told" "first" "I") ∈ lw_all := lw_g (lw_at lw_m2 136 rfl) rfl
theorem q523 : (Jvm.Cond.instanceMethod ({ cls := "WellOfTheSilent$OneTold", name := "<init>", desc := "(III)V" } : Jvm.MethodName)) ∈ lw_all := lw_g (lw_at lw_m2 199 rfl) rfl
theorem q524 : (Jvm.Cond.code ({ cls := "WellOfTheSilent$OneTold", name := "<init>", desc := "(III)V" } : Jvm.MethodName) prog_10_method_1_code (4 : Nat) (Option.none : Option Jvm.ClassFile.FieldType)) ∈ lw_all := lw_g (lw_at lw_m2 200 rfl) rfl
theorem q525 : (Jvm.Cond.methodLink "WellOfTheSilent$OneTold" (1 : Nat) ({ cls := "WellOfTheSilent$Told", name := "<init>", desc := "(II)V" } : Jvm.MethodName)) ∈ lw_all := lw_g (lw_at lw_m2 201 rfl) rfl
theorem q526 : (Jvm.Cond.fieldLink "WellOfTheSilent$OneTold" (7 : Nat) "WellOfTheSilent$OneTold" "number" "I") ∈ lw_all := lw_g (lw_at lw_m2 202 rfl) rfl
theorem q532 : (Jvm.Cond.soleField "WellOfTheSilent$OneTold" "number") ∈ lw_all := lw_g (lw_at lw_m2 208 rfl) rfl
theorem q588 : (Jvm.Cond.instanceMethod ({ cls := "WellOfTheSilent$OneTold", name := "isGood", desc := "(LWellOfTheSilent$Hill;)Z" } : Jvm.MethodName)) ∈ lw_all := lw_g (lw_at lw_m3 24 rfl) rfl
theorem q589 : (Jvm.Cond.code ({ cls := "WellOfTheSilent$OneTold", name := "isGood", desc := "(LWellOfTheSilent$Hill;)Z" } : Jvm.MethodName) prog_10_method_2_code (2 : Nat) (Option.some Jvm.ClassFile.FieldType.boolean)) ∈ lw_all := lw_g (lw_at lw_m3 25 rfl) rfl
theorem q1510 : (Jvm.Cond.sameMethod "WellOfTheSilent$OneTold" "WellOfTheSilent$OneTold" "isGood" "(LWellOfTheSilent$Hill;)Z") ∈ lw_all := lw_g (lw_at lw_m6 226 rfl) rfl
/-! WellOfTheSilent$Person -/
set_option maxRecDepth 100000
def RX2 : String := "WellOfTheSilent$Person"
abbrev cX2_init : ByteArray := prog_11_method_1_code
def yX2_init : MethodName := ⟨RX2, "<init>", "()V"⟩
theorem dX2_init_0 : decode cX2_init 0 = .ok (.aload_n 0, 1) := by decide +kernel
theorem dX2_init_1 : decode cX2_init 1 = .ok (.invokespecial 1, 3) := by decide +kernel
theorem dX2_init_4 : decode cX2_init 4 = .ok (.return_, 1) := by decide +kernel
abbrev cX2_speaksIn : ByteArray := prog_11_method_3_code
def yX2_speaksIn : MethodName := ⟨RX2, "speaksIn", "(I)I"⟩
def dkwX2_speaksIn_0 : List UInt8 := [27, 5, 108, 4, 96, 172]
abbrev dktX2_speaksIn_0 : List UInt8 := dkwX2_speaksIn_0 ++ []
theorem dksX2_speaksIn_0 : cX2_speaksIn.data.toList.drop 0 = dktX2_speaksIn_0 := by decide +kernel
theorem dX2_speaksIn_0 : decode cX2_speaksIn 0 = .ok (.iload_n 1, 1) := dk_27 (dk_at dksX2_speaksIn_0 0 rfl rfl)
theorem dX2_speaksIn_1 : decode cX2_speaksIn 1 = .ok (.iconst 2, 1) := dk_5 (dk_at dksX2_speaksIn_0 1 rfl rfl)
theorem dX2_speaksIn_2 : decode cX2_speaksIn 2 = .ok (.idiv, 1) := dk_108 (dk_at dksX2_speaksIn_0 2 rfl rfl)
theorem dX2_speaksIn_3 : decode cX2_speaksIn 3 = .ok (.iconst 1, 1) := dk_4 (dk_at dksX2_speaksIn_0 3 rfl rfl)
theorem dX2_speaksIn_4 : decode cX2_speaksIn 4 = .ok (.iadd, 1) := dk_96 (dk_at dksX2_speaksIn_0 4 rfl rfl)
theorem dX2_speaksIn_5 : decode cX2_speaksIn 5 = .ok (.ireturn, 1) := dk_172 (dk_at dksX2_speaksIn_0 5 rfl rfl)
abbrev cX2_drinks : ByteArray := prog_11_method_4_code
def yX2_drinks : MethodName := ⟨RX2, "drinks", "()I"⟩
theorem dX2_drinks_0 : decode cX2_drinks 0 = .ok (.iconst 3, 1) := by decide +kernel
theorem dX2_drinks_1 : decode cX2_drinks 1 = .ok (.ireturn, 1) := by decide +kernel
abbrev cX2_kind : ByteArray := prog_11_method_2_code
def yX2_kind : MethodName := ⟨RX2, "kind", "()I"⟩
theorem dX2_kind_0 : decode cX2_kind 0 = .ok (.iconst 0, 1) := by decide +kernel
theorem dX2_kind_1 : decode cX2_kind 1 = .ok (.ireturn, 1) := by decide +kernel
theorem q87 : (Jvm.Cond.initialized "WellOfTheSilent$Person") ∈ lw_all := lw_g (lw_at lw_m1 3 rfl) rfl
theorem q124 : (Jvm.Cond.instantiable "WellOfTheSilent$Person" (0 : Nat)) ∈ lw_all := lw_g (lw_at lw_m1 40 rfl) rfl
theorem q126 : (Jvm.Cond.instanceMethod ({ cls := "WellOfTheSilent$Person", name := "<init>", desc := "()V" } : Jvm.MethodName)) ∈ lw_all := lw_g (lw_at lw_m1 42 rfl) rfl
theorem q127 : (Jvm.Cond.code ({ cls := "WellOfTheSilent$Person", name := "<init>", desc := "()V" } : Jvm.MethodName) prog_11_method_1_code (1 : Nat) (Option.none : Option Jvm.ClassFile.FieldType)) ∈ lw_all := lw_g (lw_at lw_m1 43 rfl) rfl
theorem q128 : (Jvm.Cond.methodLinkNest "WellOfTheSilent$Person" (1 : Nat) ({ cls := "WellOfTheSilent$Kind", name := "<init>", desc := "()V" } : Jvm.MethodName) "WellOfTheSilent") ∈ lw_tbl := lw_at lw_m1 44 rfl
theorem q132 : (Jvm.Cond.superclass "WellOfTheSilent$Person" "WellOfTheSilent$Kind") ∈ lw_all := lw_g (lw_at lw_m1 48 rfl) rfl
theorem q642 : (Jvm.Cond.selects "WellOfTheSilent$Person" ({ cls := "WellOfTheSilent$Kind", name := "speaksIn", desc := "(I)I" } : Jvm.MethodName) ({ cls := "WellOfTheSilent$Person", name := "speaksIn", desc := "(I)I" } : Jvm.MethodName)) ∈ lw_all := lw_g (lw_at lw_m3 78 rfl) rfl
theorem q643 : (Jvm.Cond.instanceMethod ({ cls := "WellOfTheSilent$Person", name := "speaksIn", desc := "(I)I" } : Jvm.MethodName)) ∈ lw_all := lw_g (lw_at lw_m3 79 rfl) rfl
theorem q644 : (Jvm.Cond.code ({ cls := "WellOfTheSilent$Person", name := "speaksIn", desc := "(I)I" } : Jvm.MethodName) prog_11_method_3_code (2 : Nat) (Option.some Jvm.ClassFile.FieldType.int)) ∈ lw_all := lw_g (lw_at lw_m3 80 rfl) rfl
theorem q667 : (Jvm.Cond.selects "WellOfTheSilent$Person" ({ cls := "WellOfTheSilent$Kind", name := "drawsSpoken", desc := "()Z" } : Jvm.MethodName) ({ cls := "WellOfTheSilent$Kind", name := "drawsSpoken", desc := "()Z" } : Jvm.MethodName)) ∈ lw_all := lw_g (lw_at lw_m3 103 rfl) rfl
theorem q683 : (Jvm.Cond.instanceMethod ({ cls := "WellOfTheSilent$Person", name := "drinks", desc := "()I" } : Jvm.MethodName)) ∈ lw_all := lw_g (lw_at lw_m3 119 rfl) rfl
theorem q684 : (Jvm.Cond.code ({ cls := "WellOfTheSilent$Person", name := "drinks", desc := "()I" } : Jvm.MethodName) prog_11_method_4_code (1 : Nat) (Option.some Jvm.ClassFile.FieldType.int)) ∈ lw_all := lw_g (lw_at lw_m3 120 rfl) rfl
theorem q688 : (Jvm.Cond.selects "WellOfTheSilent$Person" ({ cls := "WellOfTheSilent$Kind", name := "drinks", desc := "()I" } : Jvm.MethodName) ({ cls := "WellOfTheSilent$Person", name := "drinks", desc := "()I" } : Jvm.MethodName)) ∈ lw_all := lw_g (lw_at lw_m3 124 rfl) rfl
theorem q738 : (Jvm.Cond.selects "WellOfTheSilent$Person" ({ cls := "WellOfTheSilent$Kind", name := "kind", desc := "()I" } : Jvm.MethodName) ({ cls := "WellOfTheSilent$Person", name := "kind", desc := "()I" } : Jvm.MethodName)) ∈ lw_all := lw_g (lw_at lw_m3 174 rfl) rfl
theorem q739 : (Jvm.Cond.instanceMethod ({ cls := "WellOfTheSilent$Person", name := "kind", desc := "()I" } : Jvm.MethodName)) ∈ lw_all := lw_g (lw_at lw_m3 175 rfl) rfl
theorem q740 : (Jvm.Cond.code ({ cls := "WellOfTheSilent$Person", name := "kind", desc := "()I" } : Jvm.MethodName) prog_11_method_2_code (1 : Nat) (Option.some Jvm.ClassFile.FieldType.int)) ∈ lw_all := lw_g (lw_at lw_m3 176 rfl) rfl
theorem q1512 : (Jvm.Cond.sameMethod "WellOfTheSilent$Person" "WellOfTheSilent$Person" "speaksIn" "(I)I") ∈ lw_all := lw_g (lw_at lw_m6 228 rfl) rfl
theorem q1513 : (Jvm.Cond.sameMethod "WellOfTheSilent$Person" "WellOfTheSilent$Person" "drinks" "()I") ∈ lw_all := lw_g (lw_at lw_m6 229 rfl) rfl
theorem q1517 : (Jvm.Cond.castable "WellOfTheSilent$Person" "WellOfTheSilent$Kind") ∈ lw_tbl := lw_at lw_m6 233 rfl
/-! WellOfTheSilent$WordTold -/
set_option maxRecDepth 100000
def RX20 : String := "WellOfTheSilent$WordTold"
def TX20 : u_T := fun k => match k with
  | 0 => ("WellOfTheSilent$OneTold", "number", "I", true)
  | 1 => ("WellOfTheSilent$Told", "start", "I", true)
  | _ => ("WellOfTheSilent$Told", "first", "I", true)
def tyX20 : Nat → FieldType := fun k => match k with
  | 0 => .int
  | 1 => .int
  | _ => .int
abbrev wsX200 : List Cond := u_ws RX20 TX20 3
theorem nmX20 : ∀ a, a < 3 → ∀ b, b < 3 → a ≠ b → (TX20 a).2.1 ≠ (TX20 b).2.1 := by decide +kernel
theorem tyX20_ok : ∀ k, k < 3 → parseFieldDescriptor (TX20 k).2.2.1 = some (tyX20 k) := by decide +kernel
abbrev cX20_init : ByteArray := prog_22_method_1_code
def yX20_init : MethodName := ⟨RX20, "<init>", "(II)V"⟩
def dkwX20_init_0 : List UInt8 := [42, 27, 28, 3, 183, 0, 1, 177]
abbrev dktX20_init_0 : List UInt8 := dkwX20_init_0 ++ []
theorem dksX20_init_0 : cX20_init.data.toList.drop 0 = dktX20_init_0 := by decide +kernel
theorem dX20_init_0 : decode cX20_init 0 = .ok (.aload_n 0, 1) := dk_42 (dk_at dksX20_init_0 0 rfl rfl)
theorem dX20_init_1 : decode cX20_init 1 = .ok (.iload_n 1, 1) := dk_27 (dk_at dksX20_init_0 1 rfl rfl)
theorem dX20_init_2 : decode cX20_init 2 = .ok (.iload_n 2, 1) := dk_28 (dk_at dksX20_init_0 2 rfl rfl)
theorem dX20_init_3 : decode cX20_init 3 = .ok (.iconst 0, 1) := dk_3 (dk_at dksX20_init_0 3 rfl rfl)
theorem dX20_init_4 : decode cX20_init 4 = .ok (.invokespecial 1, 3) := dk_183 0 1 (dk_at dksX20_init_0 4 rfl rfl)
theorem dX20_init_7 : decode cX20_init 7 = .ok (.return_, 1) := dk_177 (dk_at dksX20_init_0 7 rfl rfl)
abbrev cX20_become : ByteArray := prog_22_method_2_code
def yX20_become : MethodName := ⟨RX20, "become", "(LWellOfTheSilent$Hill;)V"⟩
def dkwX20_become_0 : List UInt8 := [43, 89, 180, 0, 7, 4, 42, 180, 0, 13, 120, 128, 181, 0, 7, 177]
abbrev dktX20_become_0 : List UInt8 := dkwX20_become_0 ++ []
theorem dksX20_become_0 : cX20_become.data.toList.drop 0 = dktX20_become_0 := by decide +kernel
theorem dX20_become_0 : decode cX20_become 0 = .ok (.aload_n 1, 1) := dk_43 (dk_at dksX20_become_0 0 rfl rfl)
theorem dX20_become_1 : decode cX20_become 1 = .ok (.dup, 1) := dk_89 (dk_at dksX20_become_0 1 rfl rfl)
theorem dX20_become_2 : decode cX20_become 2 = .ok (.getfield 7, 3) := dk_180 0 7 (dk_at dksX20_become_0 2 rfl rfl)
theorem dX20_become_5 : decode cX20_become 5 = .ok (.iconst 1, 1) := dk_4 (dk_at dksX20_become_0 5 rfl rfl)
theorem dX20_become_6 : decode cX20_become 6 = .ok (.aload_n 0, 1) := dk_42 (dk_at dksX20_become_0 6 rfl rfl)
theorem dX20_become_7 : decode cX20_become 7 = .ok (.getfield 13, 3) := dk_180 0 13 (dk_at dksX20_become_0 7 rfl rfl)
theorem dX20_become_10 : decode cX20_become 10 = .ok (.ishl, 1) := dk_120 (dk_at dksX20_become_0 10 rfl rfl)
theorem dX20_become_11 : decode cX20_become 11 = .ok (.ior, 1) := dk_128 (dk_at dksX20_become_0 11 rfl rfl)
theorem dX20_become_12 : decode cX20_become 12 = .ok (.putfield 7, 3) := dk_181 0 7 (dk_at dksX20_become_0 12 rfl rfl)
theorem dX20_become_15 : decode cX20_become 15 = .ok (.return_, 1) := dk_177 (dk_at dksX20_become_0 15 rfl rfl)
theorem q108 : (Jvm.Cond.initialized "WellOfTheSilent$WordTold") ∈ lw_all := lw_g (lw_at lw_m1 24 rfl) rfl
theorem q191 : (Jvm.Cond.fieldLinkNest "WellOfTheSilent$WordTold" (7 : Nat) "WellOfTheSilent$Hill" "spoken" "I" "WellOfTheSilent") ∈ lw_tbl := lw_at lw_m1 107 rfl
theorem q465 : (Jvm.Cond.fieldLink "WellOfTheSilent$WordTold" (13 : Nat) "WellOfTheSilent$WordTold" "first" "I") ∈ lw_all := lw_g (lw_at lw_m2 141 rfl) rfl
theorem q466 : (Jvm.Cond.sameField "WellOfTheSilent$WordTold" "WellOfTheSilent$Told" "first" "I") ∈ lw_all := lw_g (lw_at lw_m2 142 rfl) rfl
theorem q518 : (Jvm.Cond.instantiable "WellOfTheSilent$WordTold" (3 : Nat)) ∈ lw_all := lw_g (lw_at lw_m2 194 rfl) rfl
theorem q520 : (Jvm.Cond.instanceMethod ({ cls := "WellOfTheSilent$WordTold", name := "<init>", desc := "(II)V" } : Jvm.MethodName)) ∈ lw_all := lw_g (lw_at lw_m2 196 rfl) rfl
theorem q521 : (Jvm.Cond.code ({ cls := "WellOfTheSilent$WordTold", name := "<init>", desc := "(II)V" } : Jvm.MethodName) prog_22_method_1_code (3 : Nat) (Option.none : Option Jvm.ClassFile.FieldType)) ∈ lw_all := lw_g (lw_at lw_m2 197 rfl) rfl
theorem q522 : (Jvm.Cond.methodLink "WellOfTheSilent$WordTold" (1 : Nat) ({ cls := "WellOfTheSilent$OneTold", name := "<init>", desc := "(III)V" } : Jvm.MethodName)) ∈ lw_all := lw_g (lw_at lw_m2 198 rfl) rfl
theorem q531 : (Jvm.Cond.laysFinal "WellOfTheSilent$WordTold" "WellOfTheSilent$OneTold" "number" "I") ∈ lw_all := lw_g (lw_at lw_m2 207 rfl) rfl
theorem q533 : (Jvm.Cond.laysFinal "WellOfTheSilent$WordTold" "WellOfTheSilent$Told" "start" "I") ∈ lw_all := lw_g (lw_at lw_m2 209 rfl) rfl
theorem q534 : (Jvm.Cond.laysFinal "WellOfTheSilent$WordTold" "WellOfTheSilent$Told" "first" "I") ∈ lw_all := lw_g (lw_at lw_m2 210 rfl) rfl
theorem q535 : (Jvm.Cond.superclass "WellOfTheSilent$WordTold" "WellOfTheSilent$OneTold") ∈ lw_all := lw_g (lw_at lw_m2 211 rfl) rfl
theorem q576 : (Jvm.Cond.selects "WellOfTheSilent$WordTold" ({ cls := "WellOfTheSilent$Told", name := "comes", desc := "(LWellOfTheSilent$Hill;)Z" } : Jvm.MethodName) ({ cls := "WellOfTheSilent$Told", name := "comes", desc := "(LWellOfTheSilent$Hill;)Z" } : Jvm.MethodName)) ∈ lw_all := lw_g (lw_at lw_m3 12 rfl) rfl
theorem q602 : (Jvm.Cond.selects "WellOfTheSilent$WordTold" ({ cls := "WellOfTheSilent$Told", name := "isGood", desc := "(LWellOfTheSilent$Hill;)Z" } : Jvm.MethodName) ({ cls := "WellOfTheSilent$OneTold", name := "isGood", desc := "(LWellOfTheSilent$Hill;)Z" } : Jvm.MethodName)) ∈ lw_all := lw_g (lw_at lw_m3 38 rfl) rfl
theorem q711 : (Jvm.Cond.selects "WellOfTheSilent$WordTold" ({ cls := "WellOfTheSilent$Told", name := "become", desc := "(LWellOfTheSilent$Hill;)V" } : Jvm.MethodName) ({ cls := "WellOfTheSilent$WordTold", name := "become", desc := "(LWellOfTheSilent$Hill;)V" } : Jvm.MethodName)) ∈ lw_all := lw_g (lw_at lw_m3 147 rfl) rfl
theorem q712 : (Jvm.Cond.instanceMethod ({ cls := "WellOfTheSilent$WordTold", name := "become", desc := "(LWellOfTheSilent$Hill;)V" } : Jvm.MethodName)) ∈ lw_all := lw_g (lw_at lw_m3 148 rfl) rfl
theorem q713 : (Jvm.Cond.code ({ cls := "WellOfTheSilent$WordTold", name := "become", desc := "(LWellOfTheSilent$Hill;)V" } : Jvm.MethodName) prog_22_method_2_code (2 : Nat) (Option.none : Option Jvm.ClassFile.FieldType)) ∈ lw_all := lw_g (lw_at lw_m3 149 rfl) rfl
theorem q1527 : (Jvm.Cond.castable "WellOfTheSilent$WordTold" "WellOfTheSilent$Told") ∈ lw_tbl := lw_at lw_m7 3 rfl
theorem in_X20 : ∀ w ∈ wsX200, w ∈ lw_all := lw_in wsX200 [531, 533, 534] (by decide +kernel) (by decide +kernel)
/-! WellOfTheSilent$FriendTold -/
set_option maxRecDepth 100000
def RX21 : String := "WellOfTheSilent$FriendTold"
def TX21 : u_T := fun k => match k with
  | 0 => ("WellOfTheSilent$OneTold", "number", "I", true)
  | 1 => ("WellOfTheSilent$Told", "start", "I", true)
  | _ => ("WellOfTheSilent$Told", "first", "I", true)
def tyX21 : Nat → FieldType := fun k => match k with
  | 0 => .int
  | 1 => .int
  | _ => .int
abbrev wsX210 : List Cond := u_ws RX21 TX21 3
theorem nmX21 : ∀ a, a < 3 → ∀ b, b < 3 → a ≠ b → (TX21 a).2.1 ≠ (TX21 b).2.1 := by decide +kernel
theorem tyX21_ok : ∀ k, k < 3 → parseFieldDescriptor (TX21 k).2.2.1 = some (tyX21 k) := by decide +kernel
abbrev cX21_init : ByteArray := prog_4_method_1_code
def yX21_init : MethodName := ⟨RX21, "<init>", "(III)V"⟩
def dkwX21_init_0 : List UInt8 := [42, 27, 28, 29, 183, 0, 3, 177]
abbrev dktX21_init_0 : List UInt8 := dkwX21_init_0 ++ []
theorem dksX21_init_0 : cX21_init.data.toList.drop 0 = dktX21_init_0 := by decide +kernel
theorem dX21_init_0 : decode cX21_init 0 = .ok (.aload_n 0, 1) := dk_42 (dk_at dksX21_init_0 0 rfl rfl)
theorem dX21_init_1 : decode cX21_init 1 = .ok (.iload_n 1, 1) := dk_27 (dk_at dksX21_init_0 1 rfl rfl)
theorem dX21_init_2 : decode cX21_init 2 = .ok (.iload_n 2, 1) := dk_28 (dk_at dksX21_init_0 2 rfl rfl)
theorem dX21_init_3 : decode cX21_init 3 = .ok (.iload_n 3, 1) := dk_29 (dk_at dksX21_init_0 3 rfl rfl)
theorem dX21_init_4 : decode cX21_init 4 = .ok (.invokespecial 3, 3) := dk_183 0 3 (dk_at dksX21_init_0 4 rfl rfl)
theorem dX21_init_7 : decode cX21_init 7 = .ok (.return_, 1) := dk_177 (dk_at dksX21_init_0 7 rfl rfl)
abbrev cX21_isGood : ByteArray := prog_4_method_2_code
def yX21_isGood : MethodName := ⟨RX21, "isGood", "(LWellOfTheSilent$Hill;)Z"⟩
def dkwX21_isGood_0 : List UInt8 := [42, 43, 183, 0, 9, 153, 0, 16, 42, 180, 0, 13, 16, 6, 162, 0, 7, 4, 167, 0, 4, 3, 172]
abbrev dktX21_isGood_0 : List UInt8 := dkwX21_isGood_0 ++ []
theorem dksX21_isGood_0 : cX21_isGood.data.toList.drop 0 = dktX21_isGood_0 := by decide +kernel
theorem dX21_isGood_0 : decode cX21_isGood 0 = .ok (.aload_n 0, 1) := dk_42 (dk_at dksX21_isGood_0 0 rfl rfl)
theorem dX21_isGood_1 : decode cX21_isGood 1 = .ok (.aload_n 1, 1) := dk_43 (dk_at dksX21_isGood_0 1 rfl rfl)
theorem dX21_isGood_2 : decode cX21_isGood 2 = .ok (.invokespecial 9, 3) := dk_183 0 9 (dk_at dksX21_isGood_0 2 rfl rfl)
theorem dX21_isGood_5 : decode cX21_isGood 5 = .ok (.ifCond .eq 16, 3) := dk_153 0 16 (dk_at dksX21_isGood_0 5 rfl rfl)
theorem dX21_isGood_8 : decode cX21_isGood 8 = .ok (.aload_n 0, 1) := dk_42 (dk_at dksX21_isGood_0 8 rfl rfl)
theorem dX21_isGood_9 : decode cX21_isGood 9 = .ok (.getfield 13, 3) := dk_180 0 13 (dk_at dksX21_isGood_0 9 rfl rfl)
theorem dX21_isGood_12 : decode cX21_isGood 12 = .ok (.bipush 6, 2) := dk_16 6 (dk_at dksX21_isGood_0 12 rfl rfl)
theorem dX21_isGood_14 : decode cX21_isGood 14 = .ok (.if_icmp .ge 7, 3) := dk_162 0 7 (dk_at dksX21_isGood_0 14 rfl rfl)
theorem dX21_isGood_17 : decode cX21_isGood 17 = .ok (.iconst 1, 1) := dk_4 (dk_at dksX21_isGood_0 17 rfl rfl)
theorem dX21_isGood_18 : decode cX21_isGood 18 = .ok (.goto 4, 3) := dk_167 0 4 (dk_at dksX21_isGood_0 18 rfl rfl)
theorem dX21_isGood_21 : decode cX21_isGood 21 = .ok (.iconst 0, 1) := dk_3 (dk_at dksX21_isGood_0 21 rfl rfl)
theorem dX21_isGood_22 : decode cX21_isGood 22 = .ok (.ireturn, 1) := dk_172 (dk_at dksX21_isGood_0 22 rfl rfl)
abbrev cX21_become : ByteArray := prog_4_method_3_code
def yX21_become : MethodName := ⟨RX21, "become", "(LWellOfTheSilent$Hill;)V"⟩
def dkwX21_become_0 : List UInt8 := [43, 180, 0, 19, 42, 180, 0, 25, 42, 180, 0, 13, 79, 177]
abbrev dktX21_become_0 : List UInt8 := dkwX21_become_0 ++ []
theorem dksX21_become_0 : cX21_become.data.toList.drop 0 = dktX21_become_0 := by decide +kernel
theorem dX21_become_0 : decode cX21_become 0 = .ok (.aload_n 1, 1) := dk_43 (dk_at dksX21_become_0 0 rfl rfl)
theorem dX21_become_1 : decode cX21_become 1 = .ok (.getfield 19, 3) := dk_180 0 19 (dk_at dksX21_become_0 1 rfl rfl)
theorem dX21_become_4 : decode cX21_become 4 = .ok (.aload_n 0, 1) := dk_42 (dk_at dksX21_become_0 4 rfl rfl)
theorem dX21_become_5 : decode cX21_become 5 = .ok (.getfield 25, 3) := dk_180 0 25 (dk_at dksX21_become_0 5 rfl rfl)
theorem dX21_become_8 : decode cX21_become 8 = .ok (.aload_n 0, 1) := dk_42 (dk_at dksX21_become_0 8 rfl rfl)
theorem dX21_become_9 : decode cX21_become 9 = .ok (.getfield 13, 3) := dk_180 0 13 (dk_at dksX21_become_0 9 rfl rfl)
theorem dX21_become_12 : decode cX21_become 12 = .ok (.iastore, 1) := dk_79 (dk_at dksX21_become_0 12 rfl rfl)
theorem dX21_become_13 : decode cX21_become 13 = .ok (.return_, 1) := dk_177 (dk_at dksX21_become_0 13 rfl rfl)
theorem q109 : (Jvm.Cond.initialized "WellOfTheSilent$FriendTold") ∈ lw_all := lw_g (lw_at lw_m1 25 rfl) rfl
theorem q189 : (Jvm.Cond.fieldLinkNest "WellOfTheSilent$FriendTold" (19 : Nat) "WellOfTheSilent$Hill" "friend" "[I" "WellOfTheSilent") ∈ lw_tbl := lw_at lw_m1 105 rfl
theorem q469 : (Jvm.Cond.fieldLink "WellOfTheSilent$FriendTold" (25 : Nat) "WellOfTheSilent$FriendTold" "first" "I") ∈ lw_all := lw_g (lw_at lw_m2 145 rfl) rfl
theorem q470 : (Jvm.Cond.sameField "WellOfTheSilent$FriendTold" "WellOfTheSilent$Told" "first" "I") ∈ lw_all := lw_g (lw_at lw_m2 146 rfl) rfl
theorem q527 : (Jvm.Cond.fieldLink "WellOfTheSilent$FriendTold" (13 : Nat) "WellOfTheSilent$FriendTold" "number" "I") ∈ lw_all := lw_g (lw_at lw_m2 203 rfl) rfl
theorem q528 : (Jvm.Cond.sameField "WellOfTheSilent$FriendTold" "WellOfTheSilent$OneTold" "number" "I") ∈ lw_all := lw_g (lw_at lw_m2 204 rfl) rfl
theorem q537 : (Jvm.Cond.instantiable "WellOfTheSilent$FriendTold" (3 : Nat)) ∈ lw_all := lw_g (lw_at lw_m2 213 rfl) rfl
theorem q539 : (Jvm.Cond.instanceMethod ({ cls := "WellOfTheSilent$FriendTold", name := "<init>", desc := "(III)V" } : Jvm.MethodName)) ∈ lw_all := lw_g (lw_at lw_m2 215 rfl) rfl
theorem q540 : (Jvm.Cond.code ({ cls := "WellOfTheSilent$FriendTold", name := "<init>", desc := "(III)V" } : Jvm.MethodName) prog_4_method_1_code (4 : Nat) (Option.none : Option Jvm.ClassFile.FieldType)) ∈ lw_all := lw_g (lw_at lw_m2 216 rfl) rfl
theorem q541 : (Jvm.Cond.methodLink "WellOfTheSilent$FriendTold" (3 : Nat) ({ cls := "WellOfTheSilent$OneTold", name := "<init>", desc := "(III)V" } : Jvm.MethodName)) ∈ lw_all := lw_g (lw_at lw_m2 217 rfl) rfl
theorem q542 : (Jvm.Cond.laysFinal "WellOfTheSilent$FriendTold" "WellOfTheSilent$OneTold" "number" "I") ∈ lw_all := lw_g (lw_at lw_m2 218 rfl) rfl
theorem q543 : (Jvm.Cond.laysFinal "WellOfTheSilent$FriendTold" "WellOfTheSilent$Told" "start" "I") ∈ lw_all := lw_g (lw_at lw_m2 219 rfl) rfl
theorem q544 : (Jvm.Cond.laysFinal "WellOfTheSilent$FriendTold" "WellOfTheSilent$Told" "first" "I") ∈ lw_all := lw_g (lw_at lw_m2 220 rfl) rfl
theorem q545 : (Jvm.Cond.superclass "WellOfTheSilent$FriendTold" "WellOfTheSilent$OneTold") ∈ lw_all := lw_g (lw_at lw_m2 221 rfl) rfl
theorem q571 : (Jvm.Cond.selects "WellOfTheSilent$FriendTold" ({ cls := "WellOfTheSilent$Told", name := "comes", desc := "(LWellOfTheSilent$Hill;)Z" } : Jvm.MethodName) ({ cls := "WellOfTheSilent$Told", name := "comes", desc := "(LWellOfTheSilent$Hill;)Z" } : Jvm.MethodName)) ∈ lw_all := lw_g (lw_at lw_m3 7 rfl) rfl
theorem q584 : (Jvm.Cond.selects "WellOfTheSilent$FriendTold" ({ cls := "WellOfTheSilent$Told", name := "isGood", desc := "(LWellOfTheSilent$Hill;)Z" } : Jvm.MethodName) ({ cls := "WellOfTheSilent$FriendTold", name := "isGood", desc := "(LWellOfTheSilent$Hill;)Z" } : Jvm.MethodName)) ∈ lw_all := lw_g (lw_at lw_m3 20 rfl) rfl
theorem q585 : (Jvm.Cond.instanceMethod ({ cls := "WellOfTheSilent$FriendTold", name := "isGood", desc := "(LWellOfTheSilent$Hill;)Z" } : Jvm.MethodName)) ∈ lw_all := lw_g (lw_at lw_m3 21 rfl) rfl
theorem q586 : (Jvm.Cond.code ({ cls := "WellOfTheSilent$FriendTold", name := "isGood", desc := "(LWellOfTheSilent$Hill;)Z" } : Jvm.MethodName) prog_4_method_2_code (2 : Nat) (Option.some Jvm.ClassFile.FieldType.boolean)) ∈ lw_all := lw_g (lw_at lw_m3 22 rfl) rfl
theorem q587 : (Jvm.Cond.methodLink "WellOfTheSilent$FriendTold" (9 : Nat) ({ cls := "WellOfTheSilent$OneTold", name := "isGood", desc := "(LWellOfTheSilent$Hill;)Z" } : Jvm.MethodName)) ∈ lw_all := lw_g (lw_at lw_m3 23 rfl) rfl
theorem q609 : (Jvm.Cond.selects "WellOfTheSilent$FriendTold" ({ cls := "WellOfTheSilent$Told", name := "become", desc := "(LWellOfTheSilent$Hill;)V" } : Jvm.MethodName) ({ cls := "WellOfTheSilent$FriendTold", name := "become", desc := "(LWellOfTheSilent$Hill;)V" } : Jvm.MethodName)) ∈ lw_all := lw_g (lw_at lw_m3 45 rfl) rfl
theorem q610 : (Jvm.Cond.instanceMethod ({ cls := "WellOfTheSilent$FriendTold", name := "become", desc := "(LWellOfTheSilent$Hill;)V" } : Jvm.MethodName)) ∈ lw_all := lw_g (lw_at lw_m3 46 rfl) rfl
theorem q611 : (Jvm.Cond.code ({ cls := "WellOfTheSilent$FriendTold", name := "become", desc := "(LWellOfTheSilent$Hill;)V" } : Jvm.MethodName) prog_4_method_3_code (2 : Nat) (Option.none : Option Jvm.ClassFile.FieldType)) ∈ lw_all := lw_g (lw_at lw_m3 47 rfl) rfl
theorem q1528 : (Jvm.Cond.castable "WellOfTheSilent$FriendTold" "WellOfTheSilent$Told") ∈ lw_tbl := lw_at lw_m7 4 rfl
theorem in_X21 : ∀ w ∈ wsX210, w ∈ lw_all := lw_in wsX210 [542, 543, 544] (by decide +kernel) (by decide +kernel)
/-! WellOfTheSilent$PourTold -/
set_option maxRecDepth 100000
def RX22 : String := "WellOfTheSilent$PourTold"
def TX22 : u_T := fun k => match k with
  | 0 => ("WellOfTheSilent$OneTold", "number", "I", true)
  | 1 => ("WellOfTheSilent$Told", "start", "I", true)
  | _ => ("WellOfTheSilent$Told", "first", "I", true)
def tyX22 : Nat → FieldType := fun k => match k with
  | 0 => .int
  | 1 => .int
  | _ => .int
abbrev wsX220 : List Cond := u_ws RX22 TX22 3
theorem nmX22 : ∀ a, a < 3 → ∀ b, b < 3 → a ≠ b → (TX22 a).2.1 ≠ (TX22 b).2.1 := by decide +kernel
theorem tyX22_ok : ∀ k, k < 3 → parseFieldDescriptor (TX22 k).2.2.1 = some (tyX22 k) := by decide +kernel
abbrev cX22_init : ByteArray := prog_13_method_1_code
def yX22_init : MethodName := ⟨RX22, "<init>", "(III)V"⟩
def dkwX22_init_0 : List UInt8 := [42, 27, 28, 29, 183, 0, 1, 177]
abbrev dktX22_init_0 : List UInt8 := dkwX22_init_0 ++ []
theorem dksX22_init_0 : cX22_init.data.toList.drop 0 = dktX22_init_0 := by decide +kernel
theorem dX22_init_0 : decode cX22_init 0 = .ok (.aload_n 0, 1) := dk_42 (dk_at dksX22_init_0 0 rfl rfl)
theorem dX22_init_1 : decode cX22_init 1 = .ok (.iload_n 1, 1) := dk_27 (dk_at dksX22_init_0 1 rfl rfl)
theorem dX22_init_2 : decode cX22_init 2 = .ok (.iload_n 2, 1) := dk_28 (dk_at dksX22_init_0 2 rfl rfl)
theorem dX22_init_3 : decode cX22_init 3 = .ok (.iload_n 3, 1) := dk_29 (dk_at dksX22_init_0 3 rfl rfl)
theorem dX22_init_4 : decode cX22_init 4 = .ok (.invokespecial 1, 3) := dk_183 0 1 (dk_at dksX22_init_0 4 rfl rfl)
theorem dX22_init_7 : decode cX22_init 7 = .ok (.return_, 1) := dk_177 (dk_at dksX22_init_0 7 rfl rfl)
abbrev cX22_become : ByteArray := prog_13_method_2_code
def yX22_become : MethodName := ⟨RX22, "become", "(LWellOfTheSilent$Hill;)V"⟩
def dkwX22_become_0 : List UInt8 := [43, 180, 0, 7, 42, 180, 0, 13, 42, 180, 0, 19, 79, 177]
abbrev dktX22_become_0 : List UInt8 := dkwX22_become_0 ++ []
theorem dksX22_become_0 : cX22_become.data.toList.drop 0 = dktX22_become_0 := by decide +kernel
theorem dX22_become_0 : decode cX22_become 0 = .ok (.aload_n 1, 1) := dk_43 (dk_at dksX22_become_0 0 rfl rfl)
theorem dX22_become_1 : decode cX22_become 1 = .ok (.getfield 7, 3) := dk_180 0 7 (dk_at dksX22_become_0 1 rfl rfl)
theorem dX22_become_4 : decode cX22_become 4 = .ok (.aload_n 0, 1) := dk_42 (dk_at dksX22_become_0 4 rfl rfl)
theorem dX22_become_5 : decode cX22_become 5 = .ok (.getfield 13, 3) := dk_180 0 13 (dk_at dksX22_become_0 5 rfl rfl)
theorem dX22_become_8 : decode cX22_become 8 = .ok (.aload_n 0, 1) := dk_42 (dk_at dksX22_become_0 8 rfl rfl)
theorem dX22_become_9 : decode cX22_become 9 = .ok (.getfield 19, 3) := dk_180 0 19 (dk_at dksX22_become_0 9 rfl rfl)
theorem dX22_become_12 : decode cX22_become 12 = .ok (.iastore, 1) := dk_79 (dk_at dksX22_become_0 12 rfl rfl)
theorem dX22_become_13 : decode cX22_become 13 = .ok (.return_, 1) := dk_177 (dk_at dksX22_become_0 13 rfl rfl)
theorem q110 : (Jvm.Cond.initialized "WellOfTheSilent$PourTold") ∈ lw_all := lw_g (lw_at lw_m1 26 rfl) rfl
theorem q186 : (Jvm.Cond.fieldLinkNest "WellOfTheSilent$PourTold" (7 : Nat) "WellOfTheSilent$Hill" "full" "[I" "WellOfTheSilent") ∈ lw_tbl := lw_at lw_m1 102 rfl
theorem q463 : (Jvm.Cond.fieldLink "WellOfTheSilent$PourTold" (13 : Nat) "WellOfTheSilent$PourTold" "first" "I") ∈ lw_all := lw_g (lw_at lw_m2 139 rfl) rfl
theorem q464 : (Jvm.Cond.sameField "WellOfTheSilent$PourTold" "WellOfTheSilent$Told" "first" "I") ∈ lw_all := lw_g (lw_at lw_m2 140 rfl) rfl
theorem q529 : (Jvm.Cond.fieldLink "WellOfTheSilent$PourTold" (19 : Nat) "WellOfTheSilent$PourTold" "number" "I") ∈ lw_all := lw_g (lw_at lw_m2 205 rfl) rfl
theorem q530 : (Jvm.Cond.sameField "WellOfTheSilent$PourTold" "WellOfTheSilent$OneTold" "number" "I") ∈ lw_all := lw_g (lw_at lw_m2 206 rfl) rfl
theorem q547 : (Jvm.Cond.instantiable "WellOfTheSilent$PourTold" (3 : Nat)) ∈ lw_all := lw_g (lw_at lw_m2 223 rfl) rfl
theorem q549 : (Jvm.Cond.instanceMethod ({ cls := "WellOfTheSilent$PourTold", name := "<init>", desc := "(III)V" } : Jvm.MethodName)) ∈ lw_all := lw_g (lw_at lw_m2 225 rfl) rfl
theorem q550 : (Jvm.Cond.code ({ cls := "WellOfTheSilent$PourTold", name := "<init>", desc := "(III)V" } : Jvm.MethodName) prog_13_method_1_code (4 : Nat) (Option.none : Option Jvm.ClassFile.FieldType)) ∈ lw_all := lw_g (lw_at lw_m2 226 rfl) rfl
theorem q551 : (Jvm.Cond.methodLink "WellOfTheSilent$PourTold" (1 : Nat) ({ cls := "WellOfTheSilent$OneTold", name := "<init>", desc := "(III)V" } : Jvm.MethodName)) ∈ lw_all := lw_g (lw_at lw_m2 227 rfl) rfl
theorem q552 : (Jvm.Cond.laysFinal "WellOfTheSilent$PourTold" "WellOfTheSilent$OneTold" "number" "I") ∈ lw_all := lw_g (lw_at lw_m2 228 rfl) rfl
theorem q553 : (Jvm.Cond.laysFinal "WellOfTheSilent$PourTold" "WellOfTheSilent$Told" "start" "I") ∈ lw_all := lw_g (lw_at lw_m2 229 rfl) rfl
theorem q554 : (Jvm.Cond.laysFinal "WellOfTheSilent$PourTold" "WellOfTheSilent$Told" "first" "I") ∈ lw_all := lw_g (lw_at lw_m2 230 rfl) rfl
theorem q555 : (Jvm.Cond.superclass "WellOfTheSilent$PourTold" "WellOfTheSilent$OneTold") ∈ lw_all := lw_g (lw_at lw_m2 231 rfl) rfl
theorem q574 : (Jvm.Cond.selects "WellOfTheSilent$PourTold" ({ cls := "WellOfTheSilent$Told", name := "comes", desc := "(LWellOfTheSilent$Hill;)Z" } : Jvm.MethodName) ({ cls := "WellOfTheSilent$Told", name := "comes", desc := "(LWellOfTheSilent$Hill;)Z" } : Jvm.MethodName)) ∈ lw_all := lw_g (lw_at lw_m3 10 rfl) rfl
theorem q598 : (Jvm.Cond.selects "WellOfTheSilent$PourTold" ({ cls := "WellOfTheSilent$Told", name := "isGood", desc := "(LWellOfTheSilent$Hill;)Z" } : Jvm.MethodName) ({ cls := "WellOfTheSilent$OneTold", name := "isGood", desc := "(LWellOfTheSilent$Hill;)Z" } : Jvm.MethodName)) ∈ lw_all := lw_g (lw_at lw_m3 34 rfl) rfl
theorem q705 : (Jvm.Cond.selects "WellOfTheSilent$PourTold" ({ cls := "WellOfTheSilent$Told", name := "become", desc := "(LWellOfTheSilent$Hill;)V" } : Jvm.MethodName) ({ cls := "WellOfTheSilent$PourTold", name := "become", desc := "(LWellOfTheSilent$Hill;)V" } : Jvm.MethodName)) ∈ lw_all := lw_g (lw_at lw_m3 141 rfl) rfl
theorem q706 : (Jvm.Cond.instanceMethod ({ cls := "WellOfTheSilent$PourTold", name := "become", desc := "(LWellOfTheSilent$Hill;)V" } : Jvm.MethodName)) ∈ lw_all := lw_g (lw_at lw_m3 142 rfl) rfl
theorem q707 : (Jvm.Cond.code ({ cls := "WellOfTheSilent$PourTold", name := "become", desc := "(LWellOfTheSilent$Hill;)V" } : Jvm.MethodName) prog_13_method_2_code (2 : Nat) (Option.none : Option Jvm.ClassFile.FieldType)) ∈ lw_all := lw_g (lw_at lw_m3 143 rfl) rfl
theorem q1529 : (Jvm.Cond.castable "WellOfTheSilent$PourTold" "WellOfTheSilent$Told") ∈ lw_tbl := lw_at lw_m7 5 rfl
theorem in_X22 : ∀ w ∈ wsX220, w ∈ lw_all := lw_in wsX220 [552, 553, 554] (by decide +kernel) (by decide +kernel)
/-! WellOfTheSilent$Wife -/
set_option maxRecDepth 100000
def RX3 : String := "WellOfTheSilent$Wife"
abbrev cX3_init : ByteArray := prog_21_method_1_code
def yX3_init : MethodName := ⟨RX3, "<init>", "()V"⟩
theorem dX3_init_0 : decode cX3_init 0 = .ok (.aload_n 0, 1) := by decide +kernel
theorem dX3_init_1 : decode cX3_init 1 = .ok (.invokespecial 3, 3) := by decide +kernel
theorem dX3_init_4 : decode cX3_init 4 = .ok (.return_, 1) := by decide +kernel
abbrev cX3_speaksIn : ByteArray := prog_21_method_3_code
def yX3_speaksIn : MethodName := ⟨RX3, "speaksIn", "(I)I"⟩
def dkwX3_speaksIn_0 : List UInt8 := [16, 12, 42, 27, 183, 0, 9, 6, 96, 184, 0, 13, 172]
abbrev dktX3_speaksIn_0 : List UInt8 := dkwX3_speaksIn_0 ++ []
theorem dksX3_speaksIn_0 : cX3_speaksIn.data.toList.drop 0 = dktX3_speaksIn_0 := by decide +kernel
theorem dX3_speaksIn_0 : decode cX3_speaksIn 0 = .ok (.bipush 12, 2) := dk_16 12 (dk_at dksX3_speaksIn_0 0 rfl rfl)
theorem dX3_speaksIn_2 : decode cX3_speaksIn 2 = .ok (.aload_n 0, 1) := dk_42 (dk_at dksX3_speaksIn_0 2 rfl rfl)
theorem dX3_speaksIn_3 : decode cX3_speaksIn 3 = .ok (.iload_n 1, 1) := dk_27 (dk_at dksX3_speaksIn_0 3 rfl rfl)
theorem dX3_speaksIn_4 : decode cX3_speaksIn 4 = .ok (.invokespecial 9, 3) := dk_183 0 9 (dk_at dksX3_speaksIn_0 4 rfl rfl)
theorem dX3_speaksIn_7 : decode cX3_speaksIn 7 = .ok (.iconst 3, 1) := dk_6 (dk_at dksX3_speaksIn_0 7 rfl rfl)
theorem dX3_speaksIn_8 : decode cX3_speaksIn 8 = .ok (.iadd, 1) := dk_96 (dk_at dksX3_speaksIn_0 8 rfl rfl)
theorem dX3_speaksIn_9 : decode cX3_speaksIn 9 = .ok (.invokestatic 13, 3) := dk_184 0 13 (dk_at dksX3_speaksIn_0 9 rfl rfl)
theorem dX3_speaksIn_12 : decode cX3_speaksIn 12 = .ok (.ireturn, 1) := dk_172 (dk_at dksX3_speaksIn_0 12 rfl rfl)
abbrev cX3_drinks : ByteArray := prog_21_method_4_code
def yX3_drinks : MethodName := ⟨RX3, "drinks", "()I"⟩
theorem dX3_drinks_0 : decode cX3_drinks 0 = .ok (.iconst 2, 1) := by decide +kernel
theorem dX3_drinks_1 : decode cX3_drinks 1 = .ok (.ireturn, 1) := by decide +kernel
abbrev cX3_kind : ByteArray := prog_21_method_2_code
def yX3_kind : MethodName := ⟨RX3, "kind", "()I"⟩
theorem dX3_kind_0 : decode cX3_kind 0 = .ok (.iconst 1, 1) := by decide +kernel
theorem dX3_kind_1 : decode cX3_kind 1 = .ok (.ireturn, 1) := by decide +kernel
theorem q88 : (Jvm.Cond.initialized "WellOfTheSilent$Wife") ∈ lw_all := lw_g (lw_at lw_m1 4 rfl) rfl
theorem q134 : (Jvm.Cond.instantiable "WellOfTheSilent$Wife" (0 : Nat)) ∈ lw_all := lw_g (lw_at lw_m1 50 rfl) rfl
theorem q136 : (Jvm.Cond.instanceMethod ({ cls := "WellOfTheSilent$Wife", name := "<init>", desc := "()V" } : Jvm.MethodName)) ∈ lw_all := lw_g (lw_at lw_m1 52 rfl) rfl
theorem q137 : (Jvm.Cond.code ({ cls := "WellOfTheSilent$Wife", name := "<init>", desc := "()V" } : Jvm.MethodName) prog_21_method_1_code (1 : Nat) (Option.none : Option Jvm.ClassFile.FieldType)) ∈ lw_all := lw_g (lw_at lw_m1 53 rfl) rfl
theorem q138 : (Jvm.Cond.methodLinkNest "WellOfTheSilent$Wife" (3 : Nat) ({ cls := "WellOfTheSilent$Person", name := "<init>", desc := "()V" } : Jvm.MethodName) "WellOfTheSilent") ∈ lw_tbl := lw_at lw_m1 54 rfl
theorem q139 : (Jvm.Cond.superclass "WellOfTheSilent$Wife" "WellOfTheSilent$Person") ∈ lw_all := lw_g (lw_at lw_m1 55 rfl) rfl
theorem q649 : (Jvm.Cond.instanceMethod ({ cls := "WellOfTheSilent$Wife", name := "speaksIn", desc := "(I)I" } : Jvm.MethodName)) ∈ lw_all := lw_g (lw_at lw_m3 85 rfl) rfl
theorem q650 : (Jvm.Cond.code ({ cls := "WellOfTheSilent$Wife", name := "speaksIn", desc := "(I)I" } : Jvm.MethodName) prog_21_method_3_code (2 : Nat) (Option.some Jvm.ClassFile.FieldType.int)) ∈ lw_all := lw_g (lw_at lw_m3 86 rfl) rfl
theorem q651 : (Jvm.Cond.methodLink "WellOfTheSilent$Wife" (9 : Nat) ({ cls := "WellOfTheSilent$Person", name := "speaksIn", desc := "(I)I" } : Jvm.MethodName)) ∈ lw_all := lw_g (lw_at lw_m3 87 rfl) rfl
theorem q652 : (Jvm.Cond.methodLink "WellOfTheSilent$Wife" (13 : Nat) ({ cls := "java/lang/Math", name := "min", desc := "(II)I" } : Jvm.MethodName)) ∈ lw_all := lw_g (lw_at lw_m3 88 rfl) rfl
theorem q655 : (Jvm.Cond.selects "WellOfTheSilent$Wife" ({ cls := "WellOfTheSilent$Kind", name := "speaksIn", desc := "(I)I" } : Jvm.MethodName) ({ cls := "WellOfTheSilent$Wife", name := "speaksIn", desc := "(I)I" } : Jvm.MethodName)) ∈ lw_all := lw_g (lw_at lw_m3 91 rfl) rfl
theorem q670 : (Jvm.Cond.selects "WellOfTheSilent$Wife" ({ cls := "WellOfTheSilent$Kind", name := "drawsSpoken", desc := "()Z" } : Jvm.MethodName) ({ cls := "WellOfTheSilent$Kind", name := "drawsSpoken", desc := "()Z" } : Jvm.MethodName)) ∈ lw_all := lw_g (lw_at lw_m3 106 rfl) rfl
theorem q686 : (Jvm.Cond.instanceMethod ({ cls := "WellOfTheSilent$Wife", name := "drinks", desc := "()I" } : Jvm.MethodName)) ∈ lw_all := lw_g (lw_at lw_m3 122 rfl) rfl
theorem q687 : (Jvm.Cond.code ({ cls := "WellOfTheSilent$Wife", name := "drinks", desc := "()I" } : Jvm.MethodName) prog_21_method_4_code (1 : Nat) (Option.some Jvm.ClassFile.FieldType.int)) ∈ lw_all := lw_g (lw_at lw_m3 123 rfl) rfl
theorem q694 : (Jvm.Cond.selects "WellOfTheSilent$Wife" ({ cls := "WellOfTheSilent$Kind", name := "drinks", desc := "()I" } : Jvm.MethodName) ({ cls := "WellOfTheSilent$Wife", name := "drinks", desc := "()I" } : Jvm.MethodName)) ∈ lw_all := lw_g (lw_at lw_m3 130 rfl) rfl
theorem q747 : (Jvm.Cond.selects "WellOfTheSilent$Wife" ({ cls := "WellOfTheSilent$Kind", name := "kind", desc := "()I" } : Jvm.MethodName) ({ cls := "WellOfTheSilent$Wife", name := "kind", desc := "()I" } : Jvm.MethodName)) ∈ lw_all := lw_g (lw_at lw_m3 183 rfl) rfl
theorem q748 : (Jvm.Cond.instanceMethod ({ cls := "WellOfTheSilent$Wife", name := "kind", desc := "()I" } : Jvm.MethodName)) ∈ lw_all := lw_g (lw_at lw_m3 184 rfl) rfl
theorem q749 : (Jvm.Cond.code ({ cls := "WellOfTheSilent$Wife", name := "kind", desc := "()I" } : Jvm.MethodName) prog_21_method_2_code (1 : Nat) (Option.some Jvm.ClassFile.FieldType.int)) ∈ lw_all := lw_g (lw_at lw_m3 185 rfl) rfl
theorem q1511 : (Jvm.Cond.sameMethod "WellOfTheSilent$Wife" "WellOfTheSilent$Wife" "speaksIn" "(I)I") ∈ lw_all := lw_g (lw_at lw_m6 227 rfl) rfl
theorem q1514 : (Jvm.Cond.sameMethod "WellOfTheSilent$Wife" "WellOfTheSilent$Wife" "drinks" "()I") ∈ lw_all := lw_g (lw_at lw_m6 230 rfl) rfl
theorem q1518 : (Jvm.Cond.castable "WellOfTheSilent$Wife" "WellOfTheSilent$Kind") ∈ lw_tbl := lw_at lw_m6 234 rfl
/-! WellOfTheSilent$Scold -/
set_option maxRecDepth 100000
def RX4 : String := "WellOfTheSilent$Scold"
abbrev cX4_init : ByteArray := prog_18_method_1_code
def yX4_init : MethodName := ⟨RX4, "<init>", "()V"⟩
theorem dX4_init_0 : decode cX4_init 0 = .ok (.aload_n 0, 1) := by decide +kernel
theorem dX4_init_1 : decode cX4_init 1 = .ok (.invokespecial 1, 3) := by decide +kernel
theorem dX4_init_4 : decode cX4_init 4 = .ok (.return_, 1) := by decide +kernel
abbrev cX4_speaksIn : ByteArray := prog_18_method_3_code
def yX4_speaksIn : MethodName := ⟨RX4, "speaksIn", "(I)I"⟩
theorem dX4_speaksIn_0 : decode cX4_speaksIn 0 = .ok (.iconst 0, 1) := by decide +kernel
theorem dX4_speaksIn_1 : decode cX4_speaksIn 1 = .ok (.ireturn, 1) := by decide +kernel
abbrev cX4_drinks : ByteArray := prog_18_method_4_code
def yX4_drinks : MethodName := ⟨RX4, "drinks", "()I"⟩
def dkwX4_drinks_0 : List UInt8 := [42, 183, 0, 7, 4, 96, 172]
abbrev dktX4_drinks_0 : List UInt8 := dkwX4_drinks_0 ++ []
theorem dksX4_drinks_0 : cX4_drinks.data.toList.drop 0 = dktX4_drinks_0 := by decide +kernel
theorem dX4_drinks_0 : decode cX4_drinks 0 = .ok (.aload_n 0, 1) := dk_42 (dk_at dksX4_drinks_0 0 rfl rfl)
theorem dX4_drinks_1 : decode cX4_drinks 1 = .ok (.invokespecial 7, 3) := dk_183 0 7 (dk_at dksX4_drinks_0 1 rfl rfl)
theorem dX4_drinks_4 : decode cX4_drinks 4 = .ok (.iconst 1, 1) := dk_4 (dk_at dksX4_drinks_0 4 rfl rfl)
theorem dX4_drinks_5 : decode cX4_drinks 5 = .ok (.iadd, 1) := dk_96 (dk_at dksX4_drinks_0 5 rfl rfl)
theorem dX4_drinks_6 : decode cX4_drinks 6 = .ok (.ireturn, 1) := dk_172 (dk_at dksX4_drinks_0 6 rfl rfl)
abbrev cX4_kind : ByteArray := prog_18_method_2_code
def yX4_kind : MethodName := ⟨RX4, "kind", "()I"⟩
theorem dX4_kind_0 : decode cX4_kind 0 = .ok (.iconst 2, 1) := by decide +kernel
theorem dX4_kind_1 : decode cX4_kind 1 = .ok (.ireturn, 1) := by decide +kernel
theorem q89 : (Jvm.Cond.initialized "WellOfTheSilent$Scold") ∈ lw_all := lw_g (lw_at lw_m1 5 rfl) rfl
theorem q141 : (Jvm.Cond.instantiable "WellOfTheSilent$Scold" (0 : Nat)) ∈ lw_all := lw_g (lw_at lw_m1 57 rfl) rfl
theorem q143 : (Jvm.Cond.instanceMethod ({ cls := "WellOfTheSilent$Scold", name := "<init>", desc := "()V" } : Jvm.MethodName)) ∈ lw_all := lw_g (lw_at lw_m1 59 rfl) rfl
theorem q144 : (Jvm.Cond.code ({ cls := "WellOfTheSilent$Scold", name := "<init>", desc := "()V" } : Jvm.MethodName) prog_18_method_1_code (1 : Nat) (Option.none : Option Jvm.ClassFile.FieldType)) ∈ lw_all := lw_g (lw_at lw_m1 60 rfl) rfl
theorem q145 : (Jvm.Cond.methodLinkNest "WellOfTheSilent$Scold" (1 : Nat) ({ cls := "WellOfTheSilent$Person", name := "<init>", desc := "()V" } : Jvm.MethodName) "WellOfTheSilent") ∈ lw_tbl := lw_at lw_m1 61 rfl
theorem q146 : (Jvm.Cond.superclass "WellOfTheSilent$Scold" "WellOfTheSilent$Person") ∈ lw_all := lw_g (lw_at lw_m1 62 rfl) rfl
theorem q637 : (Jvm.Cond.instanceMethod ({ cls := "WellOfTheSilent$Scold", name := "speaksIn", desc := "(I)I" } : Jvm.MethodName)) ∈ lw_all := lw_g (lw_at lw_m3 73 rfl) rfl
theorem q638 : (Jvm.Cond.code ({ cls := "WellOfTheSilent$Scold", name := "speaksIn", desc := "(I)I" } : Jvm.MethodName) prog_18_method_3_code (2 : Nat) (Option.some Jvm.ClassFile.FieldType.int)) ∈ lw_all := lw_g (lw_at lw_m3 74 rfl) rfl
theorem q654 : (Jvm.Cond.selects "WellOfTheSilent$Scold" ({ cls := "WellOfTheSilent$Kind", name := "speaksIn", desc := "(I)I" } : Jvm.MethodName) ({ cls := "WellOfTheSilent$Scold", name := "speaksIn", desc := "(I)I" } : Jvm.MethodName)) ∈ lw_all := lw_g (lw_at lw_m3 90 rfl) rfl
theorem q669 : (Jvm.Cond.selects "WellOfTheSilent$Scold" ({ cls := "WellOfTheSilent$Kind", name := "drawsSpoken", desc := "()Z" } : Jvm.MethodName) ({ cls := "WellOfTheSilent$Kind", name := "drawsSpoken", desc := "()Z" } : Jvm.MethodName)) ∈ lw_all := lw_g (lw_at lw_m3 105 rfl) rfl
theorem q680 : (Jvm.Cond.instanceMethod ({ cls := "WellOfTheSilent$Scold", name := "drinks", desc := "()I" } : Jvm.MethodName)) ∈ lw_all := lw_g (lw_at lw_m3 116 rfl) rfl
theorem q681 : (Jvm.Cond.code ({ cls := "WellOfTheSilent$Scold", name := "drinks", desc := "()I" } : Jvm.MethodName) prog_18_method_4_code (1 : Nat) (Option.some Jvm.ClassFile.FieldType.int)) ∈ lw_all := lw_g (lw_at lw_m3 117 rfl) rfl
theorem q682 : (Jvm.Cond.methodLink "WellOfTheSilent$Scold" (7 : Nat) ({ cls := "WellOfTheSilent$Person", name := "drinks", desc := "()I" } : Jvm.MethodName)) ∈ lw_all := lw_g (lw_at lw_m3 118 rfl) rfl
theorem q693 : (Jvm.Cond.selects "WellOfTheSilent$Scold" ({ cls := "WellOfTheSilent$Kind", name := "drinks", desc := "()I" } : Jvm.MethodName) ({ cls := "WellOfTheSilent$Scold", name := "drinks", desc := "()I" } : Jvm.MethodName)) ∈ lw_all := lw_g (lw_at lw_m3 129 rfl) rfl
theorem q744 : (Jvm.Cond.selects "WellOfTheSilent$Scold" ({ cls := "WellOfTheSilent$Kind", name := "kind", desc := "()I" } : Jvm.MethodName) ({ cls := "WellOfTheSilent$Scold", name := "kind", desc := "()I" } : Jvm.MethodName)) ∈ lw_all := lw_g (lw_at lw_m3 180 rfl) rfl
theorem q745 : (Jvm.Cond.instanceMethod ({ cls := "WellOfTheSilent$Scold", name := "kind", desc := "()I" } : Jvm.MethodName)) ∈ lw_all := lw_g (lw_at lw_m3 181 rfl) rfl
theorem q746 : (Jvm.Cond.code ({ cls := "WellOfTheSilent$Scold", name := "kind", desc := "()I" } : Jvm.MethodName) prog_18_method_2_code (1 : Nat) (Option.some Jvm.ClassFile.FieldType.int)) ∈ lw_all := lw_g (lw_at lw_m3 182 rfl) rfl
theorem q1519 : (Jvm.Cond.castable "WellOfTheSilent$Scold" "WellOfTheSilent$Kind") ∈ lw_tbl := lw_at lw_m6 235 rfl
/-! WellOfTheSilent$Mute -/
set_option maxRecDepth 100000
def RX5 : String := "WellOfTheSilent$Mute"
abbrev cX5_init : ByteArray := prog_9_method_1_code
def yX5_init : MethodName := ⟨RX5, "<init>", "()V"⟩
theorem dX5_init_0 : decode cX5_init 0 = .ok (.aload_n 0, 1) := by decide +kernel
theorem dX5_init_1 : decode cX5_init 1 = .ok (.invokespecial 3, 3) := by decide +kernel
theorem dX5_init_4 : decode cX5_init 4 = .ok (.return_, 1) := by decide +kernel
abbrev cX5_speaksIn : ByteArray := prog_9_method_3_code
def yX5_speaksIn : MethodName := ⟨RX5, "speaksIn", "(I)I"⟩
theorem dX5_speaksIn_0 : decode cX5_speaksIn 0 = .ok (.bipush 12, 2) := by decide +kernel
theorem dX5_speaksIn_2 : decode cX5_speaksIn 2 = .ok (.ireturn, 1) := by decide +kernel
abbrev cX5_kind : ByteArray := prog_9_method_2_code
def yX5_kind : MethodName := ⟨RX5, "kind", "()I"⟩
theorem dX5_kind_0 : decode cX5_kind 0 = .ok (.iconst 3, 1) := by decide +kernel
theorem dX5_kind_1 : decode cX5_kind 1 = .ok (.ireturn, 1) := by decide +kernel
theorem q90 : (Jvm.Cond.initialized "WellOfTheSilent$Mute") ∈ lw_all := lw_g (lw_at lw_m1 6 rfl) rfl
theorem q148 : (Jvm.Cond.instantiable "WellOfTheSilent$Mute" (0 : Nat)) ∈ lw_all := lw_g (lw_at lw_m1 64 rfl) rfl
theorem q150 : (Jvm.Cond.instanceMethod ({ cls := "WellOfTheSilent$Mute", name := "<init>", desc := "()V" } : Jvm.MethodName)) ∈ lw_all := lw_g (lw_at lw_m1 66 rfl) rfl
theorem q151 : (Jvm.Cond.code ({ cls := "WellOfTheSilent$Mute", name := "<init>", desc := "()V" } : Jvm.MethodName) prog_9_method_1_code (1 : Nat) (Option.none : Option Jvm.ClassFile.FieldType)) ∈ lw_all := lw_g (lw_at lw_m1 67 rfl) rfl
theorem q152 : (Jvm.Cond.methodLinkNest "WellOfTheSilent$Mute" (3 : Nat) ({ cls := "WellOfTheSilent$Wife", name := "<init>", desc := "()V" } : Jvm.MethodName) "WellOfTheSilent") ∈ lw_tbl := lw_at lw_m1 68 rfl
theorem q153 : (Jvm.Cond.superclass "WellOfTheSilent$Mute" "WellOfTheSilent$Wife") ∈ lw_all := lw_g (lw_at lw_m1 69 rfl) rfl
theorem q639 : (Jvm.Cond.selects "WellOfTheSilent$Mute" ({ cls := "WellOfTheSilent$Kind", name := "speaksIn", desc := "(I)I" } : Jvm.MethodName) ({ cls := "WellOfTheSilent$Mute", name := "speaksIn", desc := "(I)I" } : Jvm.MethodName)) ∈ lw_all := lw_g (lw_at lw_m3 75 rfl) rfl
theorem q640 : (Jvm.Cond.instanceMethod ({ cls := "WellOfTheSilent$Mute", name := "speaksIn", desc := "(I)I" } : Jvm.MethodName)) ∈ lw_all := lw_g (lw_at lw_m3 76 rfl) rfl
theorem q641 : (Jvm.Cond.code ({ cls := "WellOfTheSilent$Mute", name := "speaksIn", desc := "(I)I" } : Jvm.MethodName) prog_9_method_3_code (2 : Nat) (Option.some Jvm.ClassFile.FieldType.int)) ∈ lw_all := lw_g (lw_at lw_m3 77 rfl) rfl
theorem q666 : (Jvm.Cond.selects "WellOfTheSilent$Mute" ({ cls := "WellOfTheSilent$Kind", name := "drawsSpoken", desc := "()Z" } : Jvm.MethodName) ({ cls := "WellOfTheSilent$Kind", name := "drawsSpoken", desc := "()Z" } : Jvm.MethodName)) ∈ lw_all := lw_g (lw_at lw_m3 102 rfl) rfl
theorem q685 : (Jvm.Cond.selects "WellOfTheSilent$Mute" ({ cls := "WellOfTheSilent$Kind", name := "drinks", desc := "()I" } : Jvm.MethodName) ({ cls := "WellOfTheSilent$Wife", name := "drinks", desc := "()I" } : Jvm.MethodName)) ∈ lw_all := lw_g (lw_at lw_m3 121 rfl) rfl
theorem q735 : (Jvm.Cond.selects "WellOfTheSilent$Mute" ({ cls := "WellOfTheSilent$Kind", name := "kind", desc := "()I" } : Jvm.MethodName) ({ cls := "WellOfTheSilent$Mute", name := "kind", desc := "()I" } : Jvm.MethodName)) ∈ lw_all := lw_g (lw_at lw_m3 171 rfl) rfl
theorem q736 : (Jvm.Cond.instanceMethod ({ cls := "WellOfTheSilent$Mute", name := "kind", desc := "()I" } : Jvm.MethodName)) ∈ lw_all := lw_g (lw_at lw_m3 172 rfl) rfl
theorem q737 : (Jvm.Cond.code ({ cls := "WellOfTheSilent$Mute", name := "kind", desc := "()I" } : Jvm.MethodName) prog_9_method_2_code (1 : Nat) (Option.some Jvm.ClassFile.FieldType.int)) ∈ lw_all := lw_g (lw_at lw_m3 173 rfl) rfl
theorem q1520 : (Jvm.Cond.castable "WellOfTheSilent$Mute" "WellOfTheSilent$Kind") ∈ lw_tbl := lw_at lw_m6 236 rfl
/-! WellOfTheSilent$Priest -/
set_option maxRecDepth 100000
def RX6 : String := "WellOfTheSilent$Priest"
abbrev cX6_init : ByteArray := prog_14_method_1_code
def yX6_init : MethodName := ⟨RX6, "<init>", "()V"⟩
theorem dX6_init_0 : decode cX6_init 0 = .ok (.aload_n 0, 1) := by decide +kernel
theorem dX6_init_1 : decode cX6_init 1 = .ok (.invokespecial 3, 3) := by decide +kernel
theorem dX6_init_4 : decode cX6_init 4 = .ok (.return_, 1) := by decide +kernel
abbrev cX6_speaksIn : ByteArray := prog_14_method_3_code
def yX6_speaksIn : MethodName := ⟨RX6, "speaksIn", "(I)I"⟩
def dkwX6_speaksIn_0 : List UInt8 := [16, 12, 5, 42, 27, 183, 0, 9, 104, 184, 0, 13, 172]
abbrev dktX6_speaksIn_0 : List UInt8 := dkwX6_speaksIn_0 ++ []
theorem dksX6_speaksIn_0 : cX6_speaksIn.data.toList.drop 0 = dktX6_speaksIn_0 := by decide +kernel
theorem dX6_speaksIn_0 : decode cX6_speaksIn 0 = .ok (.bipush 12, 2) := dk_16 12 (dk_at dksX6_speaksIn_0 0 rfl rfl)
theorem dX6_speaksIn_2 : decode cX6_speaksIn 2 = .ok (.iconst 2, 1) := dk_5 (dk_at dksX6_speaksIn_0 2 rfl rfl)
theorem dX6_speaksIn_3 : decode cX6_speaksIn 3 = .ok (.aload_n 0, 1) := dk_42 (dk_at dksX6_speaksIn_0 3 rfl rfl)
theorem dX6_speaksIn_4 : decode cX6_speaksIn 4 = .ok (.iload_n 1, 1) := dk_27 (dk_at dksX6_speaksIn_0 4 rfl rfl)
theorem dX6_speaksIn_5 : decode cX6_speaksIn 5 = .ok (.invokespecial 9, 3) := dk_183 0 9 (dk_at dksX6_speaksIn_0 5 rfl rfl)
theorem dX6_speaksIn_8 : decode cX6_speaksIn 8 = .ok (.imul, 1) := dk_104 (dk_at dksX6_speaksIn_0 8 rfl rfl)
theorem dX6_speaksIn_9 : decode cX6_speaksIn 9 = .ok (.invokestatic 13, 3) := dk_184 0 13 (dk_at dksX6_speaksIn_0 9 rfl rfl)
theorem dX6_speaksIn_12 : decode cX6_speaksIn 12 = .ok (.ireturn, 1) := dk_172 (dk_at dksX6_speaksIn_0 12 rfl rfl)
abbrev cX6_drinks : ByteArray := prog_14_method_4_code
def yX6_drinks : MethodName := ⟨RX6, "drinks", "()I"⟩
def dkwX6_drinks_0 : List UInt8 := [42, 183, 0, 19, 4, 100, 172]
abbrev dktX6_drinks_0 : List UInt8 := dkwX6_drinks_0 ++ []
theorem dksX6_drinks_0 : cX6_drinks.data.toList.drop 0 = dktX6_drinks_0 := by decide +kernel
theorem dX6_drinks_0 : decode cX6_drinks 0 = .ok (.aload_n 0, 1) := dk_42 (dk_at dksX6_drinks_0 0 rfl rfl)
theorem dX6_drinks_1 : decode cX6_drinks 1 = .ok (.invokespecial 19, 3) := dk_183 0 19 (dk_at dksX6_drinks_0 1 rfl rfl)
theorem dX6_drinks_4 : decode cX6_drinks 4 = .ok (.iconst 1, 1) := dk_4 (dk_at dksX6_drinks_0 4 rfl rfl)
theorem dX6_drinks_5 : decode cX6_drinks 5 = .ok (.isub, 1) := dk_100 (dk_at dksX6_drinks_0 5 rfl rfl)
theorem dX6_drinks_6 : decode cX6_drinks 6 = .ok (.ireturn, 1) := dk_172 (dk_at dksX6_drinks_0 6 rfl rfl)
abbrev cX6_kind : ByteArray := prog_14_method_2_code
def yX6_kind : MethodName := ⟨RX6, "kind", "()I"⟩
theorem dX6_kind_0 : decode cX6_kind 0 = .ok (.iconst 4, 1) := by decide +kernel
theorem dX6_kind_1 : decode cX6_kind 1 = .ok (.ireturn, 1) := by decide +kernel
theorem q91 : (Jvm.Cond.initialized "WellOfTheSilent$Priest") ∈ lw_all := lw_g (lw_at lw_m1 7 rfl) rfl
theorem q155 : (Jvm.Cond.instantiable "WellOfTheSilent$Priest" (0 : Nat)) ∈ lw_all := lw_g (lw_at lw_m1 71 rfl) rfl
theorem q157 : (Jvm.Cond.instanceMethod ({ cls := "WellOfTheSilent$Priest", name := "<init>", desc := "()V" } : Jvm.MethodName)) ∈ lw_all := lw_g (lw_at lw_m1 73 rfl) rfl
theorem q158 : (Jvm.Cond.code ({ cls := "WellOfTheSilent$Priest", name := "<init>", desc := "()V" } : Jvm.MethodName) prog_14_method_1_code (1 : Nat) (Option.none : Option Jvm.ClassFile.FieldType)) ∈ lw_all := lw_g (lw_at lw_m1 74 rfl) rfl
theorem q159 : (Jvm.Cond.methodLinkNest "WellOfTheSilent$Priest" (3 : Nat) ({ cls := "WellOfTheSilent$Wife", name := "<init>", desc := "()V" } : Jvm.MethodName) "WellOfTheSilent") ∈ lw_tbl := lw_at lw_m1 75 rfl
theorem q160 : (Jvm.Cond.superclass "WellOfTheSilent$Priest" "WellOfTheSilent$Wife") ∈ lw_all := lw_g (lw_at lw_m1 76 rfl) rfl
theorem q645 : (Jvm.Cond.selects "WellOfTheSilent$Priest" ({ cls := "WellOfTheSilent$Kind", name := "speaksIn", desc := "(I)I" } : Jvm.MethodName) ({ cls := "WellOfTheSilent$Priest", name := "speaksIn", desc := "(I)I" } : Jvm.MethodName)) ∈ lw_all := lw_g (lw_at lw_m3 81 rfl) rfl
theorem q646 : (Jvm.Cond.instanceMethod ({ cls := "WellOfTheSilent$Priest", name := "speaksIn", desc := "(I)I" } : Jvm.MethodName)) ∈ lw_all := lw_g (lw_at lw_m3 82 rfl) rfl
theorem q647 : (Jvm.Cond.code ({ cls := "WellOfTheSilent$Priest", name := "speaksIn", desc := "(I)I" } : Jvm.MethodName) prog_14_method_3_code (2 : Nat) (Option.some Jvm.ClassFile.FieldType.int)) ∈ lw_all := lw_g (lw_at lw_m3 83 rfl) rfl
theorem q648 : (Jvm.Cond.methodLink "WellOfTheSilent$Priest" (9 : Nat) ({ cls := "WellOfTheSilent$Wife", name := "speaksIn", desc := "(I)I" } : Jvm.MethodName)) ∈ lw_all := lw_g (lw_at lw_m3 84 rfl) rfl
theorem q653 : (Jvm.Cond.methodLink "WellOfTheSilent$Priest" (13 : Nat) ({ cls := "java/lang/Math", name := "min", desc := "(II)I" } : Jvm.MethodName)) ∈ lw_all := lw_g (lw_at lw_m3 89 rfl) rfl
theorem q668 : (Jvm.Cond.selects "WellOfTheSilent$Priest" ({ cls := "WellOfTheSilent$Kind", name := "drawsSpoken", desc := "()Z" } : Jvm.MethodName) ({ cls := "WellOfTheSilent$Kind", name := "drawsSpoken", desc := "()Z" } : Jvm.MethodName)) ∈ lw_all := lw_g (lw_at lw_m3 104 rfl) rfl
theorem q689 : (Jvm.Cond.selects "WellOfTheSilent$Priest" ({ cls := "WellOfTheSilent$Kind", name := "drinks", desc := "()I" } : Jvm.MethodName) ({ cls := "WellOfTheSilent$Priest", name := "drinks", desc := "()I" } : Jvm.MethodName)) ∈ lw_all := lw_g (lw_at lw_m3 125 rfl) rfl
theorem q690 : (Jvm.Cond.instanceMethod ({ cls := "WellOfTheSilent$Priest", name := "drinks", desc := "()I" } : Jvm.MethodName)) ∈ lw_all := lw_g (lw_at lw_m3 126 rfl) rfl
theorem q691 : (Jvm.Cond.code ({ cls := "WellOfTheSilent$Priest", name := "drinks", desc := "()I" } : Jvm.MethodName) prog_14_method_4_code (1 : Nat) (Option.some Jvm.ClassFile.FieldType.int)) ∈ lw_all := lw_g (lw_at lw_m3 127 rfl) rfl
theorem q692 : (Jvm.Cond.methodLink "WellOfTheSilent$Priest" (19 : Nat) ({ cls := "WellOfTheSilent$Wife", name := "drinks", desc := "()I" } : Jvm.MethodName)) ∈ lw_all := lw_g (lw_at lw_m3 128 rfl) rfl
theorem q741 : (Jvm.Cond.selects "WellOfTheSilent$Priest" ({ cls := "WellOfTheSilent$Kind", name := "kind", desc := "()I" } : Jvm.MethodName) ({ cls := "WellOfTheSilent$Priest", name := "kind", desc := "()I" } : Jvm.MethodName)) ∈ lw_all := lw_g (lw_at lw_m3 177 rfl) rfl
theorem q742 : (Jvm.Cond.instanceMethod ({ cls := "WellOfTheSilent$Priest", name := "kind", desc := "()I" } : Jvm.MethodName)) ∈ lw_all := lw_g (lw_at lw_m3 178 rfl) rfl
theorem q743 : (Jvm.Cond.code ({ cls := "WellOfTheSilent$Priest", name := "kind", desc := "()I" } : Jvm.MethodName) prog_14_method_2_code (1 : Nat) (Option.some Jvm.ClassFile.FieldType.int)) ∈ lw_all := lw_g (lw_at lw_m3 179 rfl) rfl
theorem q1521 : (Jvm.Cond.castable "WellOfTheSilent$Priest" "WellOfTheSilent$Kind") ∈ lw_tbl := lw_at lw_m6 237 rfl
/-! WellOfTheSilent$Liar -/
set_option maxRecDepth 100000
def RX7 : String := "WellOfTheSilent$Liar"
abbrev cX7_init : ByteArray := prog_8_method_1_code
def yX7_init : MethodName := ⟨RX7, "<init>", "()V"⟩
theorem dX7_init_0 : decode cX7_init 0 = .ok (.aload_n 0, 1) := by decide +kernel
theorem dX7_init_1 : decode cX7_init 1 = .ok (.invokespecial 1, 3) := by decide +kernel
theorem dX7_init_4 : decode cX7_init 4 = .ok (.return_, 1) := by decide +kernel
abbrev cX7_drawsSpoken : ByteArray := prog_8_method_3_code
def yX7_drawsSpoken : MethodName := ⟨RX7, "drawsSpoken", "()Z"⟩
theorem dX7_drawsSpoken_0 : decode cX7_drawsSpoken 0 = .ok (.iconst 1, 1) := by decide +kernel
theorem dX7_drawsSpoken_1 : decode cX7_drawsSpoken 1 = .ok (.ireturn, 1) := by decide +kernel
abbrev cX7_kind : ByteArray := prog_8_method_2_code
def yX7_kind : MethodName := ⟨RX7, "kind", "()I"⟩
theorem dX7_kind_0 : decode cX7_kind 0 = .ok (.iconst 5, 1) := by decide +kernel
theorem dX7_kind_1 : decode cX7_kind 1 = .ok (.ireturn, 1) := by decide +kernel
theorem q92 : (Jvm.Cond.initialized "WellOfTheSilent$Liar") ∈ lw_all := lw_g (lw_at lw_m1 8 rfl) rfl
theorem q162 : (Jvm.Cond.instantiable "WellOfTheSilent$Liar" (0 : Nat)) ∈ lw_all := lw_g (lw_at lw_m1 78 rfl) rfl
theorem q164 : (Jvm.Cond.instanceMethod ({ cls := "WellOfTheSilent$Liar", name := "<init>", desc := "()V" } : Jvm.MethodName)) ∈ lw_all := lw_g (lw_at lw_m1 80 rfl) rfl
theorem q165 : (Jvm.Cond.code ({ cls := "WellOfTheSilent$Liar", name := "<init>", desc := "()V" } : Jvm.MethodName) prog_8_method_1_code (1 : Nat) (Option.none : Option Jvm.ClassFile.FieldType)) ∈ lw_all := lw_g (lw_at lw_m1 81 rfl) rfl
theorem q166 : (Jvm.Cond.methodLinkNest "WellOfTheSilent$Liar" (1 : Nat) ({ cls := "WellOfTheSilent$Scold", name := "<init>", desc := "()V" } : Jvm.MethodName) "WellOfTheSilent") ∈ lw_tbl := lw_at lw_m1 82 rfl
theorem q167 : (Jvm.Cond.superclass "WellOfTheSilent$Liar" "WellOfTheSilent$Scold") ∈ lw_all := lw_g (lw_at lw_m1 83 rfl) rfl
theorem q636 : (Jvm.Cond.selects "WellOfTheSilent$Liar" ({ cls := "WellOfTheSilent$Kind", name := "speaksIn", desc := "(I)I" } : Jvm.MethodName) ({ cls := "WellOfTheSilent$Scold", name := "speaksIn", desc := "(I)I" } : Jvm.MethodName)) ∈ lw_all := lw_g (lw_at lw_m3 72 rfl) rfl
theorem q663 : (Jvm.Cond.selects "WellOfTheSilent$Liar" ({ cls := "WellOfTheSilent$Kind", name := "drawsSpoken", desc := "()Z" } : Jvm.MethodName) ({ cls := "WellOfTheSilent$Liar", name := "drawsSpoken", desc := "()Z" } : Jvm.MethodName)) ∈ lw_all := lw_g (lw_at lw_m3 99 rfl) rfl
theorem q664 : (Jvm.Cond.instanceMethod ({ cls := "WellOfTheSilent$Liar", name := "drawsSpoken", desc := "()Z" } : Jvm.MethodName)) ∈ lw_all := lw_g (lw_at lw_m3 100 rfl) rfl
theorem q665 : (Jvm.Cond.code ({ cls := "WellOfTheSilent$Liar", name := "drawsSpoken", desc := "()Z" } : Jvm.MethodName) prog_8_method_3_code (1 : Nat) (Option.some Jvm.ClassFile.FieldType.boolean)) ∈ lw_all := lw_g (lw_at lw_m3 101 rfl) rfl
theorem q679 : (Jvm.Cond.selects "WellOfTheSilent$Liar" ({ cls := "WellOfTheSilent$Kind", name := "drinks", desc := "()I" } : Jvm.MethodName) ({ cls := "WellOfTheSilent$Scold", name := "drinks", desc := "()I" } : Jvm.MethodName)) ∈ lw_all := lw_g (lw_at lw_m3 115 rfl) rfl
theorem q732 : (Jvm.Cond.selects "WellOfTheSilent$Liar" ({ cls := "WellOfTheSilent$Kind", name := "kind", desc := "()I" } : Jvm.MethodName) ({ cls := "WellOfTheSilent$Liar", name := "kind", desc := "()I" } : Jvm.MethodName)) ∈ lw_all := lw_g (lw_at lw_m3 168 rfl) rfl
theorem q733 : (Jvm.Cond.instanceMethod ({ cls := "WellOfTheSilent$Liar", name := "kind", desc := "()I" } : Jvm.MethodName)) ∈ lw_all := lw_g (lw_at lw_m3 169 rfl) rfl
theorem q734 : (Jvm.Cond.code ({ cls := "WellOfTheSilent$Liar", name := "kind", desc := "()I" } : Jvm.MethodName) prog_8_method_2_code (1 : Nat) (Option.some Jvm.ClassFile.FieldType.int)) ∈ lw_all := lw_g (lw_at lw_m3 170 rfl) rfl
theorem q1522 : (Jvm.Cond.castable "WellOfTheSilent$Liar" "WellOfTheSilent$Kind") ∈ lw_tbl := lw_at lw_m6 238 rfl
/-! WellOfTheSilent$Hill -/
set_option maxRecDepth 100000
def RX8 : String := "WellOfTheSilent$Hill"
def TX8 : u_T := fun k => match k with
  | 0 => ("WellOfTheSilent$Hill", "people", "I", false)
  | 1 => ("WellOfTheSilent$Hill", "kind", "[LWellOfTheSilent$Kind;", true)
  | 2 => ("WellOfTheSilent$Hill", "figures", "[I", true)
  | 3 => ("WellOfTheSilent$Hill", "can", "[I", true)
  | 4 => ("WellOfTheSilent$Hill", "full", "[I", true)
  | 5 => ("WellOfTheSilent$Hill", "friend", "[I", true)
  | 6 => ("WellOfTheSilent$Hill", "spoken", "I", false)
  | 7 => ("WellOfTheSilent$Hill", "drew", "I", false)
  | 8 => ("WellOfTheSilent$Hill", "well", "I", false)
  | 9 => ("WellOfTheSilent$Hill", "comes", "I", false)
  | 10 => ("WellOfTheSilent$Hill", "hour", "I", false)
  | 11 => ("WellOfTheSilent$Hill", "hushed", "I", false)
  | _ => ("WellOfTheSilent$Hill", "forced", "I", false)
def tyX8 : Nat → FieldType := fun k => match k with
  | 0 => .int
  | 1 => .array (.object "WellOfTheSilent$Kind")
  | 2 => .array .int
  | 3 => .array .int
  | 4 => .array .int
  | 5 => .array .int
  | 6 => .int
  | 7 => .int
  | 8 => .int
  | 9 => .int
  | 10 => .int
  | 11 => .int
  | _ => .int
abbrev wsX80 : List Cond := u_ws RX8 TX8 13
set_option maxRecDepth 100000 in
theorem nmX8 : ∀ a, a < 13 → ∀ b, b < 13 → a ≠ b → (TX8 a).2.1 ≠ (TX8 b).2.1 := by decide +kernel
set_option maxRecDepth 100000 in
theorem tyX8_ok : ∀ k, k < 13 → parseFieldDescriptor (TX8 k).2.2.1 = some (tyX8 k) := by decide +kernel
abbrev cX8_init : ByteArray := prog_5_method_1_code
def yX8_init : MethodName := ⟨RX8, "<init>", "()V"⟩
def dkwX8_init_2 : List UInt8 := [181, 0, 30, 42, 16, 10, 181, 0, 34, 177]
abbrev dktX8_init_2 : List UInt8 := dkwX8_init_2 ++ []
def dkwX8_init_1 : List UInt8 := [188, 10, 181, 0, 21, 42, 16, 6, 188, 10, 181, 0, 24, 42, 16, 6, 188, 10, 181, 0, 27, 42, 16, 20]
abbrev dktX8_init_1 : List UInt8 := dkwX8_init_1 ++ dktX8_init_2
def dkwX8_init_0 : List UInt8 := [42, 183, 0, 3, 42, 16, 6, 189, 0, 9, 181, 0, 11, 42, 16, 6, 188, 10, 181, 0, 17, 42, 16, 6]
abbrev dktX8_init_0 : List UInt8 := dkwX8_init_0 ++ dktX8_init_1
theorem dksX8_init_0 : cX8_init.data.toList.drop 0 = dktX8_init_0 := by decide +kernel
theorem dksX8_init_1 : cX8_init.data.toList.drop 24 = dktX8_init_1 := dk_seg dksX8_init_0 24 rfl rfl
theorem dksX8_init_2 : cX8_init.data.toList.drop 48 = dktX8_init_2 := dk_seg dksX8_init_1 24 rfl rfl
theorem dX8_init_0 : decode cX8_init 0 = .ok (.aload_n 0, 1) := dk_42 (dk_at dksX8_init_0 0 rfl rfl)
theorem dX8_init_1 : decode cX8_init 1 = .ok (.invokespecial 3, 3) := dk_183 0 3 (dk_at dksX8_init_0 1 rfl rfl)
theorem dX8_init_4 : decode cX8_init 4 = .ok (.aload_n 0, 1) := dk_42 (dk_at dksX8_init_0 4 rfl rfl)
theorem dX8_init_5 : decode cX8_init 5 = .ok (.bipush 6, 2) := dk_16 6 (dk_at dksX8_init_0 5 rfl rfl)
theorem dX8_init_7 : decode cX8_init 7 = .ok (.anewarray 9, 3) := dk_189 0 9 (dk_at dksX8_init_0 7 rfl rfl)
theorem dX8_init_10 : decode cX8_init 10 = .ok (.putfield 11, 3) := dk_181 0 11 (dk_at dksX8_init_0 10 rfl rfl)
theorem dX8_init_13 : decode cX8_init 13 = .ok (.aload_n 0, 1) := dk_42 (dk_at dksX8_init_0 13 rfl rfl)
theorem dX8_init_14 : decode cX8_init 14 = .ok (.bipush 6, 2) := dk_16 6 (dk_at dksX8_init_0 14 rfl rfl)
theorem dX8_init_16 : decode cX8_init 16 = .ok (.newarray .int, 2) := dk_188_10 (dk_at dksX8_init_0 16 rfl rfl)
theorem dX8_init_18 : decode cX8_init 18 = .ok (.putfield 17, 3) := dk_181 0 17 (dk_at dksX8_init_0 18 rfl rfl)
theorem dX8_init_21 : decode cX8_init 21 = .ok (.aload_n 0, 1) := dk_42 (dk_at dksX8_init_0 21 rfl rfl)
theorem dX8_init_22 : decode cX8_init 22 = .ok (.bipush 6, 2) := dk_16 6 (dk_at dksX8_init_0 22 rfl rfl)
theorem dX8_init_24 : decode cX8_init 24 = .ok (.newarray .int, 2) := dk_188_10 (dk_at dksX8_init_1 0 rfl rfl)
theorem dX8_init_26 : decode cX8_init 26 = .ok (.putfield 21, 3) := dk_181 0 21 (dk_at dksX8_init_1 2 rfl rfl)
theorem dX8_init_29 : decode cX8_init 29 = .ok (.aload_n 0, 1) := dk_42 (dk_at dksX8_init_1 5 rfl rfl)
theorem dX8_init_30 : decode cX8_init 30 = .ok (.bipush 6, 2) := dk_16 6 (dk_at dksX8_init_1 6 rfl rfl)
theorem dX8_init_32 : decode cX8_init 32 = .ok (.newarray .int, 2) := dk_188_10 (dk_at dksX8_init_1 8 rfl rfl)
theorem dX8_init_34 : decode cX8_init 34 = .ok (.putfield 24, 3) := dk_181 0 24 (dk_at dksX8_init_1 10 rfl rfl)
theorem dX8_init_37 : decode cX8_init 37 = .ok (.aload_n 0, 1) := dk_42 (dk_at dksX8_init_1 13 rfl rfl)
theorem dX8_init_38 : decode cX8_init 38 = .ok (.bipush 6, 2) := dk_16 6 (dk_at dksX8_init_1 14 rfl rfl)
theorem dX8_init_40 : decode cX8_init 40 = .ok (.newarray .int, 2) := dk_188_10 (dk_at dksX8_init_1 16 rfl rfl)
theorem dX8_init_42 : decode cX8_init 42 = .ok (.putfield 27, 3) := dk_181 0 27 (dk_at dksX8_init_1 18 rfl rfl)
theorem dX8_init_45 : decode cX8_init 45 = .ok (.aload_n 0, 1) := dk_42 (dk_at dksX8_init_1 21 rfl rfl)
theorem dX8_init_46 : decode cX8_init 46 = .ok (.bipush 20, 2) := dk_16 20 (dk_at dksX8_init_1 22 rfl rfl)
theorem dX8_init_48 : decode cX8_init 48 = .ok (.putfield 30, 3) := dk_181 0 30 (dk_at dksX8_init_2 0 rfl rfl)
theorem dX8_init_51 : decode cX8_init 51 = .ok (.aload_n 0, 1) := dk_42 (dk_at dksX8_init_2 3 rfl rfl)
theorem dX8_init_52 : decode cX8_init 52 = .ok (.bipush 10, 2) := dk_16 10 (dk_at dksX8_init_2 4 rfl rfl)
theorem dX8_init_54 : decode cX8_init 54 = .ok (.putfield 34, 3) := dk_181 0 34 (dk_at dksX8_init_2 6 rfl rfl)
theorem dX8_init_57 : decode cX8_init 57 = .ok (.return_, 1) := dk_177 (dk_at dksX8_init_2 9 rfl rfl)
abbrev cX8_set : ByteArray := prog_5_method_2_code
def yX8_set : MethodName := ⟨RX8, "set", "(LWellOfTheSilent$Hill;)LWellOfTheSilent$Hill;"⟩
def dkwX8_set_5 : List UInt8 := [43, 180, 0, 27, 3, 42, 180, 0, 27, 3, 16, 6, 184, 0, 55, 42, 176]
abbrev dktX8_set_5 : List UInt8 := dkwX8_set_5 ++ []
def dkwX8_set_4 : List UInt8 := [180, 0, 21, 3, 16, 6, 184, 0, 55, 43, 180, 0, 24, 3, 42, 180, 0, 24, 3, 16, 6, 184, 0, 55]
abbrev dktX8_set_4 : List UInt8 := dkwX8_set_4 ++ dktX8_set_5
def dkwX8_set_3 : List UInt8 := [184, 0, 55, 43, 180, 0, 17, 3, 42, 180, 0, 17, 3, 16, 6, 184, 0, 55, 43, 180, 0, 21, 3, 42]
abbrev dktX8_set_3 : List UInt8 := dkwX8_set_3 ++ dktX8_set_4
def dkwX8_set_2 : List UInt8 := [42, 3, 181, 0, 49, 42, 3, 181, 0, 52, 43, 180, 0, 11, 3, 42, 180, 0, 11, 3, 16, 6]
abbrev dktX8_set_2 : List UInt8 := dkwX8_set_2 ++ dktX8_set_3
def dkwX8_set_1 : List UInt8 := [42, 43, 180, 0, 30, 181, 0, 30, 42, 43, 180, 0, 34, 181, 0, 34, 42, 43, 180, 0, 46, 181, 0, 46]
abbrev dktX8_set_1 : List UInt8 := dkwX8_set_1 ++ dktX8_set_2
def dkwX8_set_0 : List UInt8 := [42, 43, 180, 0, 37, 181, 0, 37, 42, 43, 180, 0, 40, 181, 0, 40, 42, 43, 180, 0, 43, 181, 0, 43]
abbrev dktX8_set_0 : List UInt8 := dkwX8_set_0 ++ dktX8_set_1
theorem dksX8_set_0 : cX8_set.data.toList.drop 0 = dktX8_set_0 := by decide +kernel
theorem dksX8_set_1 : cX8_set.data.toList.drop 24 = dktX8_set_1 := dk_seg dksX8_set_0 24 rfl rfl
theorem dksX8_set_2 : cX8_set.data.toList.drop 48 = dktX8_set_2 := dk_seg dksX8_set_1 24 rfl rfl
theorem dksX8_set_3 : cX8_set.data.toList.drop 70 = dktX8_set_3 := dk_seg dksX8_set_2 22 rfl rfl
theorem dksX8_set_4 : cX8_set.data.toList.drop 94 = dktX8_set_4 := dk_seg dksX8_set_3 24 rfl rfl
theorem dksX8_set_5 : cX8_set.data.toList.drop 118 = dktX8_set_5 := dk_seg dksX8_set_4 24 rfl rfl
theorem dX8_set_0 : decode cX8_set 0 = .ok (.aload_n 0, 1) := dk_42 (dk_at dksX8_set_0 0 rfl rfl)
theorem dX8_set_1 : decode cX8_set 1 = .ok (.aload_n 1, 1) := dk_43 (dk_at dksX8_set_0 1 rfl rfl)
theorem dX8_set_2 : decode cX8_set 2 = .ok (.getfield 37, 3) := dk_180 0 37 (dk_at dksX8_set_0 2 rfl rfl)
theorem dX8_set_5 : decode cX8_set 5 = .ok (.putfield 37, 3) := dk_181 0 37 (dk_at dksX8_set_0 5 rfl rfl)
theorem dX8_set_8 : decode cX8_set 8 = .ok (.aload_n 0, 1) := dk_42 (dk_at dksX8_set_0 8 rfl rfl)
theorem dX8_set_9 : decode cX8_set 9 = .ok (.aload_n 1, 1) := dk_43 (dk_at dksX8_set_0 9 rfl rfl)
theorem dX8_set_10 : decode cX8_set 10 = .ok (.getfield 40, 3) := dk_180 0 40 (dk_at dksX8_set_0 10 rfl rfl)
theorem dX8_set_13 : decode cX8_set 13 = .ok (.putfield 40, 3) := dk_181 0 40 (dk_at dksX8_set_0 13 rfl rfl)
theorem dX8_set_16 : decode cX8_set 16 = .ok (.aload_n 0, 1) := dk_42 (dk_at dksX8_set_0 16 rfl rfl)
theorem dX8_set_17 : decode cX8_set 17 = .ok (.aload_n 1, 1) := dk_43 (dk_at dksX8_set_0 17 rfl rfl)
theorem dX8_set_18 : decode cX8_set 18 = .ok (.getfield 43, 3) := dk_180 0 43 (dk_at dksX8_set_0 18 rfl rfl)
theorem dX8_set_21 : decode cX8_set 21 = .ok (.putfield 43, 3) := dk_181 0 43 (dk_at dksX8_set_0 21 rfl rfl)
theorem dX8_set_24 : decode cX8_set 24 = .ok (.aload_n 0, 1) := dk_42 (dk_at dksX8_set_1 0 rfl rfl)
theorem dX8_set_25 : decode cX8_set 25 = .ok (.aload_n 1, 1) := dk_43 (dk_at dksX8_set_1 1 rfl rfl)
theorem dX8_set_26 : decode cX8_set 26 = .ok (.getfield 30, 3) := dk_180 0 30 (dk_at dksX8_set_1 2 rfl rfl)
theorem dX8_set_29 : decode cX8_set 29 = .ok (.putfield 30, 3) := dk_181 0 30 (dk_at dksX8_set_1 5 rfl rfl)
theorem dX8_set_32 : decode cX8_set 32 = .ok (.aload_n 0, 1) := dk_42 (dk_at dksX8_set_1 8 rfl rfl)
theorem dX8_set_33 : decode cX8_set 33 = .ok (.aload_n 1, 1) := dk_43 (dk_at dksX8_set_1 9 rfl rfl)
theorem dX8_set_34 : decode cX8_set 34 = .ok (.getfield 34, 3) := dk_180 0 34 (dk_at dksX8_set_1 10 rfl rfl)
theorem dX8_set_37 : decode cX8_set 37 = .ok (.putfield 34, 3) := dk_181 0 34 (dk_at dksX8_set_1 13 rfl rfl)
theorem dX8_set_40 : decode cX8_set 40 = .ok (.aload_n 0, 1) := dk_42 (dk_at dksX8_set_1 16 rfl rfl)
theorem dX8_set_41 : decode cX8_set 41 = .ok (.aload_n 1, 1) := dk_43 (dk_at dksX8_set_1 17 rfl rfl)
theorem dX8_set_42 : decode cX8_set 42 = .ok (.getfield 46, 3) := dk_180 0 46 (dk_at dksX8_set_1 18 rfl rfl)
theorem dX8_set_45 : decode cX8_set 45 = .ok (.putfield 46, 3) := dk_181 0 46 (dk_at dksX8_set_1 21 rfl rfl)
theorem dX8_set_48 : decode cX8_set 48 = .ok (.aload_n 0, 1) := dk_42 (dk_at dksX8_set_2 0 rfl rfl)
theorem dX8_set_49 : decode cX8_set 49 = .ok (.iconst 0, 1) := dk_3 (dk_at dksX8_set_2 1 rfl rfl)
theorem dX8_set_50 : decode cX8_set 50 = .ok (.putfield 49, 3) := dk_181 0 49 (dk_at dksX8_set_2 2 rfl rfl)
theorem dX8_set_53 : decode cX8_set 53 = .ok (.aload_n 0, 1) := dk_42 (dk_at dksX8_set_2 5 rfl rfl)
theorem dX8_set_54 : decode cX8_set 54 = .ok (.iconst 0, 1) := dk_3 (dk_at dksX8_set_2 6 rfl rfl)
theorem dX8_set_55 : decode cX8_set 55 = .ok (.putfield 52, 3) := dk_181 0 52 (dk_at dksX8_set_2 7 rfl rfl)
theorem dX8_set_58 : decode cX8_set 58 = .ok (.aload_n 1, 1) := dk_43 (dk_at dksX8_set_2 10 rfl rfl)
theorem dX8_set_59 : decode cX8_set 59 = .ok (.getfield 11, 3) := dk_180 0 11 (dk_at dksX8_set_2 11 rfl rfl)
theorem dX8_set_62 : decode cX8_set 62 = .ok (.iconst 0, 1) := dk_3 (dk_at dksX8_set_2 14 rfl rfl)
theorem dX8_set_63 : decode cX8_set 63 = .ok (.aload_n 0, 1) := dk_42 (dk_at dksX8_set_2 15 rfl rfl)
theorem dX8_set_64 : decode cX8_set 64 = .ok (.getfield 11, 3) := dk_180 0 11 (dk_at dksX8_set_2 16 rfl rfl)
theorem dX8_set_67 : decode cX8_set 67 = .ok (.iconst 0, 1) := dk_3 (dk_at dksX8_set_2 19 rfl rfl)
theorem dX8_set_68 : decode cX8_set 68 = .ok (.bipush 6, 2) := dk_16 6 (dk_at dksX8_set_2 20 rfl rfl)
theorem dX8_set_70 : decode cX8_set 70 = .ok (.invokestatic 55, 3) := dk_184 0 55 (dk_at dksX8_set_3 0 rfl rfl)
theorem dX8_set_73 : decode cX8_set 73 = .ok (.aload_n 1, 1) := dk_43 (dk_at dksX8_set_3 3 rfl rfl)
theorem dX8_set_74 : decode cX8_set 74 = .ok (.getfield 17, 3) := dk_180 0 17 (dk_at dksX8_set_3 4 rfl rfl)
theorem dX8_set_77 : decode cX8_set 77 = .ok (.iconst 0, 1) := dk_3 (dk_at dksX8_set_3 7 rfl rfl)
theorem dX8_set_78 : decode cX8_set 78 = .ok (.aload_n 0, 1) := dk_42 (dk_at dksX8_set_3 8 rfl rfl)
theorem dX8_set_79 : decode cX8_set 79 = .ok (.getfield 17, 3) := dk_180 0 17 (dk_at dksX8_set_3 9 rfl rfl)
theorem dX8_set_82 : decode cX8_set 82 = .ok (.iconst 0, 1) := dk_3 (dk_at dksX8_set_3 12 rfl rfl)
theorem dX8_set_83 : decode cX8_set 83 = .ok (.bipush 6, 2) := dk_16 6 (dk_at dksX8_set_3 13 rfl rfl)
theorem dX8_set_85 : decode cX8_set 85 = .ok (.invokestatic 55, 3) := dk_184 0 55 (dk_at dksX8_set_3 15 rfl rfl)
theorem dX8_set_88 : decode cX8_set 88 = .ok (.aload_n 1, 1) := dk_43 (dk_at dksX8_set_3 18 rfl rfl)
theorem dX8_set_89 : decode cX8_set 89 = .ok (.getfield 21, 3) := dk_180 0 21 (dk_at dksX8_set_3 19 rfl rfl)
theorem dX8_set_92 : decode cX8_set 92 = .ok (.iconst 0, 1) := dk_3 (dk_at dksX8_set_3 22 rfl rfl)
theorem dX8_set_93 : decode cX8_set 93 = .ok (.aload_n 0, 1) := dk_42 (dk_at dksX8_set_3 23 rfl rfl)
theorem dX8_set_94 : decode cX8_set 94 = .ok (.getfield 21, 3) := dk_180 0 21 (dk_at dksX8_set_4 0 rfl rfl)
theorem dX8_set_97 : decode cX8_set 97 = .ok (.iconst 0, 1) := dk_3 (dk_at dksX8_set_4 3 rfl rfl)
theorem dX8_set_98 : decode cX8_set 98 = .ok (.bipush 6, 2) := dk_16 6 (dk_at dksX8_set_4 4 rfl rfl)
theorem dX8_set_100 : decode cX8_set 100 = .ok (.invokestatic 55, 3) := dk_184 0 55 (dk_at dksX8_set_4 6 rfl rfl)
theorem dX8_set_103 : decode cX8_set 103 = .ok (.aload_n 1, 1) := dk_43 (dk_at dksX8_set_4 9 rfl rfl)
theorem dX8_set_104 : decode cX8_set 104 = .ok (.getfield 24, 3) := dk_180 0 24 (dk_at dksX8_set_4 10 rfl rfl)
theorem dX8_set_107 : decode cX8_set 107 = .ok (.iconst 0, 1) := dk_3 (dk_at dksX8_set_4 13 rfl rfl)
theorem dX8_set_108 : decode cX8_set 108 = .ok (.aload_n 0, 1) := dk_42 (dk_at dksX8_set_4 14 rfl rfl)
theorem dX8_set_109 : decode cX8_set 109 = .ok (.getfield 24, 3) := dk_180 0 24 (dk_at dksX8_set_4 15 rfl rfl)
theorem dX8_set_112 : decode cX8_set 112 = .ok (.iconst 0, 1) := dk_3 (dk_at dksX8_set_4 18 rfl rfl)
theorem dX8_set_113 : decode cX8_set 113 = .ok (.bipush 6, 2) := dk_16 6 (dk_at dksX8_set_4 19 rfl rfl)
theorem dX8_set_115 : decode cX8_set 115 = .ok (.invokestatic 55, 3) := dk_184 0 55 (dk_at dksX8_set_4 21 rfl rfl)
theorem dX8_set_118 : decode cX8_set 118 = .ok (.aload_n 1, 1) := dk_43 (dk_at dksX8_set_5 0 rfl rfl)
theorem dX8_set_119 : decode cX8_set 119 = .ok (.getfield 27, 3) := dk_180 0 27 (dk_at dksX8_set_5 1 rfl rfl)
theorem dX8_set_122 : decode cX8_set 122 = .ok (.iconst 0, 1) := dk_3 (dk_at dksX8_set_5 4 rfl rfl)
theorem dX8_set_123 : decode cX8_set 123 = .ok (.aload_n 0, 1) := dk_42 (dk_at dksX8_set_5 5 rfl rfl)
theorem dX8_set_124 : decode cX8_set 124 = .ok (.getfield 27, 3) := dk_180 0 27 (dk_at dksX8_set_5 6 rfl rfl)
theorem dX8_set_127 : decode cX8_set 127 = .ok (.iconst 0, 1) := dk_3 (dk_at dksX8_set_5 9 rfl rfl)
theorem dX8_set_128 : decode cX8_set 128 = .ok (.bipush 6, 2) := dk_16 6 (dk_at dksX8_set_5 10 rfl rfl)
theorem dX8_set_130 : decode cX8_set 130 = .ok (.invokestatic 55, 3) := dk_184 0 55 (dk_at dksX8_set_5 12 rfl rfl)
theorem dX8_set_133 : decode cX8_set 133 = .ok (.aload_n 0, 1) := dk_42 (dk_at dksX8_set_5 15 rfl rfl)
theorem dX8_set_134 : decode cX8_set 134 = .ok (.areturn, 1) := dk_176 (dk_at dksX8_set_5 16 rfl rfl)
abbrev cX8_hoursOn : ByteArray := prog_5_method_7_code
def yX8_hoursOn : MethodName := ⟨RX8, "hoursOn", "(I)LWellOfTheSilent$Hill;"⟩
def dkwX8_hoursOn_0 : List UInt8 := [3, 61, 28, 27, 162, 0, 13, 42, 182, 0, 95, 132, 2, 1, 167, 255, 244, 42, 176]
abbrev dktX8_hoursOn_0 : List UInt8 := dkwX8_hoursOn_0 ++ []
theorem dksX8_hoursOn_0 : cX8_hoursOn.data.toList.drop 0 = dktX8_hoursOn_0 := by decide +kernel
theorem dX8_hoursOn_0 : decode cX8_hoursOn 0 = .ok (.iconst 0, 1) := dk_3 (dk_at dksX8_hoursOn_0 0 rfl rfl)
theorem dX8_hoursOn_1 : decode cX8_hoursOn 1 = .ok (.istore_n 2, 1) := dk_61 (dk_at dksX8_hoursOn_0 1 rfl rfl)
theorem dX8_hoursOn_2 : decode cX8_hoursOn 2 = .ok (.iload_n 2, 1) := dk_28 (dk_at dksX8_hoursOn_0 2 rfl rfl)
theorem dX8_hoursOn_3 : decode cX8_hoursOn 3 = .ok (.iload_n 1, 1) := dk_27 (dk_at dksX8_hoursOn_0 3 rfl rfl)
theorem dX8_hoursOn_4 : decode cX8_hoursOn 4 = .ok (.if_icmp .ge 13, 3) := dk_162 0 13 (dk_at dksX8_hoursOn_0 4 rfl rfl)
theorem dX8_hoursOn_7 : decode cX8_hoursOn 7 = .ok (.aload_n 0, 1) := dk_42 (dk_at dksX8_hoursOn_0 7 rfl rfl)
theorem dX8_hoursOn_8 : decode cX8_hoursOn 8 = .ok (.invokevirtual 95, 3) := dk_182 0 95 (dk_at dksX8_hoursOn_0 8 rfl rfl)
theorem dX8_hoursOn_11 : decode cX8_hoursOn 11 = .ok (.iinc 2 1, 3) := dk_132 2 1 (dk_at dksX8_hoursOn_0 11 rfl rfl)
theorem dX8_hoursOn_14 : decode cX8_hoursOn 14 = .ok (.goto (-12), 3) := dk_167 255 244 (dk_at dksX8_hoursOn_0 14 rfl rfl)
theorem dX8_hoursOn_17 : decode cX8_hoursOn 17 = .ok (.aload_n 0, 1) := dk_42 (dk_at dksX8_hoursOn_0 17 rfl rfl)
theorem dX8_hoursOn_18 : decode cX8_hoursOn 18 = .ok (.areturn, 1) := dk_176 (dk_at dksX8_hoursOn_0 18 rfl rfl)
abbrev cX8_hourOn : ByteArray := prog_5_method_6_code
def yX8_hourOn : MethodName := ⟨RX8, "hourOn", "()V"⟩
def dkwX8_hourOn_7 : List UInt8 := [180, 0, 46, 4, 96, 181, 0, 46, 177]
abbrev dktX8_hourOn_7 : List UInt8 := dkwX8_hourOn_7 ++ []
def dkwX8_hourOn_6 : List UInt8 := [42, 180, 0, 11, 28, 50, 182, 0, 88, 100, 184, 0, 92, 79, 132, 2, 1, 167, 255, 213, 42, 89]
abbrev dktX8_hourOn_6 : List UInt8 := dkwX8_hourOn_6 ++ dktX8_hourOn_7
def dkwX8_hourOn_5 : List UInt8 := [180, 0, 37, 162, 0, 41, 27, 16, 11, 160, 0, 35, 42, 180, 0, 24, 28, 3, 42, 180, 0, 24, 28, 46]
abbrev dktX8_hourOn_5 : List UInt8 := dkwX8_hourOn_5 ++ dktX8_hourOn_6
def dkwX8_hourOn_4 : List UInt8 := [61, 28, 42, 180, 0, 37, 162, 0, 14, 42, 28, 182, 0, 84, 132, 2, 1, 167, 255, 240, 3, 61, 28, 42]
abbrev dktX8_hourOn_4 : List UInt8 := dkwX8_hourOn_4 ++ dktX8_hourOn_5
def dkwX8_hourOn_3 : List UInt8 := [184, 0, 61, 153, 0, 9, 4, 28, 120, 167, 0, 4, 3, 128, 181, 0, 40, 132, 2, 1, 167, 255, 209, 3]
abbrev dktX8_hourOn_3 : List UInt8 := dkwX8_hourOn_3 ++ dktX8_hourOn_4
def dkwX8_hourOn_2 : List UInt8 := [162, 0, 45, 42, 89, 180, 0, 40, 42, 28, 182, 0, 83, 27, 159, 0, 14, 42, 180, 0, 52, 28]
abbrev dktX8_hourOn_2 : List UInt8 := dkwX8_hourOn_2 ++ dktX8_hourOn_3
def dkwX8_hourOn_1 : List UInt8 := [16, 99, 42, 180, 0, 30, 42, 180, 0, 34, 96, 184, 0, 73, 181, 0, 30, 3, 61, 28, 42, 180, 0, 37]
abbrev dktX8_hourOn_1 : List UInt8 := dkwX8_hourOn_1 ++ dktX8_hourOn_2
def dkwX8_hourOn_0 : List UInt8 := [42, 180, 0, 46, 16, 12, 112, 60, 27, 154, 0, 31, 42, 3, 181, 0, 40, 42, 3, 181, 0, 43, 42]
abbrev dktX8_hourOn_0 : List UInt8 := dkwX8_hourOn_0 ++ dktX8_hourOn_1
theorem dksX8_hourOn_0 : cX8_hourOn.data.toList.drop 0 = dktX8_hourOn_0 := by decide +kernel
theorem dksX8_hourOn_1 : cX8_hourOn.data.toList.drop 23 = dktX8_hourOn_1 := dk_seg dksX8_hourOn_0 23 rfl rfl
theorem dksX8_hourOn_2 : cX8_hourOn.data.toList.drop 47 = dktX8_hourOn_2 := dk_seg dksX8_hourOn_1 24 rfl rfl
theorem dksX8_hourOn_3 : cX8_hourOn.data.toList.drop 69 = dktX8_hourOn_3 := dk_seg dksX8_hourOn_2 22 rfl rfl
theorem dksX8_hourOn_4 : cX8_hourOn.data.toList.drop 93 = dktX8_hourOn_4 := dk_seg dksX8_hourOn_3 24 rfl rfl
theorem dksX8_hourOn_5 : cX8_hourOn.data.toList.drop 117 = dktX8_hourOn_5 := dk_seg dksX8_hourOn_4 24 rfl rfl
theorem dksX8_hourOn_6 : cX8_hourOn.data.toList.drop 141 = dktX8_hourOn_6 := dk_seg dksX8_hourOn_5 24 rfl rfl
theorem dksX8_hourOn_7 : cX8_hourOn.data.toList.drop 163 = dktX8_hourOn_7 := dk_seg dksX8_hourOn_6 22 rfl rfl
theorem dX8_hourOn_0 : decode cX8_hourOn 0 = .ok (.aload_n 0, 1) := dk_42 (dk_at dksX8_hourOn_0 0 rfl rfl)
theorem dX8_hourOn_1 : decode cX8_hourOn 1 = .ok (.getfield 46, 3) := dk_180 0 46 (dk_at dksX8_hourOn_0 1 rfl rfl)
theorem dX8_hourOn_4 : decode cX8_hourOn 4 = .ok (.bipush 12, 2) := dk_16 12 (dk_at dksX8_hourOn_0 4 rfl rfl)
theorem dX8_hourOn_6 : decode cX8_hourOn 6 = .ok (.irem, 1) := dk_112 (dk_at dksX8_hourOn_0 6 rfl rfl)
theorem dX8_hourOn_7 : decode cX8_hourOn 7 = .ok (.istore_n 1, 1) := dk_60 (dk_at dksX8_hourOn_0 7 rfl rfl)
theorem dX8_hourOn_8 : decode cX8_hourOn 8 = .ok (.iload_n 1, 1) := dk_27 (dk_at dksX8_hourOn_0 8 rfl rfl)
theorem dX8_hourOn_9 : decode cX8_hourOn 9 = .ok (.ifCond .ne 31, 3) := dk_154 0 31 (dk_at dksX8_hourOn_0 9 rfl rfl)
theorem dX8_hourOn_12 : decode cX8_hourOn 12 = .ok (.aload_n 0, 1) := dk_42 (dk_at dksX8_hourOn_0 12 rfl rfl)
theorem dX8_hourOn_13 : decode cX8_hourOn 13 = .ok (.iconst 0, 1) := dk_3 (dk_at dksX8_hourOn_0 13 rfl rfl)
theorem dX8_hourOn_14 : decode cX8_hourOn 14 = .ok (.putfield 40, 3) := dk_181 0 40 (dk_at dksX8_hourOn_0 14 rfl rfl)
theorem dX8_hourOn_17 : decode cX8_hourOn 17 = .ok (.aload_n 0, 1) := dk_42 (dk_at dksX8_hourOn_0 17 rfl rfl)
theorem dX8_hourOn_18 : decode cX8_hourOn 18 = .ok (.iconst 0, 1) := dk_3 (dk_at dksX8_hourOn_0 18 rfl rfl)
theorem dX8_hourOn_19 : decode cX8_hourOn 19 = .ok (.putfield 43, 3) := dk_181 0 43 (dk_at dksX8_hourOn_0 19 rfl rfl)
theorem dX8_hourOn_22 : decode cX8_hourOn 22 = .ok (.aload_n 0, 1) := dk_42 (dk_at dksX8_hourOn_0 22 rfl rfl)
theorem dX8_hourOn_23 : decode cX8_hourOn 23 = .ok (.bipush 99, 2) := dk_16 99 (dk_at dksX8_hourOn_1 0 rfl rfl)
theorem dX8_hourOn_25 : decode cX8_hourOn 25 = .ok (.aload_n 0, 1) := dk_42 (dk_at dksX8_hourOn_1 2 rfl rfl)
theorem dX8_hourOn_26 : decode cX8_hourOn 26 = .ok (.getfield 30, 3) := dk_180 0 30 (dk_at dksX8_hourOn_1 3 rfl rfl)
theorem dX8_hourOn_29 : decode cX8_hourOn 29 = .ok (.aload_n 0, 1) := dk_42 (dk_at dksX8_hourOn_1 6 rfl rfl)
theorem dX8_hourOn_30 : decode cX8_hourOn 30 = .ok (.getfield 34, 3) := dk_180 0 34 (dk_at dksX8_hourOn_1 7 rfl rfl)
theorem dX8_hourOn_33 : decode cX8_hourOn 33 = .ok (.iadd, 1) := dk_96 (dk_at dksX8_hourOn_1 10 rfl rfl)
theorem dX8_hourOn_34 : decode cX8_hourOn 34 = .ok (.invokestatic 73, 3) := dk_184 0 73 (dk_at dksX8_hourOn_1 11 rfl rfl)
theorem dX8_hourOn_37 : decode cX8_hourOn 37 = .ok (.putfield 30, 3) := dk_181 0 30 (dk_at dksX8_hourOn_1 14 rfl rfl)
theorem dX8_hourOn_40 : decode cX8_hourOn 40 = .ok (.iconst 0, 1) := dk_3 (dk_at dksX8_hourOn_1 17 rfl rfl)
theorem dX8_hourOn_41 : decode cX8_hourOn 41 = .ok (.istore_n 2, 1) := dk_61 (dk_at dksX8_hourOn_1 18 rfl rfl)
theorem dX8_hourOn_42 : decode cX8_hourOn 42 = .ok (.iload_n 2, 1) := dk_28 (dk_at dksX8_hourOn_1 19 rfl rfl)
theorem dX8_hourOn_43 : decode cX8_hourOn 43 = .ok (.aload_n 0, 1) := dk_42 (dk_at dksX8_hourOn_1 20 rfl rfl)
theorem dX8_hourOn_44 : decode cX8_hourOn 44 = .ok (.getfield 37, 3) := dk_180 0 37 (dk_at dksX8_hourOn_1 21 rfl rfl)
theorem dX8_hourOn_47 : decode cX8_hourOn 47 = .ok (.if_icmp .ge 45, 3) := dk_162 0 45 (dk_at dksX8_hourOn_2 0 rfl rfl)
theorem dX8_hourOn_50 : decode cX8_hourOn 50 = .ok (.aload_n 0, 1) := dk_42 (dk_at dksX8_hourOn_2 3 rfl rfl)
theorem dX8_hourOn_51 : decode cX8_hourOn 51 = .ok (.dup, 1) := dk_89 (dk_at dksX8_hourOn_2 4 rfl rfl)
theorem dX8_hourOn_52 : decode cX8_hourOn 52 = .ok (.getfield 40, 3) := dk_180 0 40 (dk_at dksX8_hourOn_2 5 rfl rfl)
theorem dX8_hourOn_55 : decode cX8_hourOn 55 = .ok (.aload_n 0, 1) := dk_42 (dk_at dksX8_hourOn_2 8 rfl rfl)
theorem dX8_hourOn_56 : decode cX8_hourOn 56 = .ok (.iload_n 2, 1) := dk_28 (dk_at dksX8_hourOn_2 9 rfl rfl)
theorem dX8_hourOn_57 : decode cX8_hourOn 57 = .ok (.invokevirtual 83, 3) := dk_182 0 83 (dk_at dksX8_hourOn_2 10 rfl rfl)
theorem dX8_hourOn_60 : decode cX8_hourOn 60 = .ok (.iload_n 1, 1) := dk_27 (dk_at dksX8_hourOn_2 13 rfl rfl)
theorem dX8_hourOn_61 : decode cX8_hourOn 61 = .ok (.if_icmp .eq 14, 3) := dk_159 0 14 (dk_at dksX8_hourOn_2 14 rfl rfl)
theorem dX8_hourOn_64 : decode cX8_hourOn 64 = .ok (.aload_n 0, 1) := dk_42 (dk_at dksX8_hourOn_2 17 rfl rfl)
theorem dX8_hourOn_65 : decode cX8_hourOn 65 = .ok (.getfield 52, 3) := dk_180 0 52 (dk_at dksX8_hourOn_2 18 rfl rfl)
theorem dX8_hourOn_68 : decode cX8_hourOn 68 = .ok (.iload_n 2, 1) := dk_28 (dk_at dksX8_hourOn_2 21 rfl rfl)
theorem dX8_hourOn_69 : decode cX8_hourOn 69 = .ok (.invokestatic 61, 3) := dk_184 0 61 (dk_at dksX8_hourOn_3 0 rfl rfl)
theorem dX8_hourOn_72 : decode cX8_hourOn 72 = .ok (.ifCond .eq 9, 3) := dk_153 0 9 (dk_at dksX8_hourOn_3 3 rfl rfl)
theorem dX8_hourOn_75 : decode cX8_hourOn 75 = .ok (.iconst 1, 1) := dk_4 (dk_at dksX8_hourOn_3 6 rfl rfl)
theorem dX8_hourOn_76 : decode cX8_hourOn 76 = .ok (.iload_n 2, 1) := dk_28 (dk_at dksX8_hourOn_3 7 rfl rfl)
theorem dX8_hourOn_77 : decode cX8_hourOn 77 = .ok (.ishl, 1) := dk_120 (dk_at dksX8_hourOn_3 8 rfl rfl)
theorem dX8_hourOn_78 : decode cX8_hourOn 78 = .ok (.goto 4, 3) := dk_167 0 4 (dk_at dksX8_hourOn_3 9 rfl rfl)
theorem dX8_hourOn_81 : decode cX8_hourOn 81 = .ok (.iconst 0, 1) := dk_3 (dk_at dksX8_hourOn_3 12 rfl rfl)
theorem dX8_hourOn_82 : decode cX8_hourOn 82 = .ok (.ior, 1) := dk_128 (dk_at dksX8_hourOn_3 13 rfl rfl)
theorem dX8_hourOn_83 : decode cX8_hourOn 83 = .ok (.putfield 40, 3) := dk_181 0 40 (dk_at dksX8_hourOn_3 14 rfl rfl)
theorem dX8_hourOn_86 : decode cX8_hourOn 86 = .ok (.iinc 2 1, 3) := dk_132 2 1 (dk_at dksX8_hourOn_3 17 rfl rfl)
theorem dX8_hourOn_89 : decode cX8_hourOn 89 = .ok (.goto (-47), 3) := dk_167 255 209 (dk_at dksX8_hourOn_3 20 rfl rfl)
theorem dX8_hourOn_92 : decode cX8_hourOn 92 = .ok (.iconst 0, 1) := dk_3 (dk_at dksX8_hourOn_3 23 rfl rfl)
theorem dX8_hourOn_93 : decode cX8_hourOn 93 = .ok (.istore_n 2, 1) := dk_61 (dk_at dksX8_hourOn_4 0 rfl rfl)
theorem dX8_hourOn_94 : decode cX8_hourOn 94 = .ok (.iload_n 2, 1) := dk_28 (dk_at dksX8_hourOn_4 1 rfl rfl)
theorem dX8_hourOn_95 : decode cX8_hourOn 95 = .ok (.aload_n 0, 1) := dk_42 (dk_at dksX8_hourOn_4 2 rfl rfl)
theorem dX8_hourOn_96 : decode cX8_hourOn 96 = .ok (.getfield 37, 3) := dk_180 0 37 (dk_at dksX8_hourOn_4 3 rfl rfl)
theorem dX8_hourOn_99 : decode cX8_hourOn 99 = .ok (.if_icmp .ge 14, 3) := dk_162 0 14 (dk_at dksX8_hourOn_4 6 rfl rfl)
theorem dX8_hourOn_102 : decode cX8_hourOn 102 = .ok (.aload_n 0, 1) := dk_42 (dk_at dksX8_hourOn_4 9 rfl rfl)
theorem dX8_hourOn_103 : decode cX8_hourOn 103 = .ok (.iload_n 2, 1) := dk_28 (dk_at dksX8_hourOn_4 10 rfl rfl)
theorem dX8_hourOn_104 : decode cX8_hourOn 104 = .ok (.invokevirtual 84, 3) := dk_182 0 84 (dk_at dksX8_hourOn_4 11 rfl rfl)
theorem dX8_hourOn_107 : decode cX8_hourOn 107 = .ok (.iinc 2 1, 3) := dk_132 2 1 (dk_at dksX8_hourOn_4 14 rfl rfl)
theorem dX8_hourOn_110 : decode cX8_hourOn 110 = .ok (.goto (-16), 3) := dk_167 255 240 (dk_at dksX8_hourOn_4 17 rfl rfl)
theorem dX8_hourOn_113 : decode cX8_hourOn 113 = .ok (.iconst 0, 1) := dk_3 (dk_at dksX8_hourOn_4 20 rfl rfl)
theorem dX8_hourOn_114 : decode cX8_hourOn 114 = .ok (.istore_n 2, 1) := dk_61 (dk_at dksX8_hourOn_4 21 rfl rfl)
theorem dX8_hourOn_115 : decode cX8_hourOn 115 = .ok (.iload_n 2, 1) := dk_28 (dk_at dksX8_hourOn_4 22 rfl rfl)
theorem dX8_hourOn_116 : decode cX8_hourOn 116 = .ok (.aload_n 0, 1) := dk_42 (dk_at dksX8_hourOn_4 23 rfl rfl)
theorem dX8_hourOn_117 : decode cX8_hourOn 117 = .ok (.getfield 37, 3) := dk_180 0 37 (dk_at dksX8_hourOn_5 0 rfl rfl)
theorem dX8_hourOn_120 : decode cX8_hourOn 120 = .ok (.if_icmp .ge 41, 3) := dk_162 0 41 (dk_at dksX8_hourOn_5 3 rfl rfl)
theorem dX8_hourOn_123 : decode cX8_hourOn 123 = .ok (.iload_n 1, 1) := dk_27 (dk_at dksX8_hourOn_5 6 rfl rfl)
theorem dX8_hourOn_124 : decode cX8_hourOn 124 = .ok (.bipush 11, 2) := dk_16 11 (dk_at dksX8_hourOn_5 7 rfl rfl)
theorem dX8_hourOn_126 : decode cX8_hourOn 126 = .ok (.if_icmp .ne 35, 3) := dk_160 0 35 (dk_at dksX8_hourOn_5 9 rfl rfl)
theorem dX8_hourOn_129 : decode cX8_hourOn 129 = .ok (.aload_n 0, 1) := dk_42 (dk_at dksX8_hourOn_5 12 rfl rfl)
theorem dX8_hourOn_130 : decode cX8_hourOn 130 = .ok (.getfield 24, 3) := dk_180 0 24 (dk_at dksX8_hourOn_5 13 rfl rfl)
theorem dX8_hourOn_133 : decode cX8_hourOn 133 = .ok (.iload_n 2, 1) := dk_28 (dk_at dksX8_hourOn_5 16 rfl rfl)
theorem dX8_hourOn_134 : decode cX8_hourOn 134 = .ok (.iconst 0, 1) := dk_3 (dk_at dksX8_hourOn_5 17 rfl rfl)
theorem dX8_hourOn_135 : decode cX8_hourOn 135 = .ok (.aload_n 0, 1) := dk_42 (dk_at dksX8_hourOn_5 18 rfl rfl)
theorem dX8_hourOn_136 : decode cX8_hourOn 136 = .ok (.getfield 24, 3) := dk_180 0 24 (dk_at dksX8_hourOn_5 19 rfl rfl)
theorem dX8_hourOn_139 : decode cX8_hourOn 139 = .ok (.iload_n 2, 1) := dk_28 (dk_at dksX8_hourOn_5 22 rfl rfl)
theorem dX8_hourOn_140 : decode cX8_hourOn 140 = .ok (.iaload, 1) := dk_46 (dk_at dksX8_hourOn_5 23 rfl rfl)
theorem dX8_hourOn_141 : decode cX8_hourOn 141 = .ok (.aload_n 0, 1) := dk_42 (dk_at dksX8_hourOn_6 0 rfl rfl)
theorem dX8_hourOn_142 : decode cX8_hourOn 142 = .ok (.getfield 11, 3) := dk_180 0 11 (dk_at dksX8_hourOn_6 1 rfl rfl)
theorem dX8_hourOn_145 : decode cX8_hourOn 145 = .ok (.iload_n 2, 1) := dk_28 (dk_at dksX8_hourOn_6 4 rfl rfl)
theorem dX8_hourOn_146 : decode cX8_hourOn 146 = .ok (.aaload, 1) := dk_50 (dk_at dksX8_hourOn_6 5 rfl rfl)
theorem dX8_hourOn_147 : decode cX8_hourOn 147 = .ok (.invokevirtual 88, 3) := dk_182 0 88 (dk_at dksX8_hourOn_6 6 rfl rfl)
theorem dX8_hourOn_150 : decode cX8_hourOn 150 = .ok (.isub, 1) := dk_100 (dk_at dksX8_hourOn_6 9 rfl rfl)
theorem dX8_hourOn_151 : decode cX8_hourOn 151 = .ok (.invokestatic 92, 3) := dk_184 0 92 (dk_at dksX8_hourOn_6 10 rfl rfl)
theorem dX8_hourOn_154 : decode cX8_hourOn 154 = .ok (.iastore, 1) := dk_79 (dk_at dksX8_hourOn_6 13 rfl rfl)
theorem dX8_hourOn_155 : decode cX8_hourOn 155 = .ok (.iinc 2 1, 3) := dk_132 2 1 (dk_at dksX8_hourOn_6 14 rfl rfl)
theorem dX8_hourOn_158 : decode cX8_hourOn 158 = .ok (.goto (-43), 3) := dk_167 255 213 (dk_at dksX8_hourOn_6 17 rfl rfl)
theorem dX8_hourOn_161 : decode cX8_hourOn 161 = .ok (.aload_n 0, 1) := dk_42 (dk_at dksX8_hourOn_6 20 rfl rfl)
theorem dX8_hourOn_162 : decode cX8_hourOn 162 = .ok (.dup, 1) := dk_89 (dk_at dksX8_hourOn_6 21 rfl rfl)
theorem dX8_hourOn_163 : decode cX8_hourOn 163 = .ok (.getfield 46, 3) := dk_180 0 46 (dk_at dksX8_hourOn_7 0 rfl rfl)
theorem dX8_hourOn_166 : decode cX8_hourOn 166 = .ok (.iconst 1, 1) := dk_4 (dk_at dksX8_hourOn_7 3 rfl rfl)
theorem dX8_hourOn_167 : decode cX8_hourOn 167 = .ok (.iadd, 1) := dk_96 (dk_at dksX8_hourOn_7 4 rfl rfl)
theorem dX8_hourOn_168 : decode cX8_hourOn 168 = .ok (.putfield 46, 3) := dk_181 0 46 (dk_at dksX8_hourOn_7 5 rfl rfl)
theorem dX8_hourOn_171 : decode cX8_hourOn 171 = .ok (.return_, 1) := dk_177 (dk_at dksX8_hourOn_7 8 rfl rfl)
abbrev cX8_speaksIn : ByteArray := prog_5_method_3_code
def yX8_speaksIn : MethodName := ⟨RX8, "speaksIn", "(I)I"⟩
def dkwX8_speaksIn_1 : List UInt8 := [180, 0, 17, 27, 46, 182, 0, 65, 172]
abbrev dktX8_speaksIn_1 : List UInt8 := dkwX8_speaksIn_1 ++ []
def dkwX8_speaksIn_0 : List UInt8 := [42, 180, 0, 49, 27, 184, 0, 61, 153, 0, 8, 16, 12, 167, 0, 18, 42, 180, 0, 11, 27, 50, 42]
abbrev dktX8_speaksIn_0 : List UInt8 := dkwX8_speaksIn_0 ++ dktX8_speaksIn_1
theorem dksX8_speaksIn_0 : cX8_speaksIn.data.toList.drop 0 = dktX8_speaksIn_0 := by decide +kernel
theorem dksX8_speaksIn_1 : cX8_speaksIn.data.toList.drop 23 = dktX8_speaksIn_1 := dk_seg dksX8_speaksIn_0 23 rfl rfl
theorem dX8_speaksIn_0 : decode cX8_speaksIn 0 = .ok (.aload_n 0, 1) := dk_42 (dk_at dksX8_speaksIn_0 0 rfl rfl)
theorem dX8_speaksIn_1 : decode cX8_speaksIn 1 = .ok (.getfield 49, 3) := dk_180 0 49 (dk_at dksX8_speaksIn_0 1 rfl rfl)
theorem dX8_speaksIn_4 : decode cX8_speaksIn 4 = .ok (.iload_n 1, 1) := dk_27 (dk_at dksX8_speaksIn_0 4 rfl rfl)
theorem dX8_speaksIn_5 : decode cX8_speaksIn 5 = .ok (.invokestatic 61, 3) := dk_184 0 61 (dk_at dksX8_speaksIn_0 5 rfl rfl)
theorem dX8_speaksIn_8 : decode cX8_speaksIn 8 = .ok (.ifCond .eq 8, 3) := dk_153 0 8 (dk_at dksX8_speaksIn_0 8 rfl rfl)
theorem dX8_speaksIn_11 : decode cX8_speaksIn 11 = .ok (.bipush 12, 2) := dk_16 12 (dk_at dksX8_speaksIn_0 11 rfl rfl)
theorem dX8_speaksIn_13 : decode cX8_speaksIn 13 = .ok (.goto 18, 3) := dk_167 0 18 (dk_at dksX8_speaksIn_0 13 rfl rfl)
theorem dX8_speaksIn_16 : decode cX8_speaksIn 16 = .ok (.aload_n 0, 1) := dk_42 (dk_at dksX8_speaksIn_0 16 rfl rfl)
theorem dX8_speaksIn_17 : decode cX8_speaksIn 17 = .ok (.getfield 11, 3) := dk_180 0 11 (dk_at dksX8_speaksIn_0 17 rfl rfl)
theorem dX8_speaksIn_20 : decode cX8_speaksIn 20 = .ok (.iload_n 1, 1) := dk_27 (dk_at dksX8_speaksIn_0 20 rfl rfl)
theorem dX8_speaksIn_21 : decode cX8_speaksIn 21 = .ok (.aaload, 1) := dk_50 (dk_at dksX8_speaksIn_0 21 rfl rfl)
theorem dX8_speaksIn_22 : decode cX8_speaksIn 22 = .ok (.aload_n 0, 1) := dk_42 (dk_at dksX8_speaksIn_0 22 rfl rfl)
theorem dX8_speaksIn_23 : decode cX8_speaksIn 23 = .ok (.getfield 17, 3) := dk_180 0 17 (dk_at dksX8_speaksIn_1 0 rfl rfl)
theorem dX8_speaksIn_26 : decode cX8_speaksIn 26 = .ok (.iload_n 1, 1) := dk_27 (dk_at dksX8_speaksIn_1 3 rfl rfl)
theorem dX8_speaksIn_27 : decode cX8_speaksIn 27 = .ok (.iaload, 1) := dk_46 (dk_at dksX8_speaksIn_1 4 rfl rfl)
theorem dX8_speaksIn_28 : decode cX8_speaksIn 28 = .ok (.invokevirtual 65, 3) := dk_182 0 65 (dk_at dksX8_speaksIn_1 5 rfl rfl)
theorem dX8_speaksIn_31 : decode cX8_speaksIn 31 = .ok (.ireturn, 1) := dk_172 (dk_at dksX8_speaksIn_1 8 rfl rfl)
abbrev cX8_draw : ByteArray := prog_5_method_4_code
def yX8_draw : MethodName := ⟨RX8, "draw", "(I)V"⟩
def dkwX8_draw_5 : List UInt8 := [89, 180, 0, 43, 4, 27, 120, 128, 181, 0, 43, 42, 27, 29, 5, 108, 182, 0, 79, 177]
abbrev dktX8_draw_5 : List UInt8 := dkwX8_draw_5 ++ []
def dkwX8_draw_4 : List UInt8 := [100, 181, 0, 30, 42, 180, 0, 24, 27, 16, 99, 42, 180, 0, 24, 27, 46, 29, 96, 184, 0, 73, 79, 42]
abbrev dktX8_draw_4 : List UInt8 := dkwX8_draw_4 ++ dktX8_draw_5
def dkwX8_draw_3 : List UInt8 := [27, 46, 42, 180, 0, 30, 184, 0, 73, 167, 0, 4, 3, 62, 29, 158, 0, 52, 42, 89, 180, 0, 30, 29]
abbrev dktX8_draw_3 : List UInt8 := dkwX8_draw_3 ++ dktX8_draw_4
def dkwX8_draw_2 : List UInt8 := [180, 0, 24, 27, 46, 16, 20, 162, 0, 7, 4, 167, 0, 4, 3, 61, 28, 153, 0, 19, 42, 180, 0, 21]
abbrev dktX8_draw_2 : List UInt8 := dkwX8_draw_2 ++ dktX8_draw_3
def dkwX8_draw_1 : List UInt8 := [180, 0, 11, 27, 50, 182, 0, 69, 153, 0, 29, 42, 180, 0, 49, 27, 184, 0, 61, 154, 0, 18, 42]
abbrev dktX8_draw_1 : List UInt8 := dkwX8_draw_1 ++ dktX8_draw_2
def dkwX8_draw_0 : List UInt8 := [42, 180, 0, 43, 27, 184, 0, 61, 154, 0, 52, 42, 180, 0, 40, 27, 184, 0, 61, 153, 0, 26, 42]
abbrev dktX8_draw_0 : List UInt8 := dkwX8_draw_0 ++ dktX8_draw_1
theorem dksX8_draw_0 : cX8_draw.data.toList.drop 0 = dktX8_draw_0 := by decide +kernel
theorem dksX8_draw_1 : cX8_draw.data.toList.drop 23 = dktX8_draw_1 := dk_seg dksX8_draw_0 23 rfl rfl
theorem dksX8_draw_2 : cX8_draw.data.toList.drop 46 = dktX8_draw_2 := dk_seg dksX8_draw_1 23 rfl rfl
theorem dksX8_draw_3 : cX8_draw.data.toList.drop 70 = dktX8_draw_3 := dk_seg dksX8_draw_2 24 rfl rfl
theorem dksX8_draw_4 : cX8_draw.data.toList.drop 94 = dktX8_draw_4 := dk_seg dksX8_draw_3 24 rfl rfl
theorem dksX8_draw_5 : cX8_draw.data.toList.drop 118 = dktX8_draw_5 := dk_seg dksX8_draw_4 24 rfl rfl
theorem dX8_draw_0 : decode cX8_draw 0 = .ok (.aload_n 0, 1) := dk_42 (dk_at dksX8_draw_0 0 rfl rfl)
theorem dX8_draw_1 : decode cX8_draw 1 = .ok (.getfield 43, 3) := dk_180 0 43 (dk_at dksX8_draw_0 1 rfl rfl)
theorem dX8_draw_4 : decode cX8_draw 4 = .ok (.iload_n 1, 1) := dk_27 (dk_at dksX8_draw_0 4 rfl rfl)
theorem dX8_draw_5 : decode cX8_draw 5 = .ok (.invokestatic 61, 3) := dk_184 0 61 (dk_at dksX8_draw_0 5 rfl rfl)
theorem dX8_draw_8 : decode cX8_draw 8 = .ok (.ifCond .ne 52, 3) := dk_154 0 52 (dk_at dksX8_draw_0 8 rfl rfl)
theorem dX8_draw_11 : decode cX8_draw 11 = .ok (.aload_n 0, 1) := dk_42 (dk_at dksX8_draw_0 11 rfl rfl)
theorem dX8_draw_12 : decode cX8_draw 12 = .ok (.getfield 40, 3) := dk_180 0 40 (dk_at dksX8_draw_0 12 rfl rfl)
theorem dX8_draw_15 : decode cX8_draw 15 = .ok (.iload_n 1, 1) := dk_27 (dk_at dksX8_draw_0 15 rfl rfl)
theorem dX8_draw_16 : decode cX8_draw 16 = .ok (.invokestatic 61, 3) := dk_184 0 61 (dk_at dksX8_draw_0 16 rfl rfl)
theorem dX8_draw_19 : decode cX8_draw 19 = .ok (.ifCond .eq 26, 3) := dk_153 0 26 (dk_at dksX8_draw_0 19 rfl rfl)
theorem dX8_draw_22 : decode cX8_draw 22 = .ok (.aload_n 0, 1) := dk_42 (dk_at dksX8_draw_0 22 rfl rfl)
theorem dX8_draw_23 : decode cX8_draw 23 = .ok (.getfield 11, 3) := dk_180 0 11 (dk_at dksX8_draw_1 0 rfl rfl)
theorem dX8_draw_26 : decode cX8_draw 26 = .ok (.iload_n 1, 1) := dk_27 (dk_at dksX8_draw_1 3 rfl rfl)
theorem dX8_draw_27 : decode cX8_draw 27 = .ok (.aaload, 1) := dk_50 (dk_at dksX8_draw_1 4 rfl rfl)
theorem dX8_draw_28 : decode cX8_draw 28 = .ok (.invokevirtual 69, 3) := dk_182 0 69 (dk_at dksX8_draw_1 5 rfl rfl)
theorem dX8_draw_31 : decode cX8_draw 31 = .ok (.ifCond .eq 29, 3) := dk_153 0 29 (dk_at dksX8_draw_1 8 rfl rfl)
theorem dX8_draw_34 : decode cX8_draw 34 = .ok (.aload_n 0, 1) := dk_42 (dk_at dksX8_draw_1 11 rfl rfl)
theorem dX8_draw_35 : decode cX8_draw 35 = .ok (.getfield 49, 3) := dk_180 0 49 (dk_at dksX8_draw_1 12 rfl rfl)
theorem dX8_draw_38 : decode cX8_draw 38 = .ok (.iload_n 1, 1) := dk_27 (dk_at dksX8_draw_1 15 rfl rfl)
theorem dX8_draw_39 : decode cX8_draw 39 = .ok (.invokestatic 61, 3) := dk_184 0 61 (dk_at dksX8_draw_1 16 rfl rfl)
theorem dX8_draw_42 : decode cX8_draw 42 = .ok (.ifCond .ne 18, 3) := dk_154 0 18 (dk_at dksX8_draw_1 19 rfl rfl)
theorem dX8_draw_45 : decode cX8_draw 45 = .ok (.aload_n 0, 1) := dk_42 (dk_at dksX8_draw_1 22 rfl rfl)
theorem dX8_draw_46 : decode cX8_draw 46 = .ok (.getfield 24, 3) := dk_180 0 24 (dk_at dksX8_draw_2 0 rfl rfl)
theorem dX8_draw_49 : decode cX8_draw 49 = .ok (.iload_n 1, 1) := dk_27 (dk_at dksX8_draw_2 3 rfl rfl)
theorem dX8_draw_50 : decode cX8_draw 50 = .ok (.iaload, 1) := dk_46 (dk_at dksX8_draw_2 4 rfl rfl)
theorem dX8_draw_51 : decode cX8_draw 51 = .ok (.bipush 20, 2) := dk_16 20 (dk_at dksX8_draw_2 5 rfl rfl)
theorem dX8_draw_53 : decode cX8_draw 53 = .ok (.if_icmp .ge 7, 3) := dk_162 0 7 (dk_at dksX8_draw_2 7 rfl rfl)
theorem dX8_draw_56 : decode cX8_draw 56 = .ok (.iconst 1, 1) := dk_4 (dk_at dksX8_draw_2 10 rfl rfl)
theorem dX8_draw_57 : decode cX8_draw 57 = .ok (.goto 4, 3) := dk_167 0 4 (dk_at dksX8_draw_2 11 rfl rfl)
theorem dX8_draw_60 : decode cX8_draw 60 = .ok (.iconst 0, 1) := dk_3 (dk_at dksX8_draw_2 14 rfl rfl)
theorem dX8_draw_61 : decode cX8_draw 61 = .ok (.istore_n 2, 1) := dk_61 (dk_at dksX8_draw_2 15 rfl rfl)
theorem dX8_draw_62 : decode cX8_draw 62 = .ok (.iload_n 2, 1) := dk_28 (dk_at dksX8_draw_2 16 rfl rfl)
theorem dX8_draw_63 : decode cX8_draw 63 = .ok (.ifCond .eq 19, 3) := dk_153 0 19 (dk_at dksX8_draw_2 17 rfl rfl)
theorem dX8_draw_66 : decode cX8_draw 66 = .ok (.aload_n 0, 1) := dk_42 (dk_at dksX8_draw_2 20 rfl rfl)
theorem dX8_draw_67 : decode cX8_draw 67 = .ok (.getfield 21, 3) := dk_180 0 21 (dk_at dksX8_draw_2 21 rfl rfl)
theorem dX8_draw_70 : decode cX8_draw 70 = .ok (.iload_n 1, 1) := dk_27 (dk_at dksX8_draw_3 0 rfl rfl)
theorem dX8_draw_71 : decode cX8_draw 71 = .ok (.iaload, 1) := dk_46 (dk_at dksX8_draw_3 1 rfl rfl)
theorem dX8_draw_72 : decode cX8_draw 72 = .ok (.aload_n 0, 1) := dk_42 (dk_at dksX8_draw_3 2 rfl rfl)
theorem dX8_draw_73 : decode cX8_draw 73 = .ok (.getfield 30, 3) := dk_180 0 30 (dk_at dksX8_draw_3 3 rfl rfl)
theorem dX8_draw_76 : decode cX8_draw 76 = .ok (.invokestatic 73, 3) := dk_184 0 73 (dk_at dksX8_draw_3 6 rfl rfl)
theorem dX8_draw_79 : decode cX8_draw 79 = .ok (.goto 4, 3) := dk_167 0 4 (dk_at dksX8_draw_3 9 rfl rfl)
theorem dX8_draw_82 : decode cX8_draw 82 = .ok (.iconst 0, 1) := dk_3 (dk_at dksX8_draw_3 12 rfl rfl)
theorem dX8_draw_83 : decode cX8_draw 83 = .ok (.istore_n 3, 1) := dk_62 (dk_at dksX8_draw_3 13 rfl rfl)
theorem dX8_draw_84 : decode cX8_draw 84 = .ok (.iload_n 3, 1) := dk_29 (dk_at dksX8_draw_3 14 rfl rfl)
theorem dX8_draw_85 : decode cX8_draw 85 = .ok (.ifCond .le 52, 3) := dk_158 0 52 (dk_at dksX8_draw_3 15 rfl rfl)
theorem dX8_draw_88 : decode cX8_draw 88 = .ok (.aload_n 0, 1) := dk_42 (dk_at dksX8_draw_3 18 rfl rfl)
theorem dX8_draw_89 : decode cX8_draw 89 = .ok (.dup, 1) := dk_89 (dk_at dksX8_draw_3 19 rfl rfl)
theorem dX8_draw_90 : decode cX8_draw 90 = .ok (.getfield 30, 3) := dk_180 0 30 (dk_at dksX8_draw_3 20 rfl rfl)
theorem dX8_draw_93 : decode cX8_draw 93 = .ok (.iload_n 3, 1) := dk_29 (dk_at dksX8_draw_3 23 rfl rfl)
theorem dX8_draw_94 : decode cX8_draw 94 = .ok (.isub, 1) := dk_100 (dk_at dksX8_draw_4 0 rfl rfl)
theorem dX8_draw_95 : decode cX8_draw 95 = .ok (.putfield 30, 3) := dk_181 0 30 (dk_at dksX8_draw_4 1 rfl rfl)
theorem dX8_draw_98 : decode cX8_draw 98 = .ok (.aload_n 0, 1) := dk_42 (dk_at dksX8_draw_4 4 rfl rfl)
theorem dX8_draw_99 : decode cX8_draw 99 = .ok (.getfield 24, 3) := dk_180 0 24 (dk_at dksX8_draw_4 5 rfl rfl)
theorem dX8_draw_102 : decode cX8_draw 102 = .ok (.iload_n 1, 1) := dk_27 (dk_at dksX8_draw_4 8 rfl rfl)
theorem dX8_draw_103 : decode cX8_draw 103 = .ok (.bipush 99, 2) := dk_16 99 (dk_at dksX8_draw_4 9 rfl rfl)
theorem dX8_draw_105 : decode cX8_draw 105 = .ok (.aload_n 0, 1) := dk_42 (dk_at dksX8_draw_4 11 rfl rfl)
theorem dX8_draw_106 : decode cX8_draw 106 = .ok (.getfield 24, 3) := dk_180 0 24 (dk_at dksX8_draw_4 12 rfl rfl)
theorem dX8_draw_109 : decode cX8_draw 109 = .ok (.iload_n 1, 1) := dk_27 (dk_at dksX8_draw_4 15 rfl rfl)
theorem dX8_draw_110 : decode cX8_draw 110 = .ok (.iaload, 1) := dk_46 (dk_at dksX8_draw_4 16 rfl rfl)
theorem dX8_draw_111 : decode cX8_draw 111 = .ok (.iload_n 3, 1) := dk_29 (dk_at dksX8_draw_4 17 rfl rfl)
theorem dX8_draw_112 : decode cX8_draw 112 = .ok (.iadd, 1) := dk_96 (dk_at dksX8_draw_4 18 rfl rfl)
theorem dX8_draw_113 : decode cX8_draw 113 = .ok (.invokestatic 73, 3) := dk_184 0 73 (dk_at dksX8_draw_4 19 rfl rfl)
theorem dX8_draw_116 : decode cX8_draw 116 = .ok (.iastore, 1) := dk_79 (dk_at dksX8_draw_4 22 rfl rfl)
theorem dX8_draw_117 : decode cX8_draw 117 = .ok (.aload_n 0, 1) := dk_42 (dk_at dksX8_draw_4 23 rfl rfl)
theorem dX8_draw_118 : decode cX8_draw 118 = .ok (.dup, 1) := dk_89 (dk_at dksX8_draw_5 0 rfl rfl)
theorem dX8_draw_119 : decode cX8_draw 119 = .ok (.getfield 43, 3) := dk_180 0 43 (dk_at dksX8_draw_5 1 rfl rfl)
theorem dX8_draw_122 : decode cX8_draw 122 = .ok (.iconst 1, 1) := dk_4 (dk_at dksX8_draw_5 4 rfl rfl)
theorem dX8_draw_123 : decode cX8_draw 123 = .ok (.iload_n 1, 1) := dk_27 (dk_at dksX8_draw_5 5 rfl rfl)
theorem dX8_draw_124 : decode cX8_draw 124 = .ok (.ishl, 1) := dk_120 (dk_at dksX8_draw_5 6 rfl rfl)
theorem dX8_draw_125 : decode cX8_draw 125 = .ok (.ior, 1) := dk_128 (dk_at dksX8_draw_5 7 rfl rfl)
theorem dX8_draw_126 : decode cX8_draw 126 = .ok (.putfield 43, 3) := dk_181 0 43 (dk_at dksX8_draw_5 8 rfl rfl)
theorem dX8_draw_129 : decode cX8_draw 129 = .ok (.aload_n 0, 1) := dk_42 (dk_at dksX8_draw_5 11 rfl rfl)
theorem dX8_draw_130 : decode cX8_draw 130 = .ok (.iload_n 1, 1) := dk_27 (dk_at dksX8_draw_5 12 rfl rfl)
theorem dX8_draw_131 : decode cX8_draw 131 = .ok (.iload_n 3, 1) := dk_29 (dk_at dksX8_draw_5 13 rfl rfl)
theorem dX8_draw_132 : decode cX8_draw 132 = .ok (.iconst 2, 1) := dk_5 (dk_at dksX8_draw_5 14 rfl rfl)
theorem dX8_draw_133 : decode cX8_draw 133 = .ok (.idiv, 1) := dk_108 (dk_at dksX8_draw_5 15 rfl rfl)
theorem dX8_draw_134 : decode cX8_draw 134 = .ok (.invokevirtual 79, 3) := dk_182 0 79 (dk_at dksX8_draw_5 16 rfl rfl)
theorem dX8_draw_137 : decode cX8_draw 137 = .ok (.return_, 1) := dk_177 (dk_at dksX8_draw_5 19 rfl rfl)
abbrev cX8_give : ByteArray := prog_5_method_5_code
def yX8_give : MethodName := ⟨RX8, "give", "(II)V"⟩
def dkwX8_give_3 : List UInt8 := [184, 0, 73, 79, 177]
abbrev dktX8_give_3 : List UInt8 := dkwX8_give_3 ++ []
def dkwX8_give_2 : List UInt8 := [180, 0, 24, 27, 92, 46, 28, 100, 79, 42, 180, 0, 24, 29, 16, 99, 42, 180, 0, 24, 29, 46, 28, 96]
abbrev dktX8_give_2 : List UInt8 := dkwX8_give_2 ++ dktX8_give_3
def dkwX8_give_1 : List UInt8 := [29, 184, 0, 61, 153, 0, 47, 42, 180, 0, 24, 29, 46, 42, 180, 0, 24, 27, 46, 162, 0, 32, 42]
abbrev dktX8_give_1 : List UInt8 := dkwX8_give_1 ++ dktX8_give_2
def dkwX8_give_0 : List UInt8 := [42, 180, 0, 27, 27, 46, 62, 29, 27, 159, 0, 66, 29, 42, 180, 0, 37, 162, 0, 58, 42, 180, 0, 40]
abbrev dktX8_give_0 : List UInt8 := dkwX8_give_0 ++ dktX8_give_1
theorem dksX8_give_0 : cX8_give.data.toList.drop 0 = dktX8_give_0 := by decide +kernel
theorem dksX8_give_1 : cX8_give.data.toList.drop 24 = dktX8_give_1 := dk_seg dksX8_give_0 24 rfl rfl
theorem dksX8_give_2 : cX8_give.data.toList.drop 47 = dktX8_give_2 := dk_seg dksX8_give_1 23 rfl rfl
theorem dksX8_give_3 : cX8_give.data.toList.drop 71 = dktX8_give_3 := dk_seg dksX8_give_2 24 rfl rfl
theorem dX8_give_0 : decode cX8_give 0 = .ok (.aload_n 0, 1) := dk_42 (dk_at dksX8_give_0 0 rfl rfl)
theorem dX8_give_1 : decode cX8_give 1 = .ok (.getfield 27, 3) := dk_180 0 27 (dk_at dksX8_give_0 1 rfl rfl)
theorem dX8_give_4 : decode cX8_give 4 = .ok (.iload_n 1, 1) := dk_27 (dk_at dksX8_give_0 4 rfl rfl)
theorem dX8_give_5 : decode cX8_give 5 = .ok (.iaload, 1) := dk_46 (dk_at dksX8_give_0 5 rfl rfl)
theorem dX8_give_6 : decode cX8_give 6 = .ok (.istore_n 3, 1) := dk_62 (dk_at dksX8_give_0 6 rfl rfl)
theorem dX8_give_7 : decode cX8_give 7 = .ok (.iload_n 3, 1) := dk_29 (dk_at dksX8_give_0 7 rfl rfl)
theorem dX8_give_8 : decode cX8_give 8 = .ok (.iload_n 1, 1) := dk_27 (dk_at dksX8_give_0 8 rfl rfl)
theorem dX8_give_9 : decode cX8_give 9 = .ok (.if_icmp .eq 66, 3) := dk_159 0 66 (dk_at dksX8_give_0 9 rfl rfl)
theorem dX8_give_12 : decode cX8_give 12 = .ok (.iload_n 3, 1) := dk_29 (dk_at dksX8_give_0 12 rfl rfl)
theorem dX8_give_13 : decode cX8_give 13 = .ok (.aload_n 0, 1) := dk_42 (dk_at dksX8_give_0 13 rfl rfl)
theorem dX8_give_14 : decode cX8_give 14 = .ok (.getfield 37, 3) := dk_180 0 37 (dk_at dksX8_give_0 14 rfl rfl)
theorem dX8_give_17 : decode cX8_give 17 = .ok (.if_icmp .ge 58, 3) := dk_162 0 58 (dk_at dksX8_give_0 17 rfl rfl)
theorem dX8_give_20 : decode cX8_give 20 = .ok (.aload_n 0, 1) := dk_42 (dk_at dksX8_give_0 20 rfl rfl)
theorem dX8_give_21 : decode cX8_give 21 = .ok (.getfield 40, 3) := dk_180 0 40 (dk_at dksX8_give_0 21 rfl rfl)
theorem dX8_give_24 : decode cX8_give 24 = .ok (.iload_n 3, 1) := dk_29 (dk_at dksX8_give_1 0 rfl rfl)
theorem dX8_give_25 : decode cX8_give 25 = .ok (.invokestatic 61, 3) := dk_184 0 61 (dk_at dksX8_give_1 1 rfl rfl)
theorem dX8_give_28 : decode cX8_give 28 = .ok (.ifCond .eq 47, 3) := dk_153 0 47 (dk_at dksX8_give_1 4 rfl rfl)
theorem dX8_give_31 : decode cX8_give 31 = .ok (.aload_n 0, 1) := dk_42 (dk_at dksX8_give_1 7 rfl rfl)
theorem dX8_give_32 : decode cX8_give 32 = .ok (.getfield 24, 3) := dk_180 0 24 (dk_at dksX8_give_1 8 rfl rfl)
theorem dX8_give_35 : decode cX8_give 35 = .ok (.iload_n 3, 1) := dk_29 (dk_at dksX8_give_1 11 rfl rfl)
theorem dX8_give_36 : decode cX8_give 36 = .ok (.iaload, 1) := dk_46 (dk_at dksX8_give_1 12 rfl rfl)
theorem dX8_give_37 : decode cX8_give 37 = .ok (.aload_n 0, 1) := dk_42 (dk_at dksX8_give_1 13 rfl rfl)
theorem dX8_give_38 : decode cX8_give 38 = .ok (.getfield 24, 3) := dk_180 0 24 (dk_at dksX8_give_1 14 rfl rfl)
theorem dX8_give_41 : decode cX8_give 41 = .ok (.iload_n 1, 1) := dk_27 (dk_at dksX8_give_1 17 rfl rfl)
theorem dX8_give_42 : decode cX8_give 42 = .ok (.iaload, 1) := dk_46 (dk_at dksX8_give_1 18 rfl rfl)
theorem dX8_give_43 : decode cX8_give 43 = .ok (.if_icmp .ge 32, 3) := dk_162 0 32 (dk_at dksX8_give_1 19 rfl rfl)
theorem dX8_give_46 : decode cX8_give 46 = .ok (.aload_n 0, 1) := dk_42 (dk_at dksX8_give_1 22 rfl rfl)
theorem dX8_give_47 : decode cX8_give 47 = .ok (.getfield 24, 3) := dk_180 0 24 (dk_at dksX8_give_2 0 rfl rfl)
theorem dX8_give_50 : decode cX8_give 50 = .ok (.iload_n 1, 1) := dk_27 (dk_at dksX8_give_2 3 rfl rfl)
theorem dX8_give_51 : decode cX8_give 51 = .ok (.dup2, 1) := dk_92 (dk_at dksX8_give_2 4 rfl rfl)
theorem dX8_give_52 : decode cX8_give 52 = .ok (.iaload, 1) := dk_46 (dk_at dksX8_give_2 5 rfl rfl)
theorem dX8_give_53 : decode cX8_give 53 = .ok (.iload_n 2, 1) := dk_28 (dk_at dksX8_give_2 6 rfl rfl)
theorem dX8_give_54 : decode cX8_give 54 = .ok (.isub, 1) := dk_100 (dk_at dksX8_give_2 7 rfl rfl)
theorem dX8_give_55 : decode cX8_give 55 = .ok (.iastore, 1) := dk_79 (dk_at dksX8_give_2 8 rfl rfl)
theorem dX8_give_56 : decode cX8_give 56 = .ok (.aload_n 0, 1) := dk_42 (dk_at dksX8_give_2 9 rfl rfl)
theorem dX8_give_57 : decode cX8_give 57 = .ok (.getfield 24, 3) := dk_180 0 24 (dk_at dksX8_give_2 10 rfl rfl)
theorem dX8_give_60 : decode cX8_give 60 = .ok (.iload_n 3, 1) := dk_29 (dk_at dksX8_give_2 13 rfl rfl)
theorem dX8_give_61 : decode cX8_give 61 = .ok (.bipush 99, 2) := dk_16 99 (dk_at dksX8_give_2 14 rfl rfl)
theorem dX8_give_63 : decode cX8_give 63 = .ok (.aload_n 0, 1) := dk_42 (dk_at dksX8_give_2 16 rfl rfl)
theorem dX8_give_64 : decode cX8_give 64 = .ok (.getfield 24, 3) := dk_180 0 24 (dk_at dksX8_give_2 17 rfl rfl)
theorem dX8_give_67 : decode cX8_give 67 = .ok (.iload_n 3, 1) := dk_29 (dk_at dksX8_give_2 20 rfl rfl)
theorem dX8_give_68 : decode cX8_give 68 = .ok (.iaload, 1) := dk_46 (dk_at dksX8_give_2 21 rfl rfl)
theorem dX8_give_69 : decode cX8_give 69 = .ok (.iload_n 2, 1) := dk_28 (dk_at dksX8_give_2 22 rfl rfl)
theorem dX8_give_70 : decode cX8_give 70 = .ok (.iadd, 1) := dk_96 (dk_at dksX8_give_2 23 rfl rfl)
theorem dX8_give_71 : decode cX8_give 71 = .ok (.invokestatic 73, 3) := dk_184 0 73 (dk_at dksX8_give_3 0 rfl rfl)
theorem dX8_give_74 : decode cX8_give 74 = .ok (.iastore, 1) := dk_79 (dk_at dksX8_give_3 3 rfl rfl)
theorem dX8_give_75 : decode cX8_give 75 = .ok (.return_, 1) := dk_177 (dk_at dksX8_give_3 4 rfl rfl)
abbrev cX8_comes : ByteArray := prog_5_method_13_code
def yX8_comes : MethodName := ⟨RX8, "comes", "(LWellOfTheSilent$Kind;II)V"⟩
def dkwX8_comes_4 : List UInt8 := [181, 0, 37, 177]
abbrev dktX8_comes_4 : List UInt8 := dkwX8_comes_4 ++ []
def dkwX8_comes_3 : List UInt8 := [180, 0, 43, 4, 42, 180, 0, 37, 120, 2, 130, 126, 181, 0, 43, 42, 89, 180, 0, 37, 4, 96]
abbrev dktX8_comes_3 : List UInt8 := dkwX8_comes_3 ++ dktX8_comes_4
def dkwX8_comes_2 : List UInt8 := [42, 180, 0, 37, 79, 42, 89, 180, 0, 40, 4, 42, 180, 0, 37, 120, 2, 130, 126, 181, 0, 40, 42, 89]
abbrev dktX8_comes_2 : List UInt8 := dkwX8_comes_2 ++ dktX8_comes_3
def dkwX8_comes_1 : List UInt8 := [42, 180, 0, 37, 29, 79, 42, 180, 0, 24, 42, 180, 0, 37, 8, 79, 42, 180, 0, 27, 42, 180, 0, 37]
abbrev dktX8_comes_1 : List UInt8 := dkwX8_comes_1 ++ dktX8_comes_2
def dkwX8_comes_0 : List UInt8 := [42, 180, 0, 11, 42, 180, 0, 37, 43, 83, 42, 180, 0, 17, 42, 180, 0, 37, 28, 79, 42, 180, 0, 21]
abbrev dktX8_comes_0 : List UInt8 := dkwX8_comes_0 ++ dktX8_comes_1
theorem dksX8_comes_0 : cX8_comes.data.toList.drop 0 = dktX8_comes_0 := by decide +kernel
theorem dksX8_comes_1 : cX8_comes.data.toList.drop 24 = dktX8_comes_1 := dk_seg dksX8_comes_0 24 rfl rfl
theorem dksX8_comes_2 : cX8_comes.data.toList.drop 48 = dktX8_comes_2 := dk_seg dksX8_comes_1 24 rfl rfl
theorem dksX8_comes_3 : cX8_comes.data.toList.drop 72 = dktX8_comes_3 := dk_seg dksX8_comes_2 24 rfl rfl
theorem dksX8_comes_4 : cX8_comes.data.toList.drop 94 = dktX8_comes_4 := dk_seg dksX8_comes_3 22 rfl rfl
theorem dX8_comes_0 : decode cX8_comes 0 = .ok (.aload_n 0, 1) := dk_42 (dk_at dksX8_comes_0 0 rfl rfl)
theorem dX8_comes_1 : decode cX8_comes 1 = .ok (.getfield 11, 3) := dk_180 0 11 (dk_at dksX8_comes_0 1 rfl rfl)
theorem dX8_comes_4 : decode cX8_comes 4 = .ok (.aload_n 0, 1) := dk_42 (dk_at dksX8_comes_0 4 rfl rfl)
theorem dX8_comes_5 : decode cX8_comes 5 = .ok (.getfield 37, 3) := dk_180 0 37 (dk_at dksX8_comes_0 5 rfl rfl)
theorem dX8_comes_8 : decode cX8_comes 8 = .ok (.aload_n 1, 1) := dk_43 (dk_at dksX8_comes_0 8 rfl rfl)
theorem dX8_comes_9 : decode cX8_comes 9 = .ok (.aastore, 1) := dk_83 (dk_at dksX8_comes_0 9 rfl rfl)
theorem dX8_comes_10 : decode cX8_comes 10 = .ok (.aload_n 0, 1) := dk_42 (dk_at dksX8_comes_0 10 rfl rfl)
theorem dX8_comes_11 : decode cX8_comes 11 = .ok (.getfield 17, 3) := dk_180 0 17 (dk_at dksX8_comes_0 11 rfl rfl)
theorem dX8_comes_14 : decode cX8_comes 14 = .ok (.aload_n 0, 1) := dk_42 (dk_at dksX8_comes_0 14 rfl rfl)
theorem dX8_comes_15 : decode cX8_comes 15 = .ok (.getfield 37, 3) := dk_180 0 37 (dk_at dksX8_comes_0 15 rfl rfl)
theorem dX8_comes_18 : decode cX8_comes 18 = .ok (.iload_n 2, 1) := dk_28 (dk_at dksX8_comes_0 18 rfl rfl)
theorem dX8_comes_19 : decode cX8_comes 19 = .ok (.iastore, 1) := dk_79 (dk_at dksX8_comes_0 19 rfl rfl)
theorem dX8_comes_20 : decode cX8_comes 20 = .ok (.aload_n 0, 1) := dk_42 (dk_at dksX8_comes_0 20 rfl rfl)
theorem dX8_comes_21 : decode cX8_comes 21 = .ok (.getfield 21, 3) := dk_180 0 21 (dk_at dksX8_comes_0 21 rfl rfl)
theorem dX8_comes_24 : decode cX8_comes 24 = .ok (.aload_n 0, 1) := dk_42 (dk_at dksX8_comes_1 0 rfl rfl)
theorem dX8_comes_25 : decode cX8_comes 25 = .ok (.getfield 37, 3) := dk_180 0 37 (dk_at dksX8_comes_1 1 rfl rfl)
theorem dX8_comes_28 : decode cX8_comes 28 = .ok (.iload_n 3, 1) := dk_29 (dk_at dksX8_comes_1 4 rfl rfl)
theorem dX8_comes_29 : decode cX8_comes 29 = .ok (.iastore, 1) := dk_79 (dk_at dksX8_comes_1 5 rfl rfl)
theorem dX8_comes_30 : decode cX8_comes 30 = .ok (.aload_n 0, 1) := dk_42 (dk_at dksX8_comes_1 6 rfl rfl)
theorem dX8_comes_31 : decode cX8_comes 31 = .ok (.getfield 24, 3) := dk_180 0 24 (dk_at dksX8_comes_1 7 rfl rfl)
theorem dX8_comes_34 : decode cX8_comes 34 = .ok (.aload_n 0, 1) := dk_42 (dk_at dksX8_comes_1 10 rfl rfl)
theorem dX8_comes_35 : decode cX8_comes 35 = .ok (.getfield 37, 3) := dk_180 0 37 (dk_at dksX8_comes_1 11 rfl rfl)
theorem dX8_comes_38 : decode cX8_comes 38 = .ok (.iconst 5, 1) := dk_8 (dk_at dksX8_comes_1 14 rfl rfl)
theorem dX8_comes_39 : decode cX8_comes 39 = .ok (.iastore, 1) := dk_79 (dk_at dksX8_comes_1 15 rfl rfl)
theorem dX8_comes_40 : decode cX8_comes 40 = .ok (.aload_n 0, 1) := dk_42 (dk_at dksX8_comes_1 16 rfl rfl)
theorem dX8_comes_41 : decode cX8_comes 41 = .ok (.getfield 27, 3) := dk_180 0 27 (dk_at dksX8_comes_1 17 rfl rfl)
theorem dX8_comes_44 : decode cX8_comes 44 = .ok (.aload_n 0, 1) := dk_42 (dk_at dksX8_comes_1 20 rfl rfl)
theorem dX8_comes_45 : decode cX8_comes 45 = .ok (.getfield 37, 3) := dk_180 0 37 (dk_at dksX8_comes_1 21 rfl rfl)
theorem dX8_comes_48 : decode cX8_comes 48 = .ok (.aload_n 0, 1) := dk_42 (dk_at dksX8_comes_2 0 rfl rfl)
theorem dX8_comes_49 : decode cX8_comes 49 = .ok (.getfield 37, 3) := dk_180 0 37 (dk_at dksX8_comes_2 1 rfl rfl)
theorem dX8_comes_52 : decode cX8_comes 52 = .ok (.iastore, 1) := dk_79 (dk_at dksX8_comes_2 4 rfl rfl)
theorem dX8_comes_53 : decode cX8_comes 53 = .ok (.aload_n 0, 1) := dk_42 (dk_at dksX8_comes_2 5 rfl rfl)
theorem dX8_comes_54 : decode cX8_comes 54 = .ok (.dup, 1) := dk_89 (dk_at dksX8_comes_2 6 rfl rfl)
theorem dX8_comes_55 : decode cX8_comes 55 = .ok (.getfield 40, 3) := dk_180 0 40 (dk_at dksX8_comes_2 7 rfl rfl)
theorem dX8_comes_58 : decode cX8_comes 58 = .ok (.iconst 1, 1) := dk_4 (dk_at dksX8_comes_2 10 rfl rfl)
theorem dX8_comes_59 : decode cX8_comes 59 = .ok (.aload_n 0, 1) := dk_42 (dk_at dksX8_comes_2 11 rfl rfl)
theorem dX8_comes_60 : decode cX8_comes 60 = .ok (.getfield 37, 3) := dk_180 0 37 (dk_at dksX8_comes_2 12 rfl rfl)
theorem dX8_comes_63 : decode cX8_comes 63 = .ok (.ishl, 1) := dk_120 (dk_at dksX8_comes_2 15 rfl rfl)
theorem dX8_comes_64 : decode cX8_comes 64 = .ok (.iconst (-1), 1) := dk_2 (dk_at dksX8_comes_2 16 rfl rfl)
theorem dX8_comes_65 : decode cX8_comes 65 = .ok (.ixor, 1) := dk_130 (dk_at dksX8_comes_2 17 rfl rfl)
theorem dX8_comes_66 : decode cX8_comes 66 = .ok (.iand, 1) := dk_126 (dk_at dksX8_comes_2 18 rfl rfl)
theorem dX8_comes_67 : decode cX8_comes 67 = .ok (.putfield 40, 3) := dk_181 0 40 (dk_at dksX8_comes_2 19 rfl rfl)
theorem dX8_comes_70 : decode cX8_comes 70 = .ok (.aload_n 0, 1) := dk_42 (dk_at dksX8_comes_2 22 rfl rfl)
theorem dX8_comes_71 : decode cX8_comes 71 = .ok (.dup, 1) := dk_89 (dk_at dksX8_comes_2 23 rfl rfl)
theorem dX8_comes_72 : decode cX8_comes 72 = .ok (.getfield 43, 3) := dk_180 0 43 (dk_at dksX8_comes_3 0 rfl rfl)
theorem dX8_comes_75 : decode cX8_comes 75 = .ok (.iconst 1, 1) := dk_4 (dk_at dksX8_comes_3 3 rfl rfl)
theorem dX8_comes_76 : decode cX8_comes 76 = .ok (.aload_n 0, 1) := dk_42 (dk_at dksX8_comes_3 4 rfl rfl)
theorem dX8_comes_77 : decode cX8_comes 77 = .ok (.getfield 37, 3) := dk_180 0 37 (dk_at dksX8_comes_3 5 rfl rfl)
theorem dX8_comes_80 : decode cX8_comes 80 = .ok (.ishl, 1) := dk_120 (dk_at dksX8_comes_3 8 rfl rfl)
theorem dX8_comes_81 : decode cX8_comes 81 = .ok (.iconst (-1), 1) := dk_2 (dk_at dksX8_comes_3 9 rfl rfl)
theorem dX8_comes_82 : decode cX8_comes 82 = .ok (.ixor, 1) := dk_130 (dk_at dksX8_comes_3 10 rfl rfl)
theorem dX8_comes_83 : decode cX8_comes 83 = .ok (.iand, 1) := dk_126 (dk_at dksX8_comes_3 11 rfl rfl)
theorem dX8_comes_84 : decode cX8_comes 84 = .ok (.putfield 43, 3) := dk_181 0 43 (dk_at dksX8_comes_3 12 rfl rfl)
theorem dX8_comes_87 : decode cX8_comes 87 = .ok (.aload_n 0, 1) := dk_42 (dk_at dksX8_comes_3 15 rfl rfl)
theorem dX8_comes_88 : decode cX8_comes 88 = .ok (.dup, 1) := dk_89 (dk_at dksX8_comes_3 16 rfl rfl)
theorem dX8_comes_89 : decode cX8_comes 89 = .ok (.getfield 37, 3) := dk_180 0 37 (dk_at dksX8_comes_3 17 rfl rfl)
theorem dX8_comes_92 : decode cX8_comes 92 = .ok (.iconst 1, 1) := dk_4 (dk_at dksX8_comes_3 20 rfl rfl)
theorem dX8_comes_93 : decode cX8_comes 93 = .ok (.iadd, 1) := dk_96 (dk_at dksX8_comes_3 21 rfl rfl)
theorem dX8_comes_94 : decode cX8_comes 94 = .ok (.putfield 37, 3) := dk_181 0 37 (dk_at dksX8_comes_4 0 rfl rfl)
theorem dX8_comes_97 : decode cX8_comes 97 = .ok (.return_, 1) := dk_177 (dk_at dksX8_comes_4 3 rfl rfl)
abbrev cX8_all : ByteArray := prog_5_method_8_code
def yX8_all : MethodName := ⟨RX8, "all", "()I"⟩
def dkwX8_all_1 : List UInt8 := [167, 255, 236, 27, 172]
abbrev dktX8_all_1 : List UInt8 := dkwX8_all_1 ++ []
def dkwX8_all_0 : List UInt8 := [3, 60, 3, 61, 28, 42, 180, 0, 37, 162, 0, 18, 27, 42, 180, 0, 24, 28, 46, 96, 60, 132, 2, 1]
abbrev dktX8_all_0 : List UInt8 := dkwX8_all_0 ++ dktX8_all_1
theorem dksX8_all_0 : cX8_all.data.toList.drop 0 = dktX8_all_0 := by decide +kernel
theorem dksX8_all_1 : cX8_all.data.toList.drop 24 = dktX8_all_1 := dk_seg dksX8_all_0 24 rfl rfl
theorem dX8_all_0 : decode cX8_all 0 = .ok (.iconst 0, 1) := dk_3 (dk_at dksX8_all_0 0 rfl rfl)
theorem dX8_all_1 : decode cX8_all 1 = .ok (.istore_n 1, 1) := dk_60 (dk_at dksX8_all_0 1 rfl rfl)
theorem dX8_all_2 : decode cX8_all 2 = .ok (.iconst 0, 1) := dk_3 (dk_at dksX8_all_0 2 rfl rfl)
theorem dX8_all_3 : decode cX8_all 3 = .ok (.istore_n 2, 1) := dk_61 (dk_at dksX8_all_0 3 rfl rfl)
theorem dX8_all_4 : decode cX8_all 4 = .ok (.iload_n 2, 1) := dk_28 (dk_at dksX8_all_0 4 rfl rfl)
theorem dX8_all_5 : decode cX8_all 5 = .ok (.aload_n 0, 1) := dk_42 (dk_at dksX8_all_0 5 rfl rfl)
theorem dX8_all_6 : decode cX8_all 6 = .ok (.getfield 37, 3) := dk_180 0 37 (dk_at dksX8_all_0 6 rfl rfl)
theorem dX8_all_9 : decode cX8_all 9 = .ok (.if_icmp .ge 18, 3) := dk_162 0 18 (dk_at dksX8_all_0 9 rfl rfl)
theorem dX8_all_12 : decode cX8_all 12 = .ok (.iload_n 1, 1) := dk_27 (dk_at dksX8_all_0 12 rfl rfl)
theorem dX8_all_13 : decode cX8_all 13 = .ok (.aload_n 0, 1) := dk_42 (dk_at dksX8_all_0 13 rfl rfl)
theorem dX8_all_14 : decode cX8_all 14 = .ok (.getfield 24, 3) := dk_180 0 24 (dk_at dksX8_all_0 14 rfl rfl)
theorem dX8_all_17 : decode cX8_all 17 = .ok (.iload_n 2, 1) := dk_28 (dk_at dksX8_all_0 17 rfl rfl)
theorem dX8_all_18 : decode cX8_all 18 = .ok (.iaload, 1) := dk_46 (dk_at dksX8_all_0 18 rfl rfl)
theorem dX8_all_19 : decode cX8_all 19 = .ok (.iadd, 1) := dk_96 (dk_at dksX8_all_0 19 rfl rfl)
theorem dX8_all_20 : decode cX8_all 20 = .ok (.istore_n 1, 1) := dk_60 (dk_at dksX8_all_0 20 rfl rfl)
theorem dX8_all_21 : decode cX8_all 21 = .ok (.iinc 2 1, 3) := dk_132 2 1 (dk_at dksX8_all_0 21 rfl rfl)
theorem dX8_all_24 : decode cX8_all 24 = .ok (.goto (-20), 3) := dk_167 255 236 (dk_at dksX8_all_1 0 rfl rfl)
theorem dX8_all_27 : decode cX8_all 27 = .ok (.iload_n 1, 1) := dk_27 (dk_at dksX8_all_1 3 rfl rfl)
theorem dX8_all_28 : decode cX8_all 28 = .ok (.ireturn, 1) := dk_172 (dk_at dksX8_all_1 4 rfl rfl)
abbrev cX8_staysWet : ByteArray := prog_5_method_11_code
def yX8_staysWet : MethodName := ⟨RX8, "staysWet", "(I)Z"⟩
def dkwX8_staysWet_2 : List UInt8 := [172]
abbrev dktX8_staysWet_2 : List UInt8 := dkwX8_staysWet_2 ++ []
def dkwX8_staysWet_1 : List UInt8 := [42, 182, 0, 95, 42, 182, 0, 98, 154, 0, 7, 4, 167, 0, 4, 3, 61, 132, 3, 1, 167, 255, 227, 28]
abbrev dktX8_staysWet_1 : List UInt8 := dkwX8_staysWet_1 ++ dktX8_staysWet_2
def dkwX8_staysWet_0 : List UInt8 := [42, 182, 0, 98, 154, 0, 7, 4, 167, 0, 4, 3, 61, 3, 62, 29, 27, 162, 0, 30, 28, 153, 0, 26]
abbrev dktX8_staysWet_0 : List UInt8 := dkwX8_staysWet_0 ++ dktX8_staysWet_1
theorem dksX8_staysWet_0 : cX8_staysWet.data.toList.drop 0 = dktX8_staysWet_0 := by decide +kernel
theorem dksX8_staysWet_1 : cX8_staysWet.data.toList.drop 24 = dktX8_staysWet_1 := dk_seg dksX8_staysWet_0 24 rfl rfl
theorem dksX8_staysWet_2 : cX8_staysWet.data.toList.drop 48 = dktX8_staysWet_2 := dk_seg dksX8_staysWet_1 24 rfl rfl
theorem dX8_staysWet_0 : decode cX8_staysWet 0 = .ok (.aload_n 0, 1) := dk_42 (dk_at dksX8_staysWet_0 0 rfl rfl)
theorem dX8_staysWet_1 : decode cX8_staysWet 1 = .ok (.invokevirtual 98, 3) := dk_182 0 98 (dk_at dksX8_staysWet_0 1 rfl rfl)
theorem dX8_staysWet_4 : decode cX8_staysWet 4 = .ok (.ifCond .ne 7, 3) := dk_154 0 7 (dk_at dksX8_staysWet_0 4 rfl rfl)
theorem dX8_staysWet_7 : decode cX8_staysWet 7 = .ok (.iconst 1, 1) := dk_4 (dk_at dksX8_staysWet_0 7 rfl rfl)
theorem dX8_staysWet_8 : decode cX8_staysWet 8 = .ok (.goto 4, 3) := dk_167 0 4 (dk_at dksX8_staysWet_0 8 rfl rfl)
theorem dX8_staysWet_11 : decode cX8_staysWet 11 = .ok (.iconst 0, 1) := dk_3 (dk_at dksX8_staysWet_0 11 rfl rfl)
theorem dX8_staysWet_12 : decode cX8_staysWet 12 = .ok (.istore_n 2, 1) := dk_61 (dk_at dksX8_staysWet_0 12 rfl rfl)
theorem dX8_staysWet_13 : decode cX8_staysWet 13 = .ok (.iconst 0, 1) := dk_3 (dk_at dksX8_staysWet_0 13 rfl rfl)
theorem dX8_staysWet_14 : decode cX8_staysWet 14 = .ok (.istore_n 3, 1) := dk_62 (dk_at dksX8_staysWet_0 14 rfl rfl)
theorem dX8_staysWet_15 : decode cX8_staysWet 15 = .ok (.iload_n 3, 1) := dk_29 (dk_at dksX8_staysWet_0 15 rfl rfl)
theorem dX8_staysWet_16 : decode cX8_staysWet 16 = .ok (.iload_n 1, 1) := dk_27 (dk_at dksX8_staysWet_0 16 rfl rfl)
theorem dX8_staysWet_17 : decode cX8_staysWet 17 = .ok (.if_icmp .ge 30, 3) := dk_162 0 30 (dk_at dksX8_staysWet_0 17 rfl rfl)
theorem dX8_staysWet_20 : decode cX8_staysWet 20 = .ok (.iload_n 2, 1) := dk_28 (dk_at dksX8_staysWet_0 20 rfl rfl)
theorem dX8_staysWet_21 : decode cX8_staysWet 21 = .ok (.ifCond .eq 26, 3) := dk_153 0 26 (dk_at dksX8_staysWet_0 21 rfl rfl)
theorem dX8_staysWet_24 : decode cX8_staysWet 24 = .ok (.aload_n 0, 1) := dk_42 (dk_at dksX8_staysWet_1 0 rfl rfl)
theorem dX8_staysWet_25 : decode cX8_staysWet 25 = .ok (.invokevirtual 95, 3) := dk_182 0 95 (dk_at dksX8_staysWet_1 1 rfl rfl)
theorem dX8_staysWet_28 : decode cX8_staysWet 28 = .ok (.aload_n 0, 1) := dk_42 (dk_at dksX8_staysWet_1 4 rfl rfl)
theorem dX8_staysWet_29 : decode cX8_staysWet 29 = .ok (.invokevirtual 98, 3) := dk_182 0 98 (dk_at dksX8_staysWet_1 5 rfl rfl)
theorem dX8_staysWet_32 : decode cX8_staysWet 32 = .ok (.ifCond .ne 7, 3) := dk_154 0 7 (dk_at dksX8_staysWet_1 8 rfl rfl)
theorem dX8_staysWet_35 : decode cX8_staysWet 35 = .ok (.iconst 1, 1) := dk_4 (dk_at dksX8_staysWet_1 11 rfl rfl)
theorem dX8_staysWet_36 : decode cX8_staysWet 36 = .ok (.goto 4, 3) := dk_167 0 4 (dk_at dksX8_staysWet_1 12 rfl rfl)
theorem dX8_staysWet_39 : decode cX8_staysWet 39 = .ok (.iconst 0, 1) := dk_3 (dk_at dksX8_staysWet_1 15 rfl rfl)
theorem dX8_staysWet_40 : decode cX8_staysWet 40 = .ok (.istore_n 2, 1) := dk_61 (dk_at dksX8_staysWet_1 16 rfl rfl)
theorem dX8_staysWet_41 : decode cX8_staysWet 41 = .ok (.iinc 3 1, 3) := dk_132 3 1 (dk_at dksX8_staysWet_1 17 rfl rfl)
theorem dX8_staysWet_44 : decode cX8_staysWet 44 = .ok (.goto (-29), 3) := dk_167 255 227 (dk_at dksX8_staysWet_1 20 rfl rfl)
theorem dX8_staysWet_47 : decode cX8_staysWet 47 = .ok (.iload_n 2, 1) := dk_28 (dk_at dksX8_staysWet_1 23 rfl rfl)
theorem dX8_staysWet_48 : decode cX8_staysWet 48 = .ok (.ireturn, 1) := dk_172 (dk_at dksX8_staysWet_2 0 rfl rfl)
abbrev cX8_dryMany : ByteArray := prog_5_method_9_code
def yX8_dryMany : MethodName := ⟨RX8, "dryMany", "()I"⟩
def dkwX8_dryMany_1 : List UInt8 := [167, 0, 4, 3, 96, 60, 132, 2, 1, 167, 255, 228, 27, 172]
abbrev dktX8_dryMany_1 : List UInt8 := dkwX8_dryMany_1 ++ []
def dkwX8_dryMany_0 : List UInt8 := [3, 60, 3, 61, 28, 42, 180, 0, 37, 162, 0, 26, 27, 42, 180, 0, 24, 28, 46, 154, 0, 7, 4]
abbrev dktX8_dryMany_0 : List UInt8 := dkwX8_dryMany_0 ++ dktX8_dryMany_1
theorem dksX8_dryMany_0 : cX8_dryMany.data.toList.drop 0 = dktX8_dryMany_0 := by decide +kernel
theorem dksX8_dryMany_1 : cX8_dryMany.data.toList.drop 23 = dktX8_dryMany_1 := dk_seg dksX8_dryMany_0 23 rfl rfl
theorem dX8_dryMany_0 : decode cX8_dryMany 0 = .ok (.iconst 0, 1) := dk_3 (dk_at dksX8_dryMany_0 0 rfl rfl)
theorem dX8_dryMany_1 : decode cX8_dryMany 1 = .ok (.istore_n 1, 1) := dk_60 (dk_at dksX8_dryMany_0 1 rfl rfl)
theorem dX8_dryMany_2 : decode cX8_dryMany 2 = .ok (.iconst 0, 1) := dk_3 (dk_at dksX8_dryMany_0 2 rfl rfl)
theorem dX8_dryMany_3 : decode cX8_dryMany 3 = .ok (.istore_n 2, 1) := dk_61 (dk_at dksX8_dryMany_0 3 rfl rfl)
theorem dX8_dryMany_4 : decode cX8_dryMany 4 = .ok (.iload_n 2, 1) := dk_28 (dk_at dksX8_dryMany_0 4 rfl rfl)
theorem dX8_dryMany_5 : decode cX8_dryMany 5 = .ok (.aload_n 0, 1) := dk_42 (dk_at dksX8_dryMany_0 5 rfl rfl)
theorem dX8_dryMany_6 : decode cX8_dryMany 6 = .ok (.getfield 37, 3) := dk_180 0 37 (dk_at dksX8_dryMany_0 6 rfl rfl)
theorem dX8_dryMany_9 : decode cX8_dryMany 9 = .ok (.if_icmp .ge 26, 3) := dk_162 0 26 (dk_at dksX8_dryMany_0 9 rfl rfl)
theorem dX8_dryMany_12 : decode cX8_dryMany 12 = .ok (.iload_n 1, 1) := dk_27 (dk_at dksX8_dryMany_0 12 rfl rfl)
theorem dX8_dryMany_13 : decode cX8_dryMany 13 = .ok (.aload_n 0, 1) := dk_42 (dk_at dksX8_dryMany_0 13 rfl rfl)
theorem dX8_dryMany_14 : decode cX8_dryMany 14 = .ok (.getfield 24, 3) := dk_180 0 24 (dk_at dksX8_dryMany_0 14 rfl rfl)
theorem dX8_dryMany_17 : decode cX8_dryMany 17 = .ok (.iload_n 2, 1) := dk_28 (dk_at dksX8_dryMany_0 17 rfl rfl)
theorem dX8_dryMany_18 : decode cX8_dryMany 18 = .ok (.iaload, 1) := dk_46 (dk_at dksX8_dryMany_0 18 rfl rfl)
theorem dX8_dryMany_19 : decode cX8_dryMany 19 = .ok (.ifCond .ne 7, 3) := dk_154 0 7 (dk_at dksX8_dryMany_0 19 rfl rfl)
theorem dX8_dryMany_22 : decode cX8_dryMany 22 = .ok (.iconst 1, 1) := dk_4 (dk_at dksX8_dryMany_0 22 rfl rfl)
theorem dX8_dryMany_23 : decode cX8_dryMany 23 = .ok (.goto 4, 3) := dk_167 0 4 (dk_at dksX8_dryMany_1 0 rfl rfl)
theorem dX8_dryMany_26 : decode cX8_dryMany 26 = .ok (.iconst 0, 1) := dk_3 (dk_at dksX8_dryMany_1 3 rfl rfl)
theorem dX8_dryMany_27 : decode cX8_dryMany 27 = .ok (.iadd, 1) := dk_96 (dk_at dksX8_dryMany_1 4 rfl rfl)
theorem dX8_dryMany_28 : decode cX8_dryMany 28 = .ok (.istore_n 1, 1) := dk_60 (dk_at dksX8_dryMany_1 5 rfl rfl)
theorem dX8_dryMany_29 : decode cX8_dryMany 29 = .ok (.iinc 2 1, 3) := dk_132 2 1 (dk_at dksX8_dryMany_1 6 rfl rfl)
theorem dX8_dryMany_32 : decode cX8_dryMany 32 = .ok (.goto (-28), 3) := dk_167 255 228 (dk_at dksX8_dryMany_1 9 rfl rfl)
theorem dX8_dryMany_35 : decode cX8_dryMany 35 = .ok (.iload_n 1, 1) := dk_27 (dk_at dksX8_dryMany_1 12 rfl rfl)
theorem dX8_dryMany_36 : decode cX8_dryMany 36 = .ok (.ireturn, 1) := dk_172 (dk_at dksX8_dryMany_1 13 rfl rfl)
abbrev cX8_staysWetFor : ByteArray := prog_5_method_12_code
def yX8_staysWetFor : MethodName := ⟨RX8, "staysWetFor", "(II)Z"⟩
def dkwX8_staysWetFor_2 : List UInt8 := [132, 4, 1, 167, 255, 224, 29, 172]
abbrev dktX8_staysWetFor_2 : List UInt8 := dkwX8_staysWetFor_2 ++ []
def dkwX8_staysWetFor_1 : List UInt8 := [29, 153, 0, 28, 42, 182, 0, 95, 42, 180, 0, 24, 27, 46, 158, 0, 7, 4, 167, 0, 4, 3, 62]
abbrev dktX8_staysWetFor_1 : List UInt8 := dkwX8_staysWetFor_1 ++ dktX8_staysWetFor_2
def dkwX8_staysWetFor_0 : List UInt8 := [42, 180, 0, 24, 27, 46, 158, 0, 7, 4, 167, 0, 4, 3, 62, 3, 54, 4, 21, 4, 28, 162, 0, 32]
abbrev dktX8_staysWetFor_0 : List UInt8 := dkwX8_staysWetFor_0 ++ dktX8_staysWetFor_1
theorem dksX8_staysWetFor_0 : cX8_staysWetFor.data.toList.drop 0 = dktX8_staysWetFor_0 := by decide +kernel
theorem dksX8_staysWetFor_1 : cX8_staysWetFor.data.toList.drop 24 = dktX8_staysWetFor_1 := dk_seg dksX8_staysWetFor_0 24 rfl rfl
theorem dksX8_staysWetFor_2 : cX8_staysWetFor.data.toList.drop 47 = dktX8_staysWetFor_2 := dk_seg dksX8_staysWetFor_1 23 rfl rfl
theorem dX8_staysWetFor_0 : decode cX8_staysWetFor 0 = .ok (.aload_n 0, 1) := dk_42 (dk_at dksX8_staysWetFor_0 0 rfl rfl)
theorem dX8_staysWetFor_1 : decode cX8_staysWetFor 1 = .ok (.getfield 24, 3) := dk_180 0 24 (dk_at dksX8_staysWetFor_0 1 rfl rfl)
theorem dX8_staysWetFor_4 : decode cX8_staysWetFor 4 = .ok (.iload_n 1, 1) := dk_27 (dk_at dksX8_staysWetFor_0 4 rfl rfl)
theorem dX8_staysWetFor_5 : decode cX8_staysWetFor 5 = .ok (.iaload, 1) := dk_46 (dk_at dksX8_staysWetFor_0 5 rfl rfl)
theorem dX8_staysWetFor_6 : decode cX8_staysWetFor 6 = .ok (.ifCond .le 7, 3) := dk_158 0 7 (dk_at dksX8_staysWetFor_0 6 rfl rfl)
theorem dX8_staysWetFor_9 : decode cX8_staysWetFor 9 = .ok (.iconst 1, 1) := dk_4 (dk_at dksX8_staysWetFor_0 9 rfl rfl)
theorem dX8_staysWetFor_10 : decode cX8_staysWetFor 10 = .ok (.goto 4, 3) := dk_167 0 4 (dk_at dksX8_staysWetFor_0 10 rfl rfl)
theorem dX8_staysWetFor_13 : decode cX8_staysWetFor 13 = .ok (.iconst 0, 1) := dk_3 (dk_at dksX8_staysWetFor_0 13 rfl rfl)
theorem dX8_staysWetFor_14 : decode cX8_staysWetFor 14 = .ok (.istore_n 3, 1) := dk_62 (dk_at dksX8_staysWetFor_0 14 rfl rfl)
theorem dX8_staysWetFor_15 : decode cX8_staysWetFor 15 = .ok (.iconst 0, 1) := dk_3 (dk_at dksX8_staysWetFor_0 15 rfl rfl)
theorem dX8_staysWetFor_16 : decode cX8_staysWetFor 16 = .ok (.istore 4, 2) := dk_54 4 (dk_at dksX8_staysWetFor_0 16 rfl rfl)
theorem dX8_staysWetFor_18 : decode cX8_staysWetFor 18 = .ok (.iload 4, 2) := dk_21 4 (dk_at dksX8_staysWetFor_0 18 rfl rfl)
theorem dX8_staysWetFor_20 : decode cX8_staysWetFor 20 = .ok (.iload_n 2, 1) := dk_28 (dk_at dksX8_staysWetFor_0 20 rfl rfl)
theorem dX8_staysWetFor_21 : decode cX8_staysWetFor 21 = .ok (.if_icmp .ge 32, 3) := dk_162 0 32 (dk_at dksX8_staysWetFor_0 21 rfl rfl)
theorem dX8_staysWetFor_24 : decode cX8_staysWetFor 24 = .ok (.iload_n 3, 1) := dk_29 (dk_at dksX8_staysWetFor_1 0 rfl rfl)
theorem dX8_staysWetFor_25 : decode cX8_staysWetFor 25 = .ok (.ifCond .eq 28, 3) := dk_153 0 28 (dk_at dksX8_staysWetFor_1 1 rfl rfl)
theorem dX8_staysWetFor_28 : decode cX8_staysWetFor 28 = .ok (.aload_n 0, 1) := dk_42 (dk_at dksX8_staysWetFor_1 4 rfl rfl)
theorem dX8_staysWetFor_29 : decode cX8_staysWetFor 29 = .ok (.invokevirtual 95, 3) := dk_182 0 95 (dk_at dksX8_staysWetFor_1 5 rfl rfl)
theorem dX8_staysWetFor_32 : decode cX8_staysWetFor 32 = .ok (.aload_n 0, 1) := dk_42 (dk_at dksX8_staysWetFor_1 8 rfl rfl)
theorem dX8_staysWetFor_33 : decode cX8_staysWetFor 33 = .ok (.getfield 24, 3) := dk_180 0 24 (dk_at dksX8_staysWetFor_1 9 rfl rfl)
theorem dX8_staysWetFor_36 : decode cX8_staysWetFor 36 = .ok (.iload_n 1, 1) := dk_27 (dk_at dksX8_staysWetFor_1 12 rfl rfl)
theorem dX8_staysWetFor_37 : decode cX8_staysWetFor 37 = .ok (.iaload, 1) := dk_46 (dk_at dksX8_staysWetFor_1 13 rfl rfl)
theorem dX8_staysWetFor_38 : decode cX8_staysWetFor 38 = .ok (.ifCond .le 7, 3) := dk_158 0 7 (dk_at dksX8_staysWetFor_1 14 rfl rfl)
theorem dX8_staysWetFor_41 : decode cX8_staysWetFor 41 = .ok (.iconst 1, 1) := dk_4 (dk_at dksX8_staysWetFor_1 17 rfl rfl)
theorem dX8_staysWetFor_42 : decode cX8_staysWetFor 42 = .ok (.goto 4, 3) := dk_167 0 4 (dk_at dksX8_staysWetFor_1 18 rfl rfl)
theorem dX8_staysWetFor_45 : decode cX8_staysWetFor 45 = .ok (.iconst 0, 1) := dk_3 (dk_at dksX8_staysWetFor_1 21 rfl rfl)
theorem dX8_staysWetFor_46 : decode cX8_staysWetFor 46 = .ok (.istore_n 3, 1) := dk_62 (dk_at dksX8_staysWetFor_1 22 rfl rfl)
theorem dX8_staysWetFor_47 : decode cX8_staysWetFor 47 = .ok (.iinc 4 1, 3) := dk_132 4 1 (dk_at dksX8_staysWetFor_2 0 rfl rfl)
theorem dX8_staysWetFor_50 : decode cX8_staysWetFor 50 = .ok (.goto (-32), 3) := dk_167 255 224 (dk_at dksX8_staysWetFor_2 3 rfl rfl)
theorem dX8_staysWetFor_53 : decode cX8_staysWetFor 53 = .ok (.iload_n 3, 1) := dk_29 (dk_at dksX8_staysWetFor_2 6 rfl rfl)
theorem dX8_staysWetFor_54 : decode cX8_staysWetFor 54 = .ok (.ireturn, 1) := dk_172 (dk_at dksX8_staysWetFor_2 7 rfl rfl)
abbrev cX8_least : ByteArray := prog_5_method_10_code
def yX8_least : MethodName := ⟨RX8, "least", "()I"⟩
def dkwX8_least_1 : List UInt8 := [132, 2, 1, 167, 255, 234, 27, 172]
abbrev dktX8_least_1 : List UInt8 := dkwX8_least_1 ++ []
def dkwX8_least_0 : List UInt8 := [16, 99, 60, 3, 61, 28, 42, 180, 0, 37, 162, 0, 20, 27, 42, 180, 0, 24, 28, 46, 184, 0, 73, 60]
abbrev dktX8_least_0 : List UInt8 := dkwX8_least_0 ++ dktX8_least_1
theorem dksX8_least_0 : cX8_least.data.toList.drop 0 = dktX8_least_0 := by decide +kernel
theorem dksX8_least_1 : cX8_least.data.toList.drop 24 = dktX8_least_1 := dk_seg dksX8_least_0 24 rfl rfl
theorem dX8_least_0 : decode cX8_least 0 = .ok (.bipush 99, 2) := dk_16 99 (dk_at dksX8_least_0 0 rfl rfl)
theorem dX8_least_2 : decode cX8_least 2 = .ok (.istore_n 1, 1) := dk_60 (dk_at dksX8_least_0 2 rfl rfl)
theorem dX8_least_3 : decode cX8_least 3 = .ok (.iconst 0, 1) := dk_3 (dk_at dksX8_least_0 3 rfl rfl)
theorem dX8_least_4 : decode cX8_least 4 = .ok (.istore_n 2, 1) := dk_61 (dk_at dksX8_least_0 4 rfl rfl)
theorem dX8_least_5 : decode cX8_least 5 = .ok (.iload_n 2, 1) := dk_28 (dk_at dksX8_least_0 5 rfl rfl)
theorem dX8_least_6 : decode cX8_least 6 = .ok (.aload_n 0, 1) := dk_42 (dk_at dksX8_least_0 6 rfl rfl)
theorem dX8_least_7 : decode cX8_least 7 = .ok (.getfield 37, 3) := dk_180 0 37 (dk_at dksX8_least_0 7 rfl rfl)
theorem dX8_least_10 : decode cX8_least 10 = .ok (.if_icmp .ge 20, 3) := dk_162 0 20 (dk_at dksX8_least_0 10 rfl rfl)
theorem dX8_least_13 : decode cX8_least 13 = .ok (.iload_n 1, 1) := dk_27 (dk_at dksX8_least_0 13 rfl rfl)
theorem dX8_least_14 : decode cX8_least 14 = .ok (.aload_n 0, 1) := dk_42 (dk_at dksX8_least_0 14 rfl rfl)
theorem dX8_least_15 : decode cX8_least 15 = .ok (.getfield 24, 3) := dk_180 0 24 (dk_at dksX8_least_0 15 rfl rfl)
theorem dX8_least_18 : decode cX8_least 18 = .ok (.iload_n 2, 1) := dk_28 (dk_at dksX8_least_0 18 rfl rfl)
theorem dX8_least_19 : decode cX8_least 19 = .ok (.iaload, 1) := dk_46 (dk_at dksX8_least_0 19 rfl rfl)
theorem dX8_least_20 : decode cX8_least 20 = .ok (.invokestatic 73, 3) := dk_184 0 73 (dk_at dksX8_least_0 20 rfl rfl)
theorem dX8_least_23 : decode cX8_least 23 = .ok (.istore_n 1, 1) := dk_60 (dk_at dksX8_least_0 23 rfl rfl)
theorem dX8_least_24 : decode cX8_least 24 = .ok (.iinc 2 1, 3) := dk_132 2 1 (dk_at dksX8_least_1 0 rfl rfl)
theorem dX8_least_27 : decode cX8_least 27 = .ok (.goto (-22), 3) := dk_167 255 234 (dk_at dksX8_least_1 3 rfl rfl)
theorem dX8_least_30 : decode cX8_least 30 = .ok (.iload_n 1, 1) := dk_27 (dk_at dksX8_least_1 6 rfl rfl)
theorem dX8_least_31 : decode cX8_least 31 = .ok (.ireturn, 1) := dk_172 (dk_at dksX8_least_1 7 rfl rfl)
theorem q93 : (Jvm.Cond.initialized "WellOfTheSilent$Hill") ∈ lw_all := lw_g (lw_at lw_m1 9 rfl) rfl
theorem q169 : (Jvm.Cond.instantiable "WellOfTheSilent$Hill" (13 : Nat)) ∈ lw_all := lw_g (lw_at lw_m1 85 rfl) rfl
theorem q171 : (Jvm.Cond.instanceMethod ({ cls := "WellOfTheSilent$Hill", name := "<init>", desc := "()V" } : Jvm.MethodName)) ∈ lw_all := lw_g (lw_at lw_m1 87 rfl) rfl
theorem q172 : (Jvm.Cond.code ({ cls := "WellOfTheSilent$Hill", name := "<init>", desc := "()V" } : Jvm.MethodName) prog_5_method_1_code (1 : Nat) (Option.none : Option Jvm.ClassFile.FieldType)) ∈ lw_all := lw_g (lw_at lw_m1 88 rfl) rfl
theorem q173 : (Jvm.Cond.methodLink "WellOfTheSilent$Hill" (3 : Nat) ({ cls := "java/lang/Object", name := "<init>", desc := "()V" } : Jvm.MethodName)) ∈ lw_all := lw_g (lw_at lw_m1 89 rfl) rfl
theorem q174 : (Jvm.Cond.classLink "WellOfTheSilent$Hill" (9 : Nat) "WellOfTheSilent$Kind") ∈ lw_all := lw_g (lw_at lw_m1 90 rfl) rfl
theorem q176 : (Jvm.Cond.fieldLink "WellOfTheSilent$Hill" (37 : Nat) "WellOfTheSilent$Hill" "people" "I") ∈ lw_all := lw_g (lw_at lw_m1 92 rfl) rfl
theorem q179 : (Jvm.Cond.fieldLink "WellOfTheSilent$Hill" (11 : Nat) "WellOfTheSilent$Hill" "kind" "[LWellOfTheSilent$Kind;") ∈ lw_all := lw_g (lw_at lw_m1 95 rfl) rfl
theorem q181 : (Jvm.Cond.fieldLink "WellOfTheSilent$Hill" (17 : Nat) "WellOfTheSilent$Hill" "figures" "[I") ∈ lw_all := lw_g (lw_at lw_m1 97 rfl) rfl
theorem q183 : (Jvm.Cond.fieldLink "WellOfTheSilent$Hill" (21 : Nat) "WellOfTheSilent$Hill" "can" "[I") ∈ lw_all := lw_g (lw_at lw_m1 99 rfl) rfl
theorem q185 : (Jvm.Cond.fieldLink "WellOfTheSilent$Hill" (24 : Nat) "WellOfTheSilent$Hill" "full" "[I") ∈ lw_all := lw_g (lw_at lw_m1 101 rfl) rfl
theorem q188 : (Jvm.Cond.fieldLink "WellOfTheSilent$Hill" (27 : Nat) "WellOfTheSilent$Hill" "friend" "[I") ∈ lw_all := lw_g (lw_at lw_m1 104 rfl) rfl
theorem q192 : (Jvm.Cond.fieldLink "WellOfTheSilent$Hill" (40 : Nat) "WellOfTheSilent$Hill" "spoken" "I") ∈ lw_all := lw_g (lw_at lw_m1 108 rfl) rfl
theorem q194 : (Jvm.Cond.fieldLink "WellOfTheSilent$Hill" (43 : Nat) "WellOfTheSilent$Hill" "drew" "I") ∈ lw_all := lw_g (lw_at lw_m1 110 rfl) rfl
theorem q196 : (Jvm.Cond.fieldLink "WellOfTheSilent$Hill" (30 : Nat) "WellOfTheSilent$Hill" "well" "I") ∈ lw_all := lw_g (lw_at lw_m1 112 rfl) rfl
theorem q199 : (Jvm.Cond.fieldLink "WellOfTheSilent$Hill" (34 : Nat) "WellOfTheSilent$Hill" "comes" "I") ∈ lw_all := lw_g (lw_at lw_m1 115 rfl) rfl
theorem q203 : (Jvm.Cond.fieldLink "WellOfTheSilent$Hill" (46 : Nat) "WellOfTheSilent$Hill" "hour" "I") ∈ lw_all := lw_g (lw_at lw_m1 119 rfl) rfl
theorem q205 : (Jvm.Cond.fieldLink "WellOfTheSilent$Hill" (49 : Nat) "WellOfTheSilent$Hill" "hushed" "I") ∈ lw_all := lw_g (lw_at lw_m1 121 rfl) rfl
theorem q207 : (Jvm.Cond.fieldLink "WellOfTheSilent$Hill" (52 : Nat) "WellOfTheSilent$Hill" "forced" "I") ∈ lw_all := lw_g (lw_at lw_m1 123 rfl) rfl
theorem q209 : (Jvm.Cond.lays "WellOfTheSilent$Hill" "WellOfTheSilent$Hill" "people" "I") ∈ lw_all := lw_g (lw_at lw_m1 125 rfl) rfl
theorem q210 : (Jvm.Cond.soleField "WellOfTheSilent$Hill" "people") ∈ lw_all := lw_g (lw_at lw_m1 126 rfl) rfl
theorem q211 : (Jvm.Cond.laysFinal "WellOfTheSilent$Hill" "WellOfTheSilent$Hill" "kind" "[LWellOfTheSilent$Kind;") ∈ lw_all := lw_g (lw_at lw_m1 127 rfl) rfl
theorem q212 : (Jvm.Cond.soleField "WellOfTheSilent$Hill" "kind") ∈ lw_all := lw_g (lw_at lw_m1 128 rfl) rfl
theorem q213 : (Jvm.Cond.laysFinal "WellOfTheSilent$Hill" "WellOfTheSilent$Hill" "figures" "[I") ∈ lw_all := lw_g (lw_at lw_m1 129 rfl) rfl
theorem q214 : (Jvm.Cond.soleField "WellOfTheSilent$Hill" "figures") ∈ lw_all := lw_g (lw_at lw_m1 130 rfl) rfl
theorem q215 : (Jvm.Cond.laysFinal "WellOfTheSilent$Hill" "WellOfTheSilent$Hill" "can" "[I") ∈ lw_all := lw_g (lw_at lw_m1 131 rfl) rfl
theorem q216 : (Jvm.Cond.soleField "WellOfTheSilent$Hill" "can") ∈ lw_all := lw_g (lw_at lw_m1 132 rfl) rfl
theorem q217 : (Jvm.Cond.laysFinal "WellOfTheSilent$Hill" "WellOfTheSilent$Hill" "full" "[I") ∈ lw_all := lw_g (lw_at lw_m1 133 rfl) rfl
theorem q218 : (Jvm.Cond.soleField "WellOfTheSilent$Hill" "full") ∈ lw_all := lw_g (lw_at lw_m1 134 rfl) rfl
theorem q219 : (Jvm.Cond.laysFinal "WellOfTheSilent$Hill" "WellOfTheSilent$Hill" "friend" "[I") ∈ lw_all := lw_g (lw_at lw_m1 135 rfl) rfl
theorem q220 : (Jvm.Cond.soleField "WellOfTheSilent$Hill" "friend") ∈ lw_all := lw_g (lw_at lw_m1 136 rfl) rfl
theorem q221 : (Jvm.Cond.lays "WellOfTheSilent$Hill" "WellOfTheSilent$Hill" "spoken" "I") ∈ lw_all := lw_g (lw_at lw_m1 137 rfl) rfl
theorem q222 : (Jvm.Cond.soleField "WellOfTheSilent$Hill" "spoken") ∈ lw_all := lw_g (lw_at lw_m1 138 rfl) rfl
theorem q223 : (Jvm.Cond.lays "WellOfTheSilent$Hill" "WellOfTheSilent$Hill" "drew" "I") ∈ lw_all := lw_g (lw_at lw_m1 139 rfl) rfl
theorem q224 : (Jvm.Cond.soleField "WellOfTheSilent$Hill" "drew") ∈ lw_all := lw_g (lw_at lw_m1 140 rfl) rfl
theorem q225 : (Jvm.Cond.lays "WellOfTheSilent$Hill" "WellOfTheSilent$Hill" "well" "I") ∈ lw_all := lw_g (lw_at lw_m1 141 rfl) rfl
theorem q226 : (Jvm.Cond.soleField "WellOfTheSilent$Hill" "well") ∈ lw_all := lw_g (lw_at lw_m1 142 rfl) rfl
theorem q227 : (Jvm.Cond.lays "WellOfTheSilent$Hill" "WellOfTheSilent$Hill" "comes" "I") ∈ lw_all := lw_g (lw_at lw_m1 143 rfl) rfl
theorem q228 : (Jvm.Cond.soleField "WellOfTheSilent$Hill" "comes") ∈ lw_all := lw_g (lw_at lw_m1 144 rfl) rfl
theorem q229 : (Jvm.Cond.lays "WellOfTheSilent$Hill" "WellOfTheSilent$Hill" "hour" "I") ∈ lw_all := lw_g (lw_at lw_m1 145 rfl) rfl
theorem q230 : (Jvm.Cond.soleField "WellOfTheSilent$Hill" "hour") ∈ lw_all := lw_g (lw_at lw_m1 146 rfl) rfl
theorem q231 : (Jvm.Cond.lays "WellOfTheSilent$Hill" "WellOfTheSilent$Hill" "hushed" "I") ∈ lw_all := lw_g (lw_at lw_m1 147 rfl) rfl
theorem q232 : (Jvm.Cond.soleField "WellOfTheSilent$Hill" "hushed") ∈ lw_all := lw_g (lw_at lw_m1 148 rfl) rfl
theorem q233 : (Jvm.Cond.lays "WellOfTheSilent$Hill" "WellOfTheSilent$Hill" "forced" "I") ∈ lw_all := lw_g (lw_at lw_m1 149 rfl) rfl
theorem q234 : (Jvm.Cond.soleField "WellOfTheSilent$Hill" "forced") ∈ lw_all := lw_g (lw_at lw_m1 150 rfl) rfl
theorem q235 : (Jvm.Cond.superclass "WellOfTheSilent$Hill" "java/lang/Object") ∈ lw_all := lw_g (lw_at lw_m1 151 rfl) rfl
theorem q561 : (Jvm.Cond.instanceMethod ({ cls := "WellOfTheSilent$Hill", name := "set", desc := "(LWellOfTheSilent$Hill;)LWellOfTheSilent$Hill;" } : Jvm.MethodName)) ∈ lw_all := lw_g (lw_at lw_m2 237 rfl) rfl
theorem q562 : (Jvm.Cond.selects "WellOfTheSilent$Hill" ({ cls := "WellOfTheSilent$Hill", name := "set", desc := "(LWellOfTheSilent$Hill;)LWellOfTheSilent$Hill;" } : Jvm.MethodName) ({ cls := "WellOfTheSilent$Hill", name := "set", desc := "(LWellOfTheSilent$Hill;)LWellOfTheSilent$Hill;" } : Jvm.MethodName)) ∈ lw_all := lw_g (lw_at lw_m2 238 rfl) rfl
theorem q563 : (Jvm.Cond.code ({ cls := "WellOfTheSilent$Hill", name := "set", desc := "(LWellOfTheSilent$Hill;)LWellOfTheSilent$Hill;" } : Jvm.MethodName) prog_5_method_2_code (2 : Nat) (Option.some (Jvm.ClassFile.FieldType.object "WellOfTheSilent$Hill"))) ∈ lw_all := lw_g (lw_at lw_m2 239 rfl) rfl
theorem q564 : (Jvm.Cond.methodLink "WellOfTheSilent$Hill" (55 : Nat) ({ cls := "java/lang/System", name := "arraycopy", desc := "(Ljava/lang/Object;ILjava/lang/Object;II)V" } : Jvm.MethodName)) ∈ lw_all := lw_g (lw_at lw_m3 0 rfl) rfl
theorem q616 : (Jvm.Cond.instanceMethod ({ cls := "WellOfTheSilent$Hill", name := "hoursOn", desc := "(I)LWellOfTheSilent$Hill;" } : Jvm.MethodName)) ∈ lw_all := lw_g (lw_at lw_m3 52 rfl) rfl
theorem q617 : (Jvm.Cond.selects "WellOfTheSilent$Hill" ({ cls := "WellOfTheSilent$Hill", name := "hoursOn", desc := "(I)LWellOfTheSilent$Hill;" } : Jvm.MethodName) ({ cls := "WellOfTheSilent$Hill", name := "hoursOn", desc := "(I)LWellOfTheSilent$Hill;" } : Jvm.MethodName)) ∈ lw_all := lw_g (lw_at lw_m3 53 rfl) rfl
theorem q618 : (Jvm.Cond.code ({ cls := "WellOfTheSilent$Hill", name := "hoursOn", desc := "(I)LWellOfTheSilent$Hill;" } : Jvm.MethodName) prog_5_method_7_code (3 : Nat) (Option.some (Jvm.ClassFile.FieldType.object "WellOfTheSilent$Hill"))) ∈ lw_all := lw_g (lw_at lw_m3 54 rfl) rfl
theorem q619 : (Jvm.Cond.methodLink "WellOfTheSilent$Hill" (95 : Nat) ({ cls := "WellOfTheSilent$Hill", name := "hourOn", desc := "()V" } : Jvm.MethodName)) ∈ lw_all := lw_g (lw_at lw_m3 55 rfl) rfl
theorem q620 : (Jvm.Cond.instanceMethod ({ cls := "WellOfTheSilent$Hill", name := "hourOn", desc := "()V" } : Jvm.MethodName)) ∈ lw_all := lw_g (lw_at lw_m3 56 rfl) rfl
theorem q621 : (Jvm.Cond.selects "WellOfTheSilent$Hill" ({ cls := "WellOfTheSilent$Hill", name := "hourOn", desc := "()V" } : Jvm.MethodName) ({ cls := "WellOfTheSilent$Hill", name := "hourOn", desc := "()V" } : Jvm.MethodName)) ∈ lw_all := lw_g (lw_at lw_m3 57 rfl) rfl
theorem q622 : (Jvm.Cond.code ({ cls := "WellOfTheSilent$Hill", name := "hourOn", desc := "()V" } : Jvm.MethodName) prog_5_method_6_code (3 : Nat) (Option.none : Option Jvm.ClassFile.FieldType)) ∈ lw_all := lw_g (lw_at lw_m3 58 rfl) rfl
theorem q623 : (Jvm.Cond.methodLink "WellOfTheSilent$Hill" (73 : Nat) ({ cls := "java/lang/Math", name := "min", desc := "(II)I" } : Jvm.MethodName)) ∈ lw_all := lw_g (lw_at lw_m3 59 rfl) rfl
theorem q626 : (Jvm.Cond.methodLink "WellOfTheSilent$Hill" (83 : Nat) ({ cls := "WellOfTheSilent$Hill", name := "speaksIn", desc := "(I)I" } : Jvm.MethodName)) ∈ lw_all := lw_g (lw_at lw_m3 62 rfl) rfl
theorem q627 : (Jvm.Cond.instanceMethod ({ cls := "WellOfTheSilent$Hill", name := "speaksIn", desc := "(I)I" } : Jvm.MethodName)) ∈ lw_all := lw_g (lw_at lw_m3 63 rfl) rfl
theorem q628 : (Jvm.Cond.selects "WellOfTheSilent$Hill" ({ cls := "WellOfTheSilent$Hill", name := "speaksIn", desc := "(I)I" } : Jvm.MethodName) ({ cls := "WellOfTheSilent$Hill", name := "speaksIn", desc := "(I)I" } : Jvm.MethodName)) ∈ lw_all := lw_g (lw_at lw_m3 64 rfl) rfl
theorem q629 : (Jvm.Cond.code ({ cls := "WellOfTheSilent$Hill", name := "speaksIn", desc := "(I)I" } : Jvm.MethodName) prog_5_method_3_code (2 : Nat) (Option.some Jvm.ClassFile.FieldType.int)) ∈ lw_all := lw_g (lw_at lw_m3 65 rfl) rfl
theorem q630 : (Jvm.Cond.methodLinkNest "WellOfTheSilent$Hill" (61 : Nat) ({ cls := "WellOfTheSilent", name := "has", desc := "(II)Z" } : Jvm.MethodName) "WellOfTheSilent") ∈ lw_tbl := lw_at lw_m3 66 rfl
theorem q633 : (Jvm.Cond.methodLink "WellOfTheSilent$Hill" (65 : Nat) ({ cls := "WellOfTheSilent$Kind", name := "speaksIn", desc := "(I)I" } : Jvm.MethodName)) ∈ lw_all := lw_g (lw_at lw_m3 69 rfl) rfl
theorem q656 : (Jvm.Cond.methodLink "WellOfTheSilent$Hill" (84 : Nat) ({ cls := "WellOfTheSilent$Hill", name := "draw", desc := "(I)V" } : Jvm.MethodName)) ∈ lw_all := lw_g (lw_at lw_m3 92 rfl) rfl
theorem q657 : (Jvm.Cond.privateMethod ({ cls := "WellOfTheSilent$Hill", name := "draw", desc := "(I)V" } : Jvm.MethodName)) ∈ lw_tbl := lw_at lw_m3 93 rfl
theorem q658 : (Jvm.Cond.instanceMethod ({ cls := "WellOfTheSilent$Hill", name := "draw", desc := "(I)V" } : Jvm.MethodName)) ∈ lw_all := lw_g (lw_at lw_m3 94 rfl) rfl
theorem q659 : (Jvm.Cond.code ({ cls := "WellOfTheSilent$Hill", name := "draw", desc := "(I)V" } : Jvm.MethodName) prog_5_method_4_code (4 : Nat) (Option.none : Option Jvm.ClassFile.FieldType)) ∈ lw_all := lw_g (lw_at lw_m3 95 rfl) rfl
theorem q660 : (Jvm.Cond.methodLink "WellOfTheSilent$Hill" (69 : Nat) ({ cls := "WellOfTheSilent$Kind", name := "drawsSpoken", desc := "()Z" } : Jvm.MethodName)) ∈ lw_all := lw_g (lw_at lw_m3 96 rfl) rfl
theorem q672 : (Jvm.Cond.methodLink "WellOfTheSilent$Hill" (79 : Nat) ({ cls := "WellOfTheSilent$Hill", name := "give", desc := "(II)V" } : Jvm.MethodName)) ∈ lw_all := lw_g (lw_at lw_m3 108 rfl) rfl
theorem q673 : (Jvm.Cond.privateMethod ({ cls := "WellOfTheSilent$Hill", name := "give", desc := "(II)V" } : Jvm.MethodName)) ∈ lw_tbl := lw_at lw_m3 109 rfl
theorem q674 : (Jvm.Cond.instanceMethod ({ cls := "WellOfTheSilent$Hill", name := "give", desc := "(II)V" } : Jvm.MethodName)) ∈ lw_all := lw_g (lw_at lw_m3 110 rfl) rfl
theorem q675 : (Jvm.Cond.code ({ cls := "WellOfTheSilent$Hill", name := "give", desc := "(II)V" } : Jvm.MethodName) prog_5_method_5_code (4 : Nat) (Option.none : Option Jvm.ClassFile.FieldType)) ∈ lw_all := lw_g (lw_at lw_m3 111 rfl) rfl
theorem q676 : (Jvm.Cond.methodLink "WellOfTheSilent$Hill" (88 : Nat) ({ cls := "WellOfTheSilent$Kind", name := "drinks", desc := "()I" } : Jvm.MethodName)) ∈ lw_all := lw_g (lw_at lw_m3 112 rfl) rfl
theorem q695 : (Jvm.Cond.methodLink "WellOfTheSilent$Hill" (92 : Nat) ({ cls := "java/lang/Math", name := "max", desc := "(II)I" } : Jvm.MethodName)) ∈ lw_all := lw_g (lw_at lw_m3 131 rfl) rfl
theorem q702 : (Jvm.Cond.instanceMethod ({ cls := "WellOfTheSilent$Hill", name := "comes", desc := "(LWellOfTheSilent$Kind;II)V" } : Jvm.MethodName)) ∈ lw_all := lw_g (lw_at lw_m3 138 rfl) rfl
theorem q703 : (Jvm.Cond.selects "WellOfTheSilent$Hill" ({ cls := "WellOfTheSilent$Hill", name := "comes", desc := "(LWellOfTheSilent$Kind;II)V" } : Jvm.MethodName) ({ cls := "WellOfTheSilent$Hill", name := "comes", desc := "(LWellOfTheSilent$Kind;II)V" } : Jvm.MethodName)) ∈ lw_all := lw_g (lw_at lw_m3 139 rfl) rfl
theorem q704 : (Jvm.Cond.code ({ cls := "WellOfTheSilent$Hill", name := "comes", desc := "(LWellOfTheSilent$Kind;II)V" } : Jvm.MethodName) prog_5_method_13_code (4 : Nat) (Option.none : Option Jvm.ClassFile.FieldType)) ∈ lw_all := lw_g (lw_at lw_m3 140 rfl) rfl
theorem q812 : (Jvm.Cond.instanceMethod ({ cls := "WellOfTheSilent$Hill", name := "all", desc := "()I" } : Jvm.MethodName)) ∈ lw_all := lw_g (lw_at lw_m4 8 rfl) rfl
theorem q813 : (Jvm.Cond.selects "WellOfTheSilent$Hill" ({ cls := "WellOfTheSilent$Hill", name := "all", desc := "()I" } : Jvm.MethodName) ({ cls := "WellOfTheSilent$Hill", name := "all", desc := "()I" } : Jvm.MethodName)) ∈ lw_all := lw_g (lw_at lw_m4 9 rfl) rfl
theorem q814 : (Jvm.Cond.code ({ cls := "WellOfTheSilent$Hill", name := "all", desc := "()I" } : Jvm.MethodName) prog_5_method_8_code (3 : Nat) (Option.some Jvm.ClassFile.FieldType.int)) ∈ lw_all := lw_g (lw_at lw_m4 10 rfl) rfl
theorem q839 : (Jvm.Cond.instanceMethod ({ cls := "WellOfTheSilent$Hill", name := "staysWet", desc := "(I)Z" } : Jvm.MethodName)) ∈ lw_all := lw_g (lw_at lw_m4 35 rfl) rfl
theorem q840 : (Jvm.Cond.selects "WellOfTheSilent$Hill" ({ cls := "WellOfTheSilent$Hill", name := "staysWet", desc := "(I)Z" } : Jvm.MethodName) ({ cls := "WellOfTheSilent$Hill", name := "staysWet", desc := "(I)Z" } : Jvm.MethodName)) ∈ lw_all := lw_g (lw_at lw_m4 36 rfl) rfl
theorem q841 : (Jvm.Cond.code ({ cls := "WellOfTheSilent$Hill", name := "staysWet", desc := "(I)Z" } : Jvm.MethodName) prog_5_method_11_code (4 : Nat) (Option.some Jvm.ClassFile.FieldType.boolean)) ∈ lw_all := lw_g (lw_at lw_m4 37 rfl) rfl
theorem q842 : (Jvm.Cond.methodLink "WellOfTheSilent$Hill" (98 : Nat) ({ cls := "WellOfTheSilent$Hill", name := "dryMany", desc := "()I" } : Jvm.MethodName)) ∈ lw_all := lw_g (lw_at lw_m4 38 rfl) rfl
theorem q843 : (Jvm.Cond.instanceMethod ({ cls := "WellOfTheSilent$Hill", name := "dryMany", desc := "()I" } : Jvm.MethodName)) ∈ lw_all := lw_g (lw_at lw_m4 39 rfl) rfl
theorem q844 : (Jvm.Cond.selects "WellOfTheSilent$Hill" ({ cls := "WellOfTheSilent$Hill", name := "dryMany", desc := "()I" } : Jvm.MethodName) ({ cls := "WellOfTheSilent$Hill", name := "dryMany", desc := "()I" } : Jvm.MethodName)) ∈ lw_all := lw_g (lw_at lw_m4 40 rfl) rfl
theorem q845 : (Jvm.Cond.code ({ cls := "WellOfTheSilent$Hill", name := "dryMany", desc := "()I" } : Jvm.MethodName) prog_5_method_9_code (3 : Nat) (Option.some Jvm.ClassFile.FieldType.int)) ∈ lw_all := lw_g (lw_at lw_m4 41 rfl) rfl
theorem q855 : (Jvm.Cond.instanceMethod ({ cls := "WellOfTheSilent$Hill", name := "staysWetFor", desc := "(II)Z" } : Jvm.MethodName)) ∈ lw_all := lw_g (lw_at lw_m4 51 rfl) rfl
theorem q856 : (Jvm.Cond.selects "WellOfTheSilent$Hill" ({ cls := "WellOfTheSilent$Hill", name := "staysWetFor", desc := "(II)Z" } : Jvm.MethodName) ({ cls := "WellOfTheSilent$Hill", name := "staysWetFor", desc := "(II)Z" } : Jvm.MethodName)) ∈ lw_all := lw_g (lw_at lw_m4 52 rfl) rfl
theorem q857 : (Jvm.Cond.code ({ cls := "WellOfTheSilent$Hill", name := "staysWetFor", desc := "(II)Z" } : Jvm.MethodName) prog_5_method_12_code (5 : Nat) (Option.some Jvm.ClassFile.FieldType.boolean)) ∈ lw_all := lw_g (lw_at lw_m4 53 rfl) rfl
theorem q867 : (Jvm.Cond.instanceMethod ({ cls := "WellOfTheSilent$Hill", name := "least", desc := "()I" } : Jvm.MethodName)) ∈ lw_all := lw_g (lw_at lw_m4 63 rfl) rfl
theorem q868 : (Jvm.Cond.selects "WellOfTheSilent$Hill" ({ cls := "WellOfTheSilent$Hill", name := "least", desc := "()I" } : Jvm.MethodName) ({ cls := "WellOfTheSilent$Hill", name := "least", desc := "()I" } : Jvm.MethodName)) ∈ lw_all := lw_g (lw_at lw_m4 64 rfl) rfl
theorem q869 : (Jvm.Cond.code ({ cls := "WellOfTheSilent$Hill", name := "least", desc := "()I" } : Jvm.MethodName) prog_5_method_10_code (3 : Nat) (Option.some Jvm.ClassFile.FieldType.int)) ∈ lw_all := lw_g (lw_at lw_m4 65 rfl) rfl
theorem in_X8 : ∀ w ∈ wsX80, w ∈ lw_all := lw_in wsX80 [209, 211, 213, 215, 217, 219, 221, 223, 225, 227, 229, 231, 233] (by decide +kernel) (by decide +kernel)
theorem q84 : (Jvm.Cond.initialized "WellOfTheSilentLaw") ∈ lw_all := lw_g (lw_at lw_m1 0 rfl) rfl
set_option maxRecDepth 100000
theorem q113 : (Jvm.Cond.classLink "WellOfTheSilentLaw" (7 : Nat) "WellOfTheSilent") ∈ lw_all := lw_g (lw_at lw_m1 29 rfl) rfl
theorem q115 : (Jvm.Cond.methodLink "WellOfTheSilentLaw" (9 : Nat) ({ cls := "WellOfTheSilent", name := "<init>", desc := "()V" } : Jvm.MethodName)) ∈ lw_all := lw_g (lw_at lw_m1 31 rfl) rfl
theorem q279 : (Jvm.Cond.methodLink "WellOfTheSilentLaw" (13 : Nat) ({ cls := "WellOfTheSilent", name := "letter", desc := "(I)I" } : Jvm.MethodName)) ∈ lw_all := lw_g (lw_at lw_m1 195 rfl) rfl
theorem q987 : (Jvm.Cond.methodLink "WellOfTheSilentLaw" (18 : Nat) ({ cls := "WellOfTheSilent", name := "hill", desc := "()I" } : Jvm.MethodName)) ∈ lw_all := lw_g (lw_at lw_m4 183 rfl) rfl
theorem q991 : (Jvm.Cond.methodLink "WellOfTheSilentLaw" (23 : Nat) ({ cls := "WellOfTheSilent", name := "person", desc := "(II)I" } : Jvm.MethodName)) ∈ lw_all := lw_g (lw_at lw_m4 187 rfl) rfl
theorem q995 : (Jvm.Cond.methodLink "WellOfTheSilentLaw" (28 : Nat) ({ cls := "WellOfTheSilent", name := "speaks", desc := "(I)I" } : Jvm.MethodName)) ∈ lw_all := lw_g (lw_at lw_m4 191 rfl) rfl
theorem q999 : (Jvm.Cond.methodLink "WellOfTheSilentLaw" (32 : Nat) ({ cls := "WellOfTheSilent", name := "befriends", desc := "(II)I" } : Jvm.MethodName)) ∈ lw_all := lw_g (lw_at lw_m4 195 rfl) rfl
theorem q1003 : (Jvm.Cond.methodLink "WellOfTheSilentLaw" (36 : Nat) ({ cls := "WellOfTheSilent", name := "pours", desc := "(II)I" } : Jvm.MethodName)) ∈ lw_all := lw_g (lw_at lw_m4 199 rfl) rfl
theorem q1007 : (Jvm.Cond.methodLink "WellOfTheSilentLaw" (40 : Nat) ({ cls := "WellOfTheSilent", name := "cans", desc := "(II)I" } : Jvm.MethodName)) ∈ lw_all := lw_g (lw_at lw_m4 203 rfl) rfl
theorem q1011 : (Jvm.Cond.methodLink "WellOfTheSilentLaw" (44 : Nat) ({ cls := "WellOfTheSilent", name := "water", desc := "(I)I" } : Jvm.MethodName)) ∈ lw_all := lw_g (lw_at lw_m4 207 rfl) rfl
theorem q1015 : (Jvm.Cond.methodLink "WellOfTheSilentLaw" (48 : Nat) ({ cls := "WellOfTheSilent", name := "flow", desc := "(I)I" } : Jvm.MethodName)) ∈ lw_all := lw_g (lw_at lw_m4 211 rfl) rfl
theorem q1019 : (Jvm.Cond.methodLink "WellOfTheSilentLaw" (52 : Nat) ({ cls := "WellOfTheSilent", name := "turn", desc := "(III)I" } : Jvm.MethodName)) ∈ lw_all := lw_g (lw_at lw_m4 215 rfl) rfl
theorem q1023 : (Jvm.Cond.methodLink "WellOfTheSilentLaw" (57 : Nat) ({ cls := "WellOfTheSilent", name := "hours", desc := "(I)I" } : Jvm.MethodName)) ∈ lw_all := lw_g (lw_at lw_m4 219 rfl) rfl
theorem q1027 : (Jvm.Cond.methodLink "WellOfTheSilentLaw" (61 : Nat) ({ cls := "WellOfTheSilent", name := "hasThen", desc := "(II)I" } : Jvm.MethodName)) ∈ lw_all := lw_g (lw_at lw_m4 223 rfl) rfl
theorem q1031 : (Jvm.Cond.methodLink "WellOfTheSilentLaw" (65 : Nat) ({ cls := "WellOfTheSilent", name := "then", desc := "(II)I" } : Jvm.MethodName)) ∈ lw_all := lw_g (lw_at lw_m4 227 rfl) rfl
theorem q1035 : (Jvm.Cond.methodLink "WellOfTheSilentLaw" (69 : Nat) ({ cls := "WellOfTheSilent", name := "dry", desc := "(I)I" } : Jvm.MethodName)) ∈ lw_all := lw_g (lw_at lw_m4 231 rfl) rfl
theorem q1039 : (Jvm.Cond.methodLink "WellOfTheSilentLaw" (73 : Nat) ({ cls := "WellOfTheSilent", name := "empty", desc := "()I" } : Jvm.MethodName)) ∈ lw_all := lw_g (lw_at lw_m4 235 rfl) rfl
theorem q1043 : (Jvm.Cond.methodLink "WellOfTheSilentLaw" (77 : Nat) ({ cls := "WellOfTheSilent", name := "flowBest", desc := "(I)I" } : Jvm.MethodName)) ∈ lw_all := lw_g (lw_at lw_m4 239 rfl) rfl
theorem q1047 : (Jvm.Cond.methodLink "WellOfTheSilentLaw" (81 : Nat) ({ cls := "WellOfTheSilent", name := "canBest", desc := "(II)I" } : Jvm.MethodName)) ∈ lw_all := lw_g (lw_at lw_m5 3 rfl) rfl
theorem q1051 : (Jvm.Cond.methodLink "WellOfTheSilentLaw" (85 : Nat) ({ cls := "WellOfTheSilent", name := "friendBest", desc := "(II)I" } : Jvm.MethodName)) ∈ lw_all := lw_g (lw_at lw_m5 7 rfl) rfl
theorem q1055 : (Jvm.Cond.methodLink "WellOfTheSilentLaw" (89 : Nat) ({ cls := "WellOfTheSilent", name := "hush", desc := "(I)I" } : Jvm.MethodName)) ∈ lw_all := lw_g (lw_at lw_m5 11 rfl) rfl
theorem q1059 : (Jvm.Cond.methodLink "WellOfTheSilentLaw" (93 : Nat) ({ cls := "WellOfTheSilent", name := "fewest", desc := "(I)I" } : Jvm.MethodName)) ∈ lw_all := lw_g (lw_at lw_m5 15 rfl) rfl
theorem q1063 : (Jvm.Cond.methodLink "WellOfTheSilentLaw" (97 : Nat) ({ cls := "WellOfTheSilent", name := "word", desc := "(I)I" } : Jvm.MethodName)) ∈ lw_all := lw_g (lw_at lw_m5 19 rfl) rfl
theorem q1067 : (Jvm.Cond.methodLink "WellOfTheSilentLaw" (101 : Nat) ({ cls := "WellOfTheSilent", name := "send", desc := "(II)I" } : Jvm.MethodName)) ∈ lw_all := lw_g (lw_at lw_m5 23 rfl) rfl
theorem q1071 : (Jvm.Cond.methodLink "WellOfTheSilentLaw" (105 : Nat) ({ cls := "WellOfTheSilent", name := "next", desc := "()I" } : Jvm.MethodName)) ∈ lw_all := lw_g (lw_at lw_m5 27 rfl) rfl
theorem q1075 : (Jvm.Cond.methodLink "WellOfTheSilentLaw" (109 : Nat) ({ cls := "WellOfTheSilent", name := "richest", desc := "(I)I" } : Jvm.MethodName)) ∈ lw_all := lw_g (lw_at lw_m5 31 rfl) rfl
theorem q1079 : (Jvm.Cond.methodLink "WellOfTheSilentLaw" (113 : Nat) ({ cls := "WellOfTheSilent", name := "quiet", desc := "(I)I" } : Jvm.MethodName)) ∈ lw_all := lw_g (lw_at lw_m5 35 rfl) rfl
theorem q1083 : (Jvm.Cond.methodLink "WellOfTheSilentLaw" (117 : Nat) ({ cls := "WellOfTheSilent", name := "thirst", desc := "()I" } : Jvm.MethodName)) ∈ lw_all := lw_g (lw_at lw_m5 39 rfl) rfl
theorem q1087 : (Jvm.Cond.methodLink "WellOfTheSilentLaw" (121 : Nat) ({ cls := "WellOfTheSilent", name := "lasts", desc := "(I)I" } : Jvm.MethodName)) ∈ lw_all := lw_g (lw_at lw_m5 43 rfl) rfl
theorem q1091 : (Jvm.Cond.methodLink "WellOfTheSilentLaw" (125 : Nat) ({ cls := "WellOfTheSilent", name := "carries", desc := "(I)I" } : Jvm.MethodName)) ∈ lw_all := lw_g (lw_at lw_m5 47 rfl) rfl
theorem q1095 : (Jvm.Cond.methodLink "WellOfTheSilentLaw" (129 : Nat) ({ cls := "WellOfTheSilent", name := "two", desc := "(III)I" } : Jvm.MethodName)) ∈ lw_all := lw_g (lw_at lw_m5 51 rfl) rfl
theorem q1099 : (Jvm.Cond.methodLink "WellOfTheSilentLaw" (133 : Nat) ({ cls := "WellOfTheSilent", name := "sneeze", desc := "(IIIII)J" } : Jvm.MethodName)) ∈ lw_all := lw_g (lw_at lw_m5 55 rfl) rfl
theorem q1122 : (Jvm.Cond.methodLink "WellOfTheSilentLaw" (138 : Nat) ({ cls := "WellOfTheSilent", name := "mean", desc := "(I)J" } : Jvm.MethodName)) ∈ lw_all := lw_g (lw_at lw_m5 78 rfl) rfl
theorem q1130 : (Jvm.Cond.methodLink "WellOfTheSilentLaw" (143 : Nat) ({ cls := "WellOfTheSilent", name := "whatIs", desc := "(II)I" } : Jvm.MethodName)) ∈ lw_all := lw_g (lw_at lw_m5 86 rfl) rfl
theorem q1134 : (Jvm.Cond.methodLink "WellOfTheSilentLaw" (147 : Nat) ({ cls := "WellOfTheSilent", name := "row", desc := "(I)I" } : Jvm.MethodName)) ∈ lw_all := lw_g (lw_at lw_m5 90 rfl) rfl
theorem q1138 : (Jvm.Cond.methodLink "WellOfTheSilentLaw" (151 : Nat) ({ cls := "WellOfTheSilent", name := "judge", desc := "()I" } : Jvm.MethodName)) ∈ lw_all := lw_g (lw_at lw_m5 94 rfl) rfl
theorem q1142 : (Jvm.Cond.methodLink "WellOfTheSilentLaw" (155 : Nat) ({ cls := "WellOfTheSilent", name := "clear", desc := "()I" } : Jvm.MethodName)) ∈ lw_all := lw_g (lw_at lw_m5 98 rfl) rfl
theorem q1146 : (Jvm.Cond.methodLink "WellOfTheSilentLaw" (159 : Nat) ({ cls := "WellOfTheSilent", name := "lots", desc := "(III)I" } : Jvm.MethodName)) ∈ lw_all := lw_g (lw_at lw_m5 102 rfl) rfl
theorem q1150 : (Jvm.Cond.methodLink "WellOfTheSilentLaw" (163 : Nat) ({ cls := "WellOfTheSilent", name := "image", desc := "()I" } : Jvm.MethodName)) ∈ lw_all := lw_g (lw_at lw_m5 106 rfl) rfl
theorem q1154 : (Jvm.Cond.methodLink "WellOfTheSilentLaw" (167 : Nat) ({ cls := "WellOfTheSilent", name := "on", desc := "()I" } : Jvm.MethodName)) ∈ lw_all := lw_g (lw_at lw_m5 110 rfl) rfl
theorem q1158 : (Jvm.Cond.methodLink "WellOfTheSilentLaw" (171 : Nat) ({ cls := "WellOfTheSilent", name := "count", desc := "(I)I" } : Jvm.MethodName)) ∈ lw_all := lw_g (lw_at lw_m5 114 rfl) rfl
theorem q1163 : (Jvm.Cond.classLink "WellOfTheSilentLaw" (10 : Nat) "WellOfTheSilentModel") ∈ lw_all := lw_g (lw_at lw_m5 119 rfl) rfl
theorem q1165 : (Jvm.Cond.methodLink "WellOfTheSilentLaw" (12 : Nat) ({ cls := "WellOfTheSilentModel", name := "<init>", desc := "()V" } : Jvm.MethodName)) ∈ lw_all := lw_g (lw_at lw_m5 121 rfl) rfl
theorem q1209 : (Jvm.Cond.methodLink "WellOfTheSilentLaw" (17 : Nat) ({ cls := "WellOfTheSilentModel", name := "letter", desc := "(I)I" } : Jvm.MethodName)) ∈ lw_all := lw_g (lw_at lw_m5 165 rfl) rfl
theorem q1217 : (Jvm.Cond.methodLink "WellOfTheSilentLaw" (22 : Nat) ({ cls := "WellOfTheSilentModel", name := "hill", desc := "()I" } : Jvm.MethodName)) ∈ lw_all := lw_g (lw_at lw_m5 173 rfl) rfl
theorem q1288 : (Jvm.Cond.methodLink "WellOfTheSilentLaw" (27 : Nat) ({ cls := "WellOfTheSilentModel", name := "person", desc := "(II)I" } : Jvm.MethodName)) ∈ lw_all := lw_g (lw_at lw_m6 4 rfl) rfl
theorem q1292 : (Jvm.Cond.methodLink "WellOfTheSilentLaw" (31 : Nat) ({ cls := "WellOfTheSilentModel", name := "speaks", desc := "(I)I" } : Jvm.MethodName)) ∈ lw_all := lw_g (lw_at lw_m6 8 rfl) rfl
theorem q1302 : (Jvm.Cond.methodLink "WellOfTheSilentLaw" (35 : Nat) ({ cls := "WellOfTheSilentModel", name := "befriends", desc := "(II)I" } : Jvm.MethodName)) ∈ lw_all := lw_g (lw_at lw_m6 18 rfl) rfl
theorem q1310 : (Jvm.Cond.methodLink "WellOfTheSilentLaw" (39 : Nat) ({ cls := "WellOfTheSilentModel", name := "pours", desc := "(II)I" } : Jvm.MethodName)) ∈ lw_all := lw_g (lw_at lw_m6 26 rfl) rfl
theorem q1321 : (Jvm.Cond.methodLink "WellOfTheSilentLaw" (43 : Nat) ({ cls := "WellOfTheSilentModel", name := "cans", desc := "(II)I" } : Jvm.MethodName)) ∈ lw_all := lw_g (lw_at lw_m6 37 rfl) rfl
theorem q1325 : (Jvm.Cond.methodLink "WellOfTheSilentLaw" (47 : Nat) ({ cls := "WellOfTheSilentModel", name := "water", desc := "(I)I" } : Jvm.MethodName)) ∈ lw_all := lw_g (lw_at lw_m6 41 rfl) rfl
theorem q1333 : (Jvm.Cond.methodLink "WellOfTheSilentLaw" (51 : Nat) ({ cls := "WellOfTheSilentModel", name := "flow", desc := "(I)I" } : Jvm.MethodName)) ∈ lw_all := lw_g (lw_at lw_m6 49 rfl) rfl
theorem q1337 : (Jvm.Cond.methodLink "WellOfTheSilentLaw" (56 : Nat) ({ cls := "WellOfTheSilentModel", name := "turn", desc := "(III)I" } : Jvm.MethodName)) ∈ lw_all := lw_g (lw_at lw_m6 53 rfl) rfl
theorem q1341 : (Jvm.Cond.methodLink "WellOfTheSilentLaw" (60 : Nat) ({ cls := "WellOfTheSilentModel", name := "hours", desc := "(I)I" } : Jvm.MethodName)) ∈ lw_all := lw_g (lw_at lw_m6 57 rfl) rfl
theorem q1345 : (Jvm.Cond.methodLink "WellOfTheSilentLaw" (64 : Nat) ({ cls := "WellOfTheSilentModel", name := "hasThen", desc := "(II)I" } : Jvm.MethodName)) ∈ lw_all := lw_g (lw_at lw_m6 61 rfl) rfl
theorem q1353 : (Jvm.Cond.methodLink "WellOfTheSilentLaw" (68 : Nat) ({ cls := "WellOfTheSilentModel", name := "then", desc := "(II)I" } : Jvm.MethodName)) ∈ lw_all := lw_g (lw_at lw_m6 69 rfl) rfl
theorem q1360 : (Jvm.Cond.methodLink "WellOfTheSilentLaw" (72 : Nat) ({ cls := "WellOfTheSilentModel", name := "dry", desc := "(I)I" } : Jvm.MethodName)) ∈ lw_all := lw_g (lw_at lw_m6 76 rfl) rfl
theorem q1373 : (Jvm.Cond.methodLink "WellOfTheSilentLaw" (76 : Nat) ({ cls := "WellOfTheSilentModel", name := "empty", desc := "()I" } : Jvm.MethodName)) ∈ lw_all := lw_g (lw_at lw_m6 89 rfl) rfl
theorem q1377 : (Jvm.Cond.methodLink "WellOfTheSilentLaw" (80 : Nat) ({ cls := "WellOfTheSilentModel", name := "flowBest", desc := "(I)I" } : Jvm.MethodName)) ∈ lw_all := lw_g (lw_at lw_m6 93 rfl) rfl
theorem q1388 : (Jvm.Cond.methodLink "WellOfTheSilentLaw" (84 : Nat) ({ cls := "WellOfTheSilentModel", name := "canBest", desc := "(II)I" } : Jvm.MethodName)) ∈ lw_all := lw_g (lw_at lw_m6 104 rfl) rfl
theorem q1392 : (Jvm.Cond.methodLink "WellOfTheSilentLaw" (88 : Nat) ({ cls := "WellOfTheSilentModel", name := "friendBest", desc := "(II)I" } : Jvm.MethodName)) ∈ lw_all := lw_g (lw_at lw_m6 108 rfl) rfl
theorem q1399 : (Jvm.Cond.methodLink "WellOfTheSilentLaw" (92 : Nat) ({ cls := "WellOfTheSilentModel", name := "hush", desc := "(I)I" } : Jvm.MethodName)) ∈ lw_all := lw_g (lw_at lw_m6 115 rfl) rfl
theorem q1403 : (Jvm.Cond.methodLink "WellOfTheSilentLaw" (96 : Nat) ({ cls := "WellOfTheSilentModel", name := "fewest", desc := "(I)I" } : Jvm.MethodName)) ∈ lw_all := lw_g (lw_at lw_m6 119 rfl) rfl
theorem q1407 : (Jvm.Cond.methodLink "WellOfTheSilentLaw" (100 : Nat) ({ cls := "WellOfTheSilentModel", name := "word", desc := "(I)I" } : Jvm.MethodName)) ∈ lw_all := lw_g (lw_at lw_m6 123 rfl) rfl
theorem q1411 : (Jvm.Cond.methodLink "WellOfTheSilentLaw" (104 : Nat) ({ cls := "WellOfTheSilentModel", name := "send", desc := "(II)I" } : Jvm.MethodName)) ∈ lw_all := lw_g (lw_at lw_m6 127 rfl) rfl
theorem q1415 : (Jvm.Cond.methodLink "WellOfTheSilentLaw" (108 : Nat) ({ cls := "WellOfTheSilentModel", name := "next", desc := "()I" } : Jvm.MethodName)) ∈ lw_all := lw_g (lw_at lw_m6 131 rfl) rfl
theorem q1419 : (Jvm.Cond.methodLink "WellOfTheSilentLaw" (112 : Nat) ({ cls := "WellOfTheSilentModel", name := "richest", desc := "(I)I" } : Jvm.MethodName)) ∈ lw_all := lw_g (lw_at lw_m6 135 rfl) rfl
theorem q1427 : (Jvm.Cond.methodLink "WellOfTheSilentLaw" (116 : Nat) ({ cls := "WellOfTheSilentModel", name := "quiet", desc := "(I)I" } : Jvm.MethodName)) ∈ lw_all := lw_g (lw_at lw_m6 143 rfl) rfl
theorem q1431 : (Jvm.Cond.methodLink "WellOfTheSilentLaw" (120 : Nat) ({ cls := "WellOfTheSilentModel", name := "thirst", desc := "()I" } : Jvm.MethodName)) ∈ lw_all := lw_g (lw_at lw_m6 147 rfl) rfl
theorem q1435 : (Jvm.Cond.methodLink "WellOfTheSilentLaw" (124 : Nat) ({ cls := "WellOfTheSilentModel", name := "lasts", desc := "(I)I" } : Jvm.MethodName)) ∈ lw_all := lw_g (lw_at lw_m6 151 rfl) rfl
theorem q1439 : (Jvm.Cond.methodLink "WellOfTheSilentLaw" (128 : Nat) ({ cls := "WellOfTheSilentModel", name := "carries", desc := "(I)I" } : Jvm.MethodName)) ∈ lw_all := lw_g (lw_at lw_m6 155 rfl) rfl
theorem q1443 : (Jvm.Cond.methodLink "WellOfTheSilentLaw" (132 : Nat) ({ cls := "WellOfTheSilentModel", name := "two", desc := "(III)I" } : Jvm.MethodName)) ∈ lw_all := lw_g (lw_at lw_m6 159 rfl) rfl
theorem q1451 : (Jvm.Cond.methodLink "WellOfTheSilentLaw" (137 : Nat) ({ cls := "WellOfTheSilentModel", name := "sneeze", desc := "(IIIII)J" } : Jvm.MethodName)) ∈ lw_all := lw_g (lw_at lw_m6 167 rfl) rfl
theorem q1466 : (Jvm.Cond.methodLink "WellOfTheSilentLaw" (142 : Nat) ({ cls := "WellOfTheSilentModel", name := "mean", desc := "(I)J" } : Jvm.MethodName)) ∈ lw_all := lw_g (lw_at lw_m6 182 rfl) rfl
theorem q1470 : (Jvm.Cond.methodLink "WellOfTheSilentLaw" (146 : Nat) ({ cls := "WellOfTheSilentModel", name := "whatIs", desc := "(II)I" } : Jvm.MethodName)) ∈ lw_all := lw_g (lw_at lw_m6 186 rfl) rfl
theorem q1474 : (Jvm.Cond.methodLink "WellOfTheSilentLaw" (150 : Nat) ({ cls := "WellOfTheSilentModel", name := "row", desc := "(I)I" } : Jvm.MethodName)) ∈ lw_all := lw_g (lw_at lw_m6 190 rfl) rfl
theorem q1478 : (Jvm.Cond.methodLink "WellOfTheSilentLaw" (154 : Nat) ({ cls := "WellOfTheSilentModel", name := "judge", desc := "()I" } : Jvm.MethodName)) ∈ lw_all := lw_g (lw_at lw_m6 194 rfl) rfl
theorem q1482 : (Jvm.Cond.methodLink "WellOfTheSilentLaw" (158 : Nat) ({ cls := "WellOfTheSilentModel", name := "clear", desc := "()I" } : Jvm.MethodName)) ∈ lw_all := lw_g (lw_at lw_m6 198 rfl) rfl
theorem q1486 : (Jvm.Cond.methodLink "WellOfTheSilentLaw" (162 : Nat) ({ cls := "WellOfTheSilentModel", name := "lots", desc := "(III)I" } : Jvm.MethodName)) ∈ lw_all := lw_g (lw_at lw_m6 202 rfl) rfl
theorem q1497 : (Jvm.Cond.methodLink "WellOfTheSilentLaw" (166 : Nat) ({ cls := "WellOfTheSilentModel", name := "image", desc := "()I" } : Jvm.MethodName)) ∈ lw_all := lw_g (lw_at lw_m6 213 rfl) rfl
theorem q1501 : (Jvm.Cond.methodLink "WellOfTheSilentLaw" (170 : Nat) ({ cls := "WellOfTheSilentModel", name := "on", desc := "()I" } : Jvm.MethodName)) ∈ lw_all := lw_g (lw_at lw_m6 217 rfl) rfl
theorem q1505 : (Jvm.Cond.methodLink "WellOfTheSilentLaw" (174 : Nat) ({ cls := "WellOfTheSilentModel", name := "count", desc := "(I)I" } : Jvm.MethodName)) ∈ lw_all := lw_g (lw_at lw_m6 221 rfl) rfl
theorem q111 : (Jvm.Cond.initialized "java/lang/System") ∈ lw_all := lw_g (lw_at lw_m1 27 rfl) rfl
set_option maxRecDepth 100000
theorem q565 : (Jvm.Cond.static ({ cls := "java/lang/System", name := "arraycopy", desc := "(Ljava/lang/Object;ILjava/lang/Object;II)V" } : Jvm.MethodName)) ∈ lw_all := lw_g (lw_at lw_m3 1 rfl) rfl
theorem q566 : (Jvm.Cond.native ({ cls := "java/lang/System", name := "arraycopy", desc := "(Ljava/lang/Object;ILjava/lang/Object;II)V" } : Jvm.MethodName)) ∈ lw_all := lw_g (lw_at lw_m3 2 rfl) rfl
theorem q122 : (Jvm.Cond.arrayOver (Jvm.ClassFile.FieldType.object "WellOfTheSilent$Kind")) ∈ lw_tbl := lw_at lw_m1 38 rfl
set_option maxRecDepth 100000
theorem q236 : (Jvm.Cond.arrayClass Jvm.ClassFile.FieldType.int) ∈ lw_all := lw_g (lw_at lw_m1 152 rfl) rfl
theorem q277 : (Jvm.Cond.arrayClass Jvm.ClassFile.FieldType.byte) ∈ lw_all := lw_g (lw_at lw_m1 193 rfl) rfl
theorem q278 : (Jvm.Cond.arrayClass Jvm.ClassFile.FieldType.char) ∈ lw_all := lw_g (lw_at lw_m1 194 rfl) rfl
theorem q395 : (Jvm.Cond.arrayOver (Jvm.ClassFile.FieldType.object "WellOfTheSilent$Told")) ∈ lw_tbl := lw_at lw_m2 71 rfl
